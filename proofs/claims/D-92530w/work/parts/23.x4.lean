set_option maxRecDepth 100000
theorem dX0_evenest_0 : decode cX0_evenest 0 = .ok (.aload_n 0, 1) := by decide +kernel
theorem dX0_evenest_1 : decode cX0_evenest 1 = .ok (.lload_n 1, 1) := by decide +kernel
theorem dX0_evenest_2 : decode cX0_evenest 2 = .ok (.iload_n 3, 1) := by decide +kernel
theorem dX0_evenest_3 : decode cX0_evenest 3 = .ok (.invokevirtual 282, 3) := by decide +kernel
theorem dX0_evenest_6 : decode cX0_evenest 6 = .ok (.istore 5, 2) := by decide +kernel
theorem dX0_evenest_8 : decode cX0_evenest 8 = .ok (.iload 5, 2) := by decide +kernel
theorem dX0_evenest_10 : decode cX0_evenest 10 = .ok (.ifCond .ne 8, 3) := by decide +kernel
theorem dX0_evenest_13 : decode cX0_evenest 13 = .ok (.iload 4, 2) := by decide +kernel
theorem dX0_evenest_15 : decode cX0_evenest 15 = .ok (.ifCond .ge 16, 3) := by decide +kernel
theorem dX0_evenest_18 : decode cX0_evenest 18 = .ok (.iload 5, 2) := by decide +kernel
theorem dX0_evenest_20 : decode cX0_evenest 20 = .ok (.ifCond .eq 8, 3) := by decide +kernel
theorem dX0_evenest_23 : decode cX0_evenest 23 = .ok (.iload 5, 2) := by decide +kernel
theorem dX0_evenest_25 : decode cX0_evenest 25 = .ok (.goto 5, 3) := by decide +kernel
theorem dX0_evenest_28 : decode cX0_evenest 28 = .ok (.bipush (-3), 2) := by decide +kernel
theorem dX0_evenest_30 : decode cX0_evenest 30 = .ok (.ireturn, 1) := by decide +kernel
theorem dX0_evenest_31 : decode cX0_evenest 31 = .ok (.ldc_w 290, 3) := by decide +kernel
theorem dX0_evenest_34 : decode cX0_evenest 34 = .ok (.istore 6, 2) := by decide +kernel
theorem dX0_evenest_36 : decode cX0_evenest 36 = .ok (.iconst 0, 1) := by decide +kernel
theorem dX0_evenest_37 : decode cX0_evenest 37 = .ok (.istore 7, 2) := by decide +kernel
theorem dX0_evenest_39 : decode cX0_evenest 39 = .ok (.aload_n 0, 1) := by decide +kernel
theorem dX0_evenest_40 : decode cX0_evenest 40 = .ok (.getfield 78, 3) := by decide +kernel
theorem dX0_evenest_43 : decode cX0_evenest 43 = .ok (.iconst 0, 1) := by decide +kernel
theorem dX0_evenest_44 : decode cX0_evenest 44 = .ok (.iconst (-1), 1) := by decide +kernel
theorem dX0_evenest_45 : decode cX0_evenest 45 = .ok (.iastore, 1) := by decide +kernel
theorem dX0_evenest_46 : decode cX0_evenest 46 = .ok (.iload 7, 2) := by decide +kernel
theorem dX0_evenest_48 : decode cX0_evenest 48 = .ok (.ifCond .lt 131, 3) := by decide +kernel
theorem dX0_evenest_51 : decode cX0_evenest 51 = .ok (.aload_n 0, 1) := by decide +kernel
theorem dX0_evenest_52 : decode cX0_evenest 52 = .ok (.getfield 78, 3) := by decide +kernel
theorem dX0_evenest_55 : decode cX0_evenest 55 = .ok (.iload 7, 2) := by decide +kernel
theorem dX0_evenest_57 : decode cX0_evenest 57 = .ok (.dup2, 1) := by decide +kernel
theorem dX0_evenest_58 : decode cX0_evenest 58 = .ok (.iaload, 1) := by decide +kernel
theorem dX0_evenest_59 : decode cX0_evenest 59 = .ok (.iconst 1, 1) := by decide +kernel
theorem dX0_evenest_60 : decode cX0_evenest 60 = .ok (.iadd, 1) := by decide +kernel
theorem dX0_evenest_61 : decode cX0_evenest 61 = .ok (.iastore, 1) := by decide +kernel
theorem dX0_evenest_62 : decode cX0_evenest 62 = .ok (.aload_n 0, 1) := by decide +kernel
theorem dX0_evenest_63 : decode cX0_evenest 63 = .ok (.getfield 78, 3) := by decide +kernel
theorem dX0_evenest_66 : decode cX0_evenest 66 = .ok (.iload 7, 2) := by decide +kernel
theorem dX0_evenest_68 : decode cX0_evenest 68 = .ok (.iaload, 1) := by decide +kernel
theorem dX0_evenest_69 : decode cX0_evenest 69 = .ok (.aload_n 0, 1) := by decide +kernel
theorem dX0_evenest_70 : decode cX0_evenest 70 = .ok (.getfield 162, 3) := by decide +kernel
theorem dX0_evenest_73 : decode cX0_evenest 73 = .ok (.if_icmp .ne 9, 3) := by decide +kernel
theorem dX0_evenest_76 : decode cX0_evenest 76 = .ok (.iinc 7 (-1), 3) := by decide +kernel
theorem dX0_evenest_79 : decode cX0_evenest 79 = .ok (.goto (-33), 3) := by decide +kernel
theorem dX0_evenest_82 : decode cX0_evenest 82 = .ok (.aload_n 0, 1) := by decide +kernel
theorem dX0_evenest_83 : decode cX0_evenest 83 = .ok (.aload_n 0, 1) := by decide +kernel
theorem dX0_evenest_84 : decode cX0_evenest 84 = .ok (.getfield 78, 3) := by decide +kernel
theorem dX0_evenest_87 : decode cX0_evenest 87 = .ok (.iload 7, 2) := by decide +kernel
theorem dX0_evenest_89 : decode cX0_evenest 89 = .ok (.iaload, 1) := by decide +kernel
theorem dX0_evenest_90 : decode cX0_evenest 90 = .ok (.iload_n 3, 1) := by decide +kernel
theorem dX0_evenest_91 : decode cX0_evenest 91 = .ok (.invokevirtual 291, 3) := by decide +kernel
theorem dX0_evenest_94 : decode cX0_evenest 94 = .ok (.ifCond .eq (-48), 3) := by decide +kernel
theorem dX0_evenest_97 : decode cX0_evenest 97 = .ok (.aload_n 0, 1) := by decide +kernel
theorem dX0_evenest_98 : decode cX0_evenest 98 = .ok (.getfield 78, 3) := by decide +kernel
theorem dX0_evenest_101 : decode cX0_evenest 101 = .ok (.iload 7, 2) := by decide +kernel
theorem dX0_evenest_103 : decode cX0_evenest 103 = .ok (.invokestatic 295, 3) := by decide +kernel
theorem dX0_evenest_106 : decode cX0_evenest 106 = .ok (.ifCond .ne (-60), 3) := by decide +kernel
theorem dX0_evenest_109 : decode cX0_evenest 109 = .ok (.aload_n 0, 1) := by decide +kernel
theorem dX0_evenest_110 : decode cX0_evenest 110 = .ok (.aload_n 0, 1) := by decide +kernel
theorem dX0_evenest_111 : decode cX0_evenest 111 = .ok (.getfield 78, 3) := by decide +kernel
theorem dX0_evenest_114 : decode cX0_evenest 114 = .ok (.iload 7, 2) := by decide +kernel
theorem dX0_evenest_116 : decode cX0_evenest 116 = .ok (.iconst 1, 1) := by decide +kernel
theorem dX0_evenest_117 : decode cX0_evenest 117 = .ok (.iadd, 1) := by decide +kernel
theorem dX0_evenest_118 : decode cX0_evenest 118 = .ok (.invokevirtual 286, 3) := by decide +kernel
theorem dX0_evenest_121 : decode cX0_evenest 121 = .ok (.iload 6, 2) := by decide +kernel
theorem dX0_evenest_123 : decode cX0_evenest 123 = .ok (.if_icmp .lt 6, 3) := by decide +kernel
theorem dX0_evenest_126 : decode cX0_evenest 126 = .ok (.goto (-80), 3) := by decide +kernel
theorem dX0_evenest_129 : decode cX0_evenest 129 = .ok (.iload 7, 2) := by decide +kernel
theorem dX0_evenest_131 : decode cX0_evenest 131 = .ok (.iload_n 3, 1) := by decide +kernel
theorem dX0_evenest_132 : decode cX0_evenest 132 = .ok (.iconst 1, 1) := by decide +kernel
theorem dX0_evenest_133 : decode cX0_evenest 133 = .ok (.isub, 1) := by decide +kernel
theorem dX0_evenest_134 : decode cX0_evenest 134 = .ok (.if_icmp .ge 17, 3) := by decide +kernel
theorem dX0_evenest_137 : decode cX0_evenest 137 = .ok (.iinc 7 1, 3) := by decide +kernel
theorem dX0_evenest_140 : decode cX0_evenest 140 = .ok (.aload_n 0, 1) := by decide +kernel
theorem dX0_evenest_141 : decode cX0_evenest 141 = .ok (.getfield 78, 3) := by decide +kernel
theorem dX0_evenest_144 : decode cX0_evenest 144 = .ok (.iload 7, 2) := by decide +kernel
theorem dX0_evenest_146 : decode cX0_evenest 146 = .ok (.iconst (-1), 1) := by decide +kernel
theorem dX0_evenest_147 : decode cX0_evenest 147 = .ok (.iastore, 1) := by decide +kernel
theorem dX0_evenest_148 : decode cX0_evenest 148 = .ok (.goto (-102), 3) := by decide +kernel
theorem dX0_evenest_151 : decode cX0_evenest 151 = .ok (.aload_n 0, 1) := by decide +kernel
theorem dX0_evenest_152 : decode cX0_evenest 152 = .ok (.aload_n 0, 1) := by decide +kernel
theorem dX0_evenest_153 : decode cX0_evenest 153 = .ok (.getfield 78, 3) := by decide +kernel
theorem dX0_evenest_156 : decode cX0_evenest 156 = .ok (.iload_n 3, 1) := by decide +kernel
theorem dX0_evenest_157 : decode cX0_evenest 157 = .ok (.invokevirtual 286, 3) := by decide +kernel
theorem dX0_evenest_160 : decode cX0_evenest 160 = .ok (.istore 6, 2) := by decide +kernel
theorem dX0_evenest_162 : decode cX0_evenest 162 = .ok (.aload_n 0, 1) := by decide +kernel
theorem dX0_evenest_163 : decode cX0_evenest 163 = .ok (.getfield 78, 3) := by decide +kernel
theorem dX0_evenest_166 : decode cX0_evenest 166 = .ok (.iconst 0, 1) := by decide +kernel
theorem dX0_evenest_167 : decode cX0_evenest 167 = .ok (.aload_n 0, 1) := by decide +kernel
theorem dX0_evenest_168 : decode cX0_evenest 168 = .ok (.getfield 81, 3) := by decide +kernel
theorem dX0_evenest_171 : decode cX0_evenest 171 = .ok (.iconst 0, 1) := by decide +kernel
theorem dX0_evenest_172 : decode cX0_evenest 172 = .ok (.iload_n 3, 1) := by decide +kernel
theorem dX0_evenest_173 : decode cX0_evenest 173 = .ok (.invokestatic 299, 3) := by decide +kernel
theorem dX0_evenest_176 : decode cX0_evenest 176 = .ok (.goto (-130), 3) := by decide +kernel
theorem dX0_evenest_179 : decode cX0_evenest 179 = .ok (.iload 4, 2) := by decide +kernel
theorem dX0_evenest_181 : decode cX0_evenest 181 = .ok (.iload_n 3, 1) := by decide +kernel
theorem dX0_evenest_182 : decode cX0_evenest 182 = .ok (.if_icmp .ge 13, 3) := by decide +kernel
theorem dX0_evenest_185 : decode cX0_evenest 185 = .ok (.aload_n 0, 1) := by decide +kernel
theorem dX0_evenest_186 : decode cX0_evenest 186 = .ok (.getfield 81, 3) := by decide +kernel
theorem dX0_evenest_189 : decode cX0_evenest 189 = .ok (.iload 4, 2) := by decide +kernel
theorem dX0_evenest_191 : decode cX0_evenest 191 = .ok (.iaload, 1) := by decide +kernel
theorem dX0_evenest_192 : decode cX0_evenest 192 = .ok (.goto 4, 3) := by decide +kernel
theorem dX0_evenest_195 : decode cX0_evenest 195 = .ok (.iconst (-1), 1) := by decide +kernel
theorem dX0_evenest_196 : decode cX0_evenest 196 = .ok (.ireturn, 1) := by decide +kernel
def lX0_evenest_46 (a0 : Nat) (a2 : Int32) (σ5 : St) (x6 : Int32) (x7 : Int32) : Option ((St × Int32 × Int32) ⊕ (St)) :=
  if x7 < 0 then
    some (.inr σ5)
  else
  o_gR σ5 a0 0 15 fun r8 =>
  o_aI σ5 r8 0 x7 fun x9 =>
  o_sI σ5 r8 0 x7 (x9 + 1) fun σ10 =>
  o_gR σ10 a0 0 15 fun r11 =>
  o_aI σ10 r11 0 x7 fun x12 =>
  o_gI σ10 a0 0 5 fun x13 =>
  if x12 = x13 then
    some (.inl (σ10, x6, x7 + (-1)))
  else
  o_gR σ10 a0 0 15 fun r14 =>
  o_aI σ10 r14 0 x7 fun x15 =>
  o_k σ10 a0 0 <|
  (fX0_isInHand σ10 a0 x15 a2).bind fun x16 =>
  if x16 = 0 then
    some (.inl (σ10, x6, x7))
  else
  o_gR σ10 a0 0 15 fun r17 =>
  (fX0_hasAhead σ10 r17 x7).bind fun x18 =>
  if x18 = 0 then
    o_gR σ10 a0 0 15 fun r19 =>
    o_k σ10 a0 0 <|
    (fX0_unevenOf σ10 a0 r19 (x7 + 1)).bind fun x20 =>
    if x20 < x6 then
      if (a2 - 1) ≤ x7 then
        o_gR σ10 a0 0 15 fun r21 =>
        o_k σ10 a0 0 <|
        (fX0_unevenOf σ10 a0 r21 a2).bind fun x22 =>
        o_gR σ10 a0 0 15 fun r23 =>
        o_gR σ10 a0 0 16 fun r24 =>
        o_cpy σ10 r23 0 r24 0 a2 fun σ25 =>
        some (.inl (σ25, x22, x7))
      else
      o_gR σ10 a0 0 15 fun r26 =>
      o_sI σ10 r26 0 (x7 + 1) ((-1)) fun σ27 =>
      some (.inl (σ27, x6, x7 + 1))
    else
    some (.inl (σ10, x6, x7))
  else
  some (.inl (σ10, x6, x7))

def fX0_evenest (σ : St) (a0 : Nat) (a1 : Int64) (a2 : Int32) (a3 : Int32) : Option (Int32 × St) :=
  o_k σ a0 0 <|
  (fX0_layHand σ a0 a1 a2).bind <| un2 fun x1 σ2 =>
  jn (fun (_ : Unit) =>
    if x1 = 0 then
      some ((-3), σ2)
    else
    some (x1, σ2)) fun j18 =>
  if x1 = 0 then
    if 0 ≤ a3 then
      o_gR σ2 a0 0 15 fun r3 =>
      o_sI σ2 r3 0 0 ((-1)) fun σ4 =>
      (loopF fuel (fun z => lX0_evenest_46 a0 a2 z.1 z.2.1 z.2.2) (σ4, 268435456, 0)).bind <| fun σ28 =>
      if a2 ≤ a3 then
        some ((-1), σ28)
      else
      o_gR σ28 a0 0 16 fun r29 =>
      o_aI σ28 r29 0 a3 fun x30 =>
      some (x30, σ28)
    else
    j18 ()
  else
  j18 ()

set_option maxHeartbeats 4000000 in
theorem wX0_evenest {l : Launch} {s0 : State} {A0 : Array Value} {D : va_G} {ac : Nat → ClassId} (G : Gl s0 A0 D ac) {σ : St} {a0 : Nat} {a1 : Int64} {a2 : Int32} {a3 : Int32} {v : Int32} {σ' : St} (hf : fX0_evenest σ a0 a1 a2 a3 = some (v, σ')) : Met l yX0_evenest (ws_ yX0_evenest cX0_evenest 8 (some (.int))) ({ frames := 3, cells := 0, slots := 0, locals := 73 } : Room) (Pn s0 D ac [.ref a0, .long a1, .int a2, .int a3] σ) (Qn s0 D ac (some (.int v)) σ') 0 0 (fr s0) := by
  refine x_met (by decide) (Nat.le_of_ble_eq_true rfl) ?_
  intro p e s m args below meth c ls C hnm h hl
  have C : Cx s0 p s m args meth c cX0_evenest 8 "HutForShow" (some (.int)) := C
  have hx := C.1
  have hb := C.2.1
  have hl : lv_has ls 8 [(0, .ref a0), (1, .long a1), (3, .int a2), (4, .int a3)] := hl
  unfold fX0_evenest at hf
  refine lv_aload_n hx hb dX0_evenest_0 rfl (lv_at hl 0 rfl) ?_
  refine lv_lload_n hx hb dX0_evenest_1 rfl (lv_at hl 1 rfl) ?_
  refine lv_iload_n hx hb dX0_evenest_2 rfl (lv_at hl 2 rfl) ?_
  obtain ⟨hk, hf⟩ := k_of hf
  obtain ⟨⟨x1, σ2⟩, hc, hf⟩ := hf_b hf
  have hf := hf_u2 hf
  refine x_cV (q := (RX0, TX0, 33)) (rest := []) (As := [.long a1, .int a2]) (n := 2) (ov := (some (.int x1))) G C h (wX0_layHand G hc) hk rfl (lw_V q876 q878 qs10 q54 q879) (by decide +kernel) ⟨Nat.le_of_ble_eq_true rfl, Nat.le_of_ble_eq_true rfl⟩ rfl rfl rfl hl.1 rfl (Nat.le_of_ble_eq_true rfl) dX0_evenest_3 ⟨(Nat.le_of_ble_eq_true rfl), (Nat.le_of_ble_eq_true rfl)⟩ (fun H locs h => ?_)
  refine lv_istore (lv' := [(5, .int x1), (0, .ref a0), (1, .long a1), (3, .int a2), (4, .int a3)]) hx hb dX0_evenest_6 hl (by decide) rfl (fun ls hl => ?_)
  refine lv_iload hx hb dX0_evenest_8 (lv_at hl 0 rfl) ?_
  refine jn_of (P := fun j => ∀ (u0 : Unit), j u0 = some (v, σ') → ∀ (H : Heap) (locs : List Loc) (ls : Array Slot), Hs s0 D ac σ2 H locs → lv_has ls 8 [(0, .ref a0), (1, .long a1), (3, .int a2), (4, .int a3), (5, .int x1)] → W p l e ({ frames := 3, cells := 0, slots := 0, locals := 73 } : Room) s m args below meth c H locs 0 0 (MQ below (Qn s0 D ac (some (.int v)) σ') args s 0 0 (fr s0)) (F0 m 18 ls [])) hf ?_ ?_
  · intro u0 hf H locs ls h hl
    refine lv_iload hx hb dX0_evenest_18 (lv_at hl 4 rfl) ?_
    refine lv_if_eq (tgt := 28) hx hb dX0_evenest_20 (by decide) (fun hc => ?_) (fun hc => ?_)
    · have hf := hf_t hc hf
      refine lv_bipush (v := (-3)) hx hb dX0_evenest_28 (by decide) ?_
      cases hf
      refine W.widen (k := 0) (n := 0) (Nat.le_of_ble_eq_true rfl) (Nat.le_of_ble_eq_true rfl) ?_
      exact x_iret C h dX0_evenest_30
    · have hf := hf_f hc hf
      refine lv_iload hx hb dX0_evenest_23 (lv_at hl 4 rfl) ?_
      refine lv_goto (tgt := 30) hx hb dX0_evenest_25 (by decide) ?_
      cases hf
      refine W.widen (k := 0) (n := 0) (Nat.le_of_ble_eq_true rfl) (Nat.le_of_ble_eq_true rfl) ?_
      exact x_iret C h dX0_evenest_30
  intro j18 hj18 hf
  refine lv_if_ne (tgt := 18) hx hb dX0_evenest_10 (by decide) (fun hc => ?_) (fun hc => ?_)
  · have hf := hf_f hc hf
    exact hj18 () hf _ _ _ h (lv_sub hl [1, 2, 3, 4, 0] rfl)
  · have hf := hf_t hc hf
    refine lv_iload hx hb dX0_evenest_13 (lv_at hl 4 rfl) ?_
    refine lv_if_ge (tgt := 31) hx hb dX0_evenest_15 (by decide) (fun hc => ?_) (fun hc => ?_)
    · have hf := hf_t hc hf
      refine lv_ldcw (v := 268435456) hx hb C.2.2.2.1 (C.2.2.2.2.1 _ q895) dX0_evenest_31 ?_
      refine lv_istore (lv' := [(6, .int 268435456), (5, .int x1), (0, .ref a0), (1, .long a1), (3, .int a2), (4, .int a3)]) hx hb dX0_evenest_34 hl (by decide) rfl (fun ls hl => ?_)
      refine lv_iconst (v := 0) hx hb dX0_evenest_36 (by decide) ?_
      refine lv_istore (lv' := [(7, .int 0), (6, .int 268435456), (5, .int x1), (0, .ref a0), (1, .long a1), (3, .int a2), (4, .int a3)]) hx hb dX0_evenest_37 hl (by decide) rfl (fun ls hl => ?_)
      refine lv_aload_n hx hb dX0_evenest_39 rfl (lv_at hl 3 rfl) ?_
      refine x_gR (q := (RX0, TX0, 33)) (j := 15) G C h rfl (by decide) (fun _ _ _ => rfl) (lk C q224) (fun _ z => z) dX0_evenest_40 hf (fun r3 hf => ?_)
      refine lv_iconst (v := 0) hx hb dX0_evenest_43 (by decide) ?_
      refine lv_iconst (v := (-1)) hx hb dX0_evenest_44 (by decide) ?_
      refine x_iast G C h dX0_evenest_45 hf (fun σ4 H locs h hf => ?_)
      obtain ⟨e46, hL, hK⟩ := hf_b hf
      have hE46_0 : ∀ (σ28 : St), σ28 = e46 → ∀  (H : Heap) (locs : List Loc) (ls : Array Slot), Hs s0 D ac σ28 H locs → lv_has ls 8 [(0, .ref a0), (1, .long a1), (3, .int a2), (4, .int a3), (5, .int x1)] → W p l e ({ frames := 3, cells := 0, slots := 0, locals := 73 } : Room) s m args below meth c H locs 0 0 (MQ below (Qn s0 D ac (some (.int v)) σ') args s 0 0 (fr s0)) (F0 m 179 ls []) := by
        intro σ28 he H locs ls h hl
        subst he
        have hf := hK
        refine lv_iload hx hb dX0_evenest_179 (lv_at hl 3 rfl) ?_
        refine lv_iload_n hx hb dX0_evenest_181 rfl (lv_at hl 2 rfl) ?_
        refine lv_icmp_ge (tgt := 195) hx hb dX0_evenest_182 (by decide) (fun hc => ?_) (fun hc => ?_)
        · have hf := hf_t hc hf
          refine lv_iconst (v := (-1)) hx hb dX0_evenest_195 (by decide) ?_
          cases hf
          refine W.widen (k := 0) (n := 0) (Nat.le_of_ble_eq_true rfl) (Nat.le_of_ble_eq_true rfl) ?_
          exact x_iret C h dX0_evenest_196
        · have hf := hf_f hc hf
          refine lv_aload_n hx hb dX0_evenest_185 rfl (lv_at hl 0 rfl) ?_
          refine x_gR (q := (RX0, TX0, 33)) (j := 16) G C h rfl (by decide) (fun _ _ _ => rfl) (lk C q225) (fun _ z => z) dX0_evenest_186 hf (fun r29 hf => ?_)
          refine lv_iload hx hb dX0_evenest_189 (lv_at hl 3 rfl) ?_
          refine x_iald G C h dX0_evenest_191 hf (fun x30 hf => ?_)
          refine lv_goto (tgt := 196) hx hb dX0_evenest_192 (by decide) ?_
          cases hf
          refine W.widen (k := 0) (n := 0) (Nat.le_of_ble_eq_true rfl) (Nat.le_of_ble_eq_true rfl) ?_
          exact x_iret C h dX0_evenest_196
      refine loopF_ind (P := fun z => ∀ (H : Heap) (locs : List Loc) (ls : Array Slot), Hs s0 D ac (z.1) H locs → lv_has ls 8 [(0, .ref a0), (1, .long a1), (3, .int a2), (4, .int a3), (5, .int x1), (6, .int z.2.1), (7, .int z.2.2)] → W p l e ({ frames := 3, cells := 0, slots := 0, locals := 73 } : Room) s m args below meth c H locs 0 0 (MQ below (Qn s0 D ac (some (.int v)) σ') args s 0 0 (fr s0)) (F0 m 46 ls [])) ?_ _ _ hL _ _ _ h (lv_sub hl [3, 4, 5, 6, 2, 1, 0] rfl)
      clear hK hL h hl hf
      intro z o hf ih hX H locs ls h hl
      obtain ⟨σ5, x6, x7⟩ := z
      have h : Hs s0 D ac σ5 H locs := h
      have hl : lv_has ls 8 [(0, .ref a0), (1, .long a1), (3, .int a2), (4, .int a3), (5, .int x1), (6, .int x6), (7, .int x7)] := hl
      have hf : lX0_evenest_46 a0 a2 σ5 x6 x7 = some o := hf
      unfold lX0_evenest_46 at hf
      refine lv_iload hx hb dX0_evenest_46 (lv_at hl 6 rfl) ?_
      refine lv_if_lt (tgt := 179) hx hb dX0_evenest_48 (by decide) (fun hc => ?_) (fun hc => ?_)
      · have hf := hf_t hc hf
        cases hf
        exact hE46_0 _ (hX _ rfl) _ _ _ h (lv_sub hl [0, 1, 2, 3, 4] rfl)
      · have hf := hf_f hc hf
        refine lv_aload_n hx hb dX0_evenest_51 rfl (lv_at hl 0 rfl) ?_
        refine x_gR (q := (RX0, TX0, 33)) (j := 15) G C h rfl (by decide) (fun _ _ _ => rfl) (lk C q224) (fun _ z => z) dX0_evenest_52 hf (fun r8 hf => ?_)
        refine lv_iload hx hb dX0_evenest_55 (lv_at hl 6 rfl) ?_
        refine lv_dup2_11 hx hb dX0_evenest_57 rfl rfl ?_
        refine x_iald G C h dX0_evenest_58 hf (fun x9 hf => ?_)
        refine lv_iconst (v := 1) hx hb dX0_evenest_59 (by decide) ?_
        refine lv_iadd hx hb dX0_evenest_60 ?_
        refine x_iast G C h dX0_evenest_61 hf (fun σ10 H locs h hf => ?_)
        refine lv_aload_n hx hb dX0_evenest_62 rfl (lv_at hl 0 rfl) ?_
        refine x_gR (q := (RX0, TX0, 33)) (j := 15) G C h rfl (by decide) (fun _ _ _ => rfl) (lk C q224) (fun _ z => z) dX0_evenest_63 hf (fun r11 hf => ?_)
        refine lv_iload hx hb dX0_evenest_66 (lv_at hl 6 rfl) ?_
        refine x_iald G C h dX0_evenest_68 hf (fun x12 hf => ?_)
        refine lv_aload_n hx hb dX0_evenest_69 rfl (lv_at hl 0 rfl) ?_
        refine x_gI (q := (RX0, TX0, 33)) (j := 5) G C h rfl (by decide) (fun _ _ _ => rfl) (lk C q210) (fun _ z => z) dX0_evenest_70 hf (fun x13 hf => ?_)
        refine lv_icmp_ne (tgt := 82) hx hb dX0_evenest_73 (by decide) (fun hc => ?_) (fun hc => ?_)
        · have hf := hf_f hc hf
          refine lv_aload_n hx hb dX0_evenest_82 rfl (lv_at hl 0 rfl) ?_
          refine lv_aload_n hx hb dX0_evenest_83 rfl (lv_at hl 0 rfl) ?_
          refine x_gR (q := (RX0, TX0, 33)) (j := 15) G C h rfl (by decide) (fun _ _ _ => rfl) (lk C q224) (fun _ z => z) dX0_evenest_84 hf (fun r14 hf => ?_)
          refine lv_iload hx hb dX0_evenest_87 (lv_at hl 6 rfl) ?_
          refine x_iald G C h dX0_evenest_89 hf (fun x15 hf => ?_)
          refine lv_iload_n hx hb dX0_evenest_90 rfl (lv_at hl 2 rfl) ?_
          obtain ⟨hk, hf⟩ := k_of hf
          obtain ⟨x16, hc, hf⟩ := hf_b hf
          refine x_cV (q := (RX0, TX0, 33)) (rest := []) (As := [.int x15, .int a2]) (n := 2) (ov := (some (.int x16))) G C h (wX0_isInHand G hc) hk rfl (lw_V q896 q898 qs13 q54 q899) (by decide +kernel) ⟨Nat.le_of_ble_eq_true rfl, Nat.le_of_ble_eq_true rfl⟩ rfl rfl rfl hl.1 rfl (Nat.le_of_ble_eq_true rfl) dX0_evenest_91 ⟨(Nat.le_of_ble_eq_true rfl), (Nat.le_of_ble_eq_true rfl)⟩ (fun H locs h => ?_)
          refine lv_if_eq (tgt := 46) hx hb dX0_evenest_94 (by decide) (fun hc => ?_) (fun hc => ?_)
          · have hf := hf_t hc hf
            cases hf
            exact ih _ rfl _ _ _ h (lv_sub hl [0, 1, 2, 3, 4, 5, 6] rfl)
          · have hf := hf_f hc hf
            refine lv_aload_n hx hb dX0_evenest_97 rfl (lv_at hl 0 rfl) ?_
            refine x_gR (q := (RX0, TX0, 33)) (j := 15) G C h rfl (by decide) (fun _ _ _ => rfl) (lk C q224) (fun _ z => z) dX0_evenest_98 hf (fun r17 hf => ?_)
            refine lv_iload hx hb dX0_evenest_101 (lv_at hl 6 rfl) ?_
            obtain ⟨x18, hc, hf⟩ := hf_b hf
            refine x_cS (rest := []) (As := [.ref r17, .int x7]) (n := 2) (ov := (some (.int x18))) C h (wX0_hasAhead G hc) (lw_S q900 q901 q54 q902) (by decide +kernel) ⟨Nat.le_of_ble_eq_true rfl, Nat.le_of_ble_eq_true rfl⟩ rfl rfl rfl hl.1 rfl (Nat.le_of_ble_eq_true rfl) dX0_evenest_103 ⟨(Nat.le_of_ble_eq_true rfl), (Nat.le_of_ble_eq_true rfl)⟩ (fun H locs h => ?_)
            refine lv_if_ne (tgt := 46) hx hb dX0_evenest_106 (by decide) (fun hc => ?_) (fun hc => ?_)
            · have hf := hf_f hc hf
              cases hf
              exact ih _ rfl _ _ _ h (lv_sub hl [0, 1, 2, 3, 4, 5, 6] rfl)
            · have hf := hf_t hc hf
              refine lv_aload_n hx hb dX0_evenest_109 rfl (lv_at hl 0 rfl) ?_
              refine lv_aload_n hx hb dX0_evenest_110 rfl (lv_at hl 0 rfl) ?_
              refine x_gR (q := (RX0, TX0, 33)) (j := 15) G C h rfl (by decide) (fun _ _ _ => rfl) (lk C q224) (fun _ z => z) dX0_evenest_111 hf (fun r19 hf => ?_)
              refine lv_iload hx hb dX0_evenest_114 (lv_at hl 6 rfl) ?_
              refine lv_iconst (v := 1) hx hb dX0_evenest_116 (by decide) ?_
              refine lv_iadd hx hb dX0_evenest_117 ?_
              obtain ⟨hk, hf⟩ := k_of hf
              obtain ⟨x20, hc, hf⟩ := hf_b hf
              refine x_cV (q := (RX0, TX0, 33)) (rest := []) (As := [.ref r19, .int (x7 + 1)]) (n := 2) (ov := (some (.int x20))) G C h (wX0_unevenOf G hc) hk rfl (lw_V q882 q884 qs11 q54 q885) (by decide +kernel) ⟨Nat.le_of_ble_eq_true rfl, Nat.le_of_ble_eq_true rfl⟩ rfl rfl rfl hl.1 rfl (Nat.le_of_ble_eq_true rfl) dX0_evenest_118 ⟨(Nat.le_of_ble_eq_true rfl), (Nat.le_of_ble_eq_true rfl)⟩ (fun H locs h => ?_)
              refine lv_iload hx hb dX0_evenest_121 (lv_at hl 5 rfl) ?_
              refine lv_icmp_lt (tgt := 129) hx hb dX0_evenest_123 (by decide) (fun hc => ?_) (fun hc => ?_)
              · have hf := hf_t hc hf
                refine lv_iload hx hb dX0_evenest_129 (lv_at hl 6 rfl) ?_
                refine lv_iload_n hx hb dX0_evenest_131 rfl (lv_at hl 2 rfl) ?_
                refine lv_iconst (v := 1) hx hb dX0_evenest_132 (by decide) ?_
                refine lv_isub hx hb dX0_evenest_133 ?_
                refine lv_icmp_ge (tgt := 151) hx hb dX0_evenest_134 (by decide) (fun hc => ?_) (fun hc => ?_)
                · have hf := hf_t hc hf
                  refine lv_aload_n hx hb dX0_evenest_151 rfl (lv_at hl 0 rfl) ?_
                  refine lv_aload_n hx hb dX0_evenest_152 rfl (lv_at hl 0 rfl) ?_
                  refine x_gR (q := (RX0, TX0, 33)) (j := 15) G C h rfl (by decide) (fun _ _ _ => rfl) (lk C q224) (fun _ z => z) dX0_evenest_153 hf (fun r21 hf => ?_)
                  refine lv_iload_n hx hb dX0_evenest_156 rfl (lv_at hl 2 rfl) ?_
                  obtain ⟨hk, hf⟩ := k_of hf
                  obtain ⟨x22, hc, hf⟩ := hf_b hf
                  refine x_cV (q := (RX0, TX0, 33)) (rest := []) (As := [.ref r21, .int a2]) (n := 2) (ov := (some (.int x22))) G C h (wX0_unevenOf G hc) hk rfl (lw_V q882 q884 qs11 q54 q885) (by decide +kernel) ⟨Nat.le_of_ble_eq_true rfl, Nat.le_of_ble_eq_true rfl⟩ rfl rfl rfl hl.1 rfl (Nat.le_of_ble_eq_true rfl) dX0_evenest_157 ⟨(Nat.le_of_ble_eq_true rfl), (Nat.le_of_ble_eq_true rfl)⟩ (fun H locs h => ?_)
                  refine lv_istore (lv' := [(6, .int x22), (0, .ref a0), (1, .long a1), (3, .int a2), (4, .int a3), (5, .int x1), (7, .int x7)]) hx hb dX0_evenest_160 hl (by decide) rfl (fun ls hl => ?_)
                  refine lv_aload_n hx hb dX0_evenest_162 rfl (lv_at hl 1 rfl) ?_
                  refine x_gR (q := (RX0, TX0, 33)) (j := 15) G C h rfl (by decide) (fun _ _ _ => rfl) (lk C q224) (fun _ z => z) dX0_evenest_163 hf (fun r23 hf => ?_)
                  refine lv_iconst (v := 0) hx hb dX0_evenest_166 (by decide) ?_
                  refine lv_aload_n hx hb dX0_evenest_167 rfl (lv_at hl 1 rfl) ?_
                  refine x_gR (q := (RX0, TX0, 33)) (j := 16) G C h rfl (by decide) (fun _ _ _ => rfl) (lk C q225) (fun _ z => z) dX0_evenest_168 hf (fun r24 hf => ?_)
                  refine lv_iconst (v := 0) hx hb dX0_evenest_171 (by decide) ?_
                  refine lv_iload_n hx hb dX0_evenest_172 rfl (lv_at hl 3 rfl) ?_
                  refine x_copy G C h q903 q863 q862 q79 hl.1 (Nat.le_of_ble_eq_true rfl) (by decide) dX0_evenest_173 hf (fun σ25 H locs h hf => ?_)
                  refine lv_goto (tgt := 46) hx hb dX0_evenest_176 (by decide) ?_
                  cases hf
                  exact ih _ rfl _ _ _ h (lv_sub hl [1, 2, 3, 4, 5, 0, 6] rfl)
                · have hf := hf_f hc hf
                  refine lv_iinc (v := x7 + 1) (lv' := [(7, .int (x7 + 1)), (0, .ref a0), (1, .long a1), (3, .int a2), (4, .int a3), (5, .int x1), (6, .int x6)]) hx hb dX0_evenest_137 hl (k := 6) rfl rfl (by decide) rfl (fun ls hl => ?_)
                  refine lv_aload_n hx hb dX0_evenest_140 rfl (lv_at hl 1 rfl) ?_
                  refine x_gR (q := (RX0, TX0, 33)) (j := 15) G C h rfl (by decide) (fun _ _ _ => rfl) (lk C q224) (fun _ z => z) dX0_evenest_141 hf (fun r26 hf => ?_)
                  refine lv_iload hx hb dX0_evenest_144 (lv_at hl 0 rfl) ?_
                  refine lv_iconst (v := (-1)) hx hb dX0_evenest_146 (by decide) ?_
                  refine x_iast G C h dX0_evenest_147 hf (fun σ27 H locs h hf => ?_)
                  refine lv_goto (tgt := 46) hx hb dX0_evenest_148 (by decide) ?_
                  cases hf
                  exact ih _ rfl _ _ _ h (lv_sub hl [1, 2, 3, 4, 5, 6, 0] rfl)
              · have hf := hf_f hc hf
                refine lv_goto (tgt := 46) hx hb dX0_evenest_126 (by decide) ?_
                cases hf
                exact ih _ rfl _ _ _ h (lv_sub hl [0, 1, 2, 3, 4, 5, 6] rfl)
        · have hf := hf_t hc hf
          refine lv_iinc (v := x7 + (-1)) (lv' := [(7, .int (x7 + (-1))), (0, .ref a0), (1, .long a1), (3, .int a2), (4, .int a3), (5, .int x1), (6, .int x6)]) hx hb dX0_evenest_76 hl (k := 6) rfl rfl (by decide) rfl (fun ls hl => ?_)
          refine lv_goto (tgt := 46) hx hb dX0_evenest_79 (by decide) ?_
          cases hf
          exact ih _ rfl _ _ _ h (lv_sub hl [1, 2, 3, 4, 5, 6, 0] rfl)
    · have hf := hf_f hc hf
      exact hj18 () hf _ _ _ h (lv_sub hl [1, 2, 3, 4, 0] rfl)

theorem dX0_guest_0 : decode cX0_guest 0 = .ok (.iload_n 1, 1) := by decide +kernel
theorem dX0_guest_1 : decode cX0_guest 1 = .ok (.i2l, 1) := by decide +kernel
theorem dX0_guest_2 : decode cX0_guest 2 = .ok (.lconst 0, 1) := by decide +kernel
theorem dX0_guest_3 : decode cX0_guest 3 = .ok (.ldc2_w 154, 3) := by decide +kernel
theorem dX0_guest_6 : decode cX0_guest 6 = .ok (.invokestatic 127, 3) := by decide +kernel
theorem dX0_guest_9 : decode cX0_guest 9 = .ok (.ifCond .eq 16, 3) := by decide +kernel
theorem dX0_guest_12 : decode cX0_guest 12 = .ok (.iload_n 2, 1) := by decide +kernel
theorem dX0_guest_13 : decode cX0_guest 13 = .ok (.i2l, 1) := by decide +kernel
theorem dX0_guest_14 : decode cX0_guest 14 = .ok (.iload_n 1, 1) := by decide +kernel
theorem dX0_guest_15 : decode cX0_guest 15 = .ok (.i2l, 1) := by decide +kernel
theorem dX0_guest_16 : decode cX0_guest 16 = .ok (.ldc2_w 154, 3) := by decide +kernel
theorem dX0_guest_19 : decode cX0_guest 19 = .ok (.invokestatic 127, 3) := by decide +kernel
theorem dX0_guest_22 : decode cX0_guest 22 = .ok (.ifCond .ne 6, 3) := by decide +kernel
theorem dX0_guest_25 : decode cX0_guest 25 = .ok (.bipush (-3), 2) := by decide +kernel
theorem dX0_guest_27 : decode cX0_guest 27 = .ok (.ireturn, 1) := by decide +kernel
theorem dX0_guest_28 : decode cX0_guest 28 = .ok (.aload_n 0, 1) := by decide +kernel
theorem dX0_guest_29 : decode cX0_guest 29 = .ok (.getfield 305, 3) := by decide +kernel
theorem dX0_guest_32 : decode cX0_guest 32 = .ok (.bipush 20, 2) := by decide +kernel
theorem dX0_guest_34 : decode cX0_guest 34 = .ok (.if_icmp .ne 6, 3) := by decide +kernel
theorem dX0_guest_37 : decode cX0_guest 37 = .ok (.bipush (-5), 2) := by decide +kernel
theorem dX0_guest_39 : decode cX0_guest 39 = .ok (.ireturn, 1) := by decide +kernel
theorem dX0_guest_40 : decode cX0_guest 40 = .ok (.aload_n 0, 1) := by decide +kernel
theorem dX0_guest_41 : decode cX0_guest 41 = .ok (.getfield 84, 3) := by decide +kernel
theorem dX0_guest_44 : decode cX0_guest 44 = .ok (.aload_n 0, 1) := by decide +kernel
theorem dX0_guest_45 : decode cX0_guest 45 = .ok (.getfield 305, 3) := by decide +kernel
theorem dX0_guest_48 : decode cX0_guest 48 = .ok (.iload_n 1, 1) := by decide +kernel
theorem dX0_guest_49 : decode cX0_guest 49 = .ok (.iastore, 1) := by decide +kernel
theorem dX0_guest_50 : decode cX0_guest 50 = .ok (.aload_n 0, 1) := by decide +kernel
theorem dX0_guest_51 : decode cX0_guest 51 = .ok (.getfield 87, 3) := by decide +kernel
theorem dX0_guest_54 : decode cX0_guest 54 = .ok (.aload_n 0, 1) := by decide +kernel
theorem dX0_guest_55 : decode cX0_guest 55 = .ok (.getfield 305, 3) := by decide +kernel
theorem dX0_guest_58 : decode cX0_guest 58 = .ok (.iload_n 2, 1) := by decide +kernel
theorem dX0_guest_59 : decode cX0_guest 59 = .ok (.iastore, 1) := by decide +kernel
theorem dX0_guest_60 : decode cX0_guest 60 = .ok (.aload_n 0, 1) := by decide +kernel
theorem dX0_guest_61 : decode cX0_guest 61 = .ok (.dup, 1) := by decide +kernel
theorem dX0_guest_62 : decode cX0_guest 62 = .ok (.getfield 305, 3) := by decide +kernel
theorem dX0_guest_65 : decode cX0_guest 65 = .ok (.iconst 1, 1) := by decide +kernel
theorem dX0_guest_66 : decode cX0_guest 66 = .ok (.iadd, 1) := by decide +kernel
theorem dX0_guest_67 : decode cX0_guest 67 = .ok (.putfield 305, 3) := by decide +kernel
theorem dX0_guest_70 : decode cX0_guest 70 = .ok (.aload_n 0, 1) := by decide +kernel
theorem dX0_guest_71 : decode cX0_guest 71 = .ok (.getfield 305, 3) := by decide +kernel
theorem dX0_guest_74 : decode cX0_guest 74 = .ok (.ireturn, 1) := by decide +kernel
def fX0_guest (σ : St) (a0 : Nat) (a1 : Int32) (a2 : Int32) : Option (Int32 × St) :=
  (fX0_isIn σ (a1.toInt64) 0 9).bind fun x1 =>
  if x1 = 0 then
    some ((-3), σ)
  else
  (fX0_isIn σ (a2.toInt64) (a1.toInt64) 9).bind fun x2 =>
  if x2 = 0 then
    some ((-3), σ)
  else
  o_gI σ a0 0 19 fun x3 =>
  if x3 = 20 then
    some ((-5), σ)
  else
  o_gR σ a0 0 17 fun r4 =>
  o_gI σ a0 0 19 fun x5 =>
  o_sI σ r4 0 x5 a1 fun σ6 =>
  o_gR σ6 a0 0 18 fun r7 =>
  o_gI σ6 a0 0 19 fun x8 =>
  o_sI σ6 r7 0 x8 a2 fun σ9 =>
  o_gI σ9 a0 0 19 fun x10 =>
  o_pI σ9 a0 0 19 (x10 + 1) fun σ11 =>
  o_gI σ11 a0 0 19 fun x12 =>
  some (x12, σ11)

set_option maxHeartbeats 4000000 in
theorem wX0_guest {l : Launch} {s0 : State} {A0 : Array Value} {D : va_G} {ac : Nat → ClassId} (G : Gl s0 A0 D ac) {σ : St} {a0 : Nat} {a1 : Int32} {a2 : Int32} {v : Int32} {σ' : St} (hf : fX0_guest σ a0 a1 a2 = some (v, σ')) : Met l yX0_guest (ws_ yX0_guest cX0_guest 3 (some (.int))) ({ frames := 1, cells := 0, slots := 0, locals := 25 } : Room) (Pn s0 D ac [.ref a0, .int a1, .int a2] σ) (Qn s0 D ac (some (.int v)) σ') 0 0 (fr s0) := by
  refine x_met (by decide) (Nat.le_of_ble_eq_true rfl) ?_
  intro p e s m args below meth c ls C hnm h hl
  have C : Cx s0 p s m args meth c cX0_guest 3 "HutForShow" (some (.int)) := C
  have hx := C.1
  have hb := C.2.1
  have hl : lv_has ls 3 [(0, .ref a0), (1, .int a1), (2, .int a2)] := hl
  unfold fX0_guest at hf
  refine lv_iload_n hx hb dX0_guest_0 rfl (lv_at hl 1 rfl) ?_
  refine lv_i2l hx hb dX0_guest_1 rfl ?_
  refine lv_lconst (v := 0) hx hb dX0_guest_2 (by decide) ?_
  refine lv_ldc2 (v := 9) hx hb C.2.2.2.1 (C.2.2.2.2.1 _ q354) dX0_guest_3 ?_
  obtain ⟨x1, hc, hf⟩ := hf_b hf
  refine x_cS (rest := []) (As := [.long (a1.toInt64), .long 0, .long 9]) (n := 3) (ov := (some (.int x1))) C h (wX0_isIn G hc) (lw_S q318 q319 q54 q320) (by decide +kernel) ⟨Nat.le_of_ble_eq_true rfl, Nat.le_of_ble_eq_true rfl⟩ rfl rfl rfl hl.1 rfl (Nat.le_of_ble_eq_true rfl) dX0_guest_6 ⟨(Nat.le_of_ble_eq_true rfl), (Nat.le_of_ble_eq_true rfl)⟩ (fun H locs h => ?_)
  refine lv_if_eq (tgt := 25) hx hb dX0_guest_9 (by decide) (fun hc => ?_) (fun hc => ?_)
  · have hf := hf_t hc hf
    refine lv_bipush (v := (-3)) hx hb dX0_guest_25 (by decide) ?_
    cases hf
    refine W.widen (k := 0) (n := 0) (Nat.le_of_ble_eq_true rfl) (Nat.le_of_ble_eq_true rfl) ?_
    exact x_iret C h dX0_guest_27
  · have hf := hf_f hc hf
    refine lv_iload_n hx hb dX0_guest_12 rfl (lv_at hl 2 rfl) ?_
    refine lv_i2l hx hb dX0_guest_13 rfl ?_
    refine lv_iload_n hx hb dX0_guest_14 rfl (lv_at hl 1 rfl) ?_
    refine lv_i2l hx hb dX0_guest_15 rfl ?_
    refine lv_ldc2 (v := 9) hx hb C.2.2.2.1 (C.2.2.2.2.1 _ q354) dX0_guest_16 ?_
    obtain ⟨x2, hc, hf⟩ := hf_b hf
    refine x_cS (rest := []) (As := [.long (a2.toInt64), .long (a1.toInt64), .long 9]) (n := 3) (ov := (some (.int x2))) C h (wX0_isIn G hc) (lw_S q318 q319 q54 q320) (by decide +kernel) ⟨Nat.le_of_ble_eq_true rfl, Nat.le_of_ble_eq_true rfl⟩ rfl rfl rfl hl.1 rfl (Nat.le_of_ble_eq_true rfl) dX0_guest_19 ⟨(Nat.le_of_ble_eq_true rfl), (Nat.le_of_ble_eq_true rfl)⟩ (fun H locs h => ?_)
    refine lv_if_ne (tgt := 28) hx hb dX0_guest_22 (by decide) (fun hc => ?_) (fun hc => ?_)
    · have hf := hf_f hc hf
      refine lv_aload_n hx hb dX0_guest_28 rfl (lv_at hl 0 rfl) ?_
      refine x_gI (q := (RX0, TX0, 33)) (j := 19) G C h rfl (by decide) (fun _ _ _ => rfl) (lk C q228) (fun _ z => z) dX0_guest_29 hf (fun x3 hf => ?_)
      refine lv_bipush (v := 20) hx hb dX0_guest_32 (by decide) ?_
      refine lv_icmp_ne (tgt := 40) hx hb dX0_guest_34 (by decide) (fun hc => ?_) (fun hc => ?_)
      · have hf := hf_f hc hf
        refine lv_aload_n hx hb dX0_guest_40 rfl (lv_at hl 0 rfl) ?_
        refine x_gR (q := (RX0, TX0, 33)) (j := 17) G C h rfl (by decide) (fun _ _ _ => rfl) (lk C q226) (fun _ z => z) dX0_guest_41 hf (fun r4 hf => ?_)
        refine lv_aload_n hx hb dX0_guest_44 rfl (lv_at hl 0 rfl) ?_
        refine x_gI (q := (RX0, TX0, 33)) (j := 19) G C h rfl (by decide) (fun _ _ _ => rfl) (lk C q228) (fun _ z => z) dX0_guest_45 hf (fun x5 hf => ?_)
        refine lv_iload_n hx hb dX0_guest_48 rfl (lv_at hl 1 rfl) ?_
        refine x_iast G C h dX0_guest_49 hf (fun σ6 H locs h hf => ?_)
        refine lv_aload_n hx hb dX0_guest_50 rfl (lv_at hl 0 rfl) ?_
        refine x_gR (q := (RX0, TX0, 33)) (j := 18) G C h rfl (by decide) (fun _ _ _ => rfl) (lk C q227) (fun _ z => z) dX0_guest_51 hf (fun r7 hf => ?_)
        refine lv_aload_n hx hb dX0_guest_54 rfl (lv_at hl 0 rfl) ?_
        refine x_gI (q := (RX0, TX0, 33)) (j := 19) G C h rfl (by decide) (fun _ _ _ => rfl) (lk C q228) (fun _ z => z) dX0_guest_55 hf (fun x8 hf => ?_)
        refine lv_iload_n hx hb dX0_guest_58 rfl (lv_at hl 2 rfl) ?_
        refine x_iast G C h dX0_guest_59 hf (fun σ9 H locs h hf => ?_)
        refine lv_aload_n hx hb dX0_guest_60 rfl (lv_at hl 0 rfl) ?_
        refine lv_dup hx hb dX0_guest_61 rfl ?_
        refine x_gI (q := (RX0, TX0, 33)) (j := 19) G C h rfl (by decide) (fun _ _ _ => rfl) (lk C q228) (fun _ z => z) dX0_guest_62 hf (fun x10 hf => ?_)
        refine lv_iconst (v := 1) hx hb dX0_guest_65 (by decide) ?_
        refine lv_iadd hx hb dX0_guest_66 ?_
        refine x_pI (q := (RX0, TX0, 33)) (j := 19) G C h rfl (by decide) rfl (lk C q228) (fun _ z => z) (Or.inl rfl) dX0_guest_67 hf (fun σ11 H locs h hf => ?_)
        refine lv_aload_n hx hb dX0_guest_70 rfl (lv_at hl 0 rfl) ?_
        refine x_gI (q := (RX0, TX0, 33)) (j := 19) G C h rfl (by decide) (fun _ _ _ => rfl) (lk C q228) (fun _ z => z) dX0_guest_71 hf (fun x12 hf => ?_)
        cases hf
        refine W.widen (k := 0) (n := 0) (Nat.le_of_ble_eq_true rfl) (Nat.le_of_ble_eq_true rfl) ?_
        exact x_iret C h dX0_guest_74
      · have hf := hf_t hc hf
        refine lv_bipush (v := (-5)) hx hb dX0_guest_37 (by decide) ?_
        cases hf
        refine W.widen (k := 0) (n := 0) (Nat.le_of_ble_eq_true rfl) (Nat.le_of_ble_eq_true rfl) ?_
        exact x_iret C h dX0_guest_39
    · have hf := hf_t hc hf
      refine lv_bipush (v := (-3)) hx hb dX0_guest_25 (by decide) ?_
      cases hf
      refine W.widen (k := 0) (n := 0) (Nat.le_of_ble_eq_true rfl) (Nat.le_of_ble_eq_true rfl) ?_
      exact x_iret C h dX0_guest_27

theorem dX0_isSet_0 : decode cX0_isSet 0 = .ok (.iload_n 0, 1) := by decide +kernel
theorem dX0_isSet_1 : decode cX0_isSet 1 = .ok (.iload_n 1, 1) := by decide +kernel
theorem dX0_isSet_2 : decode cX0_isSet 2 = .ok (.ishr, 1) := by decide +kernel
theorem dX0_isSet_3 : decode cX0_isSet 3 = .ok (.iconst 1, 1) := by decide +kernel
theorem dX0_isSet_4 : decode cX0_isSet 4 = .ok (.iand, 1) := by decide +kernel
theorem dX0_isSet_5 : decode cX0_isSet 5 = .ok (.iconst 1, 1) := by decide +kernel
theorem dX0_isSet_6 : decode cX0_isSet 6 = .ok (.if_icmp .ne 7, 3) := by decide +kernel
theorem dX0_isSet_9 : decode cX0_isSet 9 = .ok (.iconst 1, 1) := by decide +kernel
theorem dX0_isSet_10 : decode cX0_isSet 10 = .ok (.goto 4, 3) := by decide +kernel
theorem dX0_isSet_13 : decode cX0_isSet 13 = .ok (.iconst 0, 1) := by decide +kernel
theorem dX0_isSet_14 : decode cX0_isSet 14 = .ok (.ireturn, 1) := by decide +kernel
def fX0_isSet (σ : St) (a0 : Int32) (a1 : Int32) : Option (Int32) :=
  if ((a0 >>> (a1 &&& 31)) &&& 1) = 1 then
    some 1
  else
  some 0

set_option maxHeartbeats 4000000 in
theorem wX0_isSet {l : Launch} {s0 : State} {A0 : Array Value} {D : va_G} {ac : Nat → ClassId} (G : Gl s0 A0 D ac) {σ : St} {a0 : Int32} {a1 : Int32} {v : Int32} (hf : fX0_isSet σ a0 a1 = some (v)) : Met l yX0_isSet (ws_ yX0_isSet cX0_isSet 2 (some (.boolean))) ({ frames := 0, cells := 0, slots := 0, locals := 0 } : Room) (Pn s0 D ac [.int a0, .int a1] σ) (Qn s0 D ac (some (.int v)) σ) 0 0 (fr s0) := by
  refine x_met (by decide) (Nat.le_of_ble_eq_true rfl) ?_
  intro p e s m args below meth c ls C hnm h hl
  have C : Cx s0 p s m args meth c cX0_isSet 2 "HutForShow" (some (.boolean)) := C
  have hx := C.1
  have hb := C.2.1
  have hl : lv_has ls 2 [(0, .int a0), (1, .int a1)] := hl
  unfold fX0_isSet at hf
  refine lv_iload_n hx hb dX0_isSet_0 rfl (lv_at hl 0 rfl) ?_
  refine lv_iload_n hx hb dX0_isSet_1 rfl (lv_at hl 1 rfl) ?_
  refine lv_ishr hx hb dX0_isSet_2 ?_
  refine lv_iconst (v := 1) hx hb dX0_isSet_3 (by decide) ?_
  refine lv_iand hx hb dX0_isSet_4 ?_
  refine lv_iconst (v := 1) hx hb dX0_isSet_5 (by decide) ?_
  refine lv_icmp_ne (tgt := 13) hx hb dX0_isSet_6 (by decide) (fun hc => ?_) (fun hc => ?_)
  · have hf := hf_f hc hf
    refine lv_iconst (v := 0) hx hb dX0_isSet_13 (by decide) ?_
    cases hf
    refine W.widen (k := 0) (n := 0) (Nat.le_of_ble_eq_true rfl) (Nat.le_of_ble_eq_true rfl) ?_
    exact x_zret C h (by decide) dX0_isSet_14
  · have hf := hf_t hc hf
    refine lv_iconst (v := 1) hx hb dX0_isSet_9 (by decide) ?_
    refine lv_goto (tgt := 14) hx hb dX0_isSet_10 (by decide) ?_
    cases hf
    refine W.widen (k := 0) (n := 0) (Nat.le_of_ble_eq_true rfl) (Nat.le_of_ble_eq_true rfl) ?_
    exact x_zret C h (by decide) dX0_isSet_14

theorem dX0_stay_0 : decode cX0_stay 0 = .ok (.iconst 0, 1) := by decide +kernel
theorem dX0_stay_1 : decode cX0_stay 1 = .ok (.istore_n 2, 1) := by decide +kernel
theorem dX0_stay_2 : decode cX0_stay 2 = .ok (.iconst 0, 1) := by decide +kernel
theorem dX0_stay_3 : decode cX0_stay 3 = .ok (.istore_n 3, 1) := by decide +kernel
theorem dX0_stay_4 : decode cX0_stay 4 = .ok (.iload_n 3, 1) := by decide +kernel
theorem dX0_stay_5 : decode cX0_stay 5 = .ok (.aload_n 0, 1) := by decide +kernel
theorem dX0_stay_6 : decode cX0_stay 6 = .ok (.getfield 305, 3) := by decide +kernel
theorem dX0_stay_9 : decode cX0_stay 9 = .ok (.if_icmp .ge 71, 3) := by decide +kernel
theorem dX0_stay_12 : decode cX0_stay 12 = .ok (.iconst 0, 1) := by decide +kernel
theorem dX0_stay_13 : decode cX0_stay 13 = .ok (.istore 4, 2) := by decide +kernel
theorem dX0_stay_15 : decode cX0_stay 15 = .ok (.aload_n 0, 1) := by decide +kernel
theorem dX0_stay_16 : decode cX0_stay 16 = .ok (.getfield 84, 3) := by decide +kernel
theorem dX0_stay_19 : decode cX0_stay 19 = .ok (.iload_n 3, 1) := by decide +kernel
theorem dX0_stay_20 : decode cX0_stay 20 = .ok (.iaload, 1) := by decide +kernel
theorem dX0_stay_21 : decode cX0_stay 21 = .ok (.istore 5, 2) := by decide +kernel
theorem dX0_stay_23 : decode cX0_stay 23 = .ok (.iload 5, 2) := by decide +kernel
theorem dX0_stay_25 : decode cX0_stay 25 = .ok (.aload_n 0, 1) := by decide +kernel
theorem dX0_stay_26 : decode cX0_stay 26 = .ok (.getfield 87, 3) := by decide +kernel
theorem dX0_stay_29 : decode cX0_stay 29 = .ok (.iload_n 3, 1) := by decide +kernel
theorem dX0_stay_30 : decode cX0_stay 30 = .ok (.iaload, 1) := by decide +kernel
theorem dX0_stay_31 : decode cX0_stay 31 = .ok (.if_icmp .gt 30, 3) := by decide +kernel
theorem dX0_stay_34 : decode cX0_stay 34 = .ok (.iload 4, 2) := by decide +kernel
theorem dX0_stay_36 : decode cX0_stay 36 = .ok (.ifCond .ne 12, 3) := by decide +kernel
theorem dX0_stay_39 : decode cX0_stay 39 = .ok (.iload_n 1, 1) := by decide +kernel
theorem dX0_stay_40 : decode cX0_stay 40 = .ok (.iload 5, 2) := by decide +kernel
theorem dX0_stay_42 : decode cX0_stay 42 = .ok (.invokestatic 308, 3) := by decide +kernel
theorem dX0_stay_45 : decode cX0_stay 45 = .ok (.ifCond .eq 7, 3) := by decide +kernel
theorem dX0_stay_48 : decode cX0_stay 48 = .ok (.iconst 1, 1) := by decide +kernel
theorem dX0_stay_49 : decode cX0_stay 49 = .ok (.goto 4, 3) := by decide +kernel
theorem dX0_stay_52 : decode cX0_stay 52 = .ok (.iconst 0, 1) := by decide +kernel
theorem dX0_stay_53 : decode cX0_stay 53 = .ok (.istore 4, 2) := by decide +kernel
theorem dX0_stay_55 : decode cX0_stay 55 = .ok (.iinc 5 1, 3) := by decide +kernel
theorem dX0_stay_58 : decode cX0_stay 58 = .ok (.goto (-35), 3) := by decide +kernel
theorem dX0_stay_61 : decode cX0_stay 61 = .ok (.iload_n 2, 1) := by decide +kernel
theorem dX0_stay_62 : decode cX0_stay 62 = .ok (.iload 4, 2) := by decide +kernel
theorem dX0_stay_64 : decode cX0_stay 64 = .ok (.ifCond .eq 7, 3) := by decide +kernel
theorem dX0_stay_67 : decode cX0_stay 67 = .ok (.iconst 1, 1) := by decide +kernel
theorem dX0_stay_68 : decode cX0_stay 68 = .ok (.goto 4, 3) := by decide +kernel
theorem dX0_stay_71 : decode cX0_stay 71 = .ok (.iconst 0, 1) := by decide +kernel
theorem dX0_stay_72 : decode cX0_stay 72 = .ok (.iadd, 1) := by decide +kernel
theorem dX0_stay_73 : decode cX0_stay 73 = .ok (.istore_n 2, 1) := by decide +kernel
theorem dX0_stay_74 : decode cX0_stay 74 = .ok (.iinc 3 1, 3) := by decide +kernel
theorem dX0_stay_77 : decode cX0_stay 77 = .ok (.goto (-73), 3) := by decide +kernel
theorem dX0_stay_80 : decode cX0_stay 80 = .ok (.iload_n 2, 1) := by decide +kernel
theorem dX0_stay_81 : decode cX0_stay 81 = .ok (.ireturn, 1) := by decide +kernel
def lX0_stay_23 (σ : St) (a0 : Nat) (x2 : Int32) (a1 : Int32) (x6 : Int32) (x7 : Int32) : Option ((Int32 × Int32) ⊕ (Int32)) :=
  o_gR σ a0 0 18 fun r8 =>
  o_aI σ r8 0 x2 fun x9 =>
  if x9 < x7 then
    some (.inr x6)
  else
  jn (fun (x11 : Int32) =>
    some (.inl (x11, x7 + 1))) fun j53 =>
  jn (fun (_ : Unit) =>
    j53 1) fun j48 =>
  if x6 = 0 then
    (fX0_isSet σ a1 x7).bind fun x10 =>
    if x10 = 0 then
      j53 0
    else
    j48 ()
  else
  j48 ()

def lX0_stay_4 (σ : St) (a0 : Nat) (a1 : Int32) (x1 : Int32) (x2 : Int32) : Option ((Int32 × Int32) ⊕ (Int32)) :=
  o_gI σ a0 0 19 fun x3 =>
  if x3 ≤ x2 then
    some (.inr x1)
  else
  o_gR σ a0 0 17 fun r4 =>
  o_aI σ r4 0 x2 fun x5 =>
  (loopF fuel (fun z => lX0_stay_23 σ a0 x2 a1 z.1 z.2) (0, x5)).bind <| fun x12 =>
  jn (fun (x13 : Int32) =>
    some (.inl (x1 + x13, x2 + 1))) fun j72 =>
  if x12 = 0 then
    j72 0
  else
  j72 1

def fX0_stay (σ : St) (a0 : Nat) (a1 : Int32) : Option (Int32) :=
  (loopF fuel (fun z => lX0_stay_4 σ a0 a1 z.1 z.2) (0, 0)).bind <| fun x14 =>
  some x14

set_option maxHeartbeats 4000000 in
theorem wX0_stay {l : Launch} {s0 : State} {A0 : Array Value} {D : va_G} {ac : Nat → ClassId} (G : Gl s0 A0 D ac) {σ : St} {a0 : Nat} {a1 : Int32} {v : Int32} (hf : fX0_stay σ a0 a1 = some (v)) : Met l yX0_stay (ws_ yX0_stay cX0_stay 6 (some (.int))) ({ frames := 1, cells := 0, slots := 0, locals := 21 } : Room) (Pn s0 D ac [.ref a0, .int a1] σ) (Qn s0 D ac (some (.int v)) σ) 0 0 (fr s0) := by
  refine x_met (by decide) (Nat.le_of_ble_eq_true rfl) ?_
  intro p e s m args below meth c ls C hnm h hl
  have C : Cx s0 p s m args meth c cX0_stay 6 "HutForShow" (some (.int)) := C
  have hx := C.1
  have hb := C.2.1
  have hl : lv_has ls 6 [(0, .ref a0), (1, .int a1)] := hl
  unfold fX0_stay at hf
  refine lv_iconst (v := 0) hx hb dX0_stay_0 (by decide) ?_
  refine lv_istore_n (lv' := [(2, .int 0), (0, .ref a0), (1, .int a1)]) hx hb dX0_stay_1 rfl hl (by decide) rfl (fun ls hl => ?_)
  refine lv_iconst (v := 0) hx hb dX0_stay_2 (by decide) ?_
  refine lv_istore_n (lv' := [(3, .int 0), (2, .int 0), (0, .ref a0), (1, .int a1)]) hx hb dX0_stay_3 rfl hl (by decide) rfl (fun ls hl => ?_)
  obtain ⟨e4, hL, hK⟩ := hf_b hf
  have hE4_0 : ∀ (x14 : Int32), x14 = e4 → ∀  (H : Heap) (locs : List Loc) (ls : Array Slot), Hs s0 D ac σ H locs → lv_has ls 6 [(0, .ref a0), (1, .int a1), (2, .int x14)] → W p l e ({ frames := 1, cells := 0, slots := 0, locals := 21 } : Room) s m args below meth c H locs 0 0 (MQ below (Qn s0 D ac (some (.int v)) σ) args s 0 0 (fr s0)) (F0 m 80 ls []) := by
    intro x14 he H locs ls h hl
    subst he
    have hf := hK
    refine lv_iload_n hx hb dX0_stay_80 rfl (lv_at hl 2 rfl) ?_
    cases hf
    refine W.widen (k := 0) (n := 0) (Nat.le_of_ble_eq_true rfl) (Nat.le_of_ble_eq_true rfl) ?_
    exact x_iret C h dX0_stay_81
  refine loopF_ind (P := fun z => ∀ (H : Heap) (locs : List Loc) (ls : Array Slot), Hs s0 D ac σ H locs → lv_has ls 6 [(0, .ref a0), (1, .int a1), (2, .int z.1), (3, .int z.2)] → W p l e ({ frames := 1, cells := 0, slots := 0, locals := 21 } : Room) s m args below meth c H locs 0 0 (MQ below (Qn s0 D ac (some (.int v)) σ) args s 0 0 (fr s0)) (F0 m 4 ls [])) ?_ _ _ hL _ _ _ h (lv_sub hl [2, 3, 1, 0] rfl)
  clear hK hL h hl hf
  intro z o hf ih hX H locs ls h hl
  obtain ⟨x1, x2⟩ := z
  have h : Hs s0 D ac σ H locs := h
  have hl : lv_has ls 6 [(0, .ref a0), (1, .int a1), (2, .int x1), (3, .int x2)] := hl
  have hf : lX0_stay_4 σ a0 a1 x1 x2 = some o := hf
  unfold lX0_stay_4 at hf
  refine lv_iload_n hx hb dX0_stay_4 rfl (lv_at hl 3 rfl) ?_
  refine lv_aload_n hx hb dX0_stay_5 rfl (lv_at hl 0 rfl) ?_
  refine x_gI (q := (RX0, TX0, 33)) (j := 19) G C h rfl (by decide) (fun _ _ _ => rfl) (lk C q228) (fun _ z => z) dX0_stay_6 hf (fun x3 hf => ?_)
  refine lv_icmp_ge (tgt := 80) hx hb dX0_stay_9 (by decide) (fun hc => ?_) (fun hc => ?_)
  · have hf := hf_t hc hf
    cases hf
    exact hE4_0 _ (hX _ rfl) _ _ _ h (lv_sub hl [0, 1, 2] rfl)
  · have hf := hf_f hc hf
    refine lv_iconst (v := 0) hx hb dX0_stay_12 (by decide) ?_
    refine lv_istore (lv' := [(4, .int 0), (0, .ref a0), (1, .int a1), (2, .int x1), (3, .int x2)]) hx hb dX0_stay_13 hl (by decide) rfl (fun ls hl => ?_)
    refine lv_aload_n hx hb dX0_stay_15 rfl (lv_at hl 1 rfl) ?_
    refine x_gR (q := (RX0, TX0, 33)) (j := 17) G C h rfl (by decide) (fun _ _ _ => rfl) (lk C q226) (fun _ z => z) dX0_stay_16 hf (fun r4 hf => ?_)
    refine lv_iload_n hx hb dX0_stay_19 rfl (lv_at hl 4 rfl) ?_
    refine x_iald G C h dX0_stay_20 hf (fun x5 hf => ?_)
    refine lv_istore (lv' := [(5, .int x5), (4, .int 0), (0, .ref a0), (1, .int a1), (2, .int x1), (3, .int x2)]) hx hb dX0_stay_21 hl (by decide) rfl (fun ls hl => ?_)
    obtain ⟨e23, hL, hK⟩ := hf_b hf
    have hE23_0 : ∀ (x12 : Int32), x12 = e23 → ∀  (H : Heap) (locs : List Loc) (ls : Array Slot), Hs s0 D ac σ H locs → lv_has ls 6 [(0, .ref a0), (1, .int a1), (2, .int x1), (3, .int x2), (4, .int x12)] → W p l e ({ frames := 1, cells := 0, slots := 0, locals := 21 } : Room) s m args below meth c H locs 0 0 (MQ below (Qn s0 D ac (some (.int v)) σ) args s 0 0 (fr s0)) (F0 m 61 ls []) := by
      intro x12 he H locs ls h hl
      subst he
      have hf := hK
      refine lv_iload_n hx hb dX0_stay_61 rfl (lv_at hl 2 rfl) ?_
      refine lv_iload hx hb dX0_stay_62 (lv_at hl 4 rfl) ?_
      refine jn_of (P := fun j => ∀ (x13 : Int32), j x13 = some o → ∀ (H : Heap) (locs : List Loc) (ls : Array Slot), Hs s0 D ac σ H locs → lv_has ls 6 [(0, .ref a0), (1, .int a1), (2, .int x1), (3, .int x2), (4, .int x12)] → W p l e ({ frames := 1, cells := 0, slots := 0, locals := 21 } : Room) s m args below meth c H locs 0 0 (MQ below (Qn s0 D ac (some (.int v)) σ) args s 0 0 (fr s0)) (F0 m 72 ls [.int x13, .int x1])) hf ?_ ?_
      · intro x13 hf H locs ls h hl
        refine lv_iadd hx hb dX0_stay_72 ?_
        refine lv_istore_n (lv' := [(2, .int (x1 + x13)), (0, .ref a0), (1, .int a1), (3, .int x2), (4, .int x12)]) hx hb dX0_stay_73 rfl hl (by decide) rfl (fun ls hl => ?_)
        refine lv_iinc (v := x2 + 1) (lv' := [(3, .int (x2 + 1)), (2, .int (x1 + x13)), (0, .ref a0), (1, .int a1), (4, .int x12)]) hx hb dX0_stay_74 hl (k := 3) rfl rfl (by decide) rfl (fun ls hl => ?_)
        refine lv_goto (tgt := 4) hx hb dX0_stay_77 (by decide) ?_
        cases hf
        exact ih _ rfl _ _ _ h (lv_sub hl [2, 3, 1, 0] rfl)
      intro j72 hj72 hf
      refine lv_if_eq (tgt := 71) hx hb dX0_stay_64 (by decide) (fun hc => ?_) (fun hc => ?_)
      · have hf := hf_t hc hf
        refine lv_iconst (v := 0) hx hb dX0_stay_71 (by decide) ?_
        exact hj72 _ hf _ _ _ h (lv_sub hl [0, 1, 2, 3, 4] rfl)
      · have hf := hf_f hc hf
        refine lv_iconst (v := 1) hx hb dX0_stay_67 (by decide) ?_
        refine lv_goto (tgt := 72) hx hb dX0_stay_68 (by decide) ?_
        exact hj72 _ hf _ _ _ h (lv_sub hl [0, 1, 2, 3, 4] rfl)
    refine loopF_ind (P := fun z => ∀ (H : Heap) (locs : List Loc) (ls : Array Slot), Hs s0 D ac σ H locs → lv_has ls 6 [(0, .ref a0), (1, .int a1), (2, .int x1), (3, .int x2), (4, .int z.1), (5, .int z.2)] → W p l e ({ frames := 1, cells := 0, slots := 0, locals := 21 } : Room) s m args below meth c H locs 0 0 (MQ below (Qn s0 D ac (some (.int v)) σ) args s 0 0 (fr s0)) (F0 m 23 ls [])) ?_ _ _ hL _ _ _ h (lv_sub hl [2, 3, 4, 5, 1, 0] rfl)
    clear hK hL h hl hf
    intro z o hf ih hX H locs ls h hl
    obtain ⟨x6, x7⟩ := z
    have h : Hs s0 D ac σ H locs := h
    have hl : lv_has ls 6 [(0, .ref a0), (1, .int a1), (2, .int x1), (3, .int x2), (4, .int x6), (5, .int x7)] := hl
    have hf : lX0_stay_23 σ a0 x2 a1 x6 x7 = some o := hf
    unfold lX0_stay_23 at hf
    refine lv_iload hx hb dX0_stay_23 (lv_at hl 5 rfl) ?_
    refine lv_aload_n hx hb dX0_stay_25 rfl (lv_at hl 0 rfl) ?_
    refine x_gR (q := (RX0, TX0, 33)) (j := 18) G C h rfl (by decide) (fun _ _ _ => rfl) (lk C q227) (fun _ z => z) dX0_stay_26 hf (fun r8 hf => ?_)
    refine lv_iload_n hx hb dX0_stay_29 rfl (lv_at hl 3 rfl) ?_
    refine x_iald G C h dX0_stay_30 hf (fun x9 hf => ?_)
    refine lv_icmp_gt (tgt := 61) hx hb dX0_stay_31 (by decide) (fun hc => ?_) (fun hc => ?_)
    · have hf := hf_t hc hf
      cases hf
      exact hE23_0 _ (hX _ rfl) _ _ _ h (lv_sub hl [0, 1, 2, 3, 4] rfl)
    · have hf := hf_f hc hf
      refine lv_iload hx hb dX0_stay_34 (lv_at hl 4 rfl) ?_
      refine jn_of (P := fun j => ∀ (x11 : Int32), j x11 = some o → ∀ (H : Heap) (locs : List Loc) (ls : Array Slot), Hs s0 D ac σ H locs → lv_has ls 6 [(0, .ref a0), (1, .int a1), (2, .int x1), (3, .int x2), (4, .int x6), (5, .int x7)] → W p l e ({ frames := 1, cells := 0, slots := 0, locals := 21 } : Room) s m args below meth c H locs 0 0 (MQ below (Qn s0 D ac (some (.int v)) σ) args s 0 0 (fr s0)) (F0 m 53 ls [.int x11])) hf ?_ ?_
      · intro x11 hf H locs ls h hl
        refine lv_istore (lv' := [(4, .int x11), (0, .ref a0), (1, .int a1), (2, .int x1), (3, .int x2), (5, .int x7)]) hx hb dX0_stay_53 hl (by decide) rfl (fun ls hl => ?_)
        refine lv_iinc (v := x7 + 1) (lv' := [(5, .int (x7 + 1)), (4, .int x11), (0, .ref a0), (1, .int a1), (2, .int x1), (3, .int x2)]) hx hb dX0_stay_55 hl (k := 5) rfl rfl (by decide) rfl (fun ls hl => ?_)
        refine lv_goto (tgt := 23) hx hb dX0_stay_58 (by decide) ?_
        cases hf
        exact ih _ rfl _ _ _ h (lv_sub hl [2, 3, 4, 5, 1, 0] rfl)
      intro j53 hj53 hf
      refine jn_of (P := fun j => ∀ (u0 : Unit), j u0 = some o → ∀ (H : Heap) (locs : List Loc) (ls : Array Slot), Hs s0 D ac σ H locs → lv_has ls 6 [(0, .ref a0), (1, .int a1), (2, .int x1), (3, .int x2), (4, .int x6), (5, .int x7)] → W p l e ({ frames := 1, cells := 0, slots := 0, locals := 21 } : Room) s m args below meth c H locs 0 0 (MQ below (Qn s0 D ac (some (.int v)) σ) args s 0 0 (fr s0)) (F0 m 48 ls [])) hf ?_ ?_
      · intro u0 hf H locs ls h hl
        refine lv_iconst (v := 1) hx hb dX0_stay_48 (by decide) ?_
        refine lv_goto (tgt := 53) hx hb dX0_stay_49 (by decide) ?_
        exact hj53 _ hf _ _ _ h (lv_sub hl [0, 1, 2, 3, 4, 5] rfl)
      intro j48 hj48 hf
      refine lv_if_ne (tgt := 48) hx hb dX0_stay_36 (by decide) (fun hc => ?_) (fun hc => ?_)
      · have hf := hf_f hc hf
        exact hj48 () hf _ _ _ h (lv_sub hl [0, 1, 2, 3, 4, 5] rfl)
      · have hf := hf_t hc hf
        refine lv_iload_n hx hb dX0_stay_39 rfl (lv_at hl 1 rfl) ?_
        refine lv_iload hx hb dX0_stay_40 (lv_at hl 5 rfl) ?_
        obtain ⟨x10, hc, hf⟩ := hf_b hf
        refine x_cS (rest := []) (As := [.int a1, .int x7]) (n := 2) (ov := (some (.int x10))) C h (wX0_isSet G hc) (lw_S q916 q917 q54 q918) (by decide +kernel) ⟨Nat.le_of_ble_eq_true rfl, Nat.le_of_ble_eq_true rfl⟩ rfl rfl rfl hl.1 rfl (Nat.le_of_ble_eq_true rfl) dX0_stay_42 ⟨(Nat.le_of_ble_eq_true rfl), (Nat.le_of_ble_eq_true rfl)⟩ (fun H locs h => ?_)
        refine lv_if_eq (tgt := 52) hx hb dX0_stay_45 (by decide) (fun hc => ?_) (fun hc => ?_)
        · have hf := hf_t hc hf
          refine lv_iconst (v := 0) hx hb dX0_stay_52 (by decide) ?_
          exact hj53 _ hf _ _ _ h (lv_sub hl [0, 1, 2, 3, 4, 5] rfl)
        · have hf := hf_f hc hf
          exact hj48 () hf _ _ _ h (lv_sub hl [0, 1, 2, 3, 4, 5] rfl)

theorem dX0_held_0 : decode cX0_held 0 = .ok (.iload_n 1, 1) := by decide +kernel
theorem dX0_held_1 : decode cX0_held 1 = .ok (.i2l, 1) := by decide +kernel
theorem dX0_held_2 : decode cX0_held 2 = .ok (.lconst 0, 1) := by decide +kernel
theorem dX0_held_3 : decode cX0_held 3 = .ok (.lconst 1, 1) := by decide +kernel
theorem dX0_held_4 : decode cX0_held 4 = .ok (.invokestatic 127, 3) := by decide +kernel
theorem dX0_held_7 : decode cX0_held 7 = .ok (.ifCond .ne 6, 3) := by decide +kernel
theorem dX0_held_10 : decode cX0_held 10 = .ok (.bipush (-3), 2) := by decide +kernel
theorem dX0_held_12 : decode cX0_held 12 = .ok (.ireturn, 1) := by decide +kernel
theorem dX0_held_13 : decode cX0_held 13 = .ok (.iconst 0, 1) := by decide +kernel
theorem dX0_held_14 : decode cX0_held 14 = .ok (.istore_n 2, 1) := by decide +kernel
theorem dX0_held_15 : decode cX0_held 15 = .ok (.iconst 1, 1) := by decide +kernel
theorem dX0_held_16 : decode cX0_held 16 = .ok (.istore_n 3, 1) := by decide +kernel
theorem dX0_held_17 : decode cX0_held 17 = .ok (.iload_n 3, 1) := by decide +kernel
theorem dX0_held_18 : decode cX0_held 18 = .ok (.bipush 10, 2) := by decide +kernel
theorem dX0_held_20 : decode cX0_held 20 = .ok (.if_icmp .ge 32, 3) := by decide +kernel
theorem dX0_held_23 : decode cX0_held 23 = .ok (.aload_n 0, 1) := by decide +kernel
theorem dX0_held_24 : decode cX0_held 24 = .ok (.iconst 1, 1) := by decide +kernel
theorem dX0_held_25 : decode cX0_held 25 = .ok (.iload_n 3, 1) := by decide +kernel
theorem dX0_held_26 : decode cX0_held 26 = .ok (.ishl, 1) := by decide +kernel
theorem dX0_held_27 : decode cX0_held 27 = .ok (.invokevirtual 311, 3) := by decide +kernel
theorem dX0_held_30 : decode cX0_held 30 = .ok (.aload_n 0, 1) := by decide +kernel
theorem dX0_held_31 : decode cX0_held 31 = .ok (.iconst 1, 1) := by decide +kernel
theorem dX0_held_32 : decode cX0_held 32 = .ok (.iload_n 2, 1) := by decide +kernel
theorem dX0_held_33 : decode cX0_held 33 = .ok (.ishl, 1) := by decide +kernel
theorem dX0_held_34 : decode cX0_held 34 = .ok (.invokevirtual 311, 3) := by decide +kernel
theorem dX0_held_37 : decode cX0_held 37 = .ok (.if_icmp .le 7, 3) := by decide +kernel
theorem dX0_held_40 : decode cX0_held 40 = .ok (.iload_n 3, 1) := by decide +kernel
theorem dX0_held_41 : decode cX0_held 41 = .ok (.goto 4, 3) := by decide +kernel
theorem dX0_held_44 : decode cX0_held 44 = .ok (.iload_n 2, 1) := by decide +kernel
theorem dX0_held_45 : decode cX0_held 45 = .ok (.istore_n 2, 1) := by decide +kernel
theorem dX0_held_46 : decode cX0_held 46 = .ok (.iinc 3 1, 3) := by decide +kernel
theorem dX0_held_49 : decode cX0_held 49 = .ok (.goto (-32), 3) := by decide +kernel
theorem dX0_held_52 : decode cX0_held 52 = .ok (.iload_n 1, 1) := by decide +kernel
theorem dX0_held_53 : decode cX0_held 53 = .ok (.ifCond .ne 7, 3) := by decide +kernel
theorem dX0_held_56 : decode cX0_held 56 = .ok (.iload_n 2, 1) := by decide +kernel
theorem dX0_held_57 : decode cX0_held 57 = .ok (.goto 10, 3) := by decide +kernel
theorem dX0_held_60 : decode cX0_held 60 = .ok (.aload_n 0, 1) := by decide +kernel
theorem dX0_held_61 : decode cX0_held 61 = .ok (.iconst 1, 1) := by decide +kernel
theorem dX0_held_62 : decode cX0_held 62 = .ok (.iload_n 2, 1) := by decide +kernel
theorem dX0_held_63 : decode cX0_held 63 = .ok (.ishl, 1) := by decide +kernel
theorem dX0_held_64 : decode cX0_held 64 = .ok (.invokevirtual 311, 3) := by decide +kernel
theorem dX0_held_67 : decode cX0_held 67 = .ok (.ireturn, 1) := by decide +kernel
def lX0_held_17 (σ : St) (a0 : Nat) (x2 : Int32) (x3 : Int32) : Option ((Int32 × Int32) ⊕ (Int32)) :=
  if 10 ≤ x3 then
    some (.inr x2)
  else
  o_k σ a0 0 <|
  (fX0_stay σ a0 (1 <<< (x3 &&& 31))).bind fun x4 =>
  o_k σ a0 0 <|
  (fX0_stay σ a0 (1 <<< (x2 &&& 31))).bind fun x5 =>
  jn (fun (x6 : Int32) =>
    some (.inl (x6, x3 + 1))) fun j45 =>
  if x4 ≤ x5 then
    j45 x2
  else
  j45 x3

def fX0_held (σ : St) (a0 : Nat) (a1 : Int32) : Option (Int32) :=
  (fX0_isIn σ (a1.toInt64) 0 1).bind fun x1 =>
  if x1 = 0 then
    some ((-3))
  else
  (loopF fuel (fun z => lX0_held_17 σ a0 z.1 z.2) (0, 1)).bind <| fun x7 =>
  if a1 = 0 then
    some x7
  else
  o_k σ a0 0 <|
  (fX0_stay σ a0 (1 <<< (x7 &&& 31))).bind fun x8 =>
  some x8

set_option maxHeartbeats 4000000 in
theorem wX0_held {l : Launch} {s0 : State} {A0 : Array Value} {D : va_G} {ac : Nat → ClassId} (G : Gl s0 A0 D ac) {σ : St} {a0 : Nat} {a1 : Int32} {v : Int32} (hf : fX0_held σ a0 a1 = some (v)) : Met l yX0_held (ws_ yX0_held cX0_held 4 (some (.int))) ({ frames := 2, cells := 0, slots := 0, locals := 46 } : Room) (Pn s0 D ac [.ref a0, .int a1] σ) (Qn s0 D ac (some (.int v)) σ) 0 0 (fr s0) := by
  refine x_met (by decide) (Nat.le_of_ble_eq_true rfl) ?_
  intro p e s m args below meth c ls C hnm h hl
  have C : Cx s0 p s m args meth c cX0_held 4 "HutForShow" (some (.int)) := C
  have hx := C.1
  have hb := C.2.1
  have hl : lv_has ls 4 [(0, .ref a0), (1, .int a1)] := hl
  unfold fX0_held at hf
  refine lv_iload_n hx hb dX0_held_0 rfl (lv_at hl 1 rfl) ?_
  refine lv_i2l hx hb dX0_held_1 rfl ?_
  refine lv_lconst (v := 0) hx hb dX0_held_2 (by decide) ?_
  refine lv_lconst (v := 1) hx hb dX0_held_3 (by decide) ?_
  obtain ⟨x1, hc, hf⟩ := hf_b hf
  refine x_cS (rest := []) (As := [.long (a1.toInt64), .long 0, .long 1]) (n := 3) (ov := (some (.int x1))) C h (wX0_isIn G hc) (lw_S q318 q319 q54 q320) (by decide +kernel) ⟨Nat.le_of_ble_eq_true rfl, Nat.le_of_ble_eq_true rfl⟩ rfl rfl rfl hl.1 rfl (Nat.le_of_ble_eq_true rfl) dX0_held_4 ⟨(Nat.le_of_ble_eq_true rfl), (Nat.le_of_ble_eq_true rfl)⟩ (fun H locs h => ?_)
  refine lv_if_ne (tgt := 13) hx hb dX0_held_7 (by decide) (fun hc => ?_) (fun hc => ?_)
  · have hf := hf_f hc hf
    refine lv_iconst (v := 0) hx hb dX0_held_13 (by decide) ?_
    refine lv_istore_n (lv' := [(2, .int 0), (0, .ref a0), (1, .int a1)]) hx hb dX0_held_14 rfl hl (by decide) rfl (fun ls hl => ?_)
    refine lv_iconst (v := 1) hx hb dX0_held_15 (by decide) ?_
    refine lv_istore_n (lv' := [(3, .int 1), (2, .int 0), (0, .ref a0), (1, .int a1)]) hx hb dX0_held_16 rfl hl (by decide) rfl (fun ls hl => ?_)
    obtain ⟨e17, hL, hK⟩ := hf_b hf
    have hE17_0 : ∀ (x7 : Int32), x7 = e17 → ∀  (H : Heap) (locs : List Loc) (ls : Array Slot), Hs s0 D ac σ H locs → lv_has ls 4 [(0, .ref a0), (1, .int a1), (2, .int x7)] → W p l e ({ frames := 2, cells := 0, slots := 0, locals := 46 } : Room) s m args below meth c H locs 0 0 (MQ below (Qn s0 D ac (some (.int v)) σ) args s 0 0 (fr s0)) (F0 m 52 ls []) := by
      intro x7 he H locs ls h hl
      subst he
      have hf := hK
      refine lv_iload_n hx hb dX0_held_52 rfl (lv_at hl 1 rfl) ?_
      refine lv_if_ne (tgt := 60) hx hb dX0_held_53 (by decide) (fun hc => ?_) (fun hc => ?_)
      · have hf := hf_f hc hf
        refine lv_aload_n hx hb dX0_held_60 rfl (lv_at hl 0 rfl) ?_
        refine lv_iconst (v := 1) hx hb dX0_held_61 (by decide) ?_
        refine lv_iload_n hx hb dX0_held_62 rfl (lv_at hl 2 rfl) ?_
        refine lv_ishl hx hb dX0_held_63 ?_
        obtain ⟨hk, hf⟩ := k_of hf
        obtain ⟨x8, hc, hf⟩ := hf_b hf
        refine x_cV (q := (RX0, TX0, 33)) (rest := []) (As := [.int (1 <<< (x7 &&& 31))]) (n := 1) (ov := (some (.int x8))) G C h (wX0_stay G hc) hk rfl (lw_V q912 q914 qs14 q54 q915) (by decide +kernel) ⟨Nat.le_of_ble_eq_true rfl, Nat.le_of_ble_eq_true rfl⟩ rfl rfl rfl hl.1 rfl (Nat.le_of_ble_eq_true rfl) dX0_held_64 ⟨(Nat.le_of_ble_eq_true rfl), (Nat.le_of_ble_eq_true rfl)⟩ (fun H locs h => ?_)
        cases hf
        refine W.widen (k := 0) (n := 0) (Nat.le_of_ble_eq_true rfl) (Nat.le_of_ble_eq_true rfl) ?_
        exact x_iret C h dX0_held_67
      · have hf := hf_t hc hf
        refine lv_iload_n hx hb dX0_held_56 rfl (lv_at hl 2 rfl) ?_
        refine lv_goto (tgt := 67) hx hb dX0_held_57 (by decide) ?_
        cases hf
        refine W.widen (k := 0) (n := 0) (Nat.le_of_ble_eq_true rfl) (Nat.le_of_ble_eq_true rfl) ?_
        exact x_iret C h dX0_held_67
    refine loopF_ind (P := fun z => ∀ (H : Heap) (locs : List Loc) (ls : Array Slot), Hs s0 D ac σ H locs → lv_has ls 4 [(0, .ref a0), (1, .int a1), (2, .int z.1), (3, .int z.2)] → W p l e ({ frames := 2, cells := 0, slots := 0, locals := 46 } : Room) s m args below meth c H locs 0 0 (MQ below (Qn s0 D ac (some (.int v)) σ) args s 0 0 (fr s0)) (F0 m 17 ls [])) ?_ _ _ hL _ _ _ h (lv_sub hl [2, 3, 1, 0] rfl)
    clear hK hL h hl hf
    intro z o hf ih hX H locs ls h hl
    obtain ⟨x2, x3⟩ := z
    have h : Hs s0 D ac σ H locs := h
    have hl : lv_has ls 4 [(0, .ref a0), (1, .int a1), (2, .int x2), (3, .int x3)] := hl
    have hf : lX0_held_17 σ a0 x2 x3 = some o := hf
    unfold lX0_held_17 at hf
    refine lv_iload_n hx hb dX0_held_17 rfl (lv_at hl 3 rfl) ?_
    refine lv_bipush (v := 10) hx hb dX0_held_18 (by decide) ?_
    refine lv_icmp_ge (tgt := 52) hx hb dX0_held_20 (by decide) (fun hc => ?_) (fun hc => ?_)
    · have hf := hf_t hc hf
      cases hf
      exact hE17_0 _ (hX _ rfl) _ _ _ h (lv_sub hl [0, 1, 2] rfl)
    · have hf := hf_f hc hf
      refine lv_aload_n hx hb dX0_held_23 rfl (lv_at hl 0 rfl) ?_
      refine lv_iconst (v := 1) hx hb dX0_held_24 (by decide) ?_
      refine lv_iload_n hx hb dX0_held_25 rfl (lv_at hl 3 rfl) ?_
      refine lv_ishl hx hb dX0_held_26 ?_
      obtain ⟨hk, hf⟩ := k_of hf
      obtain ⟨x4, hc, hf⟩ := hf_b hf
      refine x_cV (q := (RX0, TX0, 33)) (rest := []) (As := [.int (1 <<< (x3 &&& 31))]) (n := 1) (ov := (some (.int x4))) G C h (wX0_stay G hc) hk rfl (lw_V q912 q914 qs14 q54 q915) (by decide +kernel) ⟨Nat.le_of_ble_eq_true rfl, Nat.le_of_ble_eq_true rfl⟩ rfl rfl rfl hl.1 rfl (Nat.le_of_ble_eq_true rfl) dX0_held_27 ⟨(Nat.le_of_ble_eq_true rfl), (Nat.le_of_ble_eq_true rfl)⟩ (fun H locs h => ?_)
      refine lv_aload_n hx hb dX0_held_30 rfl (lv_at hl 0 rfl) ?_
      refine lv_iconst (v := 1) hx hb dX0_held_31 (by decide) ?_
      refine lv_iload_n hx hb dX0_held_32 rfl (lv_at hl 2 rfl) ?_
      refine lv_ishl hx hb dX0_held_33 ?_
      obtain ⟨hk, hf⟩ := k_of hf
      obtain ⟨x5, hc, hf⟩ := hf_b hf
      refine x_cV (q := (RX0, TX0, 33)) (rest := [.int x4]) (As := [.int (1 <<< (x2 &&& 31))]) (n := 1) (ov := (some (.int x5))) G C h (wX0_stay G hc) hk rfl (lw_V q912 q914 qs14 q54 q915) (by decide +kernel) ⟨Nat.le_of_ble_eq_true rfl, Nat.le_of_ble_eq_true rfl⟩ rfl rfl rfl hl.1 rfl (Nat.le_of_ble_eq_true rfl) dX0_held_34 ⟨(Nat.le_of_ble_eq_true rfl), (Nat.le_of_ble_eq_true rfl)⟩ (fun H locs h => ?_)
      refine jn_of (P := fun j => ∀ (x6 : Int32), j x6 = some o → ∀ (H : Heap) (locs : List Loc) (ls : Array Slot), Hs s0 D ac σ H locs → lv_has ls 4 [(0, .ref a0), (1, .int a1), (2, .int x2), (3, .int x3)] → W p l e ({ frames := 2, cells := 0, slots := 0, locals := 46 } : Room) s m args below meth c H locs 0 0 (MQ below (Qn s0 D ac (some (.int v)) σ) args s 0 0 (fr s0)) (F0 m 45 ls [.int x6])) hf ?_ ?_
      · intro x6 hf H locs ls h hl
        refine lv_istore_n (lv' := [(2, .int x6), (0, .ref a0), (1, .int a1), (3, .int x3)]) hx hb dX0_held_45 rfl hl (by decide) rfl (fun ls hl => ?_)
        refine lv_iinc (v := x3 + 1) (lv' := [(3, .int (x3 + 1)), (2, .int x6), (0, .ref a0), (1, .int a1)]) hx hb dX0_held_46 hl (k := 3) rfl rfl (by decide) rfl (fun ls hl => ?_)
        refine lv_goto (tgt := 17) hx hb dX0_held_49 (by decide) ?_
        cases hf
        exact ih _ rfl _ _ _ h (lv_sub hl [2, 3, 1, 0] rfl)
      intro j45 hj45 hf
      refine lv_icmp_le (tgt := 44) hx hb dX0_held_37 (by decide) (fun hc => ?_) (fun hc => ?_)
      · have hf := hf_t hc hf
        refine lv_iload_n hx hb dX0_held_44 rfl (lv_at hl 2 rfl) ?_
        exact hj45 _ hf _ _ _ h (lv_sub hl [0, 1, 2, 3] rfl)
      · have hf := hf_f hc hf
        refine lv_iload_n hx hb dX0_held_40 rfl (lv_at hl 3 rfl) ?_
        refine lv_goto (tgt := 45) hx hb dX0_held_41 (by decide) ?_
        exact hj45 _ hf _ _ _ h (lv_sub hl [0, 1, 2, 3] rfl)
  · have hf := hf_t hc hf
    refine lv_bipush (v := (-3)) hx hb dX0_held_10 (by decide) ?_
    cases hf
    refine W.widen (k := 0) (n := 0) (Nat.le_of_ble_eq_true rfl) (Nat.le_of_ble_eq_true rfl) ?_
    exact x_iret C h dX0_held_12

theorem dX0_isAhead_0 : decode cX0_isAhead 0 = .ok (.iload_n 0, 1) := by decide +kernel
theorem dX0_isAhead_1 : decode cX0_isAhead 1 = .ok (.iload_n 1, 1) := by decide +kernel
theorem dX0_isAhead_2 : decode cX0_isAhead 2 = .ok (.ixor, 1) := by decide +kernel
theorem dX0_isAhead_3 : decode cX0_isAhead 3 = .ok (.istore_n 2, 1) := by decide +kernel
theorem dX0_isAhead_4 : decode cX0_isAhead 4 = .ok (.iload_n 0, 1) := by decide +kernel
theorem dX0_isAhead_5 : decode cX0_isAhead 5 = .ok (.iload_n 2, 1) := by decide +kernel
theorem dX0_isAhead_6 : decode cX0_isAhead 6 = .ok (.iand, 1) := by decide +kernel
theorem dX0_isAhead_7 : decode cX0_isAhead 7 = .ok (.iload_n 2, 1) := by decide +kernel
theorem dX0_isAhead_8 : decode cX0_isAhead 8 = .ok (.ineg, 1) := by decide +kernel
theorem dX0_isAhead_9 : decode cX0_isAhead 9 = .ok (.iand, 1) := by decide +kernel
theorem dX0_isAhead_10 : decode cX0_isAhead 10 = .ok (.ifCond .eq 7, 3) := by decide +kernel
theorem dX0_isAhead_13 : decode cX0_isAhead 13 = .ok (.iconst 1, 1) := by decide +kernel
theorem dX0_isAhead_14 : decode cX0_isAhead 14 = .ok (.goto 4, 3) := by decide +kernel
theorem dX0_isAhead_17 : decode cX0_isAhead 17 = .ok (.iconst 0, 1) := by decide +kernel
theorem dX0_isAhead_18 : decode cX0_isAhead 18 = .ok (.ireturn, 1) := by decide +kernel
def fX0_isAhead (σ : St) (a0 : Int32) (a1 : Int32) : Option (Int32) :=
  if ((a0 &&& (a0 ^^^ a1)) &&& (-(a0 ^^^ a1))) = 0 then
    some 0
  else
  some 1

set_option maxHeartbeats 4000000 in
theorem wX0_isAhead {l : Launch} {s0 : State} {A0 : Array Value} {D : va_G} {ac : Nat → ClassId} (G : Gl s0 A0 D ac) {σ : St} {a0 : Int32} {a1 : Int32} {v : Int32} (hf : fX0_isAhead σ a0 a1 = some (v)) : Met l yX0_isAhead (ws_ yX0_isAhead cX0_isAhead 3 (some (.boolean))) ({ frames := 0, cells := 0, slots := 0, locals := 0 } : Room) (Pn s0 D ac [.int a0, .int a1] σ) (Qn s0 D ac (some (.int v)) σ) 0 0 (fr s0) := by
  refine x_met (by decide) (Nat.le_of_ble_eq_true rfl) ?_
  intro p e s m args below meth c ls C hnm h hl
  have C : Cx s0 p s m args meth c cX0_isAhead 3 "HutForShow" (some (.boolean)) := C
  have hx := C.1
  have hb := C.2.1
  have hl : lv_has ls 3 [(0, .int a0), (1, .int a1)] := hl
  unfold fX0_isAhead at hf
  refine lv_iload_n hx hb dX0_isAhead_0 rfl (lv_at hl 0 rfl) ?_
  refine lv_iload_n hx hb dX0_isAhead_1 rfl (lv_at hl 1 rfl) ?_
  refine lv_ixor hx hb dX0_isAhead_2 ?_
  refine lv_istore_n (lv' := [(2, .int (a0 ^^^ a1)), (0, .int a0), (1, .int a1)]) hx hb dX0_isAhead_3 rfl hl (by decide) rfl (fun ls hl => ?_)
  refine lv_iload_n hx hb dX0_isAhead_4 rfl (lv_at hl 1 rfl) ?_
  refine lv_iload_n hx hb dX0_isAhead_5 rfl (lv_at hl 0 rfl) ?_
  refine lv_iand hx hb dX0_isAhead_6 ?_
  refine lv_iload_n hx hb dX0_isAhead_7 rfl (lv_at hl 0 rfl) ?_
  refine lv_ineg hx hb dX0_isAhead_8 ?_
  refine lv_iand hx hb dX0_isAhead_9 ?_
  refine lv_if_eq (tgt := 17) hx hb dX0_isAhead_10 (by decide) (fun hc => ?_) (fun hc => ?_)
  · have hf := hf_t hc hf
    refine lv_iconst (v := 0) hx hb dX0_isAhead_17 (by decide) ?_
    cases hf
    refine W.widen (k := 0) (n := 0) (Nat.le_of_ble_eq_true rfl) (Nat.le_of_ble_eq_true rfl) ?_
    exact x_zret C h (by decide) dX0_isAhead_18
  · have hf := hf_f hc hf
    refine lv_iconst (v := 1) hx hb dX0_isAhead_13 (by decide) ?_
    refine lv_goto (tgt := 18) hx hb dX0_isAhead_14 (by decide) ?_
    cases hf
    refine W.widen (k := 0) (n := 0) (Nat.le_of_ble_eq_true rfl) (Nat.le_of_ble_eq_true rfl) ?_
    exact x_zret C h (by decide) dX0_isAhead_18

theorem dX0_ith_0 : decode cX0_ith 0 = .ok (.iload_n 1, 1) := by decide +kernel
theorem dX0_ith_1 : decode cX0_ith 1 = .ok (.istore_n 2, 1) := by decide +kernel
theorem dX0_ith_2 : decode cX0_ith 2 = .ok (.iconst 0, 1) := by decide +kernel
theorem dX0_ith_3 : decode cX0_ith 3 = .ok (.istore_n 3, 1) := by decide +kernel
theorem dX0_ith_4 : decode cX0_ith 4 = .ok (.iload_n 3, 1) := by decide +kernel
theorem dX0_ith_5 : decode cX0_ith 5 = .ok (.bipush 10, 2) := by decide +kernel
theorem dX0_ith_7 : decode cX0_ith 7 = .ok (.if_icmp .ge 26, 3) := by decide +kernel
theorem dX0_ith_10 : decode cX0_ith 10 = .ok (.iload_n 0, 1) := by decide +kernel
theorem dX0_ith_11 : decode cX0_ith 11 = .ok (.iload_n 3, 1) := by decide +kernel
theorem dX0_ith_12 : decode cX0_ith 12 = .ok (.invokestatic 308, 3) := by decide +kernel
theorem dX0_ith_15 : decode cX0_ith 15 = .ok (.ifCond .eq 12, 3) := by decide +kernel
theorem dX0_ith_18 : decode cX0_ith 18 = .ok (.iload_n 2, 1) := by decide +kernel
theorem dX0_ith_19 : decode cX0_ith 19 = .ok (.ifCond .ne 5, 3) := by decide +kernel
theorem dX0_ith_22 : decode cX0_ith 22 = .ok (.iload_n 3, 1) := by decide +kernel
theorem dX0_ith_23 : decode cX0_ith 23 = .ok (.ireturn, 1) := by decide +kernel
theorem dX0_ith_24 : decode cX0_ith 24 = .ok (.iinc 2 (-1), 3) := by decide +kernel
theorem dX0_ith_27 : decode cX0_ith 27 = .ok (.iinc 3 1, 3) := by decide +kernel
theorem dX0_ith_30 : decode cX0_ith 30 = .ok (.goto (-26), 3) := by decide +kernel
theorem dX0_ith_33 : decode cX0_ith 33 = .ok (.iconst (-1), 1) := by decide +kernel
theorem dX0_ith_34 : decode cX0_ith 34 = .ok (.ireturn, 1) := by decide +kernel
def lX0_ith_4 (σ : St) (a0 : Int32) (x1 : Int32) (x2 : Int32) : Option ((Int32 × Int32) ⊕ ((Int32) ⊕ (Unit))) :=
  if 10 ≤ x2 then
    some (.inr (.inr ()))
  else
  (fX0_isSet σ a0 x2).bind fun x3 =>
  jn (fun (x4 : Int32) =>
    some (.inl (x4, x2 + 1))) fun j27 =>
  if x3 = 0 then
    j27 x1
  else
  if x1 = 0 then
    some (.inr (.inl x2))
  else
  j27 (x1 + (-1))

def fX0_ith (σ : St) (a0 : Int32) (a1 : Int32) : Option (Int32) :=
  (loopF fuel (fun z => lX0_ith_4 σ a0 z.1 z.2) (a1, 0)).bind <| sm (  fun x5 =>
    some x5) <| fun (_ : Unit) =>
  some ((-1))

set_option maxHeartbeats 4000000 in
theorem wX0_ith {l : Launch} {s0 : State} {A0 : Array Value} {D : va_G} {ac : Nat → ClassId} (G : Gl s0 A0 D ac) {σ : St} {a0 : Int32} {a1 : Int32} {v : Int32} (hf : fX0_ith σ a0 a1 = some (v)) : Met l yX0_ith (ws_ yX0_ith cX0_ith 4 (some (.int))) ({ frames := 1, cells := 0, slots := 0, locals := 21 } : Room) (Pn s0 D ac [.int a0, .int a1] σ) (Qn s0 D ac (some (.int v)) σ) 0 0 (fr s0) := by
  refine x_met (by decide) (Nat.le_of_ble_eq_true rfl) ?_
  intro p e s m args below meth c ls C hnm h hl
  have C : Cx s0 p s m args meth c cX0_ith 4 "HutForShow" (some (.int)) := C
  have hx := C.1
  have hb := C.2.1
  have hl : lv_has ls 4 [(0, .int a0), (1, .int a1)] := hl
  unfold fX0_ith at hf
  refine lv_iload_n hx hb dX0_ith_0 rfl (lv_at hl 1 rfl) ?_
  refine lv_istore_n (lv' := [(2, .int a1), (0, .int a0), (1, .int a1)]) hx hb dX0_ith_1 rfl hl (by decide) rfl (fun ls hl => ?_)
  refine lv_iconst (v := 0) hx hb dX0_ith_2 (by decide) ?_
  refine lv_istore_n (lv' := [(3, .int 0), (2, .int a1), (0, .int a0), (1, .int a1)]) hx hb dX0_ith_3 rfl hl (by decide) rfl (fun ls hl => ?_)
  obtain ⟨e4, hL, hK⟩ := hf_b hf
  have hE4_0 : ∀ (x5 : Int32), (.inl x5) = e4 → ∀  (H : Heap) (locs : List Loc) (ls : Array Slot), Hs s0 D ac σ H locs → lv_has ls 4 [(0, .int a0), (1, .int a1), (3, .int x5)] → W p l e ({ frames := 1, cells := 0, slots := 0, locals := 21 } : Room) s m args below meth c H locs 0 0 (MQ below (Qn s0 D ac (some (.int v)) σ) args s 0 0 (fr s0)) (F0 m 22 ls []) := by
    intro x5 he H locs ls h hl
    subst he
    have hf := hK
    have hf := hf_sl hf
    refine lv_iload_n hx hb dX0_ith_22 rfl (lv_at hl 2 rfl) ?_
    cases hf
    refine W.widen (k := 0) (n := 0) (Nat.le_of_ble_eq_true rfl) (Nat.le_of_ble_eq_true rfl) ?_
    exact x_iret C h dX0_ith_23
  have hE4_1 : (.inr ()) = e4 → ∀  (H : Heap) (locs : List Loc) (ls : Array Slot), Hs s0 D ac σ H locs → lv_has ls 4 [(0, .int a0), (1, .int a1)] → W p l e ({ frames := 1, cells := 0, slots := 0, locals := 21 } : Room) s m args below meth c H locs 0 0 (MQ below (Qn s0 D ac (some (.int v)) σ) args s 0 0 (fr s0)) (F0 m 33 ls []) := by
    intro he H locs ls h hl
    subst he
    have hf := hK
    have hf := hf_sr hf
    refine lv_iconst (v := (-1)) hx hb dX0_ith_33 (by decide) ?_
    cases hf
    refine W.widen (k := 0) (n := 0) (Nat.le_of_ble_eq_true rfl) (Nat.le_of_ble_eq_true rfl) ?_
    exact x_iret C h dX0_ith_34
  refine loopF_ind (P := fun z => ∀ (H : Heap) (locs : List Loc) (ls : Array Slot), Hs s0 D ac σ H locs → lv_has ls 4 [(0, .int a0), (1, .int a1), (2, .int z.1), (3, .int z.2)] → W p l e ({ frames := 1, cells := 0, slots := 0, locals := 21 } : Room) s m args below meth c H locs 0 0 (MQ below (Qn s0 D ac (some (.int v)) σ) args s 0 0 (fr s0)) (F0 m 4 ls [])) ?_ _ _ hL _ _ _ h (lv_sub hl [2, 3, 1, 0] rfl)
  clear hK hL h hl hf
  intro z o hf ih hX H locs ls h hl
  obtain ⟨x1, x2⟩ := z
  have h : Hs s0 D ac σ H locs := h
  have hl : lv_has ls 4 [(0, .int a0), (1, .int a1), (2, .int x1), (3, .int x2)] := hl
  have hf : lX0_ith_4 σ a0 x1 x2 = some o := hf
  unfold lX0_ith_4 at hf
  refine lv_iload_n hx hb dX0_ith_4 rfl (lv_at hl 3 rfl) ?_
  refine lv_bipush (v := 10) hx hb dX0_ith_5 (by decide) ?_
  refine lv_icmp_ge (tgt := 33) hx hb dX0_ith_7 (by decide) (fun hc => ?_) (fun hc => ?_)
  · have hf := hf_t hc hf
    cases hf
    exact hE4_1 (hX _ rfl) _ _ _ h (lv_sub hl [0, 1] rfl)
  · have hf := hf_f hc hf
    refine lv_iload_n hx hb dX0_ith_10 rfl (lv_at hl 0 rfl) ?_
    refine lv_iload_n hx hb dX0_ith_11 rfl (lv_at hl 3 rfl) ?_
    obtain ⟨x3, hc, hf⟩ := hf_b hf
    refine x_cS (rest := []) (As := [.int a0, .int x2]) (n := 2) (ov := (some (.int x3))) C h (wX0_isSet G hc) (lw_S q916 q917 q54 q918) (by decide +kernel) ⟨Nat.le_of_ble_eq_true rfl, Nat.le_of_ble_eq_true rfl⟩ rfl rfl rfl hl.1 rfl (Nat.le_of_ble_eq_true rfl) dX0_ith_12 ⟨(Nat.le_of_ble_eq_true rfl), (Nat.le_of_ble_eq_true rfl)⟩ (fun H locs h => ?_)
    refine jn_of (P := fun j => ∀ (x4 : Int32), j x4 = some o → ∀ (H : Heap) (locs : List Loc) (ls : Array Slot), Hs s0 D ac σ H locs → lv_has ls 4 [(0, .int a0), (1, .int a1), (2, .int x4), (3, .int x2)] → W p l e ({ frames := 1, cells := 0, slots := 0, locals := 21 } : Room) s m args below meth c H locs 0 0 (MQ below (Qn s0 D ac (some (.int v)) σ) args s 0 0 (fr s0)) (F0 m 27 ls [])) hf ?_ ?_
    · intro x4 hf H locs ls h hl
      refine lv_iinc (v := x2 + 1) (lv' := [(3, .int (x2 + 1)), (0, .int a0), (1, .int a1), (2, .int x4)]) hx hb dX0_ith_27 hl (k := 3) rfl rfl (by decide) rfl (fun ls hl => ?_)
      refine lv_goto (tgt := 4) hx hb dX0_ith_30 (by decide) ?_
      cases hf
      exact ih _ rfl _ _ _ h (lv_sub hl [1, 2, 3, 0] rfl)
    intro j27 hj27 hf
    refine lv_if_eq (tgt := 27) hx hb dX0_ith_15 (by decide) (fun hc => ?_) (fun hc => ?_)
    · have hf := hf_t hc hf
      exact hj27 _ hf _ _ _ h (lv_sub hl [0, 1, 2, 3] rfl)
    · have hf := hf_f hc hf
      refine lv_iload_n hx hb dX0_ith_18 rfl (lv_at hl 2 rfl) ?_
      refine lv_if_ne (tgt := 24) hx hb dX0_ith_19 (by decide) (fun hc => ?_) (fun hc => ?_)
      · have hf := hf_f hc hf
        refine lv_iinc (v := x1 + (-1)) (lv' := [(2, .int (x1 + (-1))), (0, .int a0), (1, .int a1), (3, .int x2)]) hx hb dX0_ith_24 hl (k := 2) rfl rfl (by decide) rfl (fun ls hl => ?_)
        exact hj27 _ hf _ _ _ h (lv_sub hl [1, 2, 0, 3] rfl)
      · have hf := hf_t hc hf
        cases hf
        exact hE4_0 _ (hX _ rfl) _ _ _ h (lv_sub hl [0, 1, 3] rfl)

theorem dX0_row_0 : decode cX0_row 0 = .ok (.iload_n 1, 1) := by decide +kernel
theorem dX0_row_1 : decode cX0_row 1 = .ok (.i2l, 1) := by decide +kernel
theorem dX0_row_2 : decode cX0_row 2 = .ok (.lconst 1, 1) := by decide +kernel
theorem dX0_row_3 : decode cX0_row 3 = .ok (.ldc2_w 195, 3) := by decide +kernel
theorem dX0_row_6 : decode cX0_row 6 = .ok (.invokestatic 127, 3) := by decide +kernel
theorem dX0_row_9 : decode cX0_row 9 = .ok (.ifCond .eq 18, 3) := by decide +kernel
theorem dX0_row_12 : decode cX0_row 12 = .ok (.iload_n 2, 1) := by decide +kernel
theorem dX0_row_13 : decode cX0_row 13 = .ok (.i2l, 1) := by decide +kernel
theorem dX0_row_14 : decode cX0_row 14 = .ok (.ldc2_w 314, 3) := by decide +kernel
theorem dX0_row_17 : decode cX0_row 17 = .ok (.iload_n 1, 1) := by decide +kernel
theorem dX0_row_18 : decode cX0_row 18 = .ok (.iconst 1, 1) := by decide +kernel
theorem dX0_row_19 : decode cX0_row 19 = .ok (.isub, 1) := by decide +kernel
theorem dX0_row_20 : decode cX0_row 20 = .ok (.i2l, 1) := by decide +kernel
theorem dX0_row_21 : decode cX0_row 21 = .ok (.invokestatic 127, 3) := by decide +kernel
theorem dX0_row_24 : decode cX0_row 24 = .ok (.ifCond .ne 6, 3) := by decide +kernel
theorem dX0_row_27 : decode cX0_row 27 = .ok (.bipush (-3), 2) := by decide +kernel
theorem dX0_row_29 : decode cX0_row 29 = .ok (.ireturn, 1) := by decide +kernel
theorem dX0_row_30 : decode cX0_row 30 = .ok (.iconst (-1), 1) := by decide +kernel
theorem dX0_row_31 : decode cX0_row 31 = .ok (.istore_n 3, 1) := by decide +kernel
theorem dX0_row_32 : decode cX0_row 32 = .ok (.iconst 0, 1) := by decide +kernel
theorem dX0_row_33 : decode cX0_row 33 = .ok (.istore 4, 2) := by decide +kernel
theorem dX0_row_35 : decode cX0_row 35 = .ok (.iload 4, 2) := by decide +kernel
theorem dX0_row_37 : decode cX0_row 37 = .ok (.sipush 1024, 3) := by decide +kernel
theorem dX0_row_40 : decode cX0_row 40 = .ok (.if_icmp .ge 79, 3) := by decide +kernel
theorem dX0_row_43 : decode cX0_row 43 = .ok (.iload 4, 2) := by decide +kernel
theorem dX0_row_45 : decode cX0_row 45 = .ok (.invokestatic 316, 3) := by decide +kernel
theorem dX0_row_48 : decode cX0_row 48 = .ok (.iload_n 1, 1) := by decide +kernel
theorem dX0_row_49 : decode cX0_row 49 = .ok (.if_icmp .ne 64, 3) := by decide +kernel
theorem dX0_row_52 : decode cX0_row 52 = .ok (.iload_n 3, 1) := by decide +kernel
theorem dX0_row_53 : decode cX0_row 53 = .ok (.iconst (-1), 1) := by decide +kernel
theorem dX0_row_54 : decode cX0_row 54 = .ok (.if_icmp .eq 40, 3) := by decide +kernel
theorem dX0_row_57 : decode cX0_row 57 = .ok (.aload_n 0, 1) := by decide +kernel
theorem dX0_row_58 : decode cX0_row 58 = .ok (.iload 4, 2) := by decide +kernel
theorem dX0_row_60 : decode cX0_row 60 = .ok (.invokevirtual 311, 3) := by decide +kernel
theorem dX0_row_63 : decode cX0_row 63 = .ok (.aload_n 0, 1) := by decide +kernel
theorem dX0_row_64 : decode cX0_row 64 = .ok (.iload_n 3, 1) := by decide +kernel
theorem dX0_row_65 : decode cX0_row 65 = .ok (.invokevirtual 311, 3) := by decide +kernel
theorem dX0_row_68 : decode cX0_row 68 = .ok (.if_icmp .gt 26, 3) := by decide +kernel
theorem dX0_row_71 : decode cX0_row 71 = .ok (.aload_n 0, 1) := by decide +kernel
theorem dX0_row_72 : decode cX0_row 72 = .ok (.iload 4, 2) := by decide +kernel
theorem dX0_row_74 : decode cX0_row 74 = .ok (.invokevirtual 311, 3) := by decide +kernel
theorem dX0_row_77 : decode cX0_row 77 = .ok (.aload_n 0, 1) := by decide +kernel
theorem dX0_row_78 : decode cX0_row 78 = .ok (.iload_n 3, 1) := by decide +kernel
theorem dX0_row_79 : decode cX0_row 79 = .ok (.invokevirtual 311, 3) := by decide +kernel
theorem dX0_row_82 : decode cX0_row 82 = .ok (.if_icmp .ne 16, 3) := by decide +kernel
theorem dX0_row_85 : decode cX0_row 85 = .ok (.iload 4, 2) := by decide +kernel
theorem dX0_row_87 : decode cX0_row 87 = .ok (.iload_n 3, 1) := by decide +kernel
theorem dX0_row_88 : decode cX0_row 88 = .ok (.invokestatic 319, 3) := by decide +kernel
theorem dX0_row_91 : decode cX0_row 91 = .ok (.ifCond .eq 7, 3) := by decide +kernel
theorem dX0_row_94 : decode cX0_row 94 = .ok (.iconst 1, 1) := by decide +kernel
theorem dX0_row_95 : decode cX0_row 95 = .ok (.goto 4, 3) := by decide +kernel
theorem dX0_row_98 : decode cX0_row 98 = .ok (.iconst 0, 1) := by decide +kernel
theorem dX0_row_99 : decode cX0_row 99 = .ok (.istore 5, 2) := by decide +kernel
theorem dX0_row_101 : decode cX0_row 101 = .ok (.iload 5, 2) := by decide +kernel
theorem dX0_row_103 : decode cX0_row 103 = .ok (.ifCond .eq 8, 3) := by decide +kernel
theorem dX0_row_106 : decode cX0_row 106 = .ok (.iload 4, 2) := by decide +kernel
theorem dX0_row_108 : decode cX0_row 108 = .ok (.goto 4, 3) := by decide +kernel
theorem dX0_row_111 : decode cX0_row 111 = .ok (.iload_n 3, 1) := by decide +kernel
theorem dX0_row_112 : decode cX0_row 112 = .ok (.istore_n 3, 1) := by decide +kernel
theorem dX0_row_113 : decode cX0_row 113 = .ok (.iinc 4 1, 3) := by decide +kernel
theorem dX0_row_116 : decode cX0_row 116 = .ok (.goto (-81), 3) := by decide +kernel
theorem dX0_row_119 : decode cX0_row 119 = .ok (.iload_n 2, 1) := by decide +kernel
theorem dX0_row_120 : decode cX0_row 120 = .ok (.iconst (-1), 1) := by decide +kernel
theorem dX0_row_121 : decode cX0_row 121 = .ok (.if_icmp .ne 11, 3) := by decide +kernel
theorem dX0_row_124 : decode cX0_row 124 = .ok (.aload_n 0, 1) := by decide +kernel
theorem dX0_row_125 : decode cX0_row 125 = .ok (.iload_n 3, 1) := by decide +kernel
theorem dX0_row_126 : decode cX0_row 126 = .ok (.invokevirtual 311, 3) := by decide +kernel
theorem dX0_row_129 : decode cX0_row 129 = .ok (.goto 8, 3) := by decide +kernel
theorem dX0_row_132 : decode cX0_row 132 = .ok (.iload_n 3, 1) := by decide +kernel
theorem dX0_row_133 : decode cX0_row 133 = .ok (.iload_n 2, 1) := by decide +kernel
theorem dX0_row_134 : decode cX0_row 134 = .ok (.invokestatic 322, 3) := by decide +kernel
theorem dX0_row_137 : decode cX0_row 137 = .ok (.ireturn, 1) := by decide +kernel
def lX0_row_35 (σ : St) (a1 : Int32) (a0 : Nat) (x3 : Int32) (x4 : Int32) : Option ((Int32 × Int32) ⊕ (Int32)) :=
  if 1024 ≤ x4 then
    some (.inr x3)
  else
  (fJ7_bitCount σ x4).bind fun x5 =>
  jn (fun (x13 : Int32) =>
    some (.inl (x13, x4 + 1))) fun j113 =>
  if x5 = a1 then
    jn (fun (x11 : Int32) =>
      jn (fun (x12 : Int32) =>
        j113 x12) fun j112 =>
      if x11 = 0 then
        j112 x3
      else
      j112 x4) fun j99 =>
    jn (fun (_ : Unit) =>
      j99 1) fun j94 =>
    if x3 = ((-1)) then
      j94 ()
    else
    o_k σ a0 0 <|
    (fX0_stay σ a0 x4).bind fun x6 =>
    o_k σ a0 0 <|
    (fX0_stay σ a0 x3).bind fun x7 =>
    if x7 < x6 then
      j94 ()
    else
    o_k σ a0 0 <|
    (fX0_stay σ a0 x4).bind fun x8 =>
    o_k σ a0 0 <|
    (fX0_stay σ a0 x3).bind fun x9 =>
    jn (fun (_ : Unit) =>
      j99 0) fun j98 =>
    if x8 = x9 then
      (fX0_isAhead σ x4 x3).bind fun x10 =>
      if x10 = 0 then
        j98 ()
      else
      j94 ()
    else
    j98 ()
  else
  j113 x3

def fX0_row (σ : St) (a0 : Nat) (a1 : Int32) (a2 : Int32) : Option (Int32) :=
  (fX0_isIn σ (a1.toInt64) 1 4).bind fun x1 =>
  if x1 = 0 then
    some ((-3))
  else
  (fX0_isIn σ (a2.toInt64) ((-1)) ((a1 - 1).toInt64)).bind fun x2 =>
  if x2 = 0 then
    some ((-3))
  else
  (loopF fuel (fun z => lX0_row_35 σ a1 a0 z.1 z.2) ((-1), 0)).bind <| fun x14 =>
  if a2 = ((-1)) then
    o_k σ a0 0 <|
    (fX0_stay σ a0 x14).bind fun x16 =>
    some x16
  else
  (fX0_ith σ x14 a2).bind fun x15 =>
  some x15

set_option maxHeartbeats 4000000 in
theorem wX0_row {l : Launch} {s0 : State} {A0 : Array Value} {D : va_G} {ac : Nat → ClassId} (G : Gl s0 A0 D ac) {σ : St} {a0 : Nat} {a1 : Int32} {a2 : Int32} {v : Int32} (hf : fX0_row σ a0 a1 a2 = some (v)) : Met l yX0_row (ws_ yX0_row cX0_row 6 (some (.int))) ({ frames := 2, cells := 0, slots := 0, locals := 46 } : Room) (Pn s0 D ac [.ref a0, .int a1, .int a2] σ) (Qn s0 D ac (some (.int v)) σ) 0 0 (fr s0) := by
  refine x_met (by decide) (Nat.le_of_ble_eq_true rfl) ?_
  intro p e s m args below meth c ls C hnm h hl
  have C : Cx s0 p s m args meth c cX0_row 6 "HutForShow" (some (.int)) := C
  have hx := C.1
  have hb := C.2.1
  have hl : lv_has ls 6 [(0, .ref a0), (1, .int a1), (2, .int a2)] := hl
  unfold fX0_row at hf
  refine lv_iload_n hx hb dX0_row_0 rfl (lv_at hl 1 rfl) ?_
  refine lv_i2l hx hb dX0_row_1 rfl ?_
  refine lv_lconst (v := 1) hx hb dX0_row_2 (by decide) ?_
  refine lv_ldc2 (v := 4) hx hb C.2.2.2.1 (C.2.2.2.2.1 _ q401) dX0_row_3 ?_
  obtain ⟨x1, hc, hf⟩ := hf_b hf
  refine x_cS (rest := []) (As := [.long (a1.toInt64), .long 1, .long 4]) (n := 3) (ov := (some (.int x1))) C h (wX0_isIn G hc) (lw_S q318 q319 q54 q320) (by decide +kernel) ⟨Nat.le_of_ble_eq_true rfl, Nat.le_of_ble_eq_true rfl⟩ rfl rfl rfl hl.1 rfl (Nat.le_of_ble_eq_true rfl) dX0_row_6 ⟨(Nat.le_of_ble_eq_true rfl), (Nat.le_of_ble_eq_true rfl)⟩ (fun H locs h => ?_)
  refine lv_if_eq (tgt := 27) hx hb dX0_row_9 (by decide) (fun hc => ?_) (fun hc => ?_)
  · have hf := hf_t hc hf
    refine lv_bipush (v := (-3)) hx hb dX0_row_27 (by decide) ?_
    cases hf
    refine W.widen (k := 0) (n := 0) (Nat.le_of_ble_eq_true rfl) (Nat.le_of_ble_eq_true rfl) ?_
    exact x_iret C h dX0_row_29
  · have hf := hf_f hc hf
    refine lv_iload_n hx hb dX0_row_12 rfl (lv_at hl 2 rfl) ?_
    refine lv_i2l hx hb dX0_row_13 rfl ?_
    refine lv_ldc2 (v := (-1)) hx hb C.2.2.2.1 (C.2.2.2.2.1 _ q923) dX0_row_14 ?_
    refine lv_iload_n hx hb dX0_row_17 rfl (lv_at hl 1 rfl) ?_
    refine lv_iconst (v := 1) hx hb dX0_row_18 (by decide) ?_
    refine lv_isub hx hb dX0_row_19 ?_
    refine lv_i2l hx hb dX0_row_20 rfl ?_
    obtain ⟨x2, hc, hf⟩ := hf_b hf
    refine x_cS (rest := []) (As := [.long (a2.toInt64), .long ((-1)), .long ((a1 - 1).toInt64)]) (n := 3) (ov := (some (.int x2))) C h (wX0_isIn G hc) (lw_S q318 q319 q54 q320) (by decide +kernel) ⟨Nat.le_of_ble_eq_true rfl, Nat.le_of_ble_eq_true rfl⟩ rfl rfl rfl hl.1 rfl (Nat.le_of_ble_eq_true rfl) dX0_row_21 ⟨(Nat.le_of_ble_eq_true rfl), (Nat.le_of_ble_eq_true rfl)⟩ (fun H locs h => ?_)
    refine lv_if_ne (tgt := 30) hx hb dX0_row_24 (by decide) (fun hc => ?_) (fun hc => ?_)
    · have hf := hf_f hc hf
      refine lv_iconst (v := (-1)) hx hb dX0_row_30 (by decide) ?_
      refine lv_istore_n (lv' := [(3, .int ((-1))), (0, .ref a0), (1, .int a1), (2, .int a2)]) hx hb dX0_row_31 rfl hl (by decide) rfl (fun ls hl => ?_)
      refine lv_iconst (v := 0) hx hb dX0_row_32 (by decide) ?_
      refine lv_istore (lv' := [(4, .int 0), (3, .int ((-1))), (0, .ref a0), (1, .int a1), (2, .int a2)]) hx hb dX0_row_33 hl (by decide) rfl (fun ls hl => ?_)
      obtain ⟨e35, hL, hK⟩ := hf_b hf
      have hE35_0 : ∀ (x14 : Int32), x14 = e35 → ∀  (H : Heap) (locs : List Loc) (ls : Array Slot), Hs s0 D ac σ H locs → lv_has ls 6 [(0, .ref a0), (1, .int a1), (2, .int a2), (3, .int x14)] → W p l e ({ frames := 2, cells := 0, slots := 0, locals := 46 } : Room) s m args below meth c H locs 0 0 (MQ below (Qn s0 D ac (some (.int v)) σ) args s 0 0 (fr s0)) (F0 m 119 ls []) := by
        intro x14 he H locs ls h hl
        subst he
        have hf := hK
        refine lv_iload_n hx hb dX0_row_119 rfl (lv_at hl 2 rfl) ?_
        refine lv_iconst (v := (-1)) hx hb dX0_row_120 (by decide) ?_
        refine lv_icmp_ne (tgt := 132) hx hb dX0_row_121 (by decide) (fun hc => ?_) (fun hc => ?_)
        · have hf := hf_f hc hf
          refine lv_iload_n hx hb dX0_row_132 rfl (lv_at hl 3 rfl) ?_
          refine lv_iload_n hx hb dX0_row_133 rfl (lv_at hl 2 rfl) ?_
          obtain ⟨x15, hc, hf⟩ := hf_b hf
          refine x_cS (rest := []) (As := [.int x14, .int a2]) (n := 2) (ov := (some (.int x15))) C h (wX0_ith G hc) (lw_S q933 q934 q54 q935) (by decide +kernel) ⟨Nat.le_of_ble_eq_true rfl, Nat.le_of_ble_eq_true rfl⟩ rfl rfl rfl hl.1 rfl (Nat.le_of_ble_eq_true rfl) dX0_row_134 ⟨(Nat.le_of_ble_eq_true rfl), (Nat.le_of_ble_eq_true rfl)⟩ (fun H locs h => ?_)
          cases hf
          refine W.widen (k := 0) (n := 0) (Nat.le_of_ble_eq_true rfl) (Nat.le_of_ble_eq_true rfl) ?_
          exact x_iret C h dX0_row_137
        · have hf := hf_t hc hf
          refine lv_aload_n hx hb dX0_row_124 rfl (lv_at hl 0 rfl) ?_
          refine lv_iload_n hx hb dX0_row_125 rfl (lv_at hl 3 rfl) ?_
          obtain ⟨hk, hf⟩ := k_of hf
          obtain ⟨x16, hc, hf⟩ := hf_b hf
          refine x_cV (q := (RX0, TX0, 33)) (rest := []) (As := [.int x14]) (n := 1) (ov := (some (.int x16))) G C h (wX0_stay G hc) hk rfl (lw_V q912 q914 qs14 q54 q915) (by decide +kernel) ⟨Nat.le_of_ble_eq_true rfl, Nat.le_of_ble_eq_true rfl⟩ rfl rfl rfl hl.1 rfl (Nat.le_of_ble_eq_true rfl) dX0_row_126 ⟨(Nat.le_of_ble_eq_true rfl), (Nat.le_of_ble_eq_true rfl)⟩ (fun H locs h => ?_)
          refine lv_goto (tgt := 137) hx hb dX0_row_129 (by decide) ?_
          cases hf
          refine W.widen (k := 0) (n := 0) (Nat.le_of_ble_eq_true rfl) (Nat.le_of_ble_eq_true rfl) ?_
          exact x_iret C h dX0_row_137
      refine loopF_ind (P := fun z => ∀ (H : Heap) (locs : List Loc) (ls : Array Slot), Hs s0 D ac σ H locs → lv_has ls 6 [(0, .ref a0), (1, .int a1), (2, .int a2), (3, .int z.1), (4, .int z.2)] → W p l e ({ frames := 2, cells := 0, slots := 0, locals := 46 } : Room) s m args below meth c H locs 0 0 (MQ below (Qn s0 D ac (some (.int v)) σ) args s 0 0 (fr s0)) (F0 m 35 ls [])) ?_ _ _ hL _ _ _ h (lv_sub hl [2, 3, 4, 1, 0] rfl)
      clear hK hL h hl hf
      intro z o hf ih hX H locs ls h hl
      obtain ⟨x3, x4⟩ := z
      have h : Hs s0 D ac σ H locs := h
      have hl : lv_has ls 6 [(0, .ref a0), (1, .int a1), (2, .int a2), (3, .int x3), (4, .int x4)] := hl
      have hf : lX0_row_35 σ a1 a0 x3 x4 = some o := hf
      unfold lX0_row_35 at hf
      refine lv_iload hx hb dX0_row_35 (lv_at hl 4 rfl) ?_
      refine lv_sipush (v := 1024) hx hb dX0_row_37 (by decide) ?_
      refine lv_icmp_ge (tgt := 119) hx hb dX0_row_40 (by decide) (fun hc => ?_) (fun hc => ?_)
      · have hf := hf_t hc hf
        cases hf
        exact hE35_0 _ (hX _ rfl) _ _ _ h (lv_sub hl [0, 1, 2, 3] rfl)
      · have hf := hf_f hc hf
        refine lv_iload hx hb dX0_row_43 (lv_at hl 4 rfl) ?_
        obtain ⟨x5, hc, hf⟩ := hf_b hf
        refine x_cS (rest := []) (As := [.int x4]) (n := 1) (ov := (some (.int x5))) C h (wJ7_bitCount G hc) (lw_S q924 q925 q80 q926) (by decide +kernel) ⟨Nat.le_of_ble_eq_true rfl, Nat.le_of_ble_eq_true rfl⟩ rfl rfl rfl hl.1 rfl (Nat.le_of_ble_eq_true rfl) dX0_row_45 ⟨(Nat.le_of_ble_eq_true rfl), (Nat.le_of_ble_eq_true rfl)⟩ (fun H locs h => ?_)
        refine lv_iload_n hx hb dX0_row_48 rfl (lv_at hl 1 rfl) ?_
        refine jn_of (P := fun j => ∀ (x13 : Int32), j x13 = some o → ∀ (H : Heap) (locs : List Loc) (ls : Array Slot), Hs s0 D ac σ H locs → lv_has ls 6 [(0, .ref a0), (1, .int a1), (2, .int a2), (3, .int x13), (4, .int x4)] → W p l e ({ frames := 2, cells := 0, slots := 0, locals := 46 } : Room) s m args below meth c H locs 0 0 (MQ below (Qn s0 D ac (some (.int v)) σ) args s 0 0 (fr s0)) (F0 m 113 ls [])) hf ?_ ?_
        · intro x13 hf H locs ls h hl
          refine lv_iinc (v := x4 + 1) (lv' := [(4, .int (x4 + 1)), (0, .ref a0), (1, .int a1), (2, .int a2), (3, .int x13)]) hx hb dX0_row_113 hl (k := 4) rfl rfl (by decide) rfl (fun ls hl => ?_)
          refine lv_goto (tgt := 35) hx hb dX0_row_116 (by decide) ?_
          cases hf
          exact ih _ rfl _ _ _ h (lv_sub hl [1, 2, 3, 4, 0] rfl)
        intro j113 hj113 hf
        refine lv_icmp_ne (tgt := 113) hx hb dX0_row_49 (by decide) (fun hc => ?_) (fun hc => ?_)
        · have hf := hf_f hc hf
          exact hj113 _ hf _ _ _ h (lv_sub hl [0, 1, 2, 3, 4] rfl)
        · have hf := hf_t hc hf
          refine lv_iload_n hx hb dX0_row_52 rfl (lv_at hl 3 rfl) ?_
          refine lv_iconst (v := (-1)) hx hb dX0_row_53 (by decide) ?_
          refine jn_of (P := fun j => ∀ (x11 : Int32), j x11 = some o → ∀ (H : Heap) (locs : List Loc) (ls : Array Slot), Hs s0 D ac σ H locs → lv_has ls 6 [(0, .ref a0), (1, .int a1), (2, .int a2), (3, .int x3), (4, .int x4)] → W p l e ({ frames := 2, cells := 0, slots := 0, locals := 46 } : Room) s m args below meth c H locs 0 0 (MQ below (Qn s0 D ac (some (.int v)) σ) args s 0 0 (fr s0)) (F0 m 99 ls [.int x11])) hf ?_ ?_
          · intro x11 hf H locs ls h hl
            refine lv_istore (lv' := [(5, .int x11), (0, .ref a0), (1, .int a1), (2, .int a2), (3, .int x3), (4, .int x4)]) hx hb dX0_row_99 hl (by decide) rfl (fun ls hl => ?_)
            refine lv_iload hx hb dX0_row_101 (lv_at hl 0 rfl) ?_
            refine jn_of (P := fun j => ∀ (x12 : Int32), j x12 = some o → ∀ (H : Heap) (locs : List Loc) (ls : Array Slot), Hs s0 D ac σ H locs → lv_has ls 6 [(0, .ref a0), (1, .int a1), (2, .int a2), (3, .int x3), (4, .int x4), (5, .int x11)] → W p l e ({ frames := 2, cells := 0, slots := 0, locals := 46 } : Room) s m args below meth c H locs 0 0 (MQ below (Qn s0 D ac (some (.int v)) σ) args s 0 0 (fr s0)) (F0 m 112 ls [.int x12])) hf ?_ ?_
            · intro x12 hf H locs ls h hl
              refine lv_istore_n (lv' := [(3, .int x12), (0, .ref a0), (1, .int a1), (2, .int a2), (4, .int x4), (5, .int x11)]) hx hb dX0_row_112 rfl hl (by decide) rfl (fun ls hl => ?_)
              exact hj113 _ hf _ _ _ h (lv_sub hl [1, 2, 3, 0, 4] rfl)
            intro j112 hj112 hf
            refine lv_if_eq (tgt := 111) hx hb dX0_row_103 (by decide) (fun hc => ?_) (fun hc => ?_)
            · have hf := hf_t hc hf
              refine lv_iload_n hx hb dX0_row_111 rfl (lv_at hl 4 rfl) ?_
              exact hj112 _ hf _ _ _ h (lv_sub hl [1, 2, 3, 4, 5, 0] rfl)
            · have hf := hf_f hc hf
              refine lv_iload hx hb dX0_row_106 (lv_at hl 5 rfl) ?_
              refine lv_goto (tgt := 112) hx hb dX0_row_108 (by decide) ?_
              exact hj112 _ hf _ _ _ h (lv_sub hl [1, 2, 3, 4, 5, 0] rfl)
          intro j99 hj99 hf
          refine jn_of (P := fun j => ∀ (u0 : Unit), j u0 = some o → ∀ (H : Heap) (locs : List Loc) (ls : Array Slot), Hs s0 D ac σ H locs → lv_has ls 6 [(0, .ref a0), (1, .int a1), (2, .int a2), (3, .int x3), (4, .int x4)] → W p l e ({ frames := 2, cells := 0, slots := 0, locals := 46 } : Room) s m args below meth c H locs 0 0 (MQ below (Qn s0 D ac (some (.int v)) σ) args s 0 0 (fr s0)) (F0 m 94 ls [])) hf ?_ ?_
          · intro u0 hf H locs ls h hl
            refine lv_iconst (v := 1) hx hb dX0_row_94 (by decide) ?_
            refine lv_goto (tgt := 99) hx hb dX0_row_95 (by decide) ?_
            exact hj99 _ hf _ _ _ h (lv_sub hl [0, 1, 2, 3, 4] rfl)
          intro j94 hj94 hf
          refine lv_icmp_eq (tgt := 94) hx hb dX0_row_54 (by decide) (fun hc => ?_) (fun hc => ?_)
          · have hf := hf_t hc hf
            exact hj94 () hf _ _ _ h (lv_sub hl [0, 1, 2, 3, 4] rfl)
          · have hf := hf_f hc hf
            refine lv_aload_n hx hb dX0_row_57 rfl (lv_at hl 0 rfl) ?_
            refine lv_iload hx hb dX0_row_58 (lv_at hl 4 rfl) ?_
            obtain ⟨hk, hf⟩ := k_of hf
            obtain ⟨x6, hc, hf⟩ := hf_b hf
            refine x_cV (q := (RX0, TX0, 33)) (rest := []) (As := [.int x4]) (n := 1) (ov := (some (.int x6))) G C h (wX0_stay G hc) hk rfl (lw_V q912 q914 qs14 q54 q915) (by decide +kernel) ⟨Nat.le_of_ble_eq_true rfl, Nat.le_of_ble_eq_true rfl⟩ rfl rfl rfl hl.1 rfl (Nat.le_of_ble_eq_true rfl) dX0_row_60 ⟨(Nat.le_of_ble_eq_true rfl), (Nat.le_of_ble_eq_true rfl)⟩ (fun H locs h => ?_)
            refine lv_aload_n hx hb dX0_row_63 rfl (lv_at hl 0 rfl) ?_
            refine lv_iload_n hx hb dX0_row_64 rfl (lv_at hl 3 rfl) ?_
            obtain ⟨hk, hf⟩ := k_of hf
            obtain ⟨x7, hc, hf⟩ := hf_b hf
            refine x_cV (q := (RX0, TX0, 33)) (rest := [.int x6]) (As := [.int x3]) (n := 1) (ov := (some (.int x7))) G C h (wX0_stay G hc) hk rfl (lw_V q912 q914 qs14 q54 q915) (by decide +kernel) ⟨Nat.le_of_ble_eq_true rfl, Nat.le_of_ble_eq_true rfl⟩ rfl rfl rfl hl.1 rfl (Nat.le_of_ble_eq_true rfl) dX0_row_65 ⟨(Nat.le_of_ble_eq_true rfl), (Nat.le_of_ble_eq_true rfl)⟩ (fun H locs h => ?_)
            refine lv_icmp_gt (tgt := 94) hx hb dX0_row_68 (by decide) (fun hc => ?_) (fun hc => ?_)
            · have hf := hf_t hc hf
              exact hj94 () hf _ _ _ h (lv_sub hl [0, 1, 2, 3, 4] rfl)
            · have hf := hf_f hc hf
              refine lv_aload_n hx hb dX0_row_71 rfl (lv_at hl 0 rfl) ?_
              refine lv_iload hx hb dX0_row_72 (lv_at hl 4 rfl) ?_
              obtain ⟨hk, hf⟩ := k_of hf
              obtain ⟨x8, hc, hf⟩ := hf_b hf
              refine x_cV (q := (RX0, TX0, 33)) (rest := []) (As := [.int x4]) (n := 1) (ov := (some (.int x8))) G C h (wX0_stay G hc) hk rfl (lw_V q912 q914 qs14 q54 q915) (by decide +kernel) ⟨Nat.le_of_ble_eq_true rfl, Nat.le_of_ble_eq_true rfl⟩ rfl rfl rfl hl.1 rfl (Nat.le_of_ble_eq_true rfl) dX0_row_74 ⟨(Nat.le_of_ble_eq_true rfl), (Nat.le_of_ble_eq_true rfl)⟩ (fun H locs h => ?_)
              refine lv_aload_n hx hb dX0_row_77 rfl (lv_at hl 0 rfl) ?_
              refine lv_iload_n hx hb dX0_row_78 rfl (lv_at hl 3 rfl) ?_
              obtain ⟨hk, hf⟩ := k_of hf
              obtain ⟨x9, hc, hf⟩ := hf_b hf
              refine x_cV (q := (RX0, TX0, 33)) (rest := [.int x8]) (As := [.int x3]) (n := 1) (ov := (some (.int x9))) G C h (wX0_stay G hc) hk rfl (lw_V q912 q914 qs14 q54 q915) (by decide +kernel) ⟨Nat.le_of_ble_eq_true rfl, Nat.le_of_ble_eq_true rfl⟩ rfl rfl rfl hl.1 rfl (Nat.le_of_ble_eq_true rfl) dX0_row_79 ⟨(Nat.le_of_ble_eq_true rfl), (Nat.le_of_ble_eq_true rfl)⟩ (fun H locs h => ?_)
              refine jn_of (P := fun j => ∀ (u0 : Unit), j u0 = some o → ∀ (H : Heap) (locs : List Loc) (ls : Array Slot), Hs s0 D ac σ H locs → lv_has ls 6 [(0, .ref a0), (1, .int a1), (2, .int a2), (3, .int x3), (4, .int x4)] → W p l e ({ frames := 2, cells := 0, slots := 0, locals := 46 } : Room) s m args below meth c H locs 0 0 (MQ below (Qn s0 D ac (some (.int v)) σ) args s 0 0 (fr s0)) (F0 m 98 ls [])) hf ?_ ?_
              · intro u0 hf H locs ls h hl
                refine lv_iconst (v := 0) hx hb dX0_row_98 (by decide) ?_
                exact hj99 _ hf _ _ _ h (lv_sub hl [0, 1, 2, 3, 4] rfl)
              intro j98 hj98 hf
              refine lv_icmp_ne (tgt := 98) hx hb dX0_row_82 (by decide) (fun hc => ?_) (fun hc => ?_)
              · have hf := hf_f hc hf
                exact hj98 () hf _ _ _ h (lv_sub hl [0, 1, 2, 3, 4] rfl)
              · have hf := hf_t hc hf
                refine lv_iload hx hb dX0_row_85 (lv_at hl 4 rfl) ?_
                refine lv_iload_n hx hb dX0_row_87 rfl (lv_at hl 3 rfl) ?_
                obtain ⟨x10, hc, hf⟩ := hf_b hf
                refine x_cS (rest := []) (As := [.int x4, .int x3]) (n := 2) (ov := (some (.int x10))) C h (wX0_isAhead G hc) (lw_S q930 q931 q54 q932) (by decide +kernel) ⟨Nat.le_of_ble_eq_true rfl, Nat.le_of_ble_eq_true rfl⟩ rfl rfl rfl hl.1 rfl (Nat.le_of_ble_eq_true rfl) dX0_row_88 ⟨(Nat.le_of_ble_eq_true rfl), (Nat.le_of_ble_eq_true rfl)⟩ (fun H locs h => ?_)
                refine lv_if_eq (tgt := 98) hx hb dX0_row_91 (by decide) (fun hc => ?_) (fun hc => ?_)
                · have hf := hf_t hc hf
                  exact hj98 () hf _ _ _ h (lv_sub hl [0, 1, 2, 3, 4] rfl)
                · have hf := hf_f hc hf
                  exact hj94 () hf _ _ _ h (lv_sub hl [0, 1, 2, 3, 4] rfl)
    · have hf := hf_t hc hf
      refine lv_bipush (v := (-3)) hx hb dX0_row_27 (by decide) ?_
      cases hf
      refine W.widen (k := 0) (n := 0) (Nat.le_of_ble_eq_true rfl) (Nat.le_of_ble_eq_true rfl) ?_
      exact x_iret C h dX0_row_29

theorem dX0_isMark_0 : decode cX0_isMark 0 = .ok (.iload_n 0, 1) := by decide +kernel
theorem dX0_isMark_1 : decode cX0_isMark 1 = .ok (.i2l, 1) := by decide +kernel
theorem dX0_isMark_2 : decode cX0_isMark 2 = .ok (.lconst 0, 1) := by decide +kernel
theorem dX0_isMark_3 : decode cX0_isMark 3 = .ok (.ldc2_w 156, 3) := by decide +kernel
theorem dX0_isMark_6 : decode cX0_isMark 6 = .ok (.invokestatic 127, 3) := by decide +kernel
theorem dX0_isMark_9 : decode cX0_isMark 9 = .ok (.ireturn, 1) := by decide +kernel
def fX0_isMark (σ : St) (a0 : Int32) : Option (Int32) :=
  (fX0_isIn σ (a0.toInt64) 0 15).bind fun x1 =>
  o_bz x1 <| some x1

set_option maxHeartbeats 4000000 in
theorem wX0_isMark {l : Launch} {s0 : State} {A0 : Array Value} {D : va_G} {ac : Nat → ClassId} (G : Gl s0 A0 D ac) {σ : St} {a0 : Int32} {v : Int32} (hf : fX0_isMark σ a0 = some (v)) : Met l yX0_isMark (ws_ yX0_isMark cX0_isMark 1 (some (.boolean))) ({ frames := 1, cells := 0, slots := 0, locals := 25 } : Room) (Pn s0 D ac [.int a0] σ) (Qn s0 D ac (some (.int v)) σ) 0 0 (fr s0) := by
  refine x_met (by decide) (Nat.le_of_ble_eq_true rfl) ?_
  intro p e s m args below meth c ls C hnm h hl
  have C : Cx s0 p s m args meth c cX0_isMark 1 "HutForShow" (some (.boolean)) := C
  have hx := C.1
  have hb := C.2.1
  have hl : lv_has ls 1 [(0, .int a0)] := hl
  unfold fX0_isMark at hf
  refine lv_iload_n hx hb dX0_isMark_0 rfl (lv_at hl 0 rfl) ?_
  refine lv_i2l hx hb dX0_isMark_1 rfl ?_
  refine lv_lconst (v := 0) hx hb dX0_isMark_2 (by decide) ?_
  refine lv_ldc2 (v := 15) hx hb C.2.2.2.1 (C.2.2.2.2.1 _ q355) dX0_isMark_3 ?_
  obtain ⟨x1, hc, hf⟩ := hf_b hf
  refine x_cS (rest := []) (As := [.long (a0.toInt64), .long 0, .long 15]) (n := 3) (ov := (some (.int x1))) C h (wX0_isIn G hc) (lw_S q318 q319 q54 q320) (by decide +kernel) ⟨Nat.le_of_ble_eq_true rfl, Nat.le_of_ble_eq_true rfl⟩ rfl rfl rfl hl.1 rfl (Nat.le_of_ble_eq_true rfl) dX0_isMark_6 ⟨(Nat.le_of_ble_eq_true rfl), (Nat.le_of_ble_eq_true rfl)⟩ (fun H locs h => ?_)
  obtain ⟨hz, hf⟩ := bz_of hf
  cases hf
  refine W.widen (k := 0) (n := 0) (Nat.le_of_ble_eq_true rfl) (Nat.le_of_ble_eq_true rfl) ?_
  exact x_zret C h hz dX0_isMark_9

theorem dX0_seen_0 : decode cX0_seen 0 = .ok (.aload_n 0, 1) := by decide +kernel
theorem dX0_seen_1 : decode cX0_seen 1 = .ok (.iload_n 2, 1) := by decide +kernel
theorem dX0_seen_2 : decode cX0_seen 2 = .ok (.invokevirtual 145, 3) := by decide +kernel
theorem dX0_seen_5 : decode cX0_seen 5 = .ok (.ifCond .ne 6, 3) := by decide +kernel
theorem dX0_seen_8 : decode cX0_seen 8 = .ok (.bipush (-2), 2) := by decide +kernel
theorem dX0_seen_10 : decode cX0_seen 10 = .ok (.ireturn, 1) := by decide +kernel
theorem dX0_seen_11 : decode cX0_seen 11 = .ok (.iload_n 1, 1) := by decide +kernel
theorem dX0_seen_12 : decode cX0_seen 12 = .ok (.invokestatic 325, 3) := by decide +kernel
theorem dX0_seen_15 : decode cX0_seen 15 = .ok (.ifCond .eq 15, 3) := by decide +kernel
theorem dX0_seen_18 : decode cX0_seen 18 = .ok (.iload_n 3, 1) := by decide +kernel
theorem dX0_seen_19 : decode cX0_seen 19 = .ok (.i2l, 1) := by decide +kernel
theorem dX0_seen_20 : decode cX0_seen 20 = .ok (.lconst 0, 1) := by decide +kernel
theorem dX0_seen_21 : decode cX0_seen 21 = .ok (.ldc2_w 328, 3) := by decide +kernel
theorem dX0_seen_24 : decode cX0_seen 24 = .ok (.invokestatic 127, 3) := by decide +kernel
theorem dX0_seen_27 : decode cX0_seen 27 = .ok (.ifCond .ne 6, 3) := by decide +kernel
theorem dX0_seen_30 : decode cX0_seen 30 = .ok (.bipush (-3), 2) := by decide +kernel
theorem dX0_seen_32 : decode cX0_seen 32 = .ok (.ireturn, 1) := by decide +kernel
theorem dX0_seen_33 : decode cX0_seen 33 = .ok (.aload_n 0, 1) := by decide +kernel
theorem dX0_seen_34 : decode cX0_seen 34 = .ok (.getfield 330, 3) := by decide +kernel
theorem dX0_seen_37 : decode cX0_seen 37 = .ok (.bipush 24, 2) := by decide +kernel
theorem dX0_seen_39 : decode cX0_seen 39 = .ok (.if_icmp .ne 6, 3) := by decide +kernel
theorem dX0_seen_42 : decode cX0_seen 42 = .ok (.bipush (-5), 2) := by decide +kernel
theorem dX0_seen_44 : decode cX0_seen 44 = .ok (.ireturn, 1) := by decide +kernel
theorem dX0_seen_45 : decode cX0_seen 45 = .ok (.aload_n 0, 1) := by decide +kernel
theorem dX0_seen_46 : decode cX0_seen 46 = .ok (.getfield 90, 3) := by decide +kernel
theorem dX0_seen_49 : decode cX0_seen 49 = .ok (.aload_n 0, 1) := by decide +kernel
theorem dX0_seen_50 : decode cX0_seen 50 = .ok (.getfield 330, 3) := by decide +kernel
theorem dX0_seen_53 : decode cX0_seen 53 = .ok (.iload_n 1, 1) := by decide +kernel
theorem dX0_seen_54 : decode cX0_seen 54 = .ok (.iastore, 1) := by decide +kernel
theorem dX0_seen_55 : decode cX0_seen 55 = .ok (.aload_n 0, 1) := by decide +kernel
theorem dX0_seen_56 : decode cX0_seen 56 = .ok (.getfield 93, 3) := by decide +kernel
theorem dX0_seen_59 : decode cX0_seen 59 = .ok (.aload_n 0, 1) := by decide +kernel
theorem dX0_seen_60 : decode cX0_seen 60 = .ok (.getfield 330, 3) := by decide +kernel
theorem dX0_seen_63 : decode cX0_seen 63 = .ok (.iload_n 2, 1) := by decide +kernel
theorem dX0_seen_64 : decode cX0_seen 64 = .ok (.iastore, 1) := by decide +kernel
theorem dX0_seen_65 : decode cX0_seen 65 = .ok (.aload_n 0, 1) := by decide +kernel
theorem dX0_seen_66 : decode cX0_seen 66 = .ok (.getfield 96, 3) := by decide +kernel
theorem dX0_seen_69 : decode cX0_seen 69 = .ok (.aload_n 0, 1) := by decide +kernel
theorem dX0_seen_70 : decode cX0_seen 70 = .ok (.getfield 330, 3) := by decide +kernel
theorem dX0_seen_73 : decode cX0_seen 73 = .ok (.iload_n 3, 1) := by decide +kernel
theorem dX0_seen_74 : decode cX0_seen 74 = .ok (.iastore, 1) := by decide +kernel
theorem dX0_seen_75 : decode cX0_seen 75 = .ok (.aload_n 0, 1) := by decide +kernel
theorem dX0_seen_76 : decode cX0_seen 76 = .ok (.dup, 1) := by decide +kernel
theorem dX0_seen_77 : decode cX0_seen 77 = .ok (.getfield 330, 3) := by decide +kernel
theorem dX0_seen_80 : decode cX0_seen 80 = .ok (.iconst 1, 1) := by decide +kernel
theorem dX0_seen_81 : decode cX0_seen 81 = .ok (.iadd, 1) := by decide +kernel
theorem dX0_seen_82 : decode cX0_seen 82 = .ok (.putfield 330, 3) := by decide +kernel
theorem dX0_seen_85 : decode cX0_seen 85 = .ok (.aload_n 0, 1) := by decide +kernel
theorem dX0_seen_86 : decode cX0_seen 86 = .ok (.getfield 330, 3) := by decide +kernel
theorem dX0_seen_89 : decode cX0_seen 89 = .ok (.ireturn, 1) := by decide +kernel
def fX0_seen (σ : St) (a0 : Nat) (a1 : Int32) (a2 : Int32) (a3 : Int32) : Option (Int32 × St) :=
  o_k σ a0 0 <|
  (fX0_isHut σ a0 a2).bind fun x1 =>
  if x1 = 0 then
    some ((-2), σ)
  else
  (fX0_isMark σ a1).bind fun x2 =>
  if x2 = 0 then
    some ((-3), σ)
  else
  (fX0_isIn σ (a3.toInt64) 0 900).bind fun x3 =>
  if x3 = 0 then
    some ((-3), σ)
  else
  o_gI σ a0 0 23 fun x4 =>
  if x4 = 24 then
    some ((-5), σ)
  else
  o_gR σ a0 0 20 fun r5 =>
  o_gI σ a0 0 23 fun x6 =>
  o_sI σ r5 0 x6 a1 fun σ7 =>
  o_gR σ7 a0 0 21 fun r8 =>
  o_gI σ7 a0 0 23 fun x9 =>
  o_sI σ7 r8 0 x9 a2 fun σ10 =>
  o_gR σ10 a0 0 22 fun r11 =>
  o_gI σ10 a0 0 23 fun x12 =>
  o_sI σ10 r11 0 x12 a3 fun σ13 =>
  o_gI σ13 a0 0 23 fun x14 =>
  o_pI σ13 a0 0 23 (x14 + 1) fun σ15 =>
  o_gI σ15 a0 0 23 fun x16 =>
  some (x16, σ15)

set_option maxHeartbeats 4000000 in
theorem wX0_seen {l : Launch} {s0 : State} {A0 : Array Value} {D : va_G} {ac : Nat → ClassId} (G : Gl s0 A0 D ac) {σ : St} {a0 : Nat} {a1 : Int32} {a2 : Int32} {a3 : Int32} {v : Int32} {σ' : St} (hf : fX0_seen σ a0 a1 a2 a3 = some (v, σ')) : Met l yX0_seen (ws_ yX0_seen cX0_seen 4 (some (.int))) ({ frames := 2, cells := 0, slots := 0, locals := 46 } : Room) (Pn s0 D ac [.ref a0, .int a1, .int a2, .int a3] σ) (Qn s0 D ac (some (.int v)) σ') 0 0 (fr s0) := by
  refine x_met (by decide) (Nat.le_of_ble_eq_true rfl) ?_
  intro p e s m args below meth c ls C hnm h hl
  have C : Cx s0 p s m args meth c cX0_seen 4 "HutForShow" (some (.int)) := C
  have hx := C.1
  have hb := C.2.1
  have hl : lv_has ls 4 [(0, .ref a0), (1, .int a1), (2, .int a2), (3, .int a3)] := hl
  unfold fX0_seen at hf
  refine lv_aload_n hx hb dX0_seen_0 rfl (lv_at hl 0 rfl) ?_
  refine lv_iload_n hx hb dX0_seen_1 rfl (lv_at hl 2 rfl) ?_
  obtain ⟨hk, hf⟩ := k_of hf
  obtain ⟨x1, hc, hf⟩ := hf_b hf
  refine x_cV (q := (RX0, TX0, 33)) (rest := []) (As := [.int a2]) (n := 1) (ov := (some (.int x1))) G C h (wX0_isHut G hc) hk rfl (lw_V q338 q340 qs0 q54 q341) (by decide +kernel) ⟨Nat.le_of_ble_eq_true rfl, Nat.le_of_ble_eq_true rfl⟩ rfl rfl rfl hl.1 rfl (Nat.le_of_ble_eq_true rfl) dX0_seen_2 ⟨(Nat.le_of_ble_eq_true rfl), (Nat.le_of_ble_eq_true rfl)⟩ (fun H locs h => ?_)
  refine lv_if_ne (tgt := 11) hx hb dX0_seen_5 (by decide) (fun hc => ?_) (fun hc => ?_)
  · have hf := hf_f hc hf
    refine lv_iload_n hx hb dX0_seen_11 rfl (lv_at hl 1 rfl) ?_
    obtain ⟨x2, hc, hf⟩ := hf_b hf
    refine x_cS (rest := []) (As := [.int a1]) (n := 1) (ov := (some (.int x2))) C h (wX0_isMark G hc) (lw_S q940 q941 q54 q942) (by decide +kernel) ⟨Nat.le_of_ble_eq_true rfl, Nat.le_of_ble_eq_true rfl⟩ rfl rfl rfl hl.1 rfl (Nat.le_of_ble_eq_true rfl) dX0_seen_12 ⟨(Nat.le_of_ble_eq_true rfl), (Nat.le_of_ble_eq_true rfl)⟩ (fun H locs h => ?_)
    refine lv_if_eq (tgt := 30) hx hb dX0_seen_15 (by decide) (fun hc => ?_) (fun hc => ?_)
    · have hf := hf_t hc hf
      refine lv_bipush (v := (-3)) hx hb dX0_seen_30 (by decide) ?_
      cases hf
      refine W.widen (k := 0) (n := 0) (Nat.le_of_ble_eq_true rfl) (Nat.le_of_ble_eq_true rfl) ?_
      exact x_iret C h dX0_seen_32
    · have hf := hf_f hc hf
      refine lv_iload_n hx hb dX0_seen_18 rfl (lv_at hl 3 rfl) ?_
      refine lv_i2l hx hb dX0_seen_19 rfl ?_
      refine lv_lconst (v := 0) hx hb dX0_seen_20 (by decide) ?_
      refine lv_ldc2 (v := 900) hx hb C.2.2.2.1 (C.2.2.2.2.1 _ q943) dX0_seen_21 ?_
      obtain ⟨x3, hc, hf⟩ := hf_b hf
      refine x_cS (rest := []) (As := [.long (a3.toInt64), .long 0, .long 900]) (n := 3) (ov := (some (.int x3))) C h (wX0_isIn G hc) (lw_S q318 q319 q54 q320) (by decide +kernel) ⟨Nat.le_of_ble_eq_true rfl, Nat.le_of_ble_eq_true rfl⟩ rfl rfl rfl hl.1 rfl (Nat.le_of_ble_eq_true rfl) dX0_seen_24 ⟨(Nat.le_of_ble_eq_true rfl), (Nat.le_of_ble_eq_true rfl)⟩ (fun H locs h => ?_)
      refine lv_if_ne (tgt := 33) hx hb dX0_seen_27 (by decide) (fun hc => ?_) (fun hc => ?_)
      · have hf := hf_f hc hf
        refine lv_aload_n hx hb dX0_seen_33 rfl (lv_at hl 0 rfl) ?_
        refine x_gI (q := (RX0, TX0, 33)) (j := 23) G C h rfl (by decide) (fun _ _ _ => rfl) (lk C q232) (fun _ z => z) dX0_seen_34 hf (fun x4 hf => ?_)
        refine lv_bipush (v := 24) hx hb dX0_seen_37 (by decide) ?_
        refine lv_icmp_ne (tgt := 45) hx hb dX0_seen_39 (by decide) (fun hc => ?_) (fun hc => ?_)
        · have hf := hf_f hc hf
          refine lv_aload_n hx hb dX0_seen_45 rfl (lv_at hl 0 rfl) ?_
          refine x_gR (q := (RX0, TX0, 33)) (j := 20) G C h rfl (by decide) (fun _ _ _ => rfl) (lk C q229) (fun _ z => z) dX0_seen_46 hf (fun r5 hf => ?_)
          refine lv_aload_n hx hb dX0_seen_49 rfl (lv_at hl 0 rfl) ?_
          refine x_gI (q := (RX0, TX0, 33)) (j := 23) G C h rfl (by decide) (fun _ _ _ => rfl) (lk C q232) (fun _ z => z) dX0_seen_50 hf (fun x6 hf => ?_)
          refine lv_iload_n hx hb dX0_seen_53 rfl (lv_at hl 1 rfl) ?_
          refine x_iast G C h dX0_seen_54 hf (fun σ7 H locs h hf => ?_)
          refine lv_aload_n hx hb dX0_seen_55 rfl (lv_at hl 0 rfl) ?_
          refine x_gR (q := (RX0, TX0, 33)) (j := 21) G C h rfl (by decide) (fun _ _ _ => rfl) (lk C q230) (fun _ z => z) dX0_seen_56 hf (fun r8 hf => ?_)
          refine lv_aload_n hx hb dX0_seen_59 rfl (lv_at hl 0 rfl) ?_
          refine x_gI (q := (RX0, TX0, 33)) (j := 23) G C h rfl (by decide) (fun _ _ _ => rfl) (lk C q232) (fun _ z => z) dX0_seen_60 hf (fun x9 hf => ?_)
          refine lv_iload_n hx hb dX0_seen_63 rfl (lv_at hl 2 rfl) ?_
          refine x_iast G C h dX0_seen_64 hf (fun σ10 H locs h hf => ?_)
          refine lv_aload_n hx hb dX0_seen_65 rfl (lv_at hl 0 rfl) ?_
          refine x_gR (q := (RX0, TX0, 33)) (j := 22) G C h rfl (by decide) (fun _ _ _ => rfl) (lk C q231) (fun _ z => z) dX0_seen_66 hf (fun r11 hf => ?_)
          refine lv_aload_n hx hb dX0_seen_69 rfl (lv_at hl 0 rfl) ?_
          refine x_gI (q := (RX0, TX0, 33)) (j := 23) G C h rfl (by decide) (fun _ _ _ => rfl) (lk C q232) (fun _ z => z) dX0_seen_70 hf (fun x12 hf => ?_)
          refine lv_iload_n hx hb dX0_seen_73 rfl (lv_at hl 3 rfl) ?_
          refine x_iast G C h dX0_seen_74 hf (fun σ13 H locs h hf => ?_)
          refine lv_aload_n hx hb dX0_seen_75 rfl (lv_at hl 0 rfl) ?_
          refine lv_dup hx hb dX0_seen_76 rfl ?_
          refine x_gI (q := (RX0, TX0, 33)) (j := 23) G C h rfl (by decide) (fun _ _ _ => rfl) (lk C q232) (fun _ z => z) dX0_seen_77 hf (fun x14 hf => ?_)
          refine lv_iconst (v := 1) hx hb dX0_seen_80 (by decide) ?_
          refine lv_iadd hx hb dX0_seen_81 ?_
          refine x_pI (q := (RX0, TX0, 33)) (j := 23) G C h rfl (by decide) rfl (lk C q232) (fun _ z => z) (Or.inl rfl) dX0_seen_82 hf (fun σ15 H locs h hf => ?_)
          refine lv_aload_n hx hb dX0_seen_85 rfl (lv_at hl 0 rfl) ?_
          refine x_gI (q := (RX0, TX0, 33)) (j := 23) G C h rfl (by decide) (fun _ _ _ => rfl) (lk C q232) (fun _ z => z) dX0_seen_86 hf (fun x16 hf => ?_)
          cases hf
          refine W.widen (k := 0) (n := 0) (Nat.le_of_ble_eq_true rfl) (Nat.le_of_ble_eq_true rfl) ?_
          exact x_iret C h dX0_seen_89
        · have hf := hf_t hc hf
          refine lv_bipush (v := (-5)) hx hb dX0_seen_42 (by decide) ?_
          cases hf
          refine W.widen (k := 0) (n := 0) (Nat.le_of_ble_eq_true rfl) (Nat.le_of_ble_eq_true rfl) ?_
          exact x_iret C h dX0_seen_44
      · have hf := hf_t hc hf
        refine lv_bipush (v := (-3)) hx hb dX0_seen_30 (by decide) ?_
        cases hf
        refine W.widen (k := 0) (n := 0) (Nat.le_of_ble_eq_true rfl) (Nat.le_of_ble_eq_true rfl) ?_
        exact x_iret C h dX0_seen_32
  · have hf := hf_t hc hf
    refine lv_bipush (v := (-2)) hx hb dX0_seen_8 (by decide) ?_
    cases hf
    refine W.widen (k := 0) (n := 0) (Nat.le_of_ble_eq_true rfl) (Nat.le_of_ble_eq_true rfl) ?_
    exact x_iret C h dX0_seen_10

theorem dX0_firstOf_0 : decode cX0_firstOf 0 = .ok (.iconst (-1), 1) := by decide +kernel
theorem dX0_firstOf_1 : decode cX0_firstOf 1 = .ok (.istore_n 2, 1) := by decide +kernel
theorem dX0_firstOf_2 : decode cX0_firstOf 2 = .ok (.iconst 0, 1) := by decide +kernel
theorem dX0_firstOf_3 : decode cX0_firstOf 3 = .ok (.istore_n 3, 1) := by decide +kernel
theorem dX0_firstOf_4 : decode cX0_firstOf 4 = .ok (.iload_n 3, 1) := by decide +kernel
theorem dX0_firstOf_5 : decode cX0_firstOf 5 = .ok (.aload_n 0, 1) := by decide +kernel
theorem dX0_firstOf_6 : decode cX0_firstOf 6 = .ok (.getfield 330, 3) := by decide +kernel
theorem dX0_firstOf_9 : decode cX0_firstOf 9 = .ok (.if_icmp .ge 45, 3) := by decide +kernel
theorem dX0_firstOf_12 : decode cX0_firstOf 12 = .ok (.aload_n 0, 1) := by decide +kernel
theorem dX0_firstOf_13 : decode cX0_firstOf 13 = .ok (.getfield 90, 3) := by decide +kernel
theorem dX0_firstOf_16 : decode cX0_firstOf 16 = .ok (.iload_n 3, 1) := by decide +kernel
theorem dX0_firstOf_17 : decode cX0_firstOf 17 = .ok (.iaload, 1) := by decide +kernel
theorem dX0_firstOf_18 : decode cX0_firstOf 18 = .ok (.iload_n 1, 1) := by decide +kernel
theorem dX0_firstOf_19 : decode cX0_firstOf 19 = .ok (.if_icmp .ne 27, 3) := by decide +kernel
theorem dX0_firstOf_22 : decode cX0_firstOf 22 = .ok (.iload_n 2, 1) := by decide +kernel
theorem dX0_firstOf_23 : decode cX0_firstOf 23 = .ok (.iconst (-1), 1) := by decide +kernel
theorem dX0_firstOf_24 : decode cX0_firstOf 24 = .ok (.if_icmp .eq 18, 3) := by decide +kernel
theorem dX0_firstOf_27 : decode cX0_firstOf 27 = .ok (.aload_n 0, 1) := by decide +kernel
theorem dX0_firstOf_28 : decode cX0_firstOf 28 = .ok (.getfield 96, 3) := by decide +kernel
theorem dX0_firstOf_31 : decode cX0_firstOf 31 = .ok (.iload_n 3, 1) := by decide +kernel
theorem dX0_firstOf_32 : decode cX0_firstOf 32 = .ok (.iaload, 1) := by decide +kernel
theorem dX0_firstOf_33 : decode cX0_firstOf 33 = .ok (.aload_n 0, 1) := by decide +kernel
theorem dX0_firstOf_34 : decode cX0_firstOf 34 = .ok (.getfield 96, 3) := by decide +kernel
theorem dX0_firstOf_37 : decode cX0_firstOf 37 = .ok (.iload_n 2, 1) := by decide +kernel
theorem dX0_firstOf_38 : decode cX0_firstOf 38 = .ok (.iaload, 1) := by decide +kernel
theorem dX0_firstOf_39 : decode cX0_firstOf 39 = .ok (.if_icmp .ge 7, 3) := by decide +kernel
theorem dX0_firstOf_42 : decode cX0_firstOf 42 = .ok (.iload_n 3, 1) := by decide +kernel
theorem dX0_firstOf_43 : decode cX0_firstOf 43 = .ok (.goto 4, 3) := by decide +kernel
theorem dX0_firstOf_46 : decode cX0_firstOf 46 = .ok (.iload_n 2, 1) := by decide +kernel
theorem dX0_firstOf_47 : decode cX0_firstOf 47 = .ok (.istore_n 2, 1) := by decide +kernel
theorem dX0_firstOf_48 : decode cX0_firstOf 48 = .ok (.iinc 3 1, 3) := by decide +kernel
theorem dX0_firstOf_51 : decode cX0_firstOf 51 = .ok (.goto (-47), 3) := by decide +kernel
theorem dX0_firstOf_54 : decode cX0_firstOf 54 = .ok (.iload_n 2, 1) := by decide +kernel
theorem dX0_firstOf_55 : decode cX0_firstOf 55 = .ok (.ireturn, 1) := by decide +kernel
def lX0_firstOf_4 (σ : St) (a0 : Nat) (a1 : Int32) (x1 : Int32) (x2 : Int32) : Option ((Int32 × Int32) ⊕ (Int32)) :=
  o_gI σ a0 0 23 fun x3 =>
  if x3 ≤ x2 then
    some (.inr x1)
  else
  o_gR σ a0 0 20 fun r4 =>
  o_aI σ r4 0 x2 fun x5 =>
  jn (fun (x10 : Int32) =>
    some (.inl (x10, x2 + 1))) fun j47 =>
  jn (fun (_ : Unit) =>
    j47 x1) fun j46 =>
  if x5 = a1 then
    jn (fun (_ : Unit) =>
      j47 x2) fun j42 =>
    if x1 = ((-1)) then
      j42 ()
    else
    o_gR σ a0 0 22 fun r6 =>
    o_aI σ r6 0 x2 fun x7 =>
    o_gR σ a0 0 22 fun r8 =>
    o_aI σ r8 0 x1 fun x9 =>
    if x9 ≤ x7 then
      j46 ()
    else
    j42 ()
  else
  j46 ()

def fX0_firstOf (σ : St) (a0 : Nat) (a1 : Int32) : Option (Int32) :=
  (loopF fuel (fun z => lX0_firstOf_4 σ a0 a1 z.1 z.2) ((-1), 0)).bind <| fun x11 =>
  some x11

set_option maxHeartbeats 4000000 in
theorem wX0_firstOf {l : Launch} {s0 : State} {A0 : Array Value} {D : va_G} {ac : Nat → ClassId} (G : Gl s0 A0 D ac) {σ : St} {a0 : Nat} {a1 : Int32} {v : Int32} (hf : fX0_firstOf σ a0 a1 = some (v)) : Met l yX0_firstOf (ws_ yX0_firstOf cX0_firstOf 4 (some (.int))) ({ frames := 0, cells := 0, slots := 0, locals := 0 } : Room) (Pn s0 D ac [.ref a0, .int a1] σ) (Qn s0 D ac (some (.int v)) σ) 0 0 (fr s0) := by
  refine x_met (by decide) (Nat.le_of_ble_eq_true rfl) ?_
  intro p e s m args below meth c ls C hnm h hl
  have C : Cx s0 p s m args meth c cX0_firstOf 4 "HutForShow" (some (.int)) := C
  have hx := C.1
  have hb := C.2.1
  have hl : lv_has ls 4 [(0, .ref a0), (1, .int a1)] := hl
  unfold fX0_firstOf at hf
  refine lv_iconst (v := (-1)) hx hb dX0_firstOf_0 (by decide) ?_
  refine lv_istore_n (lv' := [(2, .int ((-1))), (0, .ref a0), (1, .int a1)]) hx hb dX0_firstOf_1 rfl hl (by decide) rfl (fun ls hl => ?_)
  refine lv_iconst (v := 0) hx hb dX0_firstOf_2 (by decide) ?_
  refine lv_istore_n (lv' := [(3, .int 0), (2, .int ((-1))), (0, .ref a0), (1, .int a1)]) hx hb dX0_firstOf_3 rfl hl (by decide) rfl (fun ls hl => ?_)
  obtain ⟨e4, hL, hK⟩ := hf_b hf
  have hE4_0 : ∀ (x11 : Int32), x11 = e4 → ∀  (H : Heap) (locs : List Loc) (ls : Array Slot), Hs s0 D ac σ H locs → lv_has ls 4 [(0, .ref a0), (1, .int a1), (2, .int x11)] → W p l e ({ frames := 0, cells := 0, slots := 0, locals := 0 } : Room) s m args below meth c H locs 0 0 (MQ below (Qn s0 D ac (some (.int v)) σ) args s 0 0 (fr s0)) (F0 m 54 ls []) := by
    intro x11 he H locs ls h hl
    subst he
    have hf := hK
    refine lv_iload_n hx hb dX0_firstOf_54 rfl (lv_at hl 2 rfl) ?_
    cases hf
    refine W.widen (k := 0) (n := 0) (Nat.le_of_ble_eq_true rfl) (Nat.le_of_ble_eq_true rfl) ?_
    exact x_iret C h dX0_firstOf_55
  refine loopF_ind (P := fun z => ∀ (H : Heap) (locs : List Loc) (ls : Array Slot), Hs s0 D ac σ H locs → lv_has ls 4 [(0, .ref a0), (1, .int a1), (2, .int z.1), (3, .int z.2)] → W p l e ({ frames := 0, cells := 0, slots := 0, locals := 0 } : Room) s m args below meth c H locs 0 0 (MQ below (Qn s0 D ac (some (.int v)) σ) args s 0 0 (fr s0)) (F0 m 4 ls [])) ?_ _ _ hL _ _ _ h (lv_sub hl [2, 3, 1, 0] rfl)
  clear hK hL h hl hf
  intro z o hf ih hX H locs ls h hl
  obtain ⟨x1, x2⟩ := z
  have h : Hs s0 D ac σ H locs := h
  have hl : lv_has ls 4 [(0, .ref a0), (1, .int a1), (2, .int x1), (3, .int x2)] := hl
  have hf : lX0_firstOf_4 σ a0 a1 x1 x2 = some o := hf
  unfold lX0_firstOf_4 at hf
  refine lv_iload_n hx hb dX0_firstOf_4 rfl (lv_at hl 3 rfl) ?_
  refine lv_aload_n hx hb dX0_firstOf_5 rfl (lv_at hl 0 rfl) ?_
  refine x_gI (q := (RX0, TX0, 33)) (j := 23) G C h rfl (by decide) (fun _ _ _ => rfl) (lk C q232) (fun _ z => z) dX0_firstOf_6 hf (fun x3 hf => ?_)
  refine lv_icmp_ge (tgt := 54) hx hb dX0_firstOf_9 (by decide) (fun hc => ?_) (fun hc => ?_)
  · have hf := hf_t hc hf
    cases hf
    exact hE4_0 _ (hX _ rfl) _ _ _ h (lv_sub hl [0, 1, 2] rfl)
  · have hf := hf_f hc hf
    refine lv_aload_n hx hb dX0_firstOf_12 rfl (lv_at hl 0 rfl) ?_
    refine x_gR (q := (RX0, TX0, 33)) (j := 20) G C h rfl (by decide) (fun _ _ _ => rfl) (lk C q229) (fun _ z => z) dX0_firstOf_13 hf (fun r4 hf => ?_)
    refine lv_iload_n hx hb dX0_firstOf_16 rfl (lv_at hl 3 rfl) ?_
    refine x_iald G C h dX0_firstOf_17 hf (fun x5 hf => ?_)
    refine lv_iload_n hx hb dX0_firstOf_18 rfl (lv_at hl 1 rfl) ?_
    refine jn_of (P := fun j => ∀ (x10 : Int32), j x10 = some o → ∀ (H : Heap) (locs : List Loc) (ls : Array Slot), Hs s0 D ac σ H locs → lv_has ls 4 [(0, .ref a0), (1, .int a1), (2, .int x1), (3, .int x2)] → W p l e ({ frames := 0, cells := 0, slots := 0, locals := 0 } : Room) s m args below meth c H locs 0 0 (MQ below (Qn s0 D ac (some (.int v)) σ) args s 0 0 (fr s0)) (F0 m 47 ls [.int x10])) hf ?_ ?_
    · intro x10 hf H locs ls h hl
      refine lv_istore_n (lv' := [(2, .int x10), (0, .ref a0), (1, .int a1), (3, .int x2)]) hx hb dX0_firstOf_47 rfl hl (by decide) rfl (fun ls hl => ?_)
      refine lv_iinc (v := x2 + 1) (lv' := [(3, .int (x2 + 1)), (2, .int x10), (0, .ref a0), (1, .int a1)]) hx hb dX0_firstOf_48 hl (k := 3) rfl rfl (by decide) rfl (fun ls hl => ?_)
      refine lv_goto (tgt := 4) hx hb dX0_firstOf_51 (by decide) ?_
      cases hf
      exact ih _ rfl _ _ _ h (lv_sub hl [2, 3, 1, 0] rfl)
    intro j47 hj47 hf
    refine jn_of (P := fun j => ∀ (u0 : Unit), j u0 = some o → ∀ (H : Heap) (locs : List Loc) (ls : Array Slot), Hs s0 D ac σ H locs → lv_has ls 4 [(0, .ref a0), (1, .int a1), (2, .int x1), (3, .int x2)] → W p l e ({ frames := 0, cells := 0, slots := 0, locals := 0 } : Room) s m args below meth c H locs 0 0 (MQ below (Qn s0 D ac (some (.int v)) σ) args s 0 0 (fr s0)) (F0 m 46 ls [])) hf ?_ ?_
    · intro u0 hf H locs ls h hl
      refine lv_iload_n hx hb dX0_firstOf_46 rfl (lv_at hl 2 rfl) ?_
      exact hj47 _ hf _ _ _ h (lv_sub hl [0, 1, 2, 3] rfl)
    intro j46 hj46 hf
    refine lv_icmp_ne (tgt := 46) hx hb dX0_firstOf_19 (by decide) (fun hc => ?_) (fun hc => ?_)
    · have hf := hf_f hc hf
      exact hj46 () hf _ _ _ h (lv_sub hl [0, 1, 2, 3] rfl)
    · have hf := hf_t hc hf
      refine lv_iload_n hx hb dX0_firstOf_22 rfl (lv_at hl 2 rfl) ?_
      refine lv_iconst (v := (-1)) hx hb dX0_firstOf_23 (by decide) ?_
      refine jn_of (P := fun j => ∀ (u0 : Unit), j u0 = some o → ∀ (H : Heap) (locs : List Loc) (ls : Array Slot), Hs s0 D ac σ H locs → lv_has ls 4 [(0, .ref a0), (1, .int a1), (2, .int x1), (3, .int x2)] → W p l e ({ frames := 0, cells := 0, slots := 0, locals := 0 } : Room) s m args below meth c H locs 0 0 (MQ below (Qn s0 D ac (some (.int v)) σ) args s 0 0 (fr s0)) (F0 m 42 ls [])) hf ?_ ?_
      · intro u0 hf H locs ls h hl
        refine lv_iload_n hx hb dX0_firstOf_42 rfl (lv_at hl 3 rfl) ?_
        refine lv_goto (tgt := 47) hx hb dX0_firstOf_43 (by decide) ?_
        exact hj47 _ hf _ _ _ h (lv_sub hl [0, 1, 2, 3] rfl)
      intro j42 hj42 hf
      refine lv_icmp_eq (tgt := 42) hx hb dX0_firstOf_24 (by decide) (fun hc => ?_) (fun hc => ?_)
      · have hf := hf_t hc hf
        exact hj42 () hf _ _ _ h (lv_sub hl [0, 1, 2, 3] rfl)
      · have hf := hf_f hc hf
        refine lv_aload_n hx hb dX0_firstOf_27 rfl (lv_at hl 0 rfl) ?_
        refine x_gR (q := (RX0, TX0, 33)) (j := 22) G C h rfl (by decide) (fun _ _ _ => rfl) (lk C q231) (fun _ z => z) dX0_firstOf_28 hf (fun r6 hf => ?_)
        refine lv_iload_n hx hb dX0_firstOf_31 rfl (lv_at hl 3 rfl) ?_
        refine x_iald G C h dX0_firstOf_32 hf (fun x7 hf => ?_)
        refine lv_aload_n hx hb dX0_firstOf_33 rfl (lv_at hl 0 rfl) ?_
        refine x_gR (q := (RX0, TX0, 33)) (j := 22) G C h rfl (by decide) (fun _ _ _ => rfl) (lk C q231) (fun _ z => z) dX0_firstOf_34 hf (fun r8 hf => ?_)
        refine lv_iload_n hx hb dX0_firstOf_37 rfl (lv_at hl 2 rfl) ?_
        refine x_iald G C h dX0_firstOf_38 hf (fun x9 hf => ?_)
        refine lv_icmp_ge (tgt := 46) hx hb dX0_firstOf_39 (by decide) (fun hc => ?_) (fun hc => ?_)
        · have hf := hf_t hc hf
          exact hj46 () hf _ _ _ h (lv_sub hl [0, 1, 2, 3] rfl)
        · have hf := hf_f hc hf
          exact hj42 () hf _ _ _ h (lv_sub hl [0, 1, 2, 3] rfl)

theorem dX0_whose_0 : decode cX0_whose 0 = .ok (.iload_n 1, 1) := by decide +kernel
theorem dX0_whose_1 : decode cX0_whose 1 = .ok (.invokestatic 325, 3) := by decide +kernel
theorem dX0_whose_4 : decode cX0_whose 4 = .ok (.ifCond .ne 6, 3) := by decide +kernel
theorem dX0_whose_7 : decode cX0_whose 7 = .ok (.bipush (-3), 2) := by decide +kernel
theorem dX0_whose_9 : decode cX0_whose 9 = .ok (.ireturn, 1) := by decide +kernel
theorem dX0_whose_10 : decode cX0_whose 10 = .ok (.aload_n 0, 1) := by decide +kernel
theorem dX0_whose_11 : decode cX0_whose 11 = .ok (.iload_n 1, 1) := by decide +kernel
theorem dX0_whose_12 : decode cX0_whose 12 = .ok (.invokevirtual 333, 3) := by decide +kernel
theorem dX0_whose_15 : decode cX0_whose 15 = .ok (.istore_n 2, 1) := by decide +kernel
theorem dX0_whose_16 : decode cX0_whose 16 = .ok (.iload_n 2, 1) := by decide +kernel
theorem dX0_whose_17 : decode cX0_whose 17 = .ok (.iconst (-1), 1) := by decide +kernel
theorem dX0_whose_18 : decode cX0_whose 18 = .ok (.if_icmp .ne 7, 3) := by decide +kernel
theorem dX0_whose_21 : decode cX0_whose 21 = .ok (.iconst (-1), 1) := by decide +kernel
theorem dX0_whose_22 : decode cX0_whose 22 = .ok (.goto 9, 3) := by decide +kernel
theorem dX0_whose_25 : decode cX0_whose 25 = .ok (.aload_n 0, 1) := by decide +kernel
theorem dX0_whose_26 : decode cX0_whose 26 = .ok (.getfield 93, 3) := by decide +kernel
theorem dX0_whose_29 : decode cX0_whose 29 = .ok (.iload_n 2, 1) := by decide +kernel
theorem dX0_whose_30 : decode cX0_whose 30 = .ok (.iaload, 1) := by decide +kernel
theorem dX0_whose_31 : decode cX0_whose 31 = .ok (.ireturn, 1) := by decide +kernel
def fX0_whose (σ : St) (a0 : Nat) (a1 : Int32) : Option (Int32) :=
  (fX0_isMark σ a1).bind fun x1 =>
  if x1 = 0 then
    some ((-3))
  else
  o_k σ a0 0 <|
  (fX0_firstOf σ a0 a1).bind fun x2 =>
  if x2 = ((-1)) then
    some ((-1))
  else
  o_gR σ a0 0 21 fun r3 =>
  o_aI σ r3 0 x2 fun x4 =>
  some x4

set_option maxHeartbeats 4000000 in
theorem wX0_whose {l : Launch} {s0 : State} {A0 : Array Value} {D : va_G} {ac : Nat → ClassId} (G : Gl s0 A0 D ac) {σ : St} {a0 : Nat} {a1 : Int32} {v : Int32} (hf : fX0_whose σ a0 a1 = some (v)) : Met l yX0_whose (ws_ yX0_whose cX0_whose 3 (some (.int))) ({ frames := 2, cells := 0, slots := 0, locals := 45 } : Room) (Pn s0 D ac [.ref a0, .int a1] σ) (Qn s0 D ac (some (.int v)) σ) 0 0 (fr s0) := by
  refine x_met (by decide) (Nat.le_of_ble_eq_true rfl) ?_
  intro p e s m args below meth c ls C hnm h hl
  have C : Cx s0 p s m args meth c cX0_whose 3 "HutForShow" (some (.int)) := C
  have hx := C.1
  have hb := C.2.1
  have hl : lv_has ls 3 [(0, .ref a0), (1, .int a1)] := hl
  unfold fX0_whose at hf
  refine lv_iload_n hx hb dX0_whose_0 rfl (lv_at hl 1 rfl) ?_
  obtain ⟨x1, hc, hf⟩ := hf_b hf
  refine x_cS (rest := []) (As := [.int a1]) (n := 1) (ov := (some (.int x1))) C h (wX0_isMark G hc) (lw_S q940 q941 q54 q942) (by decide +kernel) ⟨Nat.le_of_ble_eq_true rfl, Nat.le_of_ble_eq_true rfl⟩ rfl rfl rfl hl.1 rfl (Nat.le_of_ble_eq_true rfl) dX0_whose_1 ⟨(Nat.le_of_ble_eq_true rfl), (Nat.le_of_ble_eq_true rfl)⟩ (fun H locs h => ?_)
  refine lv_if_ne (tgt := 10) hx hb dX0_whose_4 (by decide) (fun hc => ?_) (fun hc => ?_)
  · have hf := hf_f hc hf
    refine lv_aload_n hx hb dX0_whose_10 rfl (lv_at hl 0 rfl) ?_
    refine lv_iload_n hx hb dX0_whose_11 rfl (lv_at hl 1 rfl) ?_
    obtain ⟨hk, hf⟩ := k_of hf
    obtain ⟨x2, hc, hf⟩ := hf_b hf
    refine x_cV (q := (RX0, TX0, 33)) (rest := []) (As := [.int a1]) (n := 1) (ov := (some (.int x2))) G C h (wX0_firstOf G hc) hk rfl (lw_V q948 q950 qs15 q54 q951) (by decide +kernel) ⟨Nat.le_of_ble_eq_true rfl, Nat.le_of_ble_eq_true rfl⟩ rfl rfl rfl hl.1 rfl (Nat.le_of_ble_eq_true rfl) dX0_whose_12 ⟨(Nat.le_of_ble_eq_true rfl), (Nat.le_of_ble_eq_true rfl)⟩ (fun H locs h => ?_)
    refine lv_istore_n (lv' := [(2, .int x2), (0, .ref a0), (1, .int a1)]) hx hb dX0_whose_15 rfl hl (by decide) rfl (fun ls hl => ?_)
    refine lv_iload_n hx hb dX0_whose_16 rfl (lv_at hl 0 rfl) ?_
    refine lv_iconst (v := (-1)) hx hb dX0_whose_17 (by decide) ?_
    refine lv_icmp_ne (tgt := 25) hx hb dX0_whose_18 (by decide) (fun hc => ?_) (fun hc => ?_)
    · have hf := hf_f hc hf
      refine lv_aload_n hx hb dX0_whose_25 rfl (lv_at hl 1 rfl) ?_
      refine x_gR (q := (RX0, TX0, 33)) (j := 21) G C h rfl (by decide) (fun _ _ _ => rfl) (lk C q230) (fun _ z => z) dX0_whose_26 hf (fun r3 hf => ?_)
      refine lv_iload_n hx hb dX0_whose_29 rfl (lv_at hl 0 rfl) ?_
      refine x_iald G C h dX0_whose_30 hf (fun x4 hf => ?_)
      cases hf
      refine W.widen (k := 0) (n := 0) (Nat.le_of_ble_eq_true rfl) (Nat.le_of_ble_eq_true rfl) ?_
      exact x_iret C h dX0_whose_31
    · have hf := hf_t hc hf
      refine lv_iconst (v := (-1)) hx hb dX0_whose_21 (by decide) ?_
      refine lv_goto (tgt := 31) hx hb dX0_whose_22 (by decide) ?_
      cases hf
      refine W.widen (k := 0) (n := 0) (Nat.le_of_ble_eq_true rfl) (Nat.le_of_ble_eq_true rfl) ?_
      exact x_iret C h dX0_whose_31
  · have hf := hf_t hc hf
    refine lv_bipush (v := (-3)) hx hb dX0_whose_7 (by decide) ?_
    cases hf
    refine W.widen (k := 0) (n := 0) (Nat.le_of_ble_eq_true rfl) (Nat.le_of_ble_eq_true rfl) ?_
    exact x_iret C h dX0_whose_9

theorem dX0_thieves_0 : decode cX0_thieves 0 = .ok (.aload_n 0, 1) := by decide +kernel
theorem dX0_thieves_1 : decode cX0_thieves 1 = .ok (.iload_n 1, 1) := by decide +kernel
theorem dX0_thieves_2 : decode cX0_thieves 2 = .ok (.invokevirtual 145, 3) := by decide +kernel
theorem dX0_thieves_5 : decode cX0_thieves 5 = .ok (.ifCond .ne 6, 3) := by decide +kernel
theorem dX0_thieves_8 : decode cX0_thieves 8 = .ok (.bipush (-2), 2) := by decide +kernel
theorem dX0_thieves_10 : decode cX0_thieves 10 = .ok (.ireturn, 1) := by decide +kernel
theorem dX0_thieves_11 : decode cX0_thieves 11 = .ok (.iconst 0, 1) := by decide +kernel
theorem dX0_thieves_12 : decode cX0_thieves 12 = .ok (.istore_n 2, 1) := by decide +kernel
theorem dX0_thieves_13 : decode cX0_thieves 13 = .ok (.iconst 0, 1) := by decide +kernel
theorem dX0_thieves_14 : decode cX0_thieves 14 = .ok (.istore_n 3, 1) := by decide +kernel
theorem dX0_thieves_15 : decode cX0_thieves 15 = .ok (.iload_n 3, 1) := by decide +kernel
theorem dX0_thieves_16 : decode cX0_thieves 16 = .ok (.aload_n 0, 1) := by decide +kernel
theorem dX0_thieves_17 : decode cX0_thieves 17 = .ok (.getfield 330, 3) := by decide +kernel
theorem dX0_thieves_20 : decode cX0_thieves 20 = .ok (.if_icmp .ge 85, 3) := by decide +kernel
theorem dX0_thieves_23 : decode cX0_thieves 23 = .ok (.aload_n 0, 1) := by decide +kernel
theorem dX0_thieves_24 : decode cX0_thieves 24 = .ok (.aload_n 0, 1) := by decide +kernel
theorem dX0_thieves_25 : decode cX0_thieves 25 = .ok (.getfield 90, 3) := by decide +kernel
theorem dX0_thieves_28 : decode cX0_thieves 28 = .ok (.iload_n 3, 1) := by decide +kernel
theorem dX0_thieves_29 : decode cX0_thieves 29 = .ok (.iaload, 1) := by decide +kernel
theorem dX0_thieves_30 : decode cX0_thieves 30 = .ok (.invokevirtual 333, 3) := by decide +kernel
theorem dX0_thieves_33 : decode cX0_thieves 33 = .ok (.istore 4, 2) := by decide +kernel
theorem dX0_thieves_35 : decode cX0_thieves 35 = .ok (.aload_n 0, 1) := by decide +kernel
theorem dX0_thieves_36 : decode cX0_thieves 36 = .ok (.getfield 93, 3) := by decide +kernel
theorem dX0_thieves_39 : decode cX0_thieves 39 = .ok (.iload 4, 2) := by decide +kernel
theorem dX0_thieves_41 : decode cX0_thieves 41 = .ok (.iaload, 1) := by decide +kernel
theorem dX0_thieves_42 : decode cX0_thieves 42 = .ok (.iload_n 1, 1) := by decide +kernel
theorem dX0_thieves_43 : decode cX0_thieves 43 = .ok (.if_icmp .ne 33, 3) := by decide +kernel
theorem dX0_thieves_46 : decode cX0_thieves 46 = .ok (.aload_n 0, 1) := by decide +kernel
theorem dX0_thieves_47 : decode cX0_thieves 47 = .ok (.getfield 93, 3) := by decide +kernel
theorem dX0_thieves_50 : decode cX0_thieves 50 = .ok (.iload_n 3, 1) := by decide +kernel
theorem dX0_thieves_51 : decode cX0_thieves 51 = .ok (.iaload, 1) := by decide +kernel
theorem dX0_thieves_52 : decode cX0_thieves 52 = .ok (.iload_n 1, 1) := by decide +kernel
theorem dX0_thieves_53 : decode cX0_thieves 53 = .ok (.if_icmp .eq 23, 3) := by decide +kernel
theorem dX0_thieves_56 : decode cX0_thieves 56 = .ok (.aload_n 0, 1) := by decide +kernel
theorem dX0_thieves_57 : decode cX0_thieves 57 = .ok (.getfield 96, 3) := by decide +kernel
theorem dX0_thieves_60 : decode cX0_thieves 60 = .ok (.iload_n 3, 1) := by decide +kernel
theorem dX0_thieves_61 : decode cX0_thieves 61 = .ok (.iaload, 1) := by decide +kernel
theorem dX0_thieves_62 : decode cX0_thieves 62 = .ok (.aload_n 0, 1) := by decide +kernel
theorem dX0_thieves_63 : decode cX0_thieves 63 = .ok (.getfield 96, 3) := by decide +kernel
theorem dX0_thieves_66 : decode cX0_thieves 66 = .ok (.iload 4, 2) := by decide +kernel
theorem dX0_thieves_68 : decode cX0_thieves 68 = .ok (.iaload, 1) := by decide +kernel
theorem dX0_thieves_69 : decode cX0_thieves 69 = .ok (.if_icmp .le 7, 3) := by decide +kernel
theorem dX0_thieves_72 : decode cX0_thieves 72 = .ok (.iconst 1, 1) := by decide +kernel
theorem dX0_thieves_73 : decode cX0_thieves 73 = .ok (.goto 4, 3) := by decide +kernel
theorem dX0_thieves_76 : decode cX0_thieves 76 = .ok (.iconst 0, 1) := by decide +kernel
theorem dX0_thieves_77 : decode cX0_thieves 77 = .ok (.istore 5, 2) := by decide +kernel
theorem dX0_thieves_79 : decode cX0_thieves 79 = .ok (.iload_n 2, 1) := by decide +kernel
theorem dX0_thieves_80 : decode cX0_thieves 80 = .ok (.iload 5, 2) := by decide +kernel
theorem dX0_thieves_82 : decode cX0_thieves 82 = .ok (.ifCond .eq 14, 3) := by decide +kernel
theorem dX0_thieves_85 : decode cX0_thieves 85 = .ok (.iconst 1, 1) := by decide +kernel
theorem dX0_thieves_86 : decode cX0_thieves 86 = .ok (.aload_n 0, 1) := by decide +kernel
theorem dX0_thieves_87 : decode cX0_thieves 87 = .ok (.getfield 93, 3) := by decide +kernel
theorem dX0_thieves_90 : decode cX0_thieves 90 = .ok (.iload_n 3, 1) := by decide +kernel
theorem dX0_thieves_91 : decode cX0_thieves 91 = .ok (.iaload, 1) := by decide +kernel
theorem dX0_thieves_92 : decode cX0_thieves 92 = .ok (.ishl, 1) := by decide +kernel
theorem dX0_thieves_93 : decode cX0_thieves 93 = .ok (.goto 4, 3) := by decide +kernel
theorem dX0_thieves_96 : decode cX0_thieves 96 = .ok (.iconst 0, 1) := by decide +kernel
theorem dX0_thieves_97 : decode cX0_thieves 97 = .ok (.ior, 1) := by decide +kernel
theorem dX0_thieves_98 : decode cX0_thieves 98 = .ok (.istore_n 2, 1) := by decide +kernel
theorem dX0_thieves_99 : decode cX0_thieves 99 = .ok (.iinc 3 1, 3) := by decide +kernel
theorem dX0_thieves_102 : decode cX0_thieves 102 = .ok (.goto (-87), 3) := by decide +kernel
theorem dX0_thieves_105 : decode cX0_thieves 105 = .ok (.iload_n 2, 1) := by decide +kernel
theorem dX0_thieves_106 : decode cX0_thieves 106 = .ok (.ireturn, 1) := by decide +kernel
def lX0_thieves_15 (σ : St) (a0 : Nat) (a1 : Int32) (x2 : Int32) (x3 : Int32) : Option ((Int32 × Int32) ⊕ (Int32)) :=
  o_gI σ a0 0 23 fun x4 =>
  if x4 ≤ x3 then
    some (.inr x2)
  else
  o_gR σ a0 0 20 fun r5 =>
  o_aI σ r5 0 x3 fun x6 =>
  o_k σ a0 0 <|
  (fX0_firstOf σ a0 x6).bind fun x7 =>
  o_gR σ a0 0 21 fun r8 =>
  o_aI σ r8 0 x7 fun x9 =>
  jn (fun (x16 : Int32) =>
    jn (fun (x19 : Int32) =>
      some (.inl (x2 ||| x19, x3 + 1))) fun j97 =>
    if x16 = 0 then
      j97 0
    else
    o_gR σ a0 0 21 fun r17 =>
    o_aI σ r17 0 x3 fun x18 =>
    j97 (1 <<< (x18 &&& 31))) fun j77 =>
  jn (fun (_ : Unit) =>
    j77 0) fun j76 =>
  if x9 = a1 then
    o_gR σ a0 0 21 fun r10 =>
    o_aI σ r10 0 x3 fun x11 =>
    if x11 = a1 then
      j76 ()
    else
    o_gR σ a0 0 22 fun r12 =>
    o_aI σ r12 0 x3 fun x13 =>
    o_gR σ a0 0 22 fun r14 =>
    o_aI σ r14 0 x7 fun x15 =>
    if x13 ≤ x15 then
      j76 ()
    else
    j77 1
  else
  j76 ()

def fX0_thieves (σ : St) (a0 : Nat) (a1 : Int32) : Option (Int32) :=
  o_k σ a0 0 <|
  (fX0_isHut σ a0 a1).bind fun x1 =>
  if x1 = 0 then
    some ((-2))
  else
  (loopF fuel (fun z => lX0_thieves_15 σ a0 a1 z.1 z.2) (0, 0)).bind <| fun x20 =>
  some x20

set_option maxHeartbeats 4000000 in
theorem wX0_thieves {l : Launch} {s0 : State} {A0 : Array Value} {D : va_G} {ac : Nat → ClassId} (G : Gl s0 A0 D ac) {σ : St} {a0 : Nat} {a1 : Int32} {v : Int32} (hf : fX0_thieves σ a0 a1 = some (v)) : Met l yX0_thieves (ws_ yX0_thieves cX0_thieves 6 (some (.int))) ({ frames := 2, cells := 0, slots := 0, locals := 46 } : Room) (Pn s0 D ac [.ref a0, .int a1] σ) (Qn s0 D ac (some (.int v)) σ) 0 0 (fr s0) := by
  refine x_met (by decide) (Nat.le_of_ble_eq_true rfl) ?_
  intro p e s m args below meth c ls C hnm h hl
  have C : Cx s0 p s m args meth c cX0_thieves 6 "HutForShow" (some (.int)) := C
  have hx := C.1
  have hb := C.2.1
  have hl : lv_has ls 6 [(0, .ref a0), (1, .int a1)] := hl
  unfold fX0_thieves at hf
  refine lv_aload_n hx hb dX0_thieves_0 rfl (lv_at hl 0 rfl) ?_
  refine lv_iload_n hx hb dX0_thieves_1 rfl (lv_at hl 1 rfl) ?_
  obtain ⟨hk, hf⟩ := k_of hf
  obtain ⟨x1, hc, hf⟩ := hf_b hf
  refine x_cV (q := (RX0, TX0, 33)) (rest := []) (As := [.int a1]) (n := 1) (ov := (some (.int x1))) G C h (wX0_isHut G hc) hk rfl (lw_V q338 q340 qs0 q54 q341) (by decide +kernel) ⟨Nat.le_of_ble_eq_true rfl, Nat.le_of_ble_eq_true rfl⟩ rfl rfl rfl hl.1 rfl (Nat.le_of_ble_eq_true rfl) dX0_thieves_2 ⟨(Nat.le_of_ble_eq_true rfl), (Nat.le_of_ble_eq_true rfl)⟩ (fun H locs h => ?_)
  refine lv_if_ne (tgt := 11) hx hb dX0_thieves_5 (by decide) (fun hc => ?_) (fun hc => ?_)
  · have hf := hf_f hc hf
    refine lv_iconst (v := 0) hx hb dX0_thieves_11 (by decide) ?_
    refine lv_istore_n (lv' := [(2, .int 0), (0, .ref a0), (1, .int a1)]) hx hb dX0_thieves_12 rfl hl (by decide) rfl (fun ls hl => ?_)
    refine lv_iconst (v := 0) hx hb dX0_thieves_13 (by decide) ?_
    refine lv_istore_n (lv' := [(3, .int 0), (2, .int 0), (0, .ref a0), (1, .int a1)]) hx hb dX0_thieves_14 rfl hl (by decide) rfl (fun ls hl => ?_)
    obtain ⟨e15, hL, hK⟩ := hf_b hf
    have hE15_0 : ∀ (x20 : Int32), x20 = e15 → ∀  (H : Heap) (locs : List Loc) (ls : Array Slot), Hs s0 D ac σ H locs → lv_has ls 6 [(0, .ref a0), (1, .int a1), (2, .int x20)] → W p l e ({ frames := 2, cells := 0, slots := 0, locals := 46 } : Room) s m args below meth c H locs 0 0 (MQ below (Qn s0 D ac (some (.int v)) σ) args s 0 0 (fr s0)) (F0 m 105 ls []) := by
      intro x20 he H locs ls h hl
      subst he
      have hf := hK
      refine lv_iload_n hx hb dX0_thieves_105 rfl (lv_at hl 2 rfl) ?_
      cases hf
      refine W.widen (k := 0) (n := 0) (Nat.le_of_ble_eq_true rfl) (Nat.le_of_ble_eq_true rfl) ?_
      exact x_iret C h dX0_thieves_106
    refine loopF_ind (P := fun z => ∀ (H : Heap) (locs : List Loc) (ls : Array Slot), Hs s0 D ac σ H locs → lv_has ls 6 [(0, .ref a0), (1, .int a1), (2, .int z.1), (3, .int z.2)] → W p l e ({ frames := 2, cells := 0, slots := 0, locals := 46 } : Room) s m args below meth c H locs 0 0 (MQ below (Qn s0 D ac (some (.int v)) σ) args s 0 0 (fr s0)) (F0 m 15 ls [])) ?_ _ _ hL _ _ _ h (lv_sub hl [2, 3, 1, 0] rfl)
    clear hK hL h hl hf
    intro z o hf ih hX H locs ls h hl
    obtain ⟨x2, x3⟩ := z
    have h : Hs s0 D ac σ H locs := h
    have hl : lv_has ls 6 [(0, .ref a0), (1, .int a1), (2, .int x2), (3, .int x3)] := hl
    have hf : lX0_thieves_15 σ a0 a1 x2 x3 = some o := hf
    unfold lX0_thieves_15 at hf
    refine lv_iload_n hx hb dX0_thieves_15 rfl (lv_at hl 3 rfl) ?_
    refine lv_aload_n hx hb dX0_thieves_16 rfl (lv_at hl 0 rfl) ?_
    refine x_gI (q := (RX0, TX0, 33)) (j := 23) G C h rfl (by decide) (fun _ _ _ => rfl) (lk C q232) (fun _ z => z) dX0_thieves_17 hf (fun x4 hf => ?_)
    refine lv_icmp_ge (tgt := 105) hx hb dX0_thieves_20 (by decide) (fun hc => ?_) (fun hc => ?_)
    · have hf := hf_t hc hf
      cases hf
      exact hE15_0 _ (hX _ rfl) _ _ _ h (lv_sub hl [0, 1, 2] rfl)
    · have hf := hf_f hc hf
      refine lv_aload_n hx hb dX0_thieves_23 rfl (lv_at hl 0 rfl) ?_
      refine lv_aload_n hx hb dX0_thieves_24 rfl (lv_at hl 0 rfl) ?_
      refine x_gR (q := (RX0, TX0, 33)) (j := 20) G C h rfl (by decide) (fun _ _ _ => rfl) (lk C q229) (fun _ z => z) dX0_thieves_25 hf (fun r5 hf => ?_)
      refine lv_iload_n hx hb dX0_thieves_28 rfl (lv_at hl 3 rfl) ?_
      refine x_iald G C h dX0_thieves_29 hf (fun x6 hf => ?_)
      obtain ⟨hk, hf⟩ := k_of hf
      obtain ⟨x7, hc, hf⟩ := hf_b hf
      refine x_cV (q := (RX0, TX0, 33)) (rest := []) (As := [.int x6]) (n := 1) (ov := (some (.int x7))) G C h (wX0_firstOf G hc) hk rfl (lw_V q948 q950 qs15 q54 q951) (by decide +kernel) ⟨Nat.le_of_ble_eq_true rfl, Nat.le_of_ble_eq_true rfl⟩ rfl rfl rfl hl.1 rfl (Nat.le_of_ble_eq_true rfl) dX0_thieves_30 ⟨(Nat.le_of_ble_eq_true rfl), (Nat.le_of_ble_eq_true rfl)⟩ (fun H locs h => ?_)
      refine lv_istore (lv' := [(4, .int x7), (0, .ref a0), (1, .int a1), (2, .int x2), (3, .int x3)]) hx hb dX0_thieves_33 hl (by decide) rfl (fun ls hl => ?_)
      refine lv_aload_n hx hb dX0_thieves_35 rfl (lv_at hl 1 rfl) ?_
      refine x_gR (q := (RX0, TX0, 33)) (j := 21) G C h rfl (by decide) (fun _ _ _ => rfl) (lk C q230) (fun _ z => z) dX0_thieves_36 hf (fun r8 hf => ?_)
      refine lv_iload hx hb dX0_thieves_39 (lv_at hl 0 rfl) ?_
      refine x_iald G C h dX0_thieves_41 hf (fun x9 hf => ?_)
      refine lv_iload_n hx hb dX0_thieves_42 rfl (lv_at hl 2 rfl) ?_
      refine jn_of (P := fun j => ∀ (x16 : Int32), j x16 = some o → ∀ (H : Heap) (locs : List Loc) (ls : Array Slot), Hs s0 D ac σ H locs → lv_has ls 6 [(0, .ref a0), (1, .int a1), (2, .int x2), (3, .int x3), (4, .int x7)] → W p l e ({ frames := 2, cells := 0, slots := 0, locals := 46 } : Room) s m args below meth c H locs 0 0 (MQ below (Qn s0 D ac (some (.int v)) σ) args s 0 0 (fr s0)) (F0 m 77 ls [.int x16])) hf ?_ ?_
      · intro x16 hf H locs ls h hl
        refine lv_istore (lv' := [(5, .int x16), (0, .ref a0), (1, .int a1), (2, .int x2), (3, .int x3), (4, .int x7)]) hx hb dX0_thieves_77 hl (by decide) rfl (fun ls hl => ?_)
        refine lv_iload_n hx hb dX0_thieves_79 rfl (lv_at hl 3 rfl) ?_
        refine lv_iload hx hb dX0_thieves_80 (lv_at hl 0 rfl) ?_
        refine jn_of (P := fun j => ∀ (x19 : Int32), j x19 = some o → ∀ (H : Heap) (locs : List Loc) (ls : Array Slot), Hs s0 D ac σ H locs → lv_has ls 6 [(0, .ref a0), (1, .int a1), (2, .int x2), (3, .int x3), (4, .int x7), (5, .int x16)] → W p l e ({ frames := 2, cells := 0, slots := 0, locals := 46 } : Room) s m args below meth c H locs 0 0 (MQ below (Qn s0 D ac (some (.int v)) σ) args s 0 0 (fr s0)) (F0 m 97 ls [.int x19, .int x2])) hf ?_ ?_
        · intro x19 hf H locs ls h hl
          refine lv_ior hx hb dX0_thieves_97 ?_
          refine lv_istore_n (lv' := [(2, .int (x2 ||| x19)), (0, .ref a0), (1, .int a1), (3, .int x3), (4, .int x7), (5, .int x16)]) hx hb dX0_thieves_98 rfl hl (by decide) rfl (fun ls hl => ?_)
          refine lv_iinc (v := x3 + 1) (lv' := [(3, .int (x3 + 1)), (2, .int (x2 ||| x19)), (0, .ref a0), (1, .int a1), (4, .int x7), (5, .int x16)]) hx hb dX0_thieves_99 hl (k := 3) rfl rfl (by decide) rfl (fun ls hl => ?_)
          refine lv_goto (tgt := 15) hx hb dX0_thieves_102 (by decide) ?_
          cases hf
          exact ih _ rfl _ _ _ h (lv_sub hl [2, 3, 1, 0] rfl)
        intro j97 hj97 hf
        refine lv_if_eq (tgt := 96) hx hb dX0_thieves_82 (by decide) (fun hc => ?_) (fun hc => ?_)
        · have hf := hf_t hc hf
          refine lv_iconst (v := 0) hx hb dX0_thieves_96 (by decide) ?_
          exact hj97 _ hf _ _ _ h (lv_sub hl [1, 2, 3, 4, 5, 0] rfl)
        · have hf := hf_f hc hf
          refine lv_iconst (v := 1) hx hb dX0_thieves_85 (by decide) ?_
          refine lv_aload_n hx hb dX0_thieves_86 rfl (lv_at hl 1 rfl) ?_
          refine x_gR (q := (RX0, TX0, 33)) (j := 21) G C h rfl (by decide) (fun _ _ _ => rfl) (lk C q230) (fun _ z => z) dX0_thieves_87 hf (fun r17 hf => ?_)
          refine lv_iload_n hx hb dX0_thieves_90 rfl (lv_at hl 4 rfl) ?_
          refine x_iald G C h dX0_thieves_91 hf (fun x18 hf => ?_)
          refine lv_ishl hx hb dX0_thieves_92 ?_
          refine lv_goto (tgt := 97) hx hb dX0_thieves_93 (by decide) ?_
          exact hj97 _ hf _ _ _ h (lv_sub hl [1, 2, 3, 4, 5, 0] rfl)
      intro j77 hj77 hf
      refine jn_of (P := fun j => ∀ (u0 : Unit), j u0 = some o → ∀ (H : Heap) (locs : List Loc) (ls : Array Slot), Hs s0 D ac σ H locs → lv_has ls 6 [(0, .ref a0), (1, .int a1), (2, .int x2), (3, .int x3), (4, .int x7)] → W p l e ({ frames := 2, cells := 0, slots := 0, locals := 46 } : Room) s m args below meth c H locs 0 0 (MQ below (Qn s0 D ac (some (.int v)) σ) args s 0 0 (fr s0)) (F0 m 76 ls [])) hf ?_ ?_
      · intro u0 hf H locs ls h hl
        refine lv_iconst (v := 0) hx hb dX0_thieves_76 (by decide) ?_
        exact hj77 _ hf _ _ _ h (lv_sub hl [0, 1, 2, 3, 4] rfl)
      intro j76 hj76 hf
      refine lv_icmp_ne (tgt := 76) hx hb dX0_thieves_43 (by decide) (fun hc => ?_) (fun hc => ?_)
      · have hf := hf_f hc hf
        exact hj76 () hf _ _ _ h (lv_sub hl [1, 2, 3, 4, 0] rfl)
      · have hf := hf_t hc hf
        refine lv_aload_n hx hb dX0_thieves_46 rfl (lv_at hl 1 rfl) ?_
        refine x_gR (q := (RX0, TX0, 33)) (j := 21) G C h rfl (by decide) (fun _ _ _ => rfl) (lk C q230) (fun _ z => z) dX0_thieves_47 hf (fun r10 hf => ?_)
        refine lv_iload_n hx hb dX0_thieves_50 rfl (lv_at hl 4 rfl) ?_
        refine x_iald G C h dX0_thieves_51 hf (fun x11 hf => ?_)
        refine lv_iload_n hx hb dX0_thieves_52 rfl (lv_at hl 2 rfl) ?_
        refine lv_icmp_eq (tgt := 76) hx hb dX0_thieves_53 (by decide) (fun hc => ?_) (fun hc => ?_)
        · have hf := hf_t hc hf
          exact hj76 () hf _ _ _ h (lv_sub hl [1, 2, 3, 4, 0] rfl)
        · have hf := hf_f hc hf
          refine lv_aload_n hx hb dX0_thieves_56 rfl (lv_at hl 1 rfl) ?_
          refine x_gR (q := (RX0, TX0, 33)) (j := 22) G C h rfl (by decide) (fun _ _ _ => rfl) (lk C q231) (fun _ z => z) dX0_thieves_57 hf (fun r12 hf => ?_)
          refine lv_iload_n hx hb dX0_thieves_60 rfl (lv_at hl 4 rfl) ?_
          refine x_iald G C h dX0_thieves_61 hf (fun x13 hf => ?_)
          refine lv_aload_n hx hb dX0_thieves_62 rfl (lv_at hl 1 rfl) ?_
          refine x_gR (q := (RX0, TX0, 33)) (j := 22) G C h rfl (by decide) (fun _ _ _ => rfl) (lk C q231) (fun _ z => z) dX0_thieves_63 hf (fun r14 hf => ?_)
          refine lv_iload hx hb dX0_thieves_66 (lv_at hl 0 rfl) ?_
          refine x_iald G C h dX0_thieves_68 hf (fun x15 hf => ?_)
          refine lv_icmp_le (tgt := 76) hx hb dX0_thieves_69 (by decide) (fun hc => ?_) (fun hc => ?_)
          · have hf := hf_t hc hf
            exact hj76 () hf _ _ _ h (lv_sub hl [1, 2, 3, 4, 0] rfl)
          · have hf := hf_f hc hf
            refine lv_iconst (v := 1) hx hb dX0_thieves_72 (by decide) ?_
            refine lv_goto (tgt := 77) hx hb dX0_thieves_73 (by decide) ?_
            exact hj77 _ hf _ _ _ h (lv_sub hl [1, 2, 3, 4, 0] rfl)
  · have hf := hf_t hc hf
    refine lv_bipush (v := (-2)) hx hb dX0_thieves_8 (by decide) ?_
    cases hf
    refine W.widen (k := 0) (n := 0) (Nat.le_of_ble_eq_true rfl) (Nat.le_of_ble_eq_true rfl) ?_
    exact x_iret C h dX0_thieves_10

theorem dX0_areHuts_0 : decode cX0_areHuts 0 = .ok (.iload_n 1, 1) := by decide +kernel
theorem dX0_areHuts_1 : decode cX0_areHuts 1 = .ok (.i2l, 1) := by decide +kernel
theorem dX0_areHuts_2 : decode cX0_areHuts 2 = .ok (.lconst 0, 1) := by decide +kernel
theorem dX0_areHuts_3 : decode cX0_areHuts 3 = .ok (.iconst 1, 1) := by decide +kernel
theorem dX0_areHuts_4 : decode cX0_areHuts 4 = .ok (.aload_n 0, 1) := by decide +kernel
theorem dX0_areHuts_5 : decode cX0_areHuts 5 = .ok (.getfield 123, 3) := by decide +kernel
theorem dX0_areHuts_8 : decode cX0_areHuts 8 = .ok (.ishl, 1) := by decide +kernel
theorem dX0_areHuts_9 : decode cX0_areHuts 9 = .ok (.iconst 1, 1) := by decide +kernel
theorem dX0_areHuts_10 : decode cX0_areHuts 10 = .ok (.isub, 1) := by decide +kernel
theorem dX0_areHuts_11 : decode cX0_areHuts 11 = .ok (.i2l, 1) := by decide +kernel
theorem dX0_areHuts_12 : decode cX0_areHuts 12 = .ok (.invokestatic 127, 3) := by decide +kernel
theorem dX0_areHuts_15 : decode cX0_areHuts 15 = .ok (.ireturn, 1) := by decide +kernel
def fX0_areHuts (σ : St) (a0 : Nat) (a1 : Int32) : Option (Int32) :=
  o_gI σ a0 0 3 fun x1 =>
  (fX0_isIn σ (a1.toInt64) 0 (((1 <<< (x1 &&& 31)) - 1).toInt64)).bind fun x2 =>
  o_bz x2 <| some x2

set_option maxHeartbeats 4000000 in
theorem wX0_areHuts {l : Launch} {s0 : State} {A0 : Array Value} {D : va_G} {ac : Nat → ClassId} (G : Gl s0 A0 D ac) {σ : St} {a0 : Nat} {a1 : Int32} {v : Int32} (hf : fX0_areHuts σ a0 a1 = some (v)) : Met l yX0_areHuts (ws_ yX0_areHuts cX0_areHuts 2 (some (.boolean))) ({ frames := 1, cells := 0, slots := 0, locals := 25 } : Room) (Pn s0 D ac [.ref a0, .int a1] σ) (Qn s0 D ac (some (.int v)) σ) 0 0 (fr s0) := by
  refine x_met (by decide) (Nat.le_of_ble_eq_true rfl) ?_
  intro p e s m args below meth c ls C hnm h hl
  have C : Cx s0 p s m args meth c cX0_areHuts 2 "HutForShow" (some (.boolean)) := C
  have hx := C.1
  have hb := C.2.1
  have hl : lv_has ls 2 [(0, .ref a0), (1, .int a1)] := hl
  unfold fX0_areHuts at hf
  refine lv_iload_n hx hb dX0_areHuts_0 rfl (lv_at hl 1 rfl) ?_
  refine lv_i2l hx hb dX0_areHuts_1 rfl ?_
  refine lv_lconst (v := 0) hx hb dX0_areHuts_2 (by decide) ?_
  refine lv_iconst (v := 1) hx hb dX0_areHuts_3 (by decide) ?_
  refine lv_aload_n hx hb dX0_areHuts_4 rfl (lv_at hl 0 rfl) ?_
  refine x_gI (q := (RX0, TX0, 33)) (j := 3) G C h rfl (by decide) (fun _ _ _ => rfl) (lk C q203) (fun _ z => z) dX0_areHuts_5 hf (fun x1 hf => ?_)
  refine lv_ishl hx hb dX0_areHuts_8 ?_
  refine lv_iconst (v := 1) hx hb dX0_areHuts_9 (by decide) ?_
  refine lv_isub hx hb dX0_areHuts_10 ?_
  refine lv_i2l hx hb dX0_areHuts_11 rfl ?_
  obtain ⟨x2, hc, hf⟩ := hf_b hf
  refine x_cS (rest := []) (As := [.long (a1.toInt64), .long 0, .long (((1 <<< (x1 &&& 31)) - 1).toInt64)]) (n := 3) (ov := (some (.int x2))) C h (wX0_isIn G hc) (lw_S q318 q319 q54 q320) (by decide +kernel) ⟨Nat.le_of_ble_eq_true rfl, Nat.le_of_ble_eq_true rfl⟩ rfl rfl rfl hl.1 rfl (Nat.le_of_ble_eq_true rfl) dX0_areHuts_12 ⟨(Nat.le_of_ble_eq_true rfl), (Nat.le_of_ble_eq_true rfl)⟩ (fun H locs h => ?_)
  obtain ⟨hz, hf⟩ := bz_of hf
  cases hf
  refine W.widen (k := 0) (n := 0) (Nat.le_of_ble_eq_true rfl) (Nat.le_of_ble_eq_true rfl) ?_
  exact x_zret C h hz dX0_areHuts_15

theorem dX0_nearest_0 : decode cX0_nearest 0 = .ok (.iconst (-1), 1) := by decide +kernel
theorem dX0_nearest_1 : decode cX0_nearest 1 = .ok (.istore_n 2, 1) := by decide +kernel
theorem dX0_nearest_2 : decode cX0_nearest 2 = .ok (.iconst 0, 1) := by decide +kernel
theorem dX0_nearest_3 : decode cX0_nearest 3 = .ok (.istore_n 3, 1) := by decide +kernel
theorem dX0_nearest_4 : decode cX0_nearest 4 = .ok (.iload_n 3, 1) := by decide +kernel
theorem dX0_nearest_5 : decode cX0_nearest 5 = .ok (.aload_n 0, 1) := by decide +kernel
theorem dX0_nearest_6 : decode cX0_nearest 6 = .ok (.getfield 123, 3) := by decide +kernel
theorem dX0_nearest_9 : decode cX0_nearest 9 = .ok (.if_icmp .ge 58, 3) := by decide +kernel
theorem dX0_nearest_12 : decode cX0_nearest 12 = .ok (.iload_n 3, 1) := by decide +kernel
theorem dX0_nearest_13 : decode cX0_nearest 13 = .ok (.iload_n 1, 1) := by decide +kernel
theorem dX0_nearest_14 : decode cX0_nearest 14 = .ok (.if_icmp .eq 45, 3) := by decide +kernel
theorem dX0_nearest_17 : decode cX0_nearest 17 = .ok (.iload_n 2, 1) := by decide +kernel
theorem dX0_nearest_18 : decode cX0_nearest 18 = .ok (.iconst (-1), 1) := by decide +kernel
theorem dX0_nearest_19 : decode cX0_nearest 19 = .ok (.if_icmp .eq 36, 3) := by decide +kernel
theorem dX0_nearest_22 : decode cX0_nearest 22 = .ok (.aload_n 0, 1) := by decide +kernel
theorem dX0_nearest_23 : decode cX0_nearest 23 = .ok (.getfield 26, 3) := by decide +kernel
theorem dX0_nearest_26 : decode cX0_nearest 26 = .ok (.iload_n 3, 1) := by decide +kernel
theorem dX0_nearest_27 : decode cX0_nearest 27 = .ok (.aaload, 1) := by decide +kernel
theorem dX0_nearest_28 : decode cX0_nearest 28 = .ok (.aload_n 0, 1) := by decide +kernel
theorem dX0_nearest_29 : decode cX0_nearest 29 = .ok (.getfield 26, 3) := by decide +kernel
theorem dX0_nearest_32 : decode cX0_nearest 32 = .ok (.iload_n 1, 1) := by decide +kernel
theorem dX0_nearest_33 : decode cX0_nearest 33 = .ok (.aaload, 1) := by decide +kernel
theorem dX0_nearest_34 : decode cX0_nearest 34 = .ok (.invokevirtual 148, 3) := by decide +kernel
theorem dX0_nearest_37 : decode cX0_nearest 37 = .ok (.aload_n 0, 1) := by decide +kernel
theorem dX0_nearest_38 : decode cX0_nearest 38 = .ok (.getfield 26, 3) := by decide +kernel
theorem dX0_nearest_41 : decode cX0_nearest 41 = .ok (.iload_n 2, 1) := by decide +kernel
theorem dX0_nearest_42 : decode cX0_nearest 42 = .ok (.aaload, 1) := by decide +kernel
theorem dX0_nearest_43 : decode cX0_nearest 43 = .ok (.aload_n 0, 1) := by decide +kernel
theorem dX0_nearest_44 : decode cX0_nearest 44 = .ok (.getfield 26, 3) := by decide +kernel
theorem dX0_nearest_47 : decode cX0_nearest 47 = .ok (.iload_n 1, 1) := by decide +kernel
theorem dX0_nearest_48 : decode cX0_nearest 48 = .ok (.aaload, 1) := by decide +kernel
theorem dX0_nearest_49 : decode cX0_nearest 49 = .ok (.invokevirtual 148, 3) := by decide +kernel
theorem dX0_nearest_52 : decode cX0_nearest 52 = .ok (.if_icmp .ge 7, 3) := by decide +kernel
theorem dX0_nearest_55 : decode cX0_nearest 55 = .ok (.iload_n 3, 1) := by decide +kernel
theorem dX0_nearest_56 : decode cX0_nearest 56 = .ok (.goto 4, 3) := by decide +kernel
theorem dX0_nearest_59 : decode cX0_nearest 59 = .ok (.iload_n 2, 1) := by decide +kernel
theorem dX0_nearest_60 : decode cX0_nearest 60 = .ok (.istore_n 2, 1) := by decide +kernel
theorem dX0_nearest_61 : decode cX0_nearest 61 = .ok (.iinc 3 1, 3) := by decide +kernel
theorem dX0_nearest_64 : decode cX0_nearest 64 = .ok (.goto (-60), 3) := by decide +kernel
theorem dX0_nearest_67 : decode cX0_nearest 67 = .ok (.iload_n 2, 1) := by decide +kernel
theorem dX0_nearest_68 : decode cX0_nearest 68 = .ok (.ireturn, 1) := by decide +kernel
def lX0_nearest_4 (σ : St) (a0 : Nat) (a1 : Int32) (x1 : Int32) (x2 : Int32) : Option ((Int32 × Int32) ⊕ (Int32)) :=
  o_gI σ a0 0 3 fun x3 =>
  if x3 ≤ x2 then
    some (.inr x1)
  else
  jn (fun (x14 : Int32) =>
    some (.inl (x14, x2 + 1))) fun j60 =>
  jn (fun (_ : Unit) =>
    j60 x1) fun j59 =>
  if x2 = a1 then
    j59 ()
  else
  jn (fun (_ : Unit) =>
    j60 x2) fun j55 =>
  if x1 = ((-1)) then
    j55 ()
  else
  o_gR σ a0 0 2 fun r4 =>
  o_aR σ r4 3 x2 fun r5 =>
  o_gR σ a0 0 2 fun r6 =>
  o_aR σ r6 3 a1 fun r7 =>
  o_k σ r5 6 <|
  (fX8_far σ r5 r7).bind fun x8 =>
  o_gR σ a0 0 2 fun r9 =>
  o_aR σ r9 3 x1 fun r10 =>
  o_gR σ a0 0 2 fun r11 =>
  o_aR σ r11 3 a1 fun r12 =>
  o_k σ r10 6 <|
  (fX8_far σ r10 r12).bind fun x13 =>
  if x13 ≤ x8 then
    j59 ()
  else
  j55 ()

def fX0_nearest (σ : St) (a0 : Nat) (a1 : Int32) : Option (Int32) :=
  (loopF fuel (fun z => lX0_nearest_4 σ a0 a1 z.1 z.2) ((-1), 0)).bind <| fun x15 =>
  some x15

set_option maxHeartbeats 4000000 in
theorem wX0_nearest {l : Launch} {s0 : State} {A0 : Array Value} {D : va_G} {ac : Nat → ClassId} (G : Gl s0 A0 D ac) {σ : St} {a0 : Nat} {a1 : Int32} {v : Int32} (hf : fX0_nearest σ a0 a1 = some (v)) : Met l yX0_nearest (ws_ yX0_nearest cX0_nearest 4 (some (.int))) ({ frames := 2, cells := 0, slots := 0, locals := 42 } : Room) (Pn s0 D ac [.ref a0, .int a1] σ) (Qn s0 D ac (some (.int v)) σ) 0 0 (fr s0) := by
  refine x_met (by decide) (Nat.le_of_ble_eq_true rfl) ?_
  intro p e s m args below meth c ls C hnm h hl
  have C : Cx s0 p s m args meth c cX0_nearest 4 "HutForShow" (some (.int)) := C
  have hx := C.1
  have hb := C.2.1
  have hl : lv_has ls 4 [(0, .ref a0), (1, .int a1)] := hl
  unfold fX0_nearest at hf
  refine lv_iconst (v := (-1)) hx hb dX0_nearest_0 (by decide) ?_
  refine lv_istore_n (lv' := [(2, .int ((-1))), (0, .ref a0), (1, .int a1)]) hx hb dX0_nearest_1 rfl hl (by decide) rfl (fun ls hl => ?_)
  refine lv_iconst (v := 0) hx hb dX0_nearest_2 (by decide) ?_
  refine lv_istore_n (lv' := [(3, .int 0), (2, .int ((-1))), (0, .ref a0), (1, .int a1)]) hx hb dX0_nearest_3 rfl hl (by decide) rfl (fun ls hl => ?_)
  obtain ⟨e4, hL, hK⟩ := hf_b hf
  have hE4_0 : ∀ (x15 : Int32), x15 = e4 → ∀  (H : Heap) (locs : List Loc) (ls : Array Slot), Hs s0 D ac σ H locs → lv_has ls 4 [(0, .ref a0), (1, .int a1), (2, .int x15)] → W p l e ({ frames := 2, cells := 0, slots := 0, locals := 42 } : Room) s m args below meth c H locs 0 0 (MQ below (Qn s0 D ac (some (.int v)) σ) args s 0 0 (fr s0)) (F0 m 67 ls []) := by
    intro x15 he H locs ls h hl
    subst he
    have hf := hK
    refine lv_iload_n hx hb dX0_nearest_67 rfl (lv_at hl 2 rfl) ?_
    cases hf
    refine W.widen (k := 0) (n := 0) (Nat.le_of_ble_eq_true rfl) (Nat.le_of_ble_eq_true rfl) ?_
    exact x_iret C h dX0_nearest_68
  refine loopF_ind (P := fun z => ∀ (H : Heap) (locs : List Loc) (ls : Array Slot), Hs s0 D ac σ H locs → lv_has ls 4 [(0, .ref a0), (1, .int a1), (2, .int z.1), (3, .int z.2)] → W p l e ({ frames := 2, cells := 0, slots := 0, locals := 42 } : Room) s m args below meth c H locs 0 0 (MQ below (Qn s0 D ac (some (.int v)) σ) args s 0 0 (fr s0)) (F0 m 4 ls [])) ?_ _ _ hL _ _ _ h (lv_sub hl [2, 3, 1, 0] rfl)
  clear hK hL h hl hf
  intro z o hf ih hX H locs ls h hl
  obtain ⟨x1, x2⟩ := z
  have h : Hs s0 D ac σ H locs := h
  have hl : lv_has ls 4 [(0, .ref a0), (1, .int a1), (2, .int x1), (3, .int x2)] := hl
  have hf : lX0_nearest_4 σ a0 a1 x1 x2 = some o := hf
  unfold lX0_nearest_4 at hf
  refine lv_iload_n hx hb dX0_nearest_4 rfl (lv_at hl 3 rfl) ?_
  refine lv_aload_n hx hb dX0_nearest_5 rfl (lv_at hl 0 rfl) ?_
  refine x_gI (q := (RX0, TX0, 33)) (j := 3) G C h rfl (by decide) (fun _ _ _ => rfl) (lk C q203) (fun _ z => z) dX0_nearest_6 hf (fun x3 hf => ?_)
  refine lv_icmp_ge (tgt := 67) hx hb dX0_nearest_9 (by decide) (fun hc => ?_) (fun hc => ?_)
  · have hf := hf_t hc hf
    cases hf
    exact hE4_0 _ (hX _ rfl) _ _ _ h (lv_sub hl [0, 1, 2] rfl)
  · have hf := hf_f hc hf
    refine lv_iload_n hx hb dX0_nearest_12 rfl (lv_at hl 3 rfl) ?_
    refine lv_iload_n hx hb dX0_nearest_13 rfl (lv_at hl 1 rfl) ?_
    refine jn_of (P := fun j => ∀ (x14 : Int32), j x14 = some o → ∀ (H : Heap) (locs : List Loc) (ls : Array Slot), Hs s0 D ac σ H locs → lv_has ls 4 [(0, .ref a0), (1, .int a1), (2, .int x1), (3, .int x2)] → W p l e ({ frames := 2, cells := 0, slots := 0, locals := 42 } : Room) s m args below meth c H locs 0 0 (MQ below (Qn s0 D ac (some (.int v)) σ) args s 0 0 (fr s0)) (F0 m 60 ls [.int x14])) hf ?_ ?_
    · intro x14 hf H locs ls h hl
      refine lv_istore_n (lv' := [(2, .int x14), (0, .ref a0), (1, .int a1), (3, .int x2)]) hx hb dX0_nearest_60 rfl hl (by decide) rfl (fun ls hl => ?_)
      refine lv_iinc (v := x2 + 1) (lv' := [(3, .int (x2 + 1)), (2, .int x14), (0, .ref a0), (1, .int a1)]) hx hb dX0_nearest_61 hl (k := 3) rfl rfl (by decide) rfl (fun ls hl => ?_)
      refine lv_goto (tgt := 4) hx hb dX0_nearest_64 (by decide) ?_
      cases hf
      exact ih _ rfl _ _ _ h (lv_sub hl [2, 3, 1, 0] rfl)
    intro j60 hj60 hf
    refine jn_of (P := fun j => ∀ (u0 : Unit), j u0 = some o → ∀ (H : Heap) (locs : List Loc) (ls : Array Slot), Hs s0 D ac σ H locs → lv_has ls 4 [(0, .ref a0), (1, .int a1), (2, .int x1), (3, .int x2)] → W p l e ({ frames := 2, cells := 0, slots := 0, locals := 42 } : Room) s m args below meth c H locs 0 0 (MQ below (Qn s0 D ac (some (.int v)) σ) args s 0 0 (fr s0)) (F0 m 59 ls [])) hf ?_ ?_
    · intro u0 hf H locs ls h hl
      refine lv_iload_n hx hb dX0_nearest_59 rfl (lv_at hl 2 rfl) ?_
      exact hj60 _ hf _ _ _ h (lv_sub hl [0, 1, 2, 3] rfl)
    intro j59 hj59 hf
    refine lv_icmp_eq (tgt := 59) hx hb dX0_nearest_14 (by decide) (fun hc => ?_) (fun hc => ?_)
    · have hf := hf_t hc hf
      exact hj59 () hf _ _ _ h (lv_sub hl [0, 1, 2, 3] rfl)
    · have hf := hf_f hc hf
      refine lv_iload_n hx hb dX0_nearest_17 rfl (lv_at hl 2 rfl) ?_
      refine lv_iconst (v := (-1)) hx hb dX0_nearest_18 (by decide) ?_
      refine jn_of (P := fun j => ∀ (u0 : Unit), j u0 = some o → ∀ (H : Heap) (locs : List Loc) (ls : Array Slot), Hs s0 D ac σ H locs → lv_has ls 4 [(0, .ref a0), (1, .int a1), (2, .int x1), (3, .int x2)] → W p l e ({ frames := 2, cells := 0, slots := 0, locals := 42 } : Room) s m args below meth c H locs 0 0 (MQ below (Qn s0 D ac (some (.int v)) σ) args s 0 0 (fr s0)) (F0 m 55 ls [])) hf ?_ ?_
      · intro u0 hf H locs ls h hl
        refine lv_iload_n hx hb dX0_nearest_55 rfl (lv_at hl 3 rfl) ?_
        refine lv_goto (tgt := 60) hx hb dX0_nearest_56 (by decide) ?_
        exact hj60 _ hf _ _ _ h (lv_sub hl [0, 1, 2, 3] rfl)
      intro j55 hj55 hf
      refine lv_icmp_eq (tgt := 55) hx hb dX0_nearest_19 (by decide) (fun hc => ?_) (fun hc => ?_)
      · have hf := hf_t hc hf
        exact hj55 () hf _ _ _ h (lv_sub hl [0, 1, 2, 3] rfl)
      · have hf := hf_f hc hf
        refine lv_aload_n hx hb dX0_nearest_22 rfl (lv_at hl 0 rfl) ?_
        refine x_gR (q := (RX0, TX0, 33)) (j := 2) G C h rfl (by decide) (fun _ _ _ => rfl) (lk C q201) (fun _ z => z) dX0_nearest_23 hf (fun r4 hf => ?_)
        refine lv_iload_n hx hb dX0_nearest_26 rfl (lv_at hl 3 rfl) ?_
        refine x_aald (q := 3) rfl rfl (fun _ _ _ => rfl) G C h dX0_nearest_27 hf (fun r5 hf => ?_)
        refine lv_aload_n hx hb dX0_nearest_28 rfl (lv_at hl 0 rfl) ?_
        refine x_gR (q := (RX0, TX0, 33)) (j := 2) G C h rfl (by decide) (fun _ _ _ => rfl) (lk C q201) (fun _ z => z) dX0_nearest_29 hf (fun r6 hf => ?_)
        refine lv_iload_n hx hb dX0_nearest_32 rfl (lv_at hl 1 rfl) ?_
        refine x_aald (q := 3) rfl rfl (fun _ _ _ => rfl) G C h dX0_nearest_33 hf (fun r7 hf => ?_)
        obtain ⟨hk, hf⟩ := k_of hf
        obtain ⟨x8, hc, hf⟩ := hf_b hf
        refine x_cV (q := (RX8, TX8, 2)) (rest := []) (As := [.ref r7]) (n := 1) (ov := (some (.int x8))) G C h (wX8_far G hc) hk rfl (lw_V q342 q343 q344 q62 q345) (by decide +kernel) ⟨Nat.le_of_ble_eq_true rfl, Nat.le_of_ble_eq_true rfl⟩ rfl rfl rfl hl.1 rfl (Nat.le_of_ble_eq_true rfl) dX0_nearest_34 ⟨(Nat.le_of_ble_eq_true rfl), (Nat.le_of_ble_eq_true rfl)⟩ (fun H locs h => ?_)
        refine lv_aload_n hx hb dX0_nearest_37 rfl (lv_at hl 0 rfl) ?_
        refine x_gR (q := (RX0, TX0, 33)) (j := 2) G C h rfl (by decide) (fun _ _ _ => rfl) (lk C q201) (fun _ z => z) dX0_nearest_38 hf (fun r9 hf => ?_)
        refine lv_iload_n hx hb dX0_nearest_41 rfl (lv_at hl 2 rfl) ?_
        refine x_aald (q := 3) rfl rfl (fun _ _ _ => rfl) G C h dX0_nearest_42 hf (fun r10 hf => ?_)
        refine lv_aload_n hx hb dX0_nearest_43 rfl (lv_at hl 0 rfl) ?_
        refine x_gR (q := (RX0, TX0, 33)) (j := 2) G C h rfl (by decide) (fun _ _ _ => rfl) (lk C q201) (fun _ z => z) dX0_nearest_44 hf (fun r11 hf => ?_)
        refine lv_iload_n hx hb dX0_nearest_47 rfl (lv_at hl 1 rfl) ?_
        refine x_aald (q := 3) rfl rfl (fun _ _ _ => rfl) G C h dX0_nearest_48 hf (fun r12 hf => ?_)
        obtain ⟨hk, hf⟩ := k_of hf
        obtain ⟨x13, hc, hf⟩ := hf_b hf
        refine x_cV (q := (RX8, TX8, 2)) (rest := [.int x8]) (As := [.ref r12]) (n := 1) (ov := (some (.int x13))) G C h (wX8_far G hc) hk rfl (lw_V q342 q343 q344 q62 q345) (by decide +kernel) ⟨Nat.le_of_ble_eq_true rfl, Nat.le_of_ble_eq_true rfl⟩ rfl rfl rfl hl.1 rfl (Nat.le_of_ble_eq_true rfl) dX0_nearest_49 ⟨(Nat.le_of_ble_eq_true rfl), (Nat.le_of_ble_eq_true rfl)⟩ (fun H locs h => ?_)
        refine lv_icmp_ge (tgt := 59) hx hb dX0_nearest_52 (by decide) (fun hc => ?_) (fun hc => ?_)
        · have hf := hf_t hc hf
          exact hj59 () hf _ _ _ h (lv_sub hl [0, 1, 2, 3] rfl)
        · have hf := hf_f hc hf
          exact hj55 () hf _ _ _ h (lv_sub hl [0, 1, 2, 3] rfl)

theorem dX0_gainsOf_0 : decode cX0_gainsOf 0 = .ok (.iload_n 2, 1) := by decide +kernel
theorem dX0_gainsOf_1 : decode cX0_gainsOf 1 = .ok (.iload_n 1, 1) := by decide +kernel
theorem dX0_gainsOf_2 : decode cX0_gainsOf 2 = .ok (.invokestatic 308, 3) := by decide +kernel
theorem dX0_gainsOf_5 : decode cX0_gainsOf 5 = .ok (.ifCond .ne 10, 3) := by decide +kernel
theorem dX0_gainsOf_8 : decode cX0_gainsOf 8 = .ok (.aload_n 0, 1) := by decide +kernel
theorem dX0_gainsOf_9 : decode cX0_gainsOf 9 = .ok (.getfield 36, 3) := by decide +kernel
theorem dX0_gainsOf_12 : decode cX0_gainsOf 12 = .ok (.iconst 1, 1) := by decide +kernel
theorem dX0_gainsOf_13 : decode cX0_gainsOf 13 = .ok (.iaload, 1) := by decide +kernel
theorem dX0_gainsOf_14 : decode cX0_gainsOf 14 = .ok (.ireturn, 1) := by decide +kernel
theorem dX0_gainsOf_15 : decode cX0_gainsOf 15 = .ok (.aload_n 0, 1) := by decide +kernel
theorem dX0_gainsOf_16 : decode cX0_gainsOf 16 = .ok (.iload_n 1, 1) := by decide +kernel
theorem dX0_gainsOf_17 : decode cX0_gainsOf 17 = .ok (.invokevirtual 336, 3) := by decide +kernel
theorem dX0_gainsOf_20 : decode cX0_gainsOf 20 = .ok (.istore_n 3, 1) := by decide +kernel
theorem dX0_gainsOf_21 : decode cX0_gainsOf 21 = .ok (.iload_n 2, 1) := by decide +kernel
theorem dX0_gainsOf_22 : decode cX0_gainsOf 22 = .ok (.iload_n 3, 1) := by decide +kernel
theorem dX0_gainsOf_23 : decode cX0_gainsOf 23 = .ok (.invokestatic 308, 3) := by decide +kernel
theorem dX0_gainsOf_26 : decode cX0_gainsOf 26 = .ok (.ifCond .eq 12, 3) := by decide +kernel
theorem dX0_gainsOf_29 : decode cX0_gainsOf 29 = .ok (.aload_n 0, 1) := by decide +kernel
theorem dX0_gainsOf_30 : decode cX0_gainsOf 30 = .ok (.getfield 36, 3) := by decide +kernel
theorem dX0_gainsOf_33 : decode cX0_gainsOf 33 = .ok (.iconst 2, 1) := by decide +kernel
theorem dX0_gainsOf_34 : decode cX0_gainsOf 34 = .ok (.iaload, 1) := by decide +kernel
theorem dX0_gainsOf_35 : decode cX0_gainsOf 35 = .ok (.goto 4, 3) := by decide +kernel
theorem dX0_gainsOf_38 : decode cX0_gainsOf 38 = .ok (.iconst 0, 1) := by decide +kernel
theorem dX0_gainsOf_39 : decode cX0_gainsOf 39 = .ok (.aload_n 0, 1) := by decide +kernel
theorem dX0_gainsOf_40 : decode cX0_gainsOf 40 = .ok (.getfield 36, 3) := by decide +kernel
theorem dX0_gainsOf_43 : decode cX0_gainsOf 43 = .ok (.iconst 4, 1) := by decide +kernel
theorem dX0_gainsOf_44 : decode cX0_gainsOf 44 = .ok (.iaload, 1) := by decide +kernel
theorem dX0_gainsOf_45 : decode cX0_gainsOf 45 = .ok (.aload_n 0, 1) := by decide +kernel
theorem dX0_gainsOf_46 : decode cX0_gainsOf 46 = .ok (.getfield 26, 3) := by decide +kernel
theorem dX0_gainsOf_49 : decode cX0_gainsOf 49 = .ok (.iload_n 1, 1) := by decide +kernel
theorem dX0_gainsOf_50 : decode cX0_gainsOf 50 = .ok (.aaload, 1) := by decide +kernel
theorem dX0_gainsOf_51 : decode cX0_gainsOf 51 = .ok (.aload_n 0, 1) := by decide +kernel
theorem dX0_gainsOf_52 : decode cX0_gainsOf 52 = .ok (.getfield 26, 3) := by decide +kernel
theorem dX0_gainsOf_55 : decode cX0_gainsOf 55 = .ok (.iload_n 3, 1) := by decide +kernel
theorem dX0_gainsOf_56 : decode cX0_gainsOf 56 = .ok (.aaload, 1) := by decide +kernel
theorem dX0_gainsOf_57 : decode cX0_gainsOf 57 = .ok (.invokevirtual 148, 3) := by decide +kernel
theorem dX0_gainsOf_60 : decode cX0_gainsOf 60 = .ok (.imul, 1) := by decide +kernel
theorem dX0_gainsOf_61 : decode cX0_gainsOf 61 = .ok (.isub, 1) := by decide +kernel
theorem dX0_gainsOf_62 : decode cX0_gainsOf 62 = .ok (.istore 4, 2) := by decide +kernel
theorem dX0_gainsOf_64 : decode cX0_gainsOf 64 = .ok (.iconst 0, 1) := by decide +kernel
theorem dX0_gainsOf_65 : decode cX0_gainsOf 65 = .ok (.istore 5, 2) := by decide +kernel
theorem dX0_gainsOf_67 : decode cX0_gainsOf 67 = .ok (.iload 5, 2) := by decide +kernel
theorem dX0_gainsOf_69 : decode cX0_gainsOf 69 = .ok (.aload_n 0, 1) := by decide +kernel
theorem dX0_gainsOf_70 : decode cX0_gainsOf 70 = .ok (.getfield 123, 3) := by decide +kernel
theorem dX0_gainsOf_73 : decode cX0_gainsOf 73 = .ok (.if_icmp .ge 49, 3) := by decide +kernel
theorem dX0_gainsOf_76 : decode cX0_gainsOf 76 = .ok (.iload 4, 2) := by decide +kernel
theorem dX0_gainsOf_78 : decode cX0_gainsOf 78 = .ok (.iload 5, 2) := by decide +kernel
theorem dX0_gainsOf_80 : decode cX0_gainsOf 80 = .ok (.iload_n 1, 1) := by decide +kernel
theorem dX0_gainsOf_81 : decode cX0_gainsOf 81 = .ok (.if_icmp .eq 31, 3) := by decide +kernel
theorem dX0_gainsOf_84 : decode cX0_gainsOf 84 = .ok (.iload_n 2, 1) := by decide +kernel
theorem dX0_gainsOf_85 : decode cX0_gainsOf 85 = .ok (.iload 5, 2) := by decide +kernel
theorem dX0_gainsOf_87 : decode cX0_gainsOf 87 = .ok (.invokestatic 308, 3) := by decide +kernel
theorem dX0_gainsOf_90 : decode cX0_gainsOf 90 = .ok (.ifCond .eq 22, 3) := by decide +kernel
theorem dX0_gainsOf_93 : decode cX0_gainsOf 93 = .ok (.aload_n 0, 1) := by decide +kernel
theorem dX0_gainsOf_94 : decode cX0_gainsOf 94 = .ok (.iload 5, 2) := by decide +kernel
theorem dX0_gainsOf_96 : decode cX0_gainsOf 96 = .ok (.invokevirtual 336, 3) := by decide +kernel
theorem dX0_gainsOf_99 : decode cX0_gainsOf 99 = .ok (.iload_n 1, 1) := by decide +kernel
theorem dX0_gainsOf_100 : decode cX0_gainsOf 100 = .ok (.if_icmp .ne 12, 3) := by decide +kernel
theorem dX0_gainsOf_103 : decode cX0_gainsOf 103 = .ok (.aload_n 0, 1) := by decide +kernel
theorem dX0_gainsOf_104 : decode cX0_gainsOf 104 = .ok (.getfield 36, 3) := by decide +kernel
theorem dX0_gainsOf_107 : decode cX0_gainsOf 107 = .ok (.iconst 3, 1) := by decide +kernel
theorem dX0_gainsOf_108 : decode cX0_gainsOf 108 = .ok (.iaload, 1) := by decide +kernel
theorem dX0_gainsOf_109 : decode cX0_gainsOf 109 = .ok (.goto 4, 3) := by decide +kernel
theorem dX0_gainsOf_112 : decode cX0_gainsOf 112 = .ok (.iconst 0, 1) := by decide +kernel
theorem dX0_gainsOf_113 : decode cX0_gainsOf 113 = .ok (.isub, 1) := by decide +kernel
theorem dX0_gainsOf_114 : decode cX0_gainsOf 114 = .ok (.istore 4, 2) := by decide +kernel
theorem dX0_gainsOf_116 : decode cX0_gainsOf 116 = .ok (.iinc 5 1, 3) := by decide +kernel
theorem dX0_gainsOf_119 : decode cX0_gainsOf 119 = .ok (.goto (-52), 3) := by decide +kernel
theorem dX0_gainsOf_122 : decode cX0_gainsOf 122 = .ok (.iload 4, 2) := by decide +kernel
theorem dX0_gainsOf_124 : decode cX0_gainsOf 124 = .ok (.ireturn, 1) := by decide +kernel
def lX0_gainsOf_67 (σ : St) (a0 : Nat) (a1 : Int32) (a2 : Int32) (x14 : Int32) (x15 : Int32) : Option ((Int32 × Int32) ⊕ (Int32)) :=
  o_gI σ a0 0 3 fun x16 =>
  if x16 ≤ x15 then
    some (.inr x14)
  else
  jn (fun (x21 : Int32) =>
    some (.inl (x14 - x21, x15 + 1))) fun j113 =>
  jn (fun (_ : Unit) =>
    j113 0) fun j112 =>
  if x15 = a1 then
    j112 ()
  else
  (fX0_isSet σ a2 x15).bind fun x17 =>
  if x17 = 0 then
    j112 ()
  else
  o_k σ a0 0 <|
  (fX0_nearest σ a0 x15).bind fun x18 =>
  if x18 = a1 then
    o_gR σ a0 0 6 fun r19 =>
    o_aI σ r19 0 3 fun x20 =>
    j113 x20
  else
  j112 ()

def fX0_gainsOf (σ : St) (a0 : Nat) (a1 : Int32) (a2 : Int32) : Option (Int32) :=
  (fX0_isSet σ a2 a1).bind fun x1 =>
  if x1 = 0 then
    o_gR σ a0 0 6 fun r23 =>
    o_aI σ r23 0 1 fun x24 =>
    some x24
  else
  o_k σ a0 0 <|
  (fX0_nearest σ a0 a1).bind fun x2 =>
  (fX0_isSet σ a2 x2).bind fun x3 =>
  jn (fun (x6 : Int32) =>
    o_gR σ a0 0 6 fun r7 =>
    o_aI σ r7 0 4 fun x8 =>
    o_gR σ a0 0 2 fun r9 =>
    o_aR σ r9 3 a1 fun r10 =>
    o_gR σ a0 0 2 fun r11 =>
    o_aR σ r11 3 x2 fun r12 =>
    o_k σ r10 6 <|
    (fX8_far σ r10 r12).bind fun x13 =>
    (loopF fuel (fun z => lX0_gainsOf_67 σ a0 a1 a2 z.1 z.2) (x6 - (x8 * x13), 0)).bind <| fun x22 =>
    some x22) fun j39 =>
  if x3 = 0 then
    j39 0
  else
  o_gR σ a0 0 6 fun r4 =>
  o_aI σ r4 0 2 fun x5 =>
  j39 x5

set_option maxHeartbeats 4000000 in
theorem wX0_gainsOf {l : Launch} {s0 : State} {A0 : Array Value} {D : va_G} {ac : Nat → ClassId} (G : Gl s0 A0 D ac) {σ : St} {a0 : Nat} {a1 : Int32} {a2 : Int32} {v : Int32} (hf : fX0_gainsOf σ a0 a1 a2 = some (v)) : Met l yX0_gainsOf (ws_ yX0_gainsOf cX0_gainsOf 6 (some (.int))) ({ frames := 3, cells := 0, slots := 0, locals := 65 } : Room) (Pn s0 D ac [.ref a0, .int a1, .int a2] σ) (Qn s0 D ac (some (.int v)) σ) 0 0 (fr s0) := by
  refine x_met (by decide) (Nat.le_of_ble_eq_true rfl) ?_
  intro p e s m args below meth c ls C hnm h hl
  have C : Cx s0 p s m args meth c cX0_gainsOf 6 "HutForShow" (some (.int)) := C
  have hx := C.1
  have hb := C.2.1
  have hl : lv_has ls 6 [(0, .ref a0), (1, .int a1), (2, .int a2)] := hl
  unfold fX0_gainsOf at hf
  refine lv_iload_n hx hb dX0_gainsOf_0 rfl (lv_at hl 2 rfl) ?_
  refine lv_iload_n hx hb dX0_gainsOf_1 rfl (lv_at hl 1 rfl) ?_
  obtain ⟨x1, hc, hf⟩ := hf_b hf
  refine x_cS (rest := []) (As := [.int a2, .int a1]) (n := 2) (ov := (some (.int x1))) C h (wX0_isSet G hc) (lw_S q916 q917 q54 q918) (by decide +kernel) ⟨Nat.le_of_ble_eq_true rfl, Nat.le_of_ble_eq_true rfl⟩ rfl rfl rfl hl.1 rfl (Nat.le_of_ble_eq_true rfl) dX0_gainsOf_2 ⟨(Nat.le_of_ble_eq_true rfl), (Nat.le_of_ble_eq_true rfl)⟩ (fun H locs h => ?_)
  refine lv_if_ne (tgt := 15) hx hb dX0_gainsOf_5 (by decide) (fun hc => ?_) (fun hc => ?_)
  · have hf := hf_f hc hf
    refine lv_aload_n hx hb dX0_gainsOf_15 rfl (lv_at hl 0 rfl) ?_
    refine lv_iload_n hx hb dX0_gainsOf_16 rfl (lv_at hl 1 rfl) ?_
    obtain ⟨hk, hf⟩ := k_of hf
    obtain ⟨x2, hc, hf⟩ := hf_b hf
    refine x_cV (q := (RX0, TX0, 33)) (rest := []) (As := [.int a1]) (n := 1) (ov := (some (.int x2))) G C h (wX0_nearest G hc) hk rfl (lw_V q968 q970 qs18 q54 q971) (by decide +kernel) ⟨Nat.le_of_ble_eq_true rfl, Nat.le_of_ble_eq_true rfl⟩ rfl rfl rfl hl.1 rfl (Nat.le_of_ble_eq_true rfl) dX0_gainsOf_17 ⟨(Nat.le_of_ble_eq_true rfl), (Nat.le_of_ble_eq_true rfl)⟩ (fun H locs h => ?_)
    refine lv_istore_n (lv' := [(3, .int x2), (0, .ref a0), (1, .int a1), (2, .int a2)]) hx hb dX0_gainsOf_20 rfl hl (by decide) rfl (fun ls hl => ?_)
    refine lv_iload_n hx hb dX0_gainsOf_21 rfl (lv_at hl 3 rfl) ?_
    refine lv_iload_n hx hb dX0_gainsOf_22 rfl (lv_at hl 0 rfl) ?_
    obtain ⟨x3, hc, hf⟩ := hf_b hf
    refine x_cS (rest := []) (As := [.int a2, .int x2]) (n := 2) (ov := (some (.int x3))) C h (wX0_isSet G hc) (lw_S q916 q917 q54 q918) (by decide +kernel) ⟨Nat.le_of_ble_eq_true rfl, Nat.le_of_ble_eq_true rfl⟩ rfl rfl rfl hl.1 rfl (Nat.le_of_ble_eq_true rfl) dX0_gainsOf_23 ⟨(Nat.le_of_ble_eq_true rfl), (Nat.le_of_ble_eq_true rfl)⟩ (fun H locs h => ?_)
    refine jn_of (P := fun j => ∀ (x6 : Int32), j x6 = some (v) → ∀ (H : Heap) (locs : List Loc) (ls : Array Slot), Hs s0 D ac σ H locs → lv_has ls 6 [(0, .ref a0), (1, .int a1), (2, .int a2), (3, .int x2)] → W p l e ({ frames := 3, cells := 0, slots := 0, locals := 65 } : Room) s m args below meth c H locs 0 0 (MQ below (Qn s0 D ac (some (.int v)) σ) args s 0 0 (fr s0)) (F0 m 39 ls [.int x6])) hf ?_ ?_
    · intro x6 hf H locs ls h hl
      refine lv_aload_n hx hb dX0_gainsOf_39 rfl (lv_at hl 0 rfl) ?_
      refine x_gR (q := (RX0, TX0, 33)) (j := 6) G C h rfl (by decide) (fun _ _ _ => rfl) (lk C q211) (fun _ z => z) dX0_gainsOf_40 hf (fun r7 hf => ?_)
      refine lv_iconst (v := 4) hx hb dX0_gainsOf_43 (by decide) ?_
      refine x_iald G C h dX0_gainsOf_44 hf (fun x8 hf => ?_)
      refine lv_aload_n hx hb dX0_gainsOf_45 rfl (lv_at hl 0 rfl) ?_
      refine x_gR (q := (RX0, TX0, 33)) (j := 2) G C h rfl (by decide) (fun _ _ _ => rfl) (lk C q201) (fun _ z => z) dX0_gainsOf_46 hf (fun r9 hf => ?_)
      refine lv_iload_n hx hb dX0_gainsOf_49 rfl (lv_at hl 1 rfl) ?_
      refine x_aald (q := 3) rfl rfl (fun _ _ _ => rfl) G C h dX0_gainsOf_50 hf (fun r10 hf => ?_)
      refine lv_aload_n hx hb dX0_gainsOf_51 rfl (lv_at hl 0 rfl) ?_
      refine x_gR (q := (RX0, TX0, 33)) (j := 2) G C h rfl (by decide) (fun _ _ _ => rfl) (lk C q201) (fun _ z => z) dX0_gainsOf_52 hf (fun r11 hf => ?_)
      refine lv_iload_n hx hb dX0_gainsOf_55 rfl (lv_at hl 3 rfl) ?_
      refine x_aald (q := 3) rfl rfl (fun _ _ _ => rfl) G C h dX0_gainsOf_56 hf (fun r12 hf => ?_)
      obtain ⟨hk, hf⟩ := k_of hf
      obtain ⟨x13, hc, hf⟩ := hf_b hf
      refine x_cV (q := (RX8, TX8, 2)) (rest := [.int x8, .int x6]) (As := [.ref r12]) (n := 1) (ov := (some (.int x13))) G C h (wX8_far G hc) hk rfl (lw_V q342 q343 q344 q62 q345) (by decide +kernel) ⟨Nat.le_of_ble_eq_true rfl, Nat.le_of_ble_eq_true rfl⟩ rfl rfl rfl hl.1 rfl (Nat.le_of_ble_eq_true rfl) dX0_gainsOf_57 ⟨(Nat.le_of_ble_eq_true rfl), (Nat.le_of_ble_eq_true rfl)⟩ (fun H locs h => ?_)
      refine lv_imul hx hb dX0_gainsOf_60 ?_
      refine lv_isub hx hb dX0_gainsOf_61 ?_
      refine lv_istore (lv' := [(4, .int (x6 - (x8 * x13))), (0, .ref a0), (1, .int a1), (2, .int a2), (3, .int x2)]) hx hb dX0_gainsOf_62 hl (by decide) rfl (fun ls hl => ?_)
      refine lv_iconst (v := 0) hx hb dX0_gainsOf_64 (by decide) ?_
      refine lv_istore (lv' := [(5, .int 0), (4, .int (x6 - (x8 * x13))), (0, .ref a0), (1, .int a1), (2, .int a2), (3, .int x2)]) hx hb dX0_gainsOf_65 hl (by decide) rfl (fun ls hl => ?_)
      obtain ⟨e67, hL, hK⟩ := hf_b hf
      have hE67_0 : ∀ (x22 : Int32), x22 = e67 → ∀  (H : Heap) (locs : List Loc) (ls : Array Slot), Hs s0 D ac σ H locs → lv_has ls 6 [(0, .ref a0), (1, .int a1), (2, .int a2), (3, .int x2), (4, .int x22)] → W p l e ({ frames := 3, cells := 0, slots := 0, locals := 65 } : Room) s m args below meth c H locs 0 0 (MQ below (Qn s0 D ac (some (.int v)) σ) args s 0 0 (fr s0)) (F0 m 122 ls []) := by
        intro x22 he H locs ls h hl
        subst he
        have hf := hK
        refine lv_iload hx hb dX0_gainsOf_122 (lv_at hl 4 rfl) ?_
        cases hf
        refine W.widen (k := 0) (n := 0) (Nat.le_of_ble_eq_true rfl) (Nat.le_of_ble_eq_true rfl) ?_
        exact x_iret C h dX0_gainsOf_124
      refine loopF_ind (P := fun z => ∀ (H : Heap) (locs : List Loc) (ls : Array Slot), Hs s0 D ac σ H locs → lv_has ls 6 [(0, .ref a0), (1, .int a1), (2, .int a2), (3, .int x2), (4, .int z.1), (5, .int z.2)] → W p l e ({ frames := 3, cells := 0, slots := 0, locals := 65 } : Room) s m args below meth c H locs 0 0 (MQ below (Qn s0 D ac (some (.int v)) σ) args s 0 0 (fr s0)) (F0 m 67 ls [])) ?_ _ _ hL _ _ _ h (lv_sub hl [2, 3, 4, 5, 1, 0] rfl)
      clear hK hL h hl hf
      intro z o hf ih hX H locs ls h hl
      obtain ⟨x14, x15⟩ := z
      have h : Hs s0 D ac σ H locs := h
      have hl : lv_has ls 6 [(0, .ref a0), (1, .int a1), (2, .int a2), (3, .int x2), (4, .int x14), (5, .int x15)] := hl
      have hf : lX0_gainsOf_67 σ a0 a1 a2 x14 x15 = some o := hf
      unfold lX0_gainsOf_67 at hf
      refine lv_iload hx hb dX0_gainsOf_67 (lv_at hl 5 rfl) ?_
      refine lv_aload_n hx hb dX0_gainsOf_69 rfl (lv_at hl 0 rfl) ?_
      refine x_gI (q := (RX0, TX0, 33)) (j := 3) G C h rfl (by decide) (fun _ _ _ => rfl) (lk C q203) (fun _ z => z) dX0_gainsOf_70 hf (fun x16 hf => ?_)
      refine lv_icmp_ge (tgt := 122) hx hb dX0_gainsOf_73 (by decide) (fun hc => ?_) (fun hc => ?_)
      · have hf := hf_t hc hf
        cases hf
        exact hE67_0 _ (hX _ rfl) _ _ _ h (lv_sub hl [0, 1, 2, 3, 4] rfl)
      · have hf := hf_f hc hf
        refine lv_iload hx hb dX0_gainsOf_76 (lv_at hl 4 rfl) ?_
        refine lv_iload hx hb dX0_gainsOf_78 (lv_at hl 5 rfl) ?_
        refine lv_iload_n hx hb dX0_gainsOf_80 rfl (lv_at hl 1 rfl) ?_
        refine jn_of (P := fun j => ∀ (x21 : Int32), j x21 = some o → ∀ (H : Heap) (locs : List Loc) (ls : Array Slot), Hs s0 D ac σ H locs → lv_has ls 6 [(0, .ref a0), (1, .int a1), (2, .int a2), (3, .int x2), (4, .int x14), (5, .int x15)] → W p l e ({ frames := 3, cells := 0, slots := 0, locals := 65 } : Room) s m args below meth c H locs 0 0 (MQ below (Qn s0 D ac (some (.int v)) σ) args s 0 0 (fr s0)) (F0 m 113 ls [.int x21, .int x14])) hf ?_ ?_
        · intro x21 hf H locs ls h hl
          refine lv_isub hx hb dX0_gainsOf_113 ?_
          refine lv_istore (lv' := [(4, .int (x14 - x21)), (0, .ref a0), (1, .int a1), (2, .int a2), (3, .int x2), (5, .int x15)]) hx hb dX0_gainsOf_114 hl (by decide) rfl (fun ls hl => ?_)
          refine lv_iinc (v := x15 + 1) (lv' := [(5, .int (x15 + 1)), (4, .int (x14 - x21)), (0, .ref a0), (1, .int a1), (2, .int a2), (3, .int x2)]) hx hb dX0_gainsOf_116 hl (k := 5) rfl rfl (by decide) rfl (fun ls hl => ?_)
          refine lv_goto (tgt := 67) hx hb dX0_gainsOf_119 (by decide) ?_
          cases hf
          exact ih _ rfl _ _ _ h (lv_sub hl [2, 3, 4, 5, 1, 0] rfl)
        intro j113 hj113 hf
        refine jn_of (P := fun j => ∀ (u0 : Unit), j u0 = some o → ∀ (H : Heap) (locs : List Loc) (ls : Array Slot), Hs s0 D ac σ H locs → lv_has ls 6 [(0, .ref a0), (1, .int a1), (2, .int a2), (3, .int x2), (4, .int x14), (5, .int x15)] → W p l e ({ frames := 3, cells := 0, slots := 0, locals := 65 } : Room) s m args below meth c H locs 0 0 (MQ below (Qn s0 D ac (some (.int v)) σ) args s 0 0 (fr s0)) (F0 m 112 ls [.int x14])) hf ?_ ?_
        · intro u0 hf H locs ls h hl
          refine lv_iconst (v := 0) hx hb dX0_gainsOf_112 (by decide) ?_
          exact hj113 _ hf _ _ _ h (lv_sub hl [0, 1, 2, 3, 4, 5] rfl)
        intro j112 hj112 hf
        refine lv_icmp_eq (tgt := 112) hx hb dX0_gainsOf_81 (by decide) (fun hc => ?_) (fun hc => ?_)
        · have hf := hf_t hc hf
          exact hj112 () hf _ _ _ h (lv_sub hl [0, 1, 2, 3, 4, 5] rfl)
        · have hf := hf_f hc hf
          refine lv_iload_n hx hb dX0_gainsOf_84 rfl (lv_at hl 2 rfl) ?_
          refine lv_iload hx hb dX0_gainsOf_85 (lv_at hl 5 rfl) ?_
          obtain ⟨x17, hc, hf⟩ := hf_b hf
          refine x_cS (rest := [.int x14]) (As := [.int a2, .int x15]) (n := 2) (ov := (some (.int x17))) C h (wX0_isSet G hc) (lw_S q916 q917 q54 q918) (by decide +kernel) ⟨Nat.le_of_ble_eq_true rfl, Nat.le_of_ble_eq_true rfl⟩ rfl rfl rfl hl.1 rfl (Nat.le_of_ble_eq_true rfl) dX0_gainsOf_87 ⟨(Nat.le_of_ble_eq_true rfl), (Nat.le_of_ble_eq_true rfl)⟩ (fun H locs h => ?_)
          refine lv_if_eq (tgt := 112) hx hb dX0_gainsOf_90 (by decide) (fun hc => ?_) (fun hc => ?_)
          · have hf := hf_t hc hf
            exact hj112 () hf _ _ _ h (lv_sub hl [0, 1, 2, 3, 4, 5] rfl)
          · have hf := hf_f hc hf
            refine lv_aload_n hx hb dX0_gainsOf_93 rfl (lv_at hl 0 rfl) ?_
            refine lv_iload hx hb dX0_gainsOf_94 (lv_at hl 5 rfl) ?_
            obtain ⟨hk, hf⟩ := k_of hf
            obtain ⟨x18, hc, hf⟩ := hf_b hf
            refine x_cV (q := (RX0, TX0, 33)) (rest := [.int x14]) (As := [.int x15]) (n := 1) (ov := (some (.int x18))) G C h (wX0_nearest G hc) hk rfl (lw_V q968 q970 qs18 q54 q971) (by decide +kernel) ⟨Nat.le_of_ble_eq_true rfl, Nat.le_of_ble_eq_true rfl⟩ rfl rfl rfl hl.1 rfl (Nat.le_of_ble_eq_true rfl) dX0_gainsOf_96 ⟨(Nat.le_of_ble_eq_true rfl), (Nat.le_of_ble_eq_true rfl)⟩ (fun H locs h => ?_)
            refine lv_iload_n hx hb dX0_gainsOf_99 rfl (lv_at hl 1 rfl) ?_
            refine lv_icmp_ne (tgt := 112) hx hb dX0_gainsOf_100 (by decide) (fun hc => ?_) (fun hc => ?_)
            · have hf := hf_f hc hf
              exact hj112 () hf _ _ _ h (lv_sub hl [0, 1, 2, 3, 4, 5] rfl)
            · have hf := hf_t hc hf
              refine lv_aload_n hx hb dX0_gainsOf_103 rfl (lv_at hl 0 rfl) ?_
              refine x_gR (q := (RX0, TX0, 33)) (j := 6) G C h rfl (by decide) (fun _ _ _ => rfl) (lk C q211) (fun _ z => z) dX0_gainsOf_104 hf (fun r19 hf => ?_)
              refine lv_iconst (v := 3) hx hb dX0_gainsOf_107 (by decide) ?_
              refine x_iald G C h dX0_gainsOf_108 hf (fun x20 hf => ?_)
              refine lv_goto (tgt := 113) hx hb dX0_gainsOf_109 (by decide) ?_
              exact hj113 _ hf _ _ _ h (lv_sub hl [0, 1, 2, 3, 4, 5] rfl)
    intro j39 hj39 hf
    refine lv_if_eq (tgt := 38) hx hb dX0_gainsOf_26 (by decide) (fun hc => ?_) (fun hc => ?_)
    · have hf := hf_t hc hf
      refine lv_iconst (v := 0) hx hb dX0_gainsOf_38 (by decide) ?_
      exact hj39 _ hf _ _ _ h (lv_sub hl [1, 2, 3, 0] rfl)
    · have hf := hf_f hc hf
      refine lv_aload_n hx hb dX0_gainsOf_29 rfl (lv_at hl 1 rfl) ?_
      refine x_gR (q := (RX0, TX0, 33)) (j := 6) G C h rfl (by decide) (fun _ _ _ => rfl) (lk C q211) (fun _ z => z) dX0_gainsOf_30 hf (fun r4 hf => ?_)
      refine lv_iconst (v := 2) hx hb dX0_gainsOf_33 (by decide) ?_
      refine x_iald G C h dX0_gainsOf_34 hf (fun x5 hf => ?_)
      refine lv_goto (tgt := 39) hx hb dX0_gainsOf_35 (by decide) ?_
      exact hj39 _ hf _ _ _ h (lv_sub hl [1, 2, 3, 0] rfl)
  · have hf := hf_t hc hf
    refine lv_aload_n hx hb dX0_gainsOf_8 rfl (lv_at hl 0 rfl) ?_
    refine x_gR (q := (RX0, TX0, 33)) (j := 6) G C h rfl (by decide) (fun _ _ _ => rfl) (lk C q211) (fun _ z => z) dX0_gainsOf_9 hf (fun r23 hf => ?_)
    refine lv_iconst (v := 1) hx hb dX0_gainsOf_12 (by decide) ?_
    refine x_iald G C h dX0_gainsOf_13 hf (fun x24 hf => ?_)
    cases hf
    refine W.widen (k := 0) (n := 0) (Nat.le_of_ble_eq_true rfl) (Nat.le_of_ble_eq_true rfl) ?_
    exact x_iret C h dX0_gainsOf_14

theorem dX0_gains_0 : decode cX0_gains 0 = .ok (.aload_n 0, 1) := by decide +kernel
theorem dX0_gains_1 : decode cX0_gains 1 = .ok (.iload_n 1, 1) := by decide +kernel
theorem dX0_gains_2 : decode cX0_gains 2 = .ok (.invokevirtual 145, 3) := by decide +kernel
theorem dX0_gains_5 : decode cX0_gains 5 = .ok (.ifCond .eq 28, 3) := by decide +kernel
theorem dX0_gains_8 : decode cX0_gains 8 = .ok (.aload_n 0, 1) := by decide +kernel
theorem dX0_gains_9 : decode cX0_gains 9 = .ok (.iload_n 2, 1) := by decide +kernel
theorem dX0_gains_10 : decode cX0_gains 10 = .ok (.invokevirtual 339, 3) := by decide +kernel
theorem dX0_gains_13 : decode cX0_gains 13 = .ok (.ifCond .eq 20, 3) := by decide +kernel
theorem dX0_gains_16 : decode cX0_gains 16 = .ok (.aload_n 0, 1) := by decide +kernel
theorem dX0_gains_17 : decode cX0_gains 17 = .ok (.getfield 123, 3) := by decide +kernel
theorem dX0_gains_20 : decode cX0_gains 20 = .ok (.iconst 1, 1) := by decide +kernel
theorem dX0_gains_21 : decode cX0_gains 21 = .ok (.if_icmp .le 12, 3) := by decide +kernel
theorem dX0_gains_24 : decode cX0_gains 24 = .ok (.aload_n 0, 1) := by decide +kernel
theorem dX0_gains_25 : decode cX0_gains 25 = .ok (.iload_n 1, 1) := by decide +kernel
theorem dX0_gains_26 : decode cX0_gains 26 = .ok (.iload_n 2, 1) := by decide +kernel
theorem dX0_gains_27 : decode cX0_gains 27 = .ok (.invokevirtual 342, 3) := by decide +kernel
theorem dX0_gains_30 : decode cX0_gains 30 = .ok (.goto 6, 3) := by decide +kernel
theorem dX0_gains_33 : decode cX0_gains 33 = .ok (.ldc_w 345, 3) := by decide +kernel
theorem dX0_gains_36 : decode cX0_gains 36 = .ok (.ireturn, 1) := by decide +kernel
def fX0_gains (σ : St) (a0 : Nat) (a1 : Int32) (a2 : Int32) : Option (Int32) :=
  o_k σ a0 0 <|
  (fX0_isHut σ a0 a1).bind fun x1 =>
  jn (fun (_ : Unit) =>
    some ((-2147483648))) fun j33 =>
  if x1 = 0 then
    j33 ()
  else
  o_k σ a0 0 <|
  (fX0_areHuts σ a0 a2).bind fun x2 =>
  if x2 = 0 then
    j33 ()
  else
  o_gI σ a0 0 3 fun x3 =>
  if x3 ≤ 1 then
    j33 ()
  else
  o_k σ a0 0 <|
  (fX0_gainsOf σ a0 a1 a2).bind fun x4 =>
  some x4

set_option maxHeartbeats 4000000 in
theorem wX0_gains {l : Launch} {s0 : State} {A0 : Array Value} {D : va_G} {ac : Nat → ClassId} (G : Gl s0 A0 D ac) {σ : St} {a0 : Nat} {a1 : Int32} {a2 : Int32} {v : Int32} (hf : fX0_gains σ a0 a1 a2 = some (v)) : Met l yX0_gains (ws_ yX0_gains cX0_gains 3 (some (.int))) ({ frames := 4, cells := 0, slots := 0, locals := 90 } : Room) (Pn s0 D ac [.ref a0, .int a1, .int a2] σ) (Qn s0 D ac (some (.int v)) σ) 0 0 (fr s0) := by
  refine x_met (by decide) (Nat.le_of_ble_eq_true rfl) ?_
  intro p e s m args below meth c ls C hnm h hl
  have C : Cx s0 p s m args meth c cX0_gains 3 "HutForShow" (some (.int)) := C
  have hx := C.1
  have hb := C.2.1
  have hl : lv_has ls 3 [(0, .ref a0), (1, .int a1), (2, .int a2)] := hl
  unfold fX0_gains at hf
  refine lv_aload_n hx hb dX0_gains_0 rfl (lv_at hl 0 rfl) ?_
  refine lv_iload_n hx hb dX0_gains_1 rfl (lv_at hl 1 rfl) ?_
  obtain ⟨hk, hf⟩ := k_of hf
  obtain ⟨x1, hc, hf⟩ := hf_b hf
  refine x_cV (q := (RX0, TX0, 33)) (rest := []) (As := [.int a1]) (n := 1) (ov := (some (.int x1))) G C h (wX0_isHut G hc) hk rfl (lw_V q338 q340 qs0 q54 q341) (by decide +kernel) ⟨Nat.le_of_ble_eq_true rfl, Nat.le_of_ble_eq_true rfl⟩ rfl rfl rfl hl.1 rfl (Nat.le_of_ble_eq_true rfl) dX0_gains_2 ⟨(Nat.le_of_ble_eq_true rfl), (Nat.le_of_ble_eq_true rfl)⟩ (fun H locs h => ?_)
  refine jn_of (P := fun j => ∀ (u0 : Unit), j u0 = some (v) → ∀ (H : Heap) (locs : List Loc) (ls : Array Slot), Hs s0 D ac σ H locs → lv_has ls 3 [(0, .ref a0), (1, .int a1), (2, .int a2)] → W p l e ({ frames := 4, cells := 0, slots := 0, locals := 90 } : Room) s m args below meth c H locs 0 0 (MQ below (Qn s0 D ac (some (.int v)) σ) args s 0 0 (fr s0)) (F0 m 33 ls [])) hf ?_ ?_
  · intro u0 hf H locs ls h hl
    refine lv_ldcw (v := (-2147483648)) hx hb C.2.2.2.1 (C.2.2.2.2.1 _ q972) dX0_gains_33 ?_
    cases hf
    refine W.widen (k := 0) (n := 0) (Nat.le_of_ble_eq_true rfl) (Nat.le_of_ble_eq_true rfl) ?_
    exact x_iret C h dX0_gains_36
  intro j33 hj33 hf
  refine lv_if_eq (tgt := 33) hx hb dX0_gains_5 (by decide) (fun hc => ?_) (fun hc => ?_)
  · have hf := hf_t hc hf
    exact hj33 () hf _ _ _ h (lv_sub hl [0, 1, 2] rfl)
  · have hf := hf_f hc hf
    refine lv_aload_n hx hb dX0_gains_8 rfl (lv_at hl 0 rfl) ?_
    refine lv_iload_n hx hb dX0_gains_9 rfl (lv_at hl 2 rfl) ?_
    obtain ⟨hk, hf⟩ := k_of hf
    obtain ⟨x2, hc, hf⟩ := hf_b hf
    refine x_cV (q := (RX0, TX0, 33)) (rest := []) (As := [.int a2]) (n := 1) (ov := (some (.int x2))) G C h (wX0_areHuts G hc) hk rfl (lw_V q960 q962 qs16 q54 q963) (by decide +kernel) ⟨Nat.le_of_ble_eq_true rfl, Nat.le_of_ble_eq_true rfl⟩ rfl rfl rfl hl.1 rfl (Nat.le_of_ble_eq_true rfl) dX0_gains_10 ⟨(Nat.le_of_ble_eq_true rfl), (Nat.le_of_ble_eq_true rfl)⟩ (fun H locs h => ?_)
    refine lv_if_eq (tgt := 33) hx hb dX0_gains_13 (by decide) (fun hc => ?_) (fun hc => ?_)
    · have hf := hf_t hc hf
      exact hj33 () hf _ _ _ h (lv_sub hl [0, 1, 2] rfl)
    · have hf := hf_f hc hf
      refine lv_aload_n hx hb dX0_gains_16 rfl (lv_at hl 0 rfl) ?_
      refine x_gI (q := (RX0, TX0, 33)) (j := 3) G C h rfl (by decide) (fun _ _ _ => rfl) (lk C q203) (fun _ z => z) dX0_gains_17 hf (fun x3 hf => ?_)
      refine lv_iconst (v := 1) hx hb dX0_gains_20 (by decide) ?_
      refine lv_icmp_le (tgt := 33) hx hb dX0_gains_21 (by decide) (fun hc => ?_) (fun hc => ?_)
      · have hf := hf_t hc hf
        exact hj33 () hf _ _ _ h (lv_sub hl [0, 1, 2] rfl)
      · have hf := hf_f hc hf
        refine lv_aload_n hx hb dX0_gains_24 rfl (lv_at hl 0 rfl) ?_
        refine lv_iload_n hx hb dX0_gains_25 rfl (lv_at hl 1 rfl) ?_
        refine lv_iload_n hx hb dX0_gains_26 rfl (lv_at hl 2 rfl) ?_
        obtain ⟨hk, hf⟩ := k_of hf
        obtain ⟨x4, hc, hf⟩ := hf_b hf
        refine x_cV (q := (RX0, TX0, 33)) (rest := []) (As := [.int a1, .int a2]) (n := 2) (ov := (some (.int x4))) G C h (wX0_gainsOf G hc) hk rfl (lw_V q964 q966 qs17 q54 q967) (by decide +kernel) ⟨Nat.le_of_ble_eq_true rfl, Nat.le_of_ble_eq_true rfl⟩ rfl rfl rfl hl.1 rfl (Nat.le_of_ble_eq_true rfl) dX0_gains_27 ⟨(Nat.le_of_ble_eq_true rfl), (Nat.le_of_ble_eq_true rfl)⟩ (fun H locs h => ?_)
        refine lv_goto (tgt := 36) hx hb dX0_gains_30 (by decide) ?_
        cases hf
        refine W.widen (k := 0) (n := 0) (Nat.le_of_ble_eq_true rfl) (Nat.le_of_ble_eq_true rfl) ?_
        exact x_iret C h dX0_gains_36

theorem dX0_changes_0 : decode cX0_changes 0 = .ok (.iconst 0, 1) := by decide +kernel
theorem dX0_changes_1 : decode cX0_changes 1 = .ok (.istore_n 2, 1) := by decide +kernel
theorem dX0_changes_2 : decode cX0_changes 2 = .ok (.iload_n 2, 1) := by decide +kernel
theorem dX0_changes_3 : decode cX0_changes 3 = .ok (.aload_n 0, 1) := by decide +kernel
theorem dX0_changes_4 : decode cX0_changes 4 = .ok (.getfield 123, 3) := by decide +kernel
theorem dX0_changes_7 : decode cX0_changes 7 = .ok (.if_icmp .ge 30, 3) := by decide +kernel
theorem dX0_changes_10 : decode cX0_changes 10 = .ok (.aload_n 0, 1) := by decide +kernel
theorem dX0_changes_11 : decode cX0_changes 11 = .ok (.iload_n 2, 1) := by decide +kernel
theorem dX0_changes_12 : decode cX0_changes 12 = .ok (.iload_n 1, 1) := by decide +kernel
theorem dX0_changes_13 : decode cX0_changes 13 = .ok (.iconst 1, 1) := by decide +kernel
theorem dX0_changes_14 : decode cX0_changes 14 = .ok (.iload_n 2, 1) := by decide +kernel
theorem dX0_changes_15 : decode cX0_changes 15 = .ok (.ishl, 1) := by decide +kernel
theorem dX0_changes_16 : decode cX0_changes 16 = .ok (.ixor, 1) := by decide +kernel
theorem dX0_changes_17 : decode cX0_changes 17 = .ok (.invokevirtual 342, 3) := by decide +kernel
theorem dX0_changes_20 : decode cX0_changes 20 = .ok (.aload_n 0, 1) := by decide +kernel
theorem dX0_changes_21 : decode cX0_changes 21 = .ok (.iload_n 2, 1) := by decide +kernel
theorem dX0_changes_22 : decode cX0_changes 22 = .ok (.iload_n 1, 1) := by decide +kernel
theorem dX0_changes_23 : decode cX0_changes 23 = .ok (.invokevirtual 342, 3) := by decide +kernel
theorem dX0_changes_26 : decode cX0_changes 26 = .ok (.if_icmp .le 5, 3) := by decide +kernel
theorem dX0_changes_29 : decode cX0_changes 29 = .ok (.iload_n 2, 1) := by decide +kernel
theorem dX0_changes_30 : decode cX0_changes 30 = .ok (.ireturn, 1) := by decide +kernel
theorem dX0_changes_31 : decode cX0_changes 31 = .ok (.iinc 2 1, 3) := by decide +kernel
theorem dX0_changes_34 : decode cX0_changes 34 = .ok (.goto (-32), 3) := by decide +kernel
theorem dX0_changes_37 : decode cX0_changes 37 = .ok (.iconst (-1), 1) := by decide +kernel
theorem dX0_changes_38 : decode cX0_changes 38 = .ok (.ireturn, 1) := by decide +kernel
def lX0_changes_2 (σ : St) (a0 : Nat) (a1 : Int32) (x1 : Int32) : Option ((Int32) ⊕ ((Int32) ⊕ (Unit))) :=
  o_gI σ a0 0 3 fun x2 =>
  if x2 ≤ x1 then
    some (.inr (.inr ()))
  else
  o_k σ a0 0 <|
  (fX0_gainsOf σ a0 x1 (a1 ^^^ (1 <<< (x1 &&& 31)))).bind fun x3 =>
  o_k σ a0 0 <|
  (fX0_gainsOf σ a0 x1 a1).bind fun x4 =>
  if x3 ≤ x4 then
    some (.inl (x1 + 1))
  else
  some (.inr (.inl x1))

def fX0_changes (σ : St) (a0 : Nat) (a1 : Int32) : Option (Int32) :=
  (loopF fuel (fun z => lX0_changes_2 σ a0 a1 z) 0).bind <| sm (  fun x5 =>
    some x5) <| fun (_ : Unit) =>
  some ((-1))

set_option maxHeartbeats 4000000 in
theorem wX0_changes {l : Launch} {s0 : State} {A0 : Array Value} {D : va_G} {ac : Nat → ClassId} (G : Gl s0 A0 D ac) {σ : St} {a0 : Nat} {a1 : Int32} {v : Int32} (hf : fX0_changes σ a0 a1 = some (v)) : Met l yX0_changes (ws_ yX0_changes cX0_changes 3 (some (.int))) ({ frames := 4, cells := 0, slots := 0, locals := 90 } : Room) (Pn s0 D ac [.ref a0, .int a1] σ) (Qn s0 D ac (some (.int v)) σ) 0 0 (fr s0) := by
  refine x_met (by decide) (Nat.le_of_ble_eq_true rfl) ?_
  intro p e s m args below meth c ls C hnm h hl
  have C : Cx s0 p s m args meth c cX0_changes 3 "HutForShow" (some (.int)) := C
  have hx := C.1
  have hb := C.2.1
  have hl : lv_has ls 3 [(0, .ref a0), (1, .int a1)] := hl
  unfold fX0_changes at hf
  refine lv_iconst (v := 0) hx hb dX0_changes_0 (by decide) ?_
  refine lv_istore_n (lv' := [(2, .int 0), (0, .ref a0), (1, .int a1)]) hx hb dX0_changes_1 rfl hl (by decide) rfl (fun ls hl => ?_)
  obtain ⟨e2, hL, hK⟩ := hf_b hf
  have hE2_0 : ∀ (x5 : Int32), (.inl x5) = e2 → ∀  (H : Heap) (locs : List Loc) (ls : Array Slot), Hs s0 D ac σ H locs → lv_has ls 3 [(0, .ref a0), (1, .int a1), (2, .int x5)] → W p l e ({ frames := 4, cells := 0, slots := 0, locals := 90 } : Room) s m args below meth c H locs 0 0 (MQ below (Qn s0 D ac (some (.int v)) σ) args s 0 0 (fr s0)) (F0 m 29 ls []) := by
    intro x5 he H locs ls h hl
    subst he
    have hf := hK
    have hf := hf_sl hf
    refine lv_iload_n hx hb dX0_changes_29 rfl (lv_at hl 2 rfl) ?_
    cases hf
    refine W.widen (k := 0) (n := 0) (Nat.le_of_ble_eq_true rfl) (Nat.le_of_ble_eq_true rfl) ?_
    exact x_iret C h dX0_changes_30
  have hE2_1 : (.inr ()) = e2 → ∀  (H : Heap) (locs : List Loc) (ls : Array Slot), Hs s0 D ac σ H locs → lv_has ls 3 [(0, .ref a0), (1, .int a1)] → W p l e ({ frames := 4, cells := 0, slots := 0, locals := 90 } : Room) s m args below meth c H locs 0 0 (MQ below (Qn s0 D ac (some (.int v)) σ) args s 0 0 (fr s0)) (F0 m 37 ls []) := by
    intro he H locs ls h hl
    subst he
    have hf := hK
    have hf := hf_sr hf
    refine lv_iconst (v := (-1)) hx hb dX0_changes_37 (by decide) ?_
    cases hf
    refine W.widen (k := 0) (n := 0) (Nat.le_of_ble_eq_true rfl) (Nat.le_of_ble_eq_true rfl) ?_
    exact x_iret C h dX0_changes_38
  refine loopF_ind (P := fun z => ∀ (H : Heap) (locs : List Loc) (ls : Array Slot), Hs s0 D ac σ H locs → lv_has ls 3 [(0, .ref a0), (1, .int a1), (2, .int z)] → W p l e ({ frames := 4, cells := 0, slots := 0, locals := 90 } : Room) s m args below meth c H locs 0 0 (MQ below (Qn s0 D ac (some (.int v)) σ) args s 0 0 (fr s0)) (F0 m 2 ls [])) ?_ _ _ hL _ _ _ h (lv_sub hl [1, 2, 0] rfl)
  clear hK hL h hl hf
  intro z o hf ih hX H locs ls h hl
  obtain ⟨x1, rfl⟩ : ∃ y, y = z := ⟨_, rfl⟩
  have h : Hs s0 D ac σ H locs := h
  have hl : lv_has ls 3 [(0, .ref a0), (1, .int a1), (2, .int x1)] := hl
  have hf : lX0_changes_2 σ a0 a1 x1 = some o := hf
  unfold lX0_changes_2 at hf
  refine lv_iload_n hx hb dX0_changes_2 rfl (lv_at hl 2 rfl) ?_
  refine lv_aload_n hx hb dX0_changes_3 rfl (lv_at hl 0 rfl) ?_
  refine x_gI (q := (RX0, TX0, 33)) (j := 3) G C h rfl (by decide) (fun _ _ _ => rfl) (lk C q203) (fun _ z => z) dX0_changes_4 hf (fun x2 hf => ?_)
  refine lv_icmp_ge (tgt := 37) hx hb dX0_changes_7 (by decide) (fun hc => ?_) (fun hc => ?_)
  · have hf := hf_t hc hf
    cases hf
    exact hE2_1 (hX _ rfl) _ _ _ h (lv_sub hl [0, 1] rfl)
  · have hf := hf_f hc hf
    refine lv_aload_n hx hb dX0_changes_10 rfl (lv_at hl 0 rfl) ?_
    refine lv_iload_n hx hb dX0_changes_11 rfl (lv_at hl 2 rfl) ?_
    refine lv_iload_n hx hb dX0_changes_12 rfl (lv_at hl 1 rfl) ?_
    refine lv_iconst (v := 1) hx hb dX0_changes_13 (by decide) ?_
    refine lv_iload_n hx hb dX0_changes_14 rfl (lv_at hl 2 rfl) ?_
    refine lv_ishl hx hb dX0_changes_15 ?_
    refine lv_ixor hx hb dX0_changes_16 ?_
    obtain ⟨hk, hf⟩ := k_of hf
    obtain ⟨x3, hc, hf⟩ := hf_b hf
    refine x_cV (q := (RX0, TX0, 33)) (rest := []) (As := [.int x1, .int (a1 ^^^ (1 <<< (x1 &&& 31)))]) (n := 2) (ov := (some (.int x3))) G C h (wX0_gainsOf G hc) hk rfl (lw_V q964 q966 qs17 q54 q967) (by decide +kernel) ⟨Nat.le_of_ble_eq_true rfl, Nat.le_of_ble_eq_true rfl⟩ rfl rfl rfl hl.1 rfl (Nat.le_of_ble_eq_true rfl) dX0_changes_17 ⟨(Nat.le_of_ble_eq_true rfl), (Nat.le_of_ble_eq_true rfl)⟩ (fun H locs h => ?_)
    refine lv_aload_n hx hb dX0_changes_20 rfl (lv_at hl 0 rfl) ?_
    refine lv_iload_n hx hb dX0_changes_21 rfl (lv_at hl 2 rfl) ?_
    refine lv_iload_n hx hb dX0_changes_22 rfl (lv_at hl 1 rfl) ?_
    obtain ⟨hk, hf⟩ := k_of hf
    obtain ⟨x4, hc, hf⟩ := hf_b hf
    refine x_cV (q := (RX0, TX0, 33)) (rest := [.int x3]) (As := [.int x1, .int a1]) (n := 2) (ov := (some (.int x4))) G C h (wX0_gainsOf G hc) hk rfl (lw_V q964 q966 qs17 q54 q967) (by decide +kernel) ⟨Nat.le_of_ble_eq_true rfl, Nat.le_of_ble_eq_true rfl⟩ rfl rfl rfl hl.1 rfl (Nat.le_of_ble_eq_true rfl) dX0_changes_23 ⟨(Nat.le_of_ble_eq_true rfl), (Nat.le_of_ble_eq_true rfl)⟩ (fun H locs h => ?_)
    refine lv_icmp_le (tgt := 31) hx hb dX0_changes_26 (by decide) (fun hc => ?_) (fun hc => ?_)
    · have hf := hf_t hc hf
      refine lv_iinc (v := x1 + 1) (lv' := [(2, .int (x1 + 1)), (0, .ref a0), (1, .int a1)]) hx hb dX0_changes_31 hl (k := 2) rfl rfl (by decide) rfl (fun ls hl => ?_)
      refine lv_goto (tgt := 2) hx hb dX0_changes_34 (by decide) ?_
      cases hf
      exact ih _ rfl _ _ _ h (lv_sub hl [1, 2, 0] rfl)
    · have hf := hf_f hc hf
      cases hf
      exact hE2_0 _ (hX _ rfl) _ _ _ h (lv_sub hl [0, 1, 2] rfl)
