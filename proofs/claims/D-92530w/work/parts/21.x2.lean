set_option maxRecDepth 100000
def vAct_isAway (σ : St) (b : Nat) : Option (Int32) :=
  if s_k σ b = some (.inl 1) then fX1_isAway σ b else
  if s_k σ b = some (.inl 2) then fX3_isAway σ b else
  if s_k σ b = some (.inl 9) then fX1_isAway σ b else
  if s_k σ b = some (.inl 10) then fX3_isAway σ b else
  if s_k σ b = some (.inl 12) then fX3_isAway σ b else
  none
theorem x_vAct_isAway {p : Program} {l : Launch} {e : Env} {R : Room} {s : State} {m : MethodId} {args : Array Value} {below : List Frame} {meth : Method} {c : Code} {H : Heap} {locs : List Loc} {cells slots : Nat} {Q : State → Prop} {s0 : State} {A0 : Array Value} {D : va_G} {ac : Nat → ClassId} {σ : St} {cc : ByteArray} {nL : Nat} {own : String} {ret : Option FieldType} {pc : Nat} {ls : Array Slot} {rest As st0 : List Value} {idx b : Nat} {v : Int32} (G : Gl s0 A0 D ac) (C : Cx s0 p s m args meth c cc nL own ret) (h : Hs s0 D ac σ H locs) (hc : vAct_isAway σ b = some v) (hl : Cond.methodLink own idx (⟨"HutForShow$Act", "isAway", "()Z"⟩ : MethodName) ∈ lw_all) (hR : 1 ≤ R.frames ∧ 20 ≤ R.locals) (hsize : ls.size = nL) (hst : st0 = As.reverse ++ .ref b :: rest) (hW : (rest.map fun v => v.category).sum ≤ 8) (hdg : decode cc pc = .ok (.invokevirtual idx, 3)) (hf : cells + 0 ≤ R.cells ∧ slots + 0 ≤ R.slots) (hAs : As = [])
    (kk : ∀ (H : Heap) (locs : List Loc), Hs s0 D ac σ H locs → W p l e R s m args below meth c H locs cells slots Q (F0 m (pc + 3) ls ((some (.int v) : Option Value).toList ++ rest))) : W p l e R s m args below meth c H locs cells slots Q (F0 m pc ls st0) := by
  subst hAs
  unfold vAct_isAway at hc
  split at hc
  · next hk =>
    exact x_cA (q := (RX2, TZ0, 0)) (owner := "HutForShow$Act") (n := 0) G C h (wX1_isAway G hc) hk rfl hl q487 (va_Decl.of (C.2.2.2.2.1 _ q486) (C.2.2.2.2.1 _ q495)) q492 q486 q55 q495 (by decide +kernel) ⟨Nat.le_trans (by decide) hR.1, Nat.le_trans (by decide) hR.2⟩ rfl rfl rfl hsize hst hW hdg hf kk
  split at hc
  · next hk =>
    exact x_cA (q := (RX4, TZ0, 0)) (owner := "HutForShow$Act") (n := 0) G C h (wX3_isAway G hc) hk rfl hl q487 (va_Decl.of (C.2.2.2.2.1 _ q486) (C.2.2.2.2.1 _ q495)) q488 q489 q57 q490 (by decide +kernel) ⟨Nat.le_trans (by decide) hR.1, Nat.le_trans (by decide) hR.2⟩ rfl rfl rfl hsize hst hW hdg hf kk
  split at hc
  · next hk =>
    exact x_cA (q := (RX12, TZ0, 0)) (owner := "HutForShow$Act") (n := 0) G C h (wX1_isAway G hc) hk rfl hl q487 (va_Decl.of (C.2.2.2.2.1 _ q486) (C.2.2.2.2.1 _ q495)) q493 q486 q55 q495 (by decide +kernel) ⟨Nat.le_trans (by decide) hR.1, Nat.le_trans (by decide) hR.2⟩ rfl rfl rfl hsize hst hW hdg hf kk
  split at hc
  · next hk =>
    exact x_cA (q := (RX13, TZ0, 0)) (owner := "HutForShow$Act") (n := 0) G C h (wX3_isAway G hc) hk rfl hl q487 (va_Decl.of (C.2.2.2.2.1 _ q486) (C.2.2.2.2.1 _ q495)) q491 q489 q57 q490 (by decide +kernel) ⟨Nat.le_trans (by decide) hR.1, Nat.le_trans (by decide) hR.2⟩ rfl rfl rfl hsize hst hW hdg hf kk
  split at hc
  · next hk =>
    exact x_cA (q := (RX15, TX15, 1)) (owner := "HutForShow$Act") (n := 0) G C h (wX3_isAway G hc) hk rfl hl q487 (va_Decl.of (C.2.2.2.2.1 _ q486) (C.2.2.2.2.1 _ q495)) q494 q489 q57 q490 (by decide +kernel) ⟨Nat.le_trans (by decide) hR.1, Nat.le_trans (by decide) hR.2⟩ rfl rfl rfl hsize hst hW hdg hf kk
  cases hc
theorem dX5_raid_0 : decode cX5_raid 0 = .ok (.iload_n 2, 1) := by decide +kernel
theorem dX5_raid_1 : decode cX5_raid 1 = .ok (.aload_n 0, 1) := by decide +kernel
theorem dX5_raid_2 : decode cX5_raid 2 = .ok (.getfield 3, 3) := by decide +kernel
theorem dX5_raid_5 : decode cX5_raid 5 = .ok (.getfield 79, 3) := by decide +kernel
theorem dX5_raid_8 : decode cX5_raid 8 = .ok (.if_icmp .ge 53, 3) := by decide +kernel
theorem dX5_raid_11 : decode cX5_raid 11 = .ok (.iload_n 2, 1) := by decide +kernel
theorem dX5_raid_12 : decode cX5_raid 12 = .ok (.iload_n 1, 1) := by decide +kernel
theorem dX5_raid_13 : decode cX5_raid 13 = .ok (.if_icmp .eq 48, 3) := by decide +kernel
theorem dX5_raid_16 : decode cX5_raid 16 = .ok (.aload_n 0, 1) := by decide +kernel
theorem dX5_raid_17 : decode cX5_raid 17 = .ok (.getfield 3, 3) := by decide +kernel
theorem dX5_raid_20 : decode cX5_raid 20 = .ok (.getfield 82, 3) := by decide +kernel
theorem dX5_raid_23 : decode cX5_raid 23 = .ok (.iload_n 1, 1) := by decide +kernel
theorem dX5_raid_24 : decode cX5_raid 24 = .ok (.aaload, 1) := by decide +kernel
theorem dX5_raid_25 : decode cX5_raid 25 = .ok (.aload_n 0, 1) := by decide +kernel
theorem dX5_raid_26 : decode cX5_raid 26 = .ok (.getfield 3, 3) := by decide +kernel
theorem dX5_raid_29 : decode cX5_raid 29 = .ok (.getfield 82, 3) := by decide +kernel
theorem dX5_raid_32 : decode cX5_raid 32 = .ok (.iload_n 2, 1) := by decide +kernel
theorem dX5_raid_33 : decode cX5_raid 33 = .ok (.aaload, 1) := by decide +kernel
theorem dX5_raid_34 : decode cX5_raid 34 = .ok (.invokevirtual 86, 3) := by decide +kernel
theorem dX5_raid_37 : decode cX5_raid 37 = .ok (.aload_n 0, 1) := by decide +kernel
theorem dX5_raid_38 : decode cX5_raid 38 = .ok (.getfield 3, 3) := by decide +kernel
theorem dX5_raid_41 : decode cX5_raid 41 = .ok (.getfield 92, 3) := by decide +kernel
theorem dX5_raid_44 : decode cX5_raid 44 = .ok (.iconst 0, 1) := by decide +kernel
theorem dX5_raid_45 : decode cX5_raid 45 = .ok (.iaload, 1) := by decide +kernel
theorem dX5_raid_46 : decode cX5_raid 46 = .ok (.if_icmp .gt 15, 3) := by decide +kernel
theorem dX5_raid_49 : decode cX5_raid 49 = .ok (.aload_n 0, 1) := by decide +kernel
theorem dX5_raid_50 : decode cX5_raid 50 = .ok (.getfield 33, 3) := by decide +kernel
theorem dX5_raid_53 : decode cX5_raid 53 = .ok (.iload_n 2, 1) := by decide +kernel
theorem dX5_raid_54 : decode cX5_raid 54 = .ok (.aaload, 1) := by decide +kernel
theorem dX5_raid_55 : decode cX5_raid 55 = .ok (.invokevirtual 95, 3) := by decide +kernel
theorem dX5_raid_58 : decode cX5_raid 58 = .ok (.ifCond .ne 4, 3) := by decide +kernel
theorem dX5_raid_61 : decode cX5_raid 61 = .ok (.return_, 1) := by decide +kernel
theorem dX5_raid_62 : decode cX5_raid 62 = .ok (.aload_n 0, 1) := by decide +kernel
theorem dX5_raid_63 : decode cX5_raid 63 = .ok (.getfield 15, 3) := by decide +kernel
theorem dX5_raid_66 : decode cX5_raid 66 = .ok (.iload_n 2, 1) := by decide +kernel
theorem dX5_raid_67 : decode cX5_raid 67 = .ok (.iconst 0, 1) := by decide +kernel
theorem dX5_raid_68 : decode cX5_raid 68 = .ok (.aload_n 0, 1) := by decide +kernel
theorem dX5_raid_69 : decode cX5_raid 69 = .ok (.getfield 15, 3) := by decide +kernel
theorem dX5_raid_72 : decode cX5_raid 72 = .ok (.iload_n 2, 1) := by decide +kernel
theorem dX5_raid_73 : decode cX5_raid 73 = .ok (.iaload, 1) := by decide +kernel
theorem dX5_raid_74 : decode cX5_raid 74 = .ok (.iconst 5, 1) := by decide +kernel
theorem dX5_raid_75 : decode cX5_raid 75 = .ok (.isub, 1) := by decide +kernel
theorem dX5_raid_76 : decode cX5_raid 76 = .ok (.invokestatic 99, 3) := by decide +kernel
theorem dX5_raid_79 : decode cX5_raid 79 = .ok (.iastore, 1) := by decide +kernel
theorem dX5_raid_80 : decode cX5_raid 80 = .ok (.iconst (-1), 1) := by decide +kernel
theorem dX5_raid_81 : decode cX5_raid 81 = .ok (.istore_n 3, 1) := by decide +kernel
theorem dX5_raid_82 : decode cX5_raid 82 = .ok (.iconst 0, 1) := by decide +kernel
theorem dX5_raid_83 : decode cX5_raid 83 = .ok (.istore 4, 2) := by decide +kernel
theorem dX5_raid_85 : decode cX5_raid 85 = .ok (.iload 4, 2) := by decide +kernel
theorem dX5_raid_87 : decode cX5_raid 87 = .ok (.aload_n 0, 1) := by decide +kernel
theorem dX5_raid_88 : decode cX5_raid 88 = .ok (.getfield 3, 3) := by decide +kernel
theorem dX5_raid_91 : decode cX5_raid 91 = .ok (.getfield 50, 3) := by decide +kernel
theorem dX5_raid_94 : decode cX5_raid 94 = .ok (.if_icmp .ge 57, 3) := by decide +kernel
theorem dX5_raid_97 : decode cX5_raid 97 = .ok (.aload_n 0, 1) := by decide +kernel
theorem dX5_raid_98 : decode cX5_raid 98 = .ok (.getfield 37, 3) := by decide +kernel
theorem dX5_raid_101 : decode cX5_raid 101 = .ok (.iload 4, 2) := by decide +kernel
theorem dX5_raid_103 : decode cX5_raid 103 = .ok (.iaload, 1) := by decide +kernel
theorem dX5_raid_104 : decode cX5_raid 104 = .ok (.iload_n 2, 1) := by decide +kernel
theorem dX5_raid_105 : decode cX5_raid 105 = .ok (.if_icmp .ne 38, 3) := by decide +kernel
theorem dX5_raid_108 : decode cX5_raid 108 = .ok (.iload_n 3, 1) := by decide +kernel
theorem dX5_raid_109 : decode cX5_raid 109 = .ok (.iconst (-1), 1) := by decide +kernel
theorem dX5_raid_110 : decode cX5_raid 110 = .ok (.if_icmp .eq 28, 3) := by decide +kernel
theorem dX5_raid_113 : decode cX5_raid 113 = .ok (.aload_n 0, 1) := by decide +kernel
theorem dX5_raid_114 : decode cX5_raid 114 = .ok (.getfield 3, 3) := by decide +kernel
theorem dX5_raid_117 : decode cX5_raid 117 = .ok (.getfield 53, 3) := by decide +kernel
theorem dX5_raid_120 : decode cX5_raid 120 = .ok (.iload 4, 2) := by decide +kernel
theorem dX5_raid_122 : decode cX5_raid 122 = .ok (.aaload, 1) := by decide +kernel
theorem dX5_raid_123 : decode cX5_raid 123 = .ok (.aload_n 0, 1) := by decide +kernel
theorem dX5_raid_124 : decode cX5_raid 124 = .ok (.getfield 3, 3) := by decide +kernel
theorem dX5_raid_127 : decode cX5_raid 127 = .ok (.getfield 53, 3) := by decide +kernel
theorem dX5_raid_130 : decode cX5_raid 130 = .ok (.iload_n 3, 1) := by decide +kernel
theorem dX5_raid_131 : decode cX5_raid 131 = .ok (.aaload, 1) := by decide +kernel
theorem dX5_raid_132 : decode cX5_raid 132 = .ok (.invokevirtual 105, 3) := by decide +kernel
theorem dX5_raid_135 : decode cX5_raid 135 = .ok (.ifCond .eq 8, 3) := by decide +kernel
theorem dX5_raid_138 : decode cX5_raid 138 = .ok (.iload 4, 2) := by decide +kernel
theorem dX5_raid_140 : decode cX5_raid 140 = .ok (.goto 4, 3) := by decide +kernel
theorem dX5_raid_143 : decode cX5_raid 143 = .ok (.iload_n 3, 1) := by decide +kernel
theorem dX5_raid_144 : decode cX5_raid 144 = .ok (.istore_n 3, 1) := by decide +kernel
theorem dX5_raid_145 : decode cX5_raid 145 = .ok (.iinc 4 1, 3) := by decide +kernel
theorem dX5_raid_148 : decode cX5_raid 148 = .ok (.goto (-63), 3) := by decide +kernel
theorem dX5_raid_151 : decode cX5_raid 151 = .ok (.iload_n 3, 1) := by decide +kernel
theorem dX5_raid_152 : decode cX5_raid 152 = .ok (.iconst (-1), 1) := by decide +kernel
theorem dX5_raid_153 : decode cX5_raid 153 = .ok (.if_icmp .eq 30, 3) := by decide +kernel
theorem dX5_raid_156 : decode cX5_raid 156 = .ok (.aload_n 0, 1) := by decide +kernel
theorem dX5_raid_157 : decode cX5_raid 157 = .ok (.iload_n 1, 1) := by decide +kernel
theorem dX5_raid_158 : decode cX5_raid 158 = .ok (.invokevirtual 109, 3) := by decide +kernel
theorem dX5_raid_161 : decode cX5_raid 161 = .ok (.bipush 12, 2) := by decide +kernel
theorem dX5_raid_163 : decode cX5_raid 163 = .ok (.if_icmp .ge 20, 3) := by decide +kernel
theorem dX5_raid_166 : decode cX5_raid 166 = .ok (.aload_n 0, 1) := by decide +kernel
theorem dX5_raid_167 : decode cX5_raid 167 = .ok (.getfield 37, 3) := by decide +kernel
theorem dX5_raid_170 : decode cX5_raid 170 = .ok (.iload_n 3, 1) := by decide +kernel
theorem dX5_raid_171 : decode cX5_raid 171 = .ok (.iload_n 1, 1) := by decide +kernel
theorem dX5_raid_172 : decode cX5_raid 172 = .ok (.iastore, 1) := by decide +kernel
theorem dX5_raid_173 : decode cX5_raid 173 = .ok (.aload_n 0, 1) := by decide +kernel
theorem dX5_raid_174 : decode cX5_raid 174 = .ok (.getfield 25, 3) := by decide +kernel
theorem dX5_raid_177 : decode cX5_raid 177 = .ok (.iload_n 2, 1) := by decide +kernel
theorem dX5_raid_178 : decode cX5_raid 178 = .ok (.dup2, 1) := by decide +kernel
theorem dX5_raid_179 : decode cX5_raid 179 = .ok (.iaload, 1) := by decide +kernel
theorem dX5_raid_180 : decode cX5_raid 180 = .ok (.iconst 1, 1) := by decide +kernel
theorem dX5_raid_181 : decode cX5_raid 181 = .ok (.iadd, 1) := by decide +kernel
theorem dX5_raid_182 : decode cX5_raid 182 = .ok (.iastore, 1) := by decide +kernel
theorem dX5_raid_183 : decode cX5_raid 183 = .ok (.return_, 1) := by decide +kernel
def lX5_raid_85 (σ20 : St) (a0 : Nat) (a2 : Int32) (x21 : Int32) (x22 : Int32) : Option ((Int32 × Int32) ⊕ (Int32)) :=
  o_gR σ20 a0 3 8 fun r23 =>
  o_gI σ20 r23 0 5 fun x24 =>
  if x24 ≤ x22 then
    some (.inr x21)
  else
  o_gR σ20 a0 3 7 fun r25 =>
  o_aI σ20 r25 0 x22 fun x26 =>
  jn (fun (x34 : Int32) =>
    some (.inl (x34, x22 + 1))) fun j144 =>
  jn (fun (_ : Unit) =>
    j144 x21) fun j143 =>
  if x26 = a2 then
    jn (fun (_ : Unit) =>
      j144 x22) fun j138 =>
    if x21 = ((-1)) then
      j138 ()
    else
    o_gR σ20 a0 3 8 fun r27 =>
    o_gR σ20 r27 0 4 fun r28 =>
    o_aR σ20 r28 4 x22 fun r29 =>
    o_gR σ20 a0 3 8 fun r30 =>
    o_gR σ20 r30 0 4 fun r31 =>
    o_aR σ20 r31 4 x21 fun r32 =>
    o_k σ20 r29 7 <|
    (fX9_isDearer σ20 r29 r32).bind fun x33 =>
    if x33 = 0 then
      j143 ()
    else
    j138 ()
  else
  j143 ()

def fX5_raid (σ : St) (a0 : Nat) (a1 : Int32) (a2 : Int32) : Option (St) :=
  o_gR σ a0 3 8 fun r1 =>
  o_gI σ r1 0 3 fun x2 =>
  if x2 ≤ a2 then
    some σ
  else
  if a2 = a1 then
    some σ
  else
  o_gR σ a0 3 8 fun r3 =>
  o_gR σ r3 0 2 fun r4 =>
  o_aR σ r4 3 a1 fun r5 =>
  o_gR σ a0 3 8 fun r6 =>
  o_gR σ r6 0 2 fun r7 =>
  o_aR σ r7 3 a2 fun r8 =>
  o_k σ r5 6 <|
  (fX8_far σ r5 r8).bind fun x9 =>
  o_gR σ a0 3 8 fun r10 =>
  o_gR σ r10 0 6 fun r11 =>
  o_aI σ r11 0 0 fun x12 =>
  if x12 < x9 then
    some σ
  else
  o_gR σ a0 3 6 fun r13 =>
  o_aR σ r13 5 a2 fun r14 =>
  (vAct_isAway σ r14).bind fun x15 =>
  if x15 = 0 then
    some σ
  else
  o_gR σ a0 3 1 fun r16 =>
  o_gR σ a0 3 1 fun r17 =>
  o_aI σ r17 0 a2 fun x18 =>
  o_let (jmax 0 (x18 - 5)) fun x19 =>
  o_sI σ r16 0 a2 x19 fun σ20 =>
  (loopF fuel (fun z => lX5_raid_85 σ20 a0 a2 z.1 z.2) ((-1), 0)).bind <| fun x35 =>
  if x35 = ((-1)) then
    some σ20
  else
  o_k σ20 a0 3 <|
  (fX5_many σ20 a0 a1).bind fun x36 =>
  if 12 ≤ x36 then
    some σ20
  else
  o_gR σ20 a0 3 7 fun r37 =>
  o_sI σ20 r37 0 x35 a1 fun σ38 =>
  o_gR σ38 a0 3 4 fun r39 =>
  o_aI σ38 r39 0 a2 fun x40 =>
  o_sI σ38 r39 0 a2 (x40 + 1) fun σ41 =>
  some σ41

set_option maxHeartbeats 4000000 in
theorem wX5_raid {l : Launch} {s0 : State} {A0 : Array Value} {D : va_G} {ac : Nat → ClassId} (G : Gl s0 A0 D ac) {σ : St} {a0 : Nat} {a1 : Int32} {a2 : Int32} {σ' : St} (hf : fX5_raid σ a0 a1 a2 = some (σ')) : Met l yX5_raid (ws_ yX5_raid cX5_raid 5 none) ({ frames := 2, cells := 0, slots := 0, locals := 42 } : Room) (Pn s0 D ac [.ref a0, .int a1, .int a2] σ) (Qn s0 D ac none σ') 0 0 (fr s0) := by
  refine x_met (by decide) (Nat.le_of_ble_eq_true rfl) ?_
  intro p e s m args below meth c ls C hnm h hl
  have C : Cx s0 p s m args meth c cX5_raid 5 "HutForShow$Wood" none := C
  have hx := C.1
  have hb := C.2.1
  have hl : lv_has ls 5 [(0, .ref a0), (1, .int a1), (2, .int a2)] := hl
  unfold fX5_raid at hf
  refine lv_iload_n hx hb dX5_raid_0 rfl (lv_at hl 2 rfl) ?_
  refine lv_aload_n hx hb dX5_raid_1 rfl (lv_at hl 0 rfl) ?_
  refine x_gR (q := (RX5, TX5, 9)) (j := 8) G C h rfl (by decide) (fun _ _ _ => rfl) (lk C q145) (fun _ z => z) dX5_raid_2 hf (fun r1 hf => ?_)
  refine x_gI (q := (RX0, TX0, 33)) (j := 3) G C h rfl (by decide) (fun _ _ _ => rfl) (lkn G C q204) (fun _ z => z) dX5_raid_5 hf (fun x2 hf => ?_)
  refine lv_icmp_ge (tgt := 61) hx hb dX5_raid_8 (by decide) (fun hc => ?_) (fun hc => ?_)
  · have hf := hf_t hc hf
    cases hf
    refine W.widen (k := 0) (n := 0) (Nat.le_of_ble_eq_true rfl) (Nat.le_of_ble_eq_true rfl) ?_
    exact x_vret C h dX5_raid_61
  · have hf := hf_f hc hf
    refine lv_iload_n hx hb dX5_raid_11 rfl (lv_at hl 2 rfl) ?_
    refine lv_iload_n hx hb dX5_raid_12 rfl (lv_at hl 1 rfl) ?_
    refine lv_icmp_eq (tgt := 61) hx hb dX5_raid_13 (by decide) (fun hc => ?_) (fun hc => ?_)
    · have hf := hf_t hc hf
      cases hf
      refine W.widen (k := 0) (n := 0) (Nat.le_of_ble_eq_true rfl) (Nat.le_of_ble_eq_true rfl) ?_
      exact x_vret C h dX5_raid_61
    · have hf := hf_f hc hf
      refine lv_aload_n hx hb dX5_raid_16 rfl (lv_at hl 0 rfl) ?_
      refine x_gR (q := (RX5, TX5, 9)) (j := 8) G C h rfl (by decide) (fun _ _ _ => rfl) (lk C q145) (fun _ z => z) dX5_raid_17 hf (fun r3 hf => ?_)
      refine x_gR (q := (RX0, TX0, 33)) (j := 2) G C h rfl (by decide) (fun _ _ _ => rfl) (lkn G C q202) (fun _ z => z) dX5_raid_20 hf (fun r4 hf => ?_)
      refine lv_iload_n hx hb dX5_raid_23 rfl (lv_at hl 1 rfl) ?_
      refine x_aald (q := 3) rfl rfl (fun _ _ _ => rfl) G C h dX5_raid_24 hf (fun r5 hf => ?_)
      refine lv_aload_n hx hb dX5_raid_25 rfl (lv_at hl 0 rfl) ?_
      refine x_gR (q := (RX5, TX5, 9)) (j := 8) G C h rfl (by decide) (fun _ _ _ => rfl) (lk C q145) (fun _ z => z) dX5_raid_26 hf (fun r6 hf => ?_)
      refine x_gR (q := (RX0, TX0, 33)) (j := 2) G C h rfl (by decide) (fun _ _ _ => rfl) (lkn G C q202) (fun _ z => z) dX5_raid_29 hf (fun r7 hf => ?_)
      refine lv_iload_n hx hb dX5_raid_32 rfl (lv_at hl 2 rfl) ?_
      refine x_aald (q := 3) rfl rfl (fun _ _ _ => rfl) G C h dX5_raid_33 hf (fun r8 hf => ?_)
      obtain ⟨hk, hf⟩ := k_of hf
      obtain ⟨x9, hc, hf⟩ := hf_b hf
      refine x_cV (q := (RX8, TX8, 2)) (rest := []) (As := [.ref r8]) (n := 1) (ov := (some (.int x9))) G C h (wX8_far G hc) hk rfl (lw_V q484 q343 q344 q62 q345) (by decide +kernel) ⟨Nat.le_of_ble_eq_true rfl, Nat.le_of_ble_eq_true rfl⟩ rfl rfl rfl hl.1 rfl (Nat.le_of_ble_eq_true rfl) dX5_raid_34 ⟨(Nat.le_of_ble_eq_true rfl), (Nat.le_of_ble_eq_true rfl)⟩ (fun H locs h => ?_)
      refine lv_aload_n hx hb dX5_raid_37 rfl (lv_at hl 0 rfl) ?_
      refine x_gR (q := (RX5, TX5, 9)) (j := 8) G C h rfl (by decide) (fun _ _ _ => rfl) (lk C q145) (fun _ z => z) dX5_raid_38 hf (fun r10 hf => ?_)
      refine x_gR (q := (RX0, TX0, 33)) (j := 6) G C h rfl (by decide) (fun _ _ _ => rfl) (lkn G C q212) (fun _ z => z) dX5_raid_41 hf (fun r11 hf => ?_)
      refine lv_iconst (v := 0) hx hb dX5_raid_44 (by decide) ?_
      refine x_iald G C h dX5_raid_45 hf (fun x12 hf => ?_)
      refine lv_icmp_gt (tgt := 61) hx hb dX5_raid_46 (by decide) (fun hc => ?_) (fun hc => ?_)
      · have hf := hf_t hc hf
        cases hf
        refine W.widen (k := 0) (n := 0) (Nat.le_of_ble_eq_true rfl) (Nat.le_of_ble_eq_true rfl) ?_
        exact x_vret C h dX5_raid_61
      · have hf := hf_f hc hf
        refine lv_aload_n hx hb dX5_raid_49 rfl (lv_at hl 0 rfl) ?_
        refine x_gR (q := (RX5, TX5, 9)) (j := 6) G C h rfl (by decide) (fun _ _ _ => rfl) (lk C q140) (fun _ z => z) dX5_raid_50 hf (fun r13 hf => ?_)
        refine lv_iload_n hx hb dX5_raid_53 rfl (lv_at hl 2 rfl) ?_
        refine x_aald (q := 5) rfl rfl (fun _ _ _ => rfl) G C h dX5_raid_54 hf (fun r14 hf => ?_)
        obtain ⟨x15, hc, hf⟩ := hf_b hf
        refine x_vAct_isAway (rest := []) (As := []) G C h hc q485 ⟨Nat.le_of_ble_eq_true rfl, Nat.le_of_ble_eq_true rfl⟩ hl.1 rfl (Nat.le_of_ble_eq_true rfl) dX5_raid_55 ⟨(Nat.le_of_ble_eq_true rfl), (Nat.le_of_ble_eq_true rfl)⟩ rfl (fun H locs h => ?_)
        refine lv_if_ne (tgt := 62) hx hb dX5_raid_58 (by decide) (fun hc => ?_) (fun hc => ?_)
        · have hf := hf_f hc hf
          refine lv_aload_n hx hb dX5_raid_62 rfl (lv_at hl 0 rfl) ?_
          refine x_gR (q := (RX5, TX5, 9)) (j := 1) G C h rfl (by decide) (fun _ _ _ => rfl) (lk C q125) (fun _ z => z) dX5_raid_63 hf (fun r16 hf => ?_)
          refine lv_iload_n hx hb dX5_raid_66 rfl (lv_at hl 2 rfl) ?_
          refine lv_iconst (v := 0) hx hb dX5_raid_67 (by decide) ?_
          refine lv_aload_n hx hb dX5_raid_68 rfl (lv_at hl 0 rfl) ?_
          refine x_gR (q := (RX5, TX5, 9)) (j := 1) G C h rfl (by decide) (fun _ _ _ => rfl) (lk C q125) (fun _ z => z) dX5_raid_69 hf (fun r17 hf => ?_)
          refine lv_iload_n hx hb dX5_raid_72 rfl (lv_at hl 2 rfl) ?_
          refine x_iald G C h dX5_raid_73 hf (fun x18 hf => ?_)
          refine lv_iconst (v := 5) hx hb dX5_raid_74 (by decide) ?_
          refine lv_isub hx hb dX5_raid_75 ?_
          refine x_max C hl.1 q496 q458 q63 q459 (Nat.le_of_ble_eq_true rfl) (Nat.le_of_ble_eq_true rfl) (Nat.le_of_ble_eq_true rfl) (Nat.le_of_ble_eq_true rfl) dX5_raid_76 ?_
          refine x_letI hf (fun x19 hf => ?_)
          refine x_iast G C h dX5_raid_79 hf (fun σ20 H locs h hf => ?_)
          refine lv_iconst (v := (-1)) hx hb dX5_raid_80 (by decide) ?_
          refine lv_istore_n (lv' := [(3, .int ((-1))), (0, .ref a0), (1, .int a1), (2, .int a2)]) hx hb dX5_raid_81 rfl hl (by decide) rfl (fun ls hl => ?_)
          refine lv_iconst (v := 0) hx hb dX5_raid_82 (by decide) ?_
          refine lv_istore (lv' := [(4, .int 0), (3, .int ((-1))), (0, .ref a0), (1, .int a1), (2, .int a2)]) hx hb dX5_raid_83 hl (by decide) rfl (fun ls hl => ?_)
          obtain ⟨e85, hL, hK⟩ := hf_b hf
          have hE85_0 : ∀ (x35 : Int32), x35 = e85 → ∀  (H : Heap) (locs : List Loc) (ls : Array Slot), Hs s0 D ac σ20 H locs → lv_has ls 5 [(0, .ref a0), (1, .int a1), (2, .int a2), (3, .int x35)] → W p l e ({ frames := 2, cells := 0, slots := 0, locals := 42 } : Room) s m args below meth c H locs 0 0 (MQ below (Qn s0 D ac none σ') args s 0 0 (fr s0)) (F0 m 151 ls []) := by
            intro x35 he H locs ls h hl
            subst he
            have hf := hK
            refine lv_iload_n hx hb dX5_raid_151 rfl (lv_at hl 3 rfl) ?_
            refine lv_iconst (v := (-1)) hx hb dX5_raid_152 (by decide) ?_
            refine lv_icmp_eq (tgt := 183) hx hb dX5_raid_153 (by decide) (fun hc => ?_) (fun hc => ?_)
            · have hf := hf_t hc hf
              cases hf
              refine W.widen (k := 0) (n := 0) (Nat.le_of_ble_eq_true rfl) (Nat.le_of_ble_eq_true rfl) ?_
              exact x_vret C h dX5_raid_183
            · have hf := hf_f hc hf
              refine lv_aload_n hx hb dX5_raid_156 rfl (lv_at hl 0 rfl) ?_
              refine lv_iload_n hx hb dX5_raid_157 rfl (lv_at hl 1 rfl) ?_
              obtain ⟨hk, hf⟩ := k_of hf
              obtain ⟨x36, hc, hf⟩ := hf_b hf
              refine x_cV (q := (RX5, TX5, 9)) (rest := []) (As := [.int a1]) (n := 1) (ov := (some (.int x36))) G C h (wX5_many G hc) hk rfl (lw_V q501 q357 q358 q59 q359) (by decide +kernel) ⟨Nat.le_of_ble_eq_true rfl, Nat.le_of_ble_eq_true rfl⟩ rfl rfl rfl hl.1 rfl (Nat.le_of_ble_eq_true rfl) dX5_raid_158 ⟨(Nat.le_of_ble_eq_true rfl), (Nat.le_of_ble_eq_true rfl)⟩ (fun H locs h => ?_)
              refine lv_bipush (v := 12) hx hb dX5_raid_161 (by decide) ?_
              refine lv_icmp_ge (tgt := 183) hx hb dX5_raid_163 (by decide) (fun hc => ?_) (fun hc => ?_)
              · have hf := hf_t hc hf
                cases hf
                refine W.widen (k := 0) (n := 0) (Nat.le_of_ble_eq_true rfl) (Nat.le_of_ble_eq_true rfl) ?_
                exact x_vret C h dX5_raid_183
              · have hf := hf_f hc hf
                refine lv_aload_n hx hb dX5_raid_166 rfl (lv_at hl 0 rfl) ?_
                refine x_gR (q := (RX5, TX5, 9)) (j := 7) G C h rfl (by decide) (fun _ _ _ => rfl) (lk C q141) (fun _ z => z) dX5_raid_167 hf (fun r37 hf => ?_)
                refine lv_iload_n hx hb dX5_raid_170 rfl (lv_at hl 3 rfl) ?_
                refine lv_iload_n hx hb dX5_raid_171 rfl (lv_at hl 1 rfl) ?_
                refine x_iast G C h dX5_raid_172 hf (fun σ38 H locs h hf => ?_)
                refine lv_aload_n hx hb dX5_raid_173 rfl (lv_at hl 0 rfl) ?_
                refine x_gR (q := (RX5, TX5, 9)) (j := 4) G C h rfl (by decide) (fun _ _ _ => rfl) (lk C q137) (fun _ z => z) dX5_raid_174 hf (fun r39 hf => ?_)
                refine lv_iload_n hx hb dX5_raid_177 rfl (lv_at hl 2 rfl) ?_
                refine lv_dup2_11 hx hb dX5_raid_178 rfl rfl ?_
                refine x_iald G C h dX5_raid_179 hf (fun x40 hf => ?_)
                refine lv_iconst (v := 1) hx hb dX5_raid_180 (by decide) ?_
                refine lv_iadd hx hb dX5_raid_181 ?_
                refine x_iast G C h dX5_raid_182 hf (fun σ41 H locs h hf => ?_)
                cases hf
                refine W.widen (k := 0) (n := 0) (Nat.le_of_ble_eq_true rfl) (Nat.le_of_ble_eq_true rfl) ?_
                exact x_vret C h dX5_raid_183
          refine loopF_ind (P := fun z => ∀ (H : Heap) (locs : List Loc) (ls : Array Slot), Hs s0 D ac σ20 H locs → lv_has ls 5 [(0, .ref a0), (1, .int a1), (2, .int a2), (3, .int z.1), (4, .int z.2)] → W p l e ({ frames := 2, cells := 0, slots := 0, locals := 42 } : Room) s m args below meth c H locs 0 0 (MQ below (Qn s0 D ac none σ') args s 0 0 (fr s0)) (F0 m 85 ls [])) ?_ _ _ hL _ _ _ h (lv_sub hl [2, 3, 4, 1, 0] rfl)
          clear hK hL h hl hf
          intro z o hf ih hX H locs ls h hl
          obtain ⟨x21, x22⟩ := z
          have h : Hs s0 D ac σ20 H locs := h
          have hl : lv_has ls 5 [(0, .ref a0), (1, .int a1), (2, .int a2), (3, .int x21), (4, .int x22)] := hl
          have hf : lX5_raid_85 σ20 a0 a2 x21 x22 = some o := hf
          unfold lX5_raid_85 at hf
          refine lv_iload hx hb dX5_raid_85 (lv_at hl 4 rfl) ?_
          refine lv_aload_n hx hb dX5_raid_87 rfl (lv_at hl 0 rfl) ?_
          refine x_gR (q := (RX5, TX5, 9)) (j := 8) G C h rfl (by decide) (fun _ _ _ => rfl) (lk C q145) (fun _ z => z) dX5_raid_88 hf (fun r23 hf => ?_)
          refine x_gI (q := (RX0, TX0, 33)) (j := 5) G C h rfl (by decide) (fun _ _ _ => rfl) (lkn G C q208) (fun _ z => z) dX5_raid_91 hf (fun x24 hf => ?_)
          refine lv_icmp_ge (tgt := 151) hx hb dX5_raid_94 (by decide) (fun hc => ?_) (fun hc => ?_)
          · have hf := hf_t hc hf
            cases hf
            exact hE85_0 _ (hX _ rfl) _ _ _ h (lv_sub hl [0, 1, 2, 3] rfl)
          · have hf := hf_f hc hf
            refine lv_aload_n hx hb dX5_raid_97 rfl (lv_at hl 0 rfl) ?_
            refine x_gR (q := (RX5, TX5, 9)) (j := 7) G C h rfl (by decide) (fun _ _ _ => rfl) (lk C q141) (fun _ z => z) dX5_raid_98 hf (fun r25 hf => ?_)
            refine lv_iload hx hb dX5_raid_101 (lv_at hl 4 rfl) ?_
            refine x_iald G C h dX5_raid_103 hf (fun x26 hf => ?_)
            refine lv_iload_n hx hb dX5_raid_104 rfl (lv_at hl 2 rfl) ?_
            refine jn_of (P := fun j => ∀ (x34 : Int32), j x34 = some o → ∀ (H : Heap) (locs : List Loc) (ls : Array Slot), Hs s0 D ac σ20 H locs → lv_has ls 5 [(0, .ref a0), (1, .int a1), (2, .int a2), (3, .int x21), (4, .int x22)] → W p l e ({ frames := 2, cells := 0, slots := 0, locals := 42 } : Room) s m args below meth c H locs 0 0 (MQ below (Qn s0 D ac none σ') args s 0 0 (fr s0)) (F0 m 144 ls [.int x34])) hf ?_ ?_
            · intro x34 hf H locs ls h hl
              refine lv_istore_n (lv' := [(3, .int x34), (0, .ref a0), (1, .int a1), (2, .int a2), (4, .int x22)]) hx hb dX5_raid_144 rfl hl (by decide) rfl (fun ls hl => ?_)
              refine lv_iinc (v := x22 + 1) (lv' := [(4, .int (x22 + 1)), (3, .int x34), (0, .ref a0), (1, .int a1), (2, .int a2)]) hx hb dX5_raid_145 hl (k := 4) rfl rfl (by decide) rfl (fun ls hl => ?_)
              refine lv_goto (tgt := 85) hx hb dX5_raid_148 (by decide) ?_
              cases hf
              exact ih _ rfl _ _ _ h (lv_sub hl [2, 3, 4, 1, 0] rfl)
            intro j144 hj144 hf
            refine jn_of (P := fun j => ∀ (u0 : Unit), j u0 = some o → ∀ (H : Heap) (locs : List Loc) (ls : Array Slot), Hs s0 D ac σ20 H locs → lv_has ls 5 [(0, .ref a0), (1, .int a1), (2, .int a2), (3, .int x21), (4, .int x22)] → W p l e ({ frames := 2, cells := 0, slots := 0, locals := 42 } : Room) s m args below meth c H locs 0 0 (MQ below (Qn s0 D ac none σ') args s 0 0 (fr s0)) (F0 m 143 ls [])) hf ?_ ?_
            · intro u0 hf H locs ls h hl
              refine lv_iload_n hx hb dX5_raid_143 rfl (lv_at hl 3 rfl) ?_
              exact hj144 _ hf _ _ _ h (lv_sub hl [0, 1, 2, 3, 4] rfl)
            intro j143 hj143 hf
            refine lv_icmp_ne (tgt := 143) hx hb dX5_raid_105 (by decide) (fun hc => ?_) (fun hc => ?_)
            · have hf := hf_f hc hf
              exact hj143 () hf _ _ _ h (lv_sub hl [0, 1, 2, 3, 4] rfl)
            · have hf := hf_t hc hf
              refine lv_iload_n hx hb dX5_raid_108 rfl (lv_at hl 3 rfl) ?_
              refine lv_iconst (v := (-1)) hx hb dX5_raid_109 (by decide) ?_
              refine jn_of (P := fun j => ∀ (u0 : Unit), j u0 = some o → ∀ (H : Heap) (locs : List Loc) (ls : Array Slot), Hs s0 D ac σ20 H locs → lv_has ls 5 [(0, .ref a0), (1, .int a1), (2, .int a2), (3, .int x21), (4, .int x22)] → W p l e ({ frames := 2, cells := 0, slots := 0, locals := 42 } : Room) s m args below meth c H locs 0 0 (MQ below (Qn s0 D ac none σ') args s 0 0 (fr s0)) (F0 m 138 ls [])) hf ?_ ?_
              · intro u0 hf H locs ls h hl
                refine lv_iload hx hb dX5_raid_138 (lv_at hl 4 rfl) ?_
                refine lv_goto (tgt := 144) hx hb dX5_raid_140 (by decide) ?_
                exact hj144 _ hf _ _ _ h (lv_sub hl [0, 1, 2, 3, 4] rfl)
              intro j138 hj138 hf
              refine lv_icmp_eq (tgt := 138) hx hb dX5_raid_110 (by decide) (fun hc => ?_) (fun hc => ?_)
              · have hf := hf_t hc hf
                exact hj138 () hf _ _ _ h (lv_sub hl [0, 1, 2, 3, 4] rfl)
              · have hf := hf_f hc hf
                refine lv_aload_n hx hb dX5_raid_113 rfl (lv_at hl 0 rfl) ?_
                refine x_gR (q := (RX5, TX5, 9)) (j := 8) G C h rfl (by decide) (fun _ _ _ => rfl) (lk C q145) (fun _ z => z) dX5_raid_114 hf (fun r27 hf => ?_)
                refine x_gR (q := (RX0, TX0, 33)) (j := 4) G C h rfl (by decide) (fun _ _ _ => rfl) (lkn G C q206) (fun _ z => z) dX5_raid_117 hf (fun r28 hf => ?_)
                refine lv_iload hx hb dX5_raid_120 (lv_at hl 4 rfl) ?_
                refine x_aald (q := 4) rfl rfl (fun _ _ _ => rfl) G C h dX5_raid_122 hf (fun r29 hf => ?_)
                refine lv_aload_n hx hb dX5_raid_123 rfl (lv_at hl 0 rfl) ?_
                refine x_gR (q := (RX5, TX5, 9)) (j := 8) G C h rfl (by decide) (fun _ _ _ => rfl) (lk C q145) (fun _ z => z) dX5_raid_124 hf (fun r30 hf => ?_)
                refine x_gR (q := (RX0, TX0, 33)) (j := 4) G C h rfl (by decide) (fun _ _ _ => rfl) (lkn G C q206) (fun _ z => z) dX5_raid_127 hf (fun r31 hf => ?_)
                refine lv_iload_n hx hb dX5_raid_130 rfl (lv_at hl 3 rfl) ?_
                refine x_aald (q := 4) rfl rfl (fun _ _ _ => rfl) G C h dX5_raid_131 hf (fun r32 hf => ?_)
                obtain ⟨hk, hf⟩ := k_of hf
                obtain ⟨x33, hc, hf⟩ := hf_b hf
                refine x_cV (q := (RX9, TX9, 3)) (rest := []) (As := [.ref r32]) (n := 1) (ov := (some (.int x33))) G C h (wX9_isDearer G hc) hk rfl (lw_V q497 q498 q499 q64 q500) (by decide +kernel) ⟨Nat.le_of_ble_eq_true rfl, Nat.le_of_ble_eq_true rfl⟩ rfl rfl rfl hl.1 rfl (Nat.le_of_ble_eq_true rfl) dX5_raid_132 ⟨(Nat.le_of_ble_eq_true rfl), (Nat.le_of_ble_eq_true rfl)⟩ (fun H locs h => ?_)
                refine lv_if_eq (tgt := 143) hx hb dX5_raid_135 (by decide) (fun hc => ?_) (fun hc => ?_)
                · have hf := hf_t hc hf
                  exact hj143 () hf _ _ _ h (lv_sub hl [0, 1, 2, 3, 4] rfl)
                · have hf := hf_f hc hf
                  exact hj138 () hf _ _ _ h (lv_sub hl [0, 1, 2, 3, 4] rfl)
        · have hf := hf_t hc hf
          cases hf
          refine W.widen (k := 0) (n := 0) (Nat.le_of_ble_eq_true rfl) (Nat.le_of_ble_eq_true rfl) ?_
          exact x_vret C h dX5_raid_61

theorem dX15_run_0 : decode cX15_run 0 = .ok (.aload_n 1, 1) := by decide +kernel
theorem dX15_run_1 : decode cX15_run 1 = .ok (.iload_n 2, 1) := by decide +kernel
theorem dX15_run_2 : decode cX15_run 2 = .ok (.aload_n 0, 1) := by decide +kernel
theorem dX15_run_3 : decode cX15_run 3 = .ok (.getfield 9, 3) := by decide +kernel
theorem dX15_run_6 : decode cX15_run 6 = .ok (.invokevirtual 15, 3) := by decide +kernel
theorem dX15_run_9 : decode cX15_run 9 = .ok (.return_, 1) := by decide +kernel
def fX15_run (σ : St) (a0 : Nat) (a1 : Nat) (a2 : Int32) : Option (St) :=
  o_gI σ a0 12 0 fun x1 =>
  o_k σ a1 3 <|
  (fX5_raid σ a1 a2 x1).bind fun σ2 =>
  some σ2

set_option maxHeartbeats 4000000 in
theorem wX15_run {l : Launch} {s0 : State} {A0 : Array Value} {D : va_G} {ac : Nat → ClassId} (G : Gl s0 A0 D ac) {σ : St} {a0 : Nat} {a1 : Nat} {a2 : Int32} {σ' : St} (hf : fX15_run σ a0 a1 a2 = some (σ')) : Met l yX15_run (ws_ yX15_run cX15_run 3 none) ({ frames := 3, cells := 0, slots := 0, locals := 66 } : Room) (Pn s0 D ac [.ref a0, .ref a1, .int a2] σ) (Qn s0 D ac none σ') 0 0 (fr s0) := by
  refine x_met (by decide) (Nat.le_of_ble_eq_true rfl) ?_
  intro p e s m args below meth c ls C hnm h hl
  have C : Cx s0 p s m args meth c cX15_run 3 "HutForShow$Raid" none := C
  have hx := C.1
  have hb := C.2.1
  have hl : lv_has ls 3 [(0, .ref a0), (1, .ref a1), (2, .int a2)] := hl
  unfold fX15_run at hf
  refine lv_aload_n hx hb dX15_run_0 rfl (lv_at hl 1 rfl) ?_
  refine lv_iload_n hx hb dX15_run_1 rfl (lv_at hl 2 rfl) ?_
  refine lv_aload_n hx hb dX15_run_2 rfl (lv_at hl 0 rfl) ?_
  refine x_gI (q := (RX15, TX15, 1)) (j := 0) G C h rfl (by decide) (fun _ _ _ => rfl) (lk C q737) (fun _ z => z) dX15_run_3 hf (fun x1 hf => ?_)
  obtain ⟨hk, hf⟩ := k_of hf
  obtain ⟨σ2, hc, hf⟩ := hf_b hf
  refine x_cV (q := (RX5, TX5, 9)) (rest := []) (As := [.int a2, .int x1]) (n := 2) (ov := none) G C h (wX5_raid G hc) hk rfl (lw_V q480 q481 q482 q59 q483) (by decide +kernel) ⟨Nat.le_of_ble_eq_true rfl, Nat.le_of_ble_eq_true rfl⟩ rfl rfl rfl hl.1 rfl (Nat.le_of_ble_eq_true rfl) dX15_run_6 ⟨(Nat.le_of_ble_eq_true rfl), (Nat.le_of_ble_eq_true rfl)⟩ (fun H locs h => ?_)
  cases hf
  refine W.widen (k := 0) (n := 0) (Nat.le_of_ble_eq_true rfl) (Nat.le_of_ble_eq_true rfl) ?_
  exact x_vret C h dX15_run_9

def vAct_code (σ : St) (b : Nat) : Option (Int32) :=
  if s_k σ b = some (.inl 1) then fX2_code σ b else
  if s_k σ b = some (.inl 2) then fX4_code σ b else
  if s_k σ b = some (.inl 9) then fX12_code σ b else
  if s_k σ b = some (.inl 10) then fX13_code σ b else
  if s_k σ b = some (.inl 12) then fX15_code σ b else
  none
theorem x_vAct_code {p : Program} {l : Launch} {e : Env} {R : Room} {s : State} {m : MethodId} {args : Array Value} {below : List Frame} {meth : Method} {c : Code} {H : Heap} {locs : List Loc} {cells slots : Nat} {Q : State → Prop} {s0 : State} {A0 : Array Value} {D : va_G} {ac : Nat → ClassId} {σ : St} {cc : ByteArray} {nL : Nat} {own : String} {ret : Option FieldType} {pc : Nat} {ls : Array Slot} {rest As st0 : List Value} {idx b : Nat} {v : Int32} (G : Gl s0 A0 D ac) (C : Cx s0 p s m args meth c cc nL own ret) (h : Hs s0 D ac σ H locs) (hc : vAct_code σ b = some v) (hl : Cond.methodLink own idx (⟨"HutForShow$Act", "code", "()I"⟩ : MethodName) ∈ lw_all) (hR : 1 ≤ R.frames ∧ 20 ≤ R.locals) (hsize : ls.size = nL) (hst : st0 = As.reverse ++ .ref b :: rest) (hW : (rest.map fun v => v.category).sum ≤ 8) (hdg : decode cc pc = .ok (.invokevirtual idx, 3)) (hf : cells + 0 ≤ R.cells ∧ slots + 0 ≤ R.slots) (hAs : As = [])
    (kk : ∀ (H : Heap) (locs : List Loc), Hs s0 D ac σ H locs → W p l e R s m args below meth c H locs cells slots Q (F0 m (pc + 3) ls ((some (.int v) : Option Value).toList ++ rest))) : W p l e R s m args below meth c H locs cells slots Q (F0 m pc ls st0) := by
  subst hAs
  unfold vAct_code at hc
  split at hc
  · next hk =>
    exact x_cA (q := (RX2, TZ0, 0)) (owner := "HutForShow$Act") (n := 0) G C h (wX2_code G hc) hk rfl hl q435 (va_Decl.abs (va_Nw.warmD C.2.2.2.2.2.2.2 (va_Nw.of rfl (G.1 _ q434)))) q442 q443 q56 q444 (by decide +kernel) ⟨Nat.le_trans (by decide) hR.1, Nat.le_trans (by decide) hR.2⟩ rfl rfl rfl hsize hst hW hdg hf kk
  split at hc
  · next hk =>
    exact x_cA (q := (RX4, TZ0, 0)) (owner := "HutForShow$Act") (n := 0) G C h (wX4_code G hc) hk rfl hl q435 (va_Decl.abs (va_Nw.warmD C.2.2.2.2.2.2.2 (va_Nw.of rfl (G.1 _ q434)))) q436 q437 q58 q438 (by decide +kernel) ⟨Nat.le_trans (by decide) hR.1, Nat.le_trans (by decide) hR.2⟩ rfl rfl rfl hsize hst hW hdg hf kk
  split at hc
  · next hk =>
    exact x_cA (q := (RX12, TZ0, 0)) (owner := "HutForShow$Act") (n := 0) G C h (wX12_code G hc) hk rfl hl q435 (va_Decl.abs (va_Nw.warmD C.2.2.2.2.2.2.2 (va_Nw.of rfl (G.1 _ q434)))) q445 q446 q71 q447 (by decide +kernel) ⟨Nat.le_trans (by decide) hR.1, Nat.le_trans (by decide) hR.2⟩ rfl rfl rfl hsize hst hW hdg hf kk
  split at hc
  · next hk =>
    exact x_cA (q := (RX13, TZ0, 0)) (owner := "HutForShow$Act") (n := 0) G C h (wX13_code G hc) hk rfl hl q435 (va_Decl.abs (va_Nw.warmD C.2.2.2.2.2.2.2 (va_Nw.of rfl (G.1 _ q434)))) q439 q440 q72 q441 (by decide +kernel) ⟨Nat.le_trans (by decide) hR.1, Nat.le_trans (by decide) hR.2⟩ rfl rfl rfl hsize hst hW hdg hf kk
  split at hc
  · next hk =>
    exact x_cA (q := (RX15, TX15, 1)) (owner := "HutForShow$Act") (n := 0) G C h (wX15_code G hc) hk rfl hl q435 (va_Decl.abs (va_Nw.warmD C.2.2.2.2.2.2.2 (va_Nw.of rfl (G.1 _ q434)))) q448 q449 q76 q450 (by decide +kernel) ⟨Nat.le_trans (by decide) hR.1, Nat.le_trans (by decide) hR.2⟩ rfl rfl rfl hsize hst hW hdg hf kk
  cases hc
def vAct_run (σ : St) (b : Nat) (a1 : Nat) (a2 : Int32) : Option (St) :=
  if s_k σ b = some (.inl 1) then (fX2_run σ b a1 a2).bind fun _ => some σ else
  if s_k σ b = some (.inl 2) then fX4_run σ b a1 a2 else
  if s_k σ b = some (.inl 9) then fX12_run σ b a1 a2 else
  if s_k σ b = some (.inl 10) then fX13_run σ b a1 a2 else
  if s_k σ b = some (.inl 12) then fX15_run σ b a1 a2 else
  none
theorem x_vAct_run {p : Program} {l : Launch} {e : Env} {R : Room} {s : State} {m : MethodId} {args : Array Value} {below : List Frame} {meth : Method} {c : Code} {H : Heap} {locs : List Loc} {cells slots : Nat} {Q : State → Prop} {s0 : State} {A0 : Array Value} {D : va_G} {ac : Nat → ClassId} {σ : St} {cc : ByteArray} {nL : Nat} {own : String} {ret : Option FieldType} {pc : Nat} {ls : Array Slot} {rest As st0 : List Value} {idx b : Nat} {a1 : Nat} {a2 : Int32} {σ' : St} (G : Gl s0 A0 D ac) (C : Cx s0 p s m args meth c cc nL own ret) (h : Hs s0 D ac σ H locs) (hc : vAct_run σ b a1 a2 = some σ') (hl : Cond.methodLink own idx (⟨"HutForShow$Act", "run", "(LHutForShow$Wood;I)V"⟩ : MethodName) ∈ lw_all) (hR : 4 ≤ R.frames ∧ 88 ≤ R.locals) (hsize : ls.size = nL) (hst : st0 = As.reverse ++ .ref b :: rest) (hW : (rest.map fun v => v.category).sum ≤ 8) (hdg : decode cc pc = .ok (.invokevirtual idx, 3)) (hf : cells + 0 ≤ R.cells ∧ slots + 0 ≤ R.slots) (hAs : As = [.ref a1, .int a2])
    (kk : ∀ (H : Heap) (locs : List Loc), Hs s0 D ac σ' H locs → W p l e R s m args below meth c H locs cells slots Q (F0 m (pc + 3) ls ((none : Option Value).toList ++ rest))) : W p l e R s m args below meth c H locs cells slots Q (F0 m pc ls st0) := by
  subst hAs
  unfold vAct_run at hc
  split at hc
  · next hk =>
    obtain ⟨_, h8, h9⟩ := hf_b hc
    cases h9
    exact x_cA (q := (RX2, TZ0, 0)) (owner := "HutForShow$Act") (n := 2) G C h (wX2_run G h8) hk rfl hl q453 (va_Decl.abs (va_Nw.warmD C.2.2.2.2.2.2.2 (va_Nw.of rfl (G.1 _ q452)))) q468 q469 q56 q470 (by decide +kernel) ⟨Nat.le_trans (by decide) hR.1, Nat.le_trans (by decide) hR.2⟩ rfl rfl rfl hsize hst hW hdg hf kk
  split at hc
  · next hk =>
    exact x_cA (q := (RX4, TZ0, 0)) (owner := "HutForShow$Act") (n := 2) G C h (wX4_run G hc) hk rfl hl q453 (va_Decl.abs (va_Nw.warmD C.2.2.2.2.2.2.2 (va_Nw.of rfl (G.1 _ q452)))) q454 q455 q58 q456 (by decide +kernel) ⟨Nat.le_trans (by decide) hR.1, Nat.le_trans (by decide) hR.2⟩ rfl rfl rfl hsize hst hW hdg hf kk
  split at hc
  · next hk =>
    exact x_cA (q := (RX12, TZ0, 0)) (owner := "HutForShow$Act") (n := 2) G C h (wX12_run G hc) hk rfl hl q453 (va_Decl.abs (va_Nw.warmD C.2.2.2.2.2.2.2 (va_Nw.of rfl (G.1 _ q452)))) q471 q472 q71 q473 (by decide +kernel) ⟨Nat.le_trans (by decide) hR.1, Nat.le_trans (by decide) hR.2⟩ rfl rfl rfl hsize hst hW hdg hf kk
  split at hc
  · next hk =>
    exact x_cA (q := (RX13, TZ0, 0)) (owner := "HutForShow$Act") (n := 2) G C h (wX13_run G hc) hk rfl hl q453 (va_Decl.abs (va_Nw.warmD C.2.2.2.2.2.2.2 (va_Nw.of rfl (G.1 _ q452)))) q460 q461 q72 q462 (by decide +kernel) ⟨Nat.le_trans (by decide) hR.1, Nat.le_trans (by decide) hR.2⟩ rfl rfl rfl hsize hst hW hdg hf kk
  split at hc
  · next hk =>
    exact x_cA (q := (RX15, TX15, 1)) (owner := "HutForShow$Act") (n := 2) G C h (wX15_run G hc) hk rfl hl q453 (va_Decl.abs (va_Nw.warmD C.2.2.2.2.2.2.2 (va_Nw.of rfl (G.1 _ q452)))) q477 q478 q76 q479 (by decide +kernel) ⟨Nat.le_trans (by decide) hR.1, Nat.le_trans (by decide) hR.2⟩ rfl rfl rfl hsize hst hW hdg hf kk
  cases hc
theorem dX5_step_0 : decode cX5_step 0 = .ok (.iconst 0, 1) := by decide +kernel
theorem dX5_step_1 : decode cX5_step 1 = .ok (.istore_n 2, 1) := by decide +kernel
theorem dX5_step_2 : decode cX5_step 2 = .ok (.iload_n 2, 1) := by decide +kernel
theorem dX5_step_3 : decode cX5_step 3 = .ok (.aload_n 0, 1) := by decide +kernel
theorem dX5_step_4 : decode cX5_step 4 = .ok (.getfield 3, 3) := by decide +kernel
theorem dX5_step_7 : decode cX5_step 7 = .ok (.getfield 79, 3) := by decide +kernel
theorem dX5_step_10 : decode cX5_step 10 = .ok (.if_icmp .ge 66, 3) := by decide +kernel
theorem dX5_step_13 : decode cX5_step 13 = .ok (.aload_n 0, 1) := by decide +kernel
theorem dX5_step_14 : decode cX5_step 14 = .ok (.iload_n 2, 1) := by decide +kernel
theorem dX5_step_15 : decode cX5_step 15 = .ok (.invokevirtual 113, 3) := by decide +kernel
theorem dX5_step_18 : decode cX5_step 18 = .ok (.astore_n 3, 1) := by decide +kernel
theorem dX5_step_19 : decode cX5_step 19 = .ok (.aload_n 0, 1) := by decide +kernel
theorem dX5_step_20 : decode cX5_step 20 = .ok (.getfield 33, 3) := by decide +kernel
theorem dX5_step_23 : decode cX5_step 23 = .ok (.iload_n 2, 1) := by decide +kernel
theorem dX5_step_24 : decode cX5_step 24 = .ok (.iload_n 1, 1) := by decide +kernel
theorem dX5_step_25 : decode cX5_step 25 = .ok (.ifCond .ne 21, 3) := by decide +kernel
theorem dX5_step_28 : decode cX5_step 28 = .ok (.aload_n 3, 1) := by decide +kernel
theorem dX5_step_29 : decode cX5_step 29 = .ok (.invokevirtual 117, 3) := by decide +kernel
theorem dX5_step_32 : decode cX5_step 32 = .ok (.iconst 4, 1) := by decide +kernel
theorem dX5_step_33 : decode cX5_step 33 = .ok (.if_icmp .ne 13, 3) := by decide +kernel
theorem dX5_step_36 : decode cX5_step 36 = .ok (.aload_n 0, 1) := by decide +kernel
theorem dX5_step_37 : decode cX5_step 37 = .ok (.getfield 3, 3) := by decide +kernel
theorem dX5_step_40 : decode cX5_step 40 = .ok (.getfield 70, 3) := by decide +kernel
theorem dX5_step_43 : decode cX5_step 43 = .ok (.goto 4, 3) := by decide +kernel
theorem dX5_step_46 : decode cX5_step 46 = .ok (.aload_n 3, 1) := by decide +kernel
theorem dX5_step_47 : decode cX5_step 47 = .ok (.aastore, 1) := by decide +kernel
theorem dX5_step_48 : decode cX5_step 48 = .ok (.aload_n 0, 1) := by decide +kernel
theorem dX5_step_49 : decode cX5_step 49 = .ok (.getfield 28, 3) := by decide +kernel
theorem dX5_step_52 : decode cX5_step 52 = .ok (.iload_n 2, 1) := by decide +kernel
theorem dX5_step_53 : decode cX5_step 53 = .ok (.aload_n 0, 1) := by decide +kernel
theorem dX5_step_54 : decode cX5_step 54 = .ok (.getfield 33, 3) := by decide +kernel
theorem dX5_step_57 : decode cX5_step 57 = .ok (.iload_n 2, 1) := by decide +kernel
theorem dX5_step_58 : decode cX5_step 58 = .ok (.aaload, 1) := by decide +kernel
theorem dX5_step_59 : decode cX5_step 59 = .ok (.invokevirtual 117, 3) := by decide +kernel
theorem dX5_step_62 : decode cX5_step 62 = .ok (.iastore, 1) := by decide +kernel
theorem dX5_step_63 : decode cX5_step 63 = .ok (.aload_n 0, 1) := by decide +kernel
theorem dX5_step_64 : decode cX5_step 64 = .ok (.getfield 25, 3) := by decide +kernel
theorem dX5_step_67 : decode cX5_step 67 = .ok (.iload_n 2, 1) := by decide +kernel
theorem dX5_step_68 : decode cX5_step 68 = .ok (.iconst 0, 1) := by decide +kernel
theorem dX5_step_69 : decode cX5_step 69 = .ok (.iastore, 1) := by decide +kernel
theorem dX5_step_70 : decode cX5_step 70 = .ok (.iinc 2 1, 3) := by decide +kernel
theorem dX5_step_73 : decode cX5_step 73 = .ok (.goto (-71), 3) := by decide +kernel
theorem dX5_step_76 : decode cX5_step 76 = .ok (.iconst 0, 1) := by decide +kernel
theorem dX5_step_77 : decode cX5_step 77 = .ok (.istore_n 2, 1) := by decide +kernel
theorem dX5_step_78 : decode cX5_step 78 = .ok (.iload_n 2, 1) := by decide +kernel
theorem dX5_step_79 : decode cX5_step 79 = .ok (.aload_n 0, 1) := by decide +kernel
theorem dX5_step_80 : decode cX5_step 80 = .ok (.getfield 3, 3) := by decide +kernel
theorem dX5_step_83 : decode cX5_step 83 = .ok (.getfield 79, 3) := by decide +kernel
theorem dX5_step_86 : decode cX5_step 86 = .ok (.if_icmp .ge 20, 3) := by decide +kernel
theorem dX5_step_89 : decode cX5_step 89 = .ok (.aload_n 0, 1) := by decide +kernel
theorem dX5_step_90 : decode cX5_step 90 = .ok (.getfield 33, 3) := by decide +kernel
theorem dX5_step_93 : decode cX5_step 93 = .ok (.iload_n 2, 1) := by decide +kernel
theorem dX5_step_94 : decode cX5_step 94 = .ok (.aaload, 1) := by decide +kernel
theorem dX5_step_95 : decode cX5_step 95 = .ok (.aload_n 0, 1) := by decide +kernel
theorem dX5_step_96 : decode cX5_step 96 = .ok (.iload_n 2, 1) := by decide +kernel
theorem dX5_step_97 : decode cX5_step 97 = .ok (.invokevirtual 121, 3) := by decide +kernel
theorem dX5_step_100 : decode cX5_step 100 = .ok (.iinc 2 1, 3) := by decide +kernel
theorem dX5_step_103 : decode cX5_step 103 = .ok (.goto (-25), 3) := by decide +kernel
theorem dX5_step_106 : decode cX5_step 106 = .ok (.iconst 0, 1) := by decide +kernel
theorem dX5_step_107 : decode cX5_step 107 = .ok (.istore_n 2, 1) := by decide +kernel
theorem dX5_step_108 : decode cX5_step 108 = .ok (.iload_n 2, 1) := by decide +kernel
theorem dX5_step_109 : decode cX5_step 109 = .ok (.aload_n 0, 1) := by decide +kernel
theorem dX5_step_110 : decode cX5_step 110 = .ok (.getfield 3, 3) := by decide +kernel
theorem dX5_step_113 : decode cX5_step 113 = .ok (.getfield 79, 3) := by decide +kernel
theorem dX5_step_116 : decode cX5_step 116 = .ok (.if_icmp .ge 40, 3) := by decide +kernel
theorem dX5_step_119 : decode cX5_step 119 = .ok (.aload_n 0, 1) := by decide +kernel
theorem dX5_step_120 : decode cX5_step 120 = .ok (.getfield 19, 3) := by decide +kernel
theorem dX5_step_123 : decode cX5_step 123 = .ok (.iload_n 2, 1) := by decide +kernel
theorem dX5_step_124 : decode cX5_step 124 = .ok (.bipush 30, 2) := by decide +kernel
theorem dX5_step_126 : decode cX5_step 126 = .ok (.aload_n 0, 1) := by decide +kernel
theorem dX5_step_127 : decode cX5_step 127 = .ok (.getfield 19, 3) := by decide +kernel
theorem dX5_step_130 : decode cX5_step 130 = .ok (.iload_n 2, 1) := by decide +kernel
theorem dX5_step_131 : decode cX5_step 131 = .ok (.iaload, 1) := by decide +kernel
theorem dX5_step_132 : decode cX5_step 132 = .ok (.iconst 1, 1) := by decide +kernel
theorem dX5_step_133 : decode cX5_step 133 = .ok (.iadd, 1) := by decide +kernel
theorem dX5_step_134 : decode cX5_step 134 = .ok (.invokestatic 125, 3) := by decide +kernel
theorem dX5_step_137 : decode cX5_step 137 = .ok (.iastore, 1) := by decide +kernel
theorem dX5_step_138 : decode cX5_step 138 = .ok (.aload_n 0, 1) := by decide +kernel
theorem dX5_step_139 : decode cX5_step 139 = .ok (.getfield 22, 3) := by decide +kernel
theorem dX5_step_142 : decode cX5_step 142 = .ok (.iload_n 2, 1) := by decide +kernel
theorem dX5_step_143 : decode cX5_step 143 = .ok (.aload_n 0, 1) := by decide +kernel
theorem dX5_step_144 : decode cX5_step 144 = .ok (.getfield 25, 3) := by decide +kernel
theorem dX5_step_147 : decode cX5_step 147 = .ok (.iload_n 2, 1) := by decide +kernel
theorem dX5_step_148 : decode cX5_step 148 = .ok (.iaload, 1) := by decide +kernel
theorem dX5_step_149 : decode cX5_step 149 = .ok (.iastore, 1) := by decide +kernel
theorem dX5_step_150 : decode cX5_step 150 = .ok (.iinc 2 1, 3) := by decide +kernel
theorem dX5_step_153 : decode cX5_step 153 = .ok (.goto (-45), 3) := by decide +kernel
theorem dX5_step_156 : decode cX5_step 156 = .ok (.aload_n 0, 1) := by decide +kernel
theorem dX5_step_157 : decode cX5_step 157 = .ok (.dup, 1) := by decide +kernel
theorem dX5_step_158 : decode cX5_step 158 = .ok (.getfield 40, 3) := by decide +kernel
theorem dX5_step_161 : decode cX5_step 161 = .ok (.iconst 1, 1) := by decide +kernel
theorem dX5_step_162 : decode cX5_step 162 = .ok (.iadd, 1) := by decide +kernel
theorem dX5_step_163 : decode cX5_step 163 = .ok (.putfield 40, 3) := by decide +kernel
theorem dX5_step_166 : decode cX5_step 166 = .ok (.return_, 1) := by decide +kernel
def lX5_step_2 (a0 : Nat) (a1 : Int32) (σ1 : St) (x2 : Int32) : Option ((St × Int32) ⊕ (St)) :=
  o_gR σ1 a0 3 8 fun r3 =>
  o_gI σ1 r3 0 3 fun x4 =>
  if x4 ≤ x2 then
    some (.inr σ1)
  else
  o_k σ1 a0 3 <|
  (fX5_actOf σ1 a0 x2).bind fun r5 =>
  o_gR σ1 a0 3 6 fun r6 =>
  jn (fun (r10 : Nat) =>
    o_sR σ1 r6 5 x2 r10 fun σ11 =>
    o_gR σ11 a0 3 5 fun r12 =>
    o_gR σ11 a0 3 6 fun r13 =>
    o_aR σ11 r13 5 x2 fun r14 =>
    (vAct_code σ11 r14).bind fun x15 =>
    o_sI σ11 r12 0 x2 x15 fun σ16 =>
    o_gR σ16 a0 3 4 fun r17 =>
    o_sI σ16 r17 0 x2 0 fun σ18 =>
    some (.inl (σ18, x2 + 1))) fun j47 =>
  jn (fun (_ : Unit) =>
    j47 r5) fun j46 =>
  if a1 = 0 then
    (vAct_code σ1 r5).bind fun x7 =>
    if x7 = 4 then
      o_gR σ1 a0 3 8 fun r8 =>
      o_gR σ1 r8 0 0 fun r9 =>
      j47 r9
    else
    j46 ()
  else
  j46 ()

def lX5_step_78 (a0 : Nat) (σ20 : St) (x21 : Int32) : Option ((St × Int32) ⊕ (St)) :=
  o_gR σ20 a0 3 8 fun r22 =>
  o_gI σ20 r22 0 3 fun x23 =>
  if x23 ≤ x21 then
    some (.inr σ20)
  else
  o_gR σ20 a0 3 6 fun r24 =>
  o_aR σ20 r24 5 x21 fun r25 =>
  (vAct_run σ20 r25 a0 x21).bind fun σ26 =>
  some (.inl (σ26, x21 + 1))

def lX5_step_108 (a0 : Nat) (σ28 : St) (x29 : Int32) : Option ((St × Int32) ⊕ (St)) :=
  o_gR σ28 a0 3 8 fun r30 =>
  o_gI σ28 r30 0 3 fun x31 =>
  if x31 ≤ x29 then
    some (.inr σ28)
  else
  o_gR σ28 a0 3 2 fun r32 =>
  o_gR σ28 a0 3 2 fun r33 =>
  o_aI σ28 r33 0 x29 fun x34 =>
  o_let (jmin 30 (x34 + 1)) fun x35 =>
  o_sI σ28 r32 0 x29 x35 fun σ36 =>
  o_gR σ36 a0 3 3 fun r37 =>
  o_gR σ36 a0 3 4 fun r38 =>
  o_aI σ36 r38 0 x29 fun x39 =>
  o_sI σ36 r37 0 x29 x39 fun σ40 =>
  some (.inl (σ40, x29 + 1))

def fX5_step (σ : St) (a0 : Nat) (a1 : Int32) : Option (St) :=
  (loopF fuel (fun z => lX5_step_2 a0 a1 z.1 z.2) (σ, 0)).bind <| fun σ19 =>
  (loopF fuel (fun z => lX5_step_78 a0 z.1 z.2) (σ19, 0)).bind <| fun σ27 =>
  (loopF fuel (fun z => lX5_step_108 a0 z.1 z.2) (σ27, 0)).bind <| fun σ41 =>
  o_gI σ41 a0 3 0 fun x42 =>
  o_pI σ41 a0 3 0 (x42 + 1) fun σ43 =>
  some σ43

set_option maxHeartbeats 4000000 in
theorem wX5_step {l : Launch} {s0 : State} {A0 : Array Value} {D : va_G} {ac : Nat → ClassId} (G : Gl s0 A0 D ac) {σ : St} {a0 : Nat} {a1 : Int32} {σ' : St} (hf : fX5_step σ a0 a1 = some (σ')) : Met l yX5_step (ws_ yX5_step cX5_step 4 none) ({ frames := 5, cells := 0, slots := 0, locals := 114 } : Room) (Pn s0 D ac [.ref a0, .int a1] σ) (Qn s0 D ac none σ') 0 0 (fr s0) := by
  refine x_met (by decide) (Nat.le_of_ble_eq_true rfl) ?_
  intro p e s m args below meth c ls C hnm h hl
  have C : Cx s0 p s m args meth c cX5_step 4 "HutForShow$Wood" none := C
  have hx := C.1
  have hb := C.2.1
  have hl : lv_has ls 4 [(0, .ref a0), (1, .int a1)] := hl
  unfold fX5_step at hf
  refine lv_iconst (v := 0) hx hb dX5_step_0 (by decide) ?_
  refine lv_istore_n (lv' := [(2, .int 0), (0, .ref a0), (1, .int a1)]) hx hb dX5_step_1 rfl hl (by decide) rfl (fun ls hl => ?_)
  obtain ⟨e2, hL, hK⟩ := hf_b hf
  have hE2_0 : ∀ (σ19 : St), σ19 = e2 → ∀  (H : Heap) (locs : List Loc) (ls : Array Slot), Hs s0 D ac σ19 H locs → lv_has ls 4 [(0, .ref a0), (1, .int a1)] → W p l e ({ frames := 5, cells := 0, slots := 0, locals := 114 } : Room) s m args below meth c H locs 0 0 (MQ below (Qn s0 D ac none σ') args s 0 0 (fr s0)) (F0 m 76 ls []) := by
    intro σ19 he H locs ls h hl
    subst he
    have hf := hK
    refine lv_iconst (v := 0) hx hb dX5_step_76 (by decide) ?_
    refine lv_istore_n (lv' := [(2, .int 0), (0, .ref a0), (1, .int a1)]) hx hb dX5_step_77 rfl hl (by decide) rfl (fun ls hl => ?_)
    obtain ⟨e78, hL, hK⟩ := hf_b hf
    have hE78_0 : ∀ (σ27 : St), σ27 = e78 → ∀  (H : Heap) (locs : List Loc) (ls : Array Slot), Hs s0 D ac σ27 H locs → lv_has ls 4 [(0, .ref a0), (1, .int a1)] → W p l e ({ frames := 5, cells := 0, slots := 0, locals := 114 } : Room) s m args below meth c H locs 0 0 (MQ below (Qn s0 D ac none σ') args s 0 0 (fr s0)) (F0 m 106 ls []) := by
      intro σ27 he H locs ls h hl
      subst he
      have hf := hK
      refine lv_iconst (v := 0) hx hb dX5_step_106 (by decide) ?_
      refine lv_istore_n (lv' := [(2, .int 0), (0, .ref a0), (1, .int a1)]) hx hb dX5_step_107 rfl hl (by decide) rfl (fun ls hl => ?_)
      obtain ⟨e108, hL, hK⟩ := hf_b hf
      have hE108_0 : ∀ (σ41 : St), σ41 = e108 → ∀  (H : Heap) (locs : List Loc) (ls : Array Slot), Hs s0 D ac σ41 H locs → lv_has ls 4 [(0, .ref a0), (1, .int a1)] → W p l e ({ frames := 5, cells := 0, slots := 0, locals := 114 } : Room) s m args below meth c H locs 0 0 (MQ below (Qn s0 D ac none σ') args s 0 0 (fr s0)) (F0 m 156 ls []) := by
        intro σ41 he H locs ls h hl
        subst he
        have hf := hK
        refine lv_aload_n hx hb dX5_step_156 rfl (lv_at hl 0 rfl) ?_
        refine lv_dup hx hb dX5_step_157 rfl ?_
        refine x_gI (q := (RX5, TX5, 9)) (j := 0) G C h rfl (by decide) (fun _ _ _ => rfl) (lk C q122) (fun _ z => z) dX5_step_158 hf (fun x42 hf => ?_)
        refine lv_iconst (v := 1) hx hb dX5_step_161 (by decide) ?_
        refine lv_iadd hx hb dX5_step_162 ?_
        refine x_pI (q := (RX5, TX5, 9)) (j := 0) G C h rfl (by decide) rfl (lk C q122) (fun _ z => z) (Or.inl rfl) dX5_step_163 hf (fun σ43 H locs h hf => ?_)
        cases hf
        refine W.widen (k := 0) (n := 0) (Nat.le_of_ble_eq_true rfl) (Nat.le_of_ble_eq_true rfl) ?_
        exact x_vret C h dX5_step_166
      refine loopF_ind (P := fun z => ∀ (H : Heap) (locs : List Loc) (ls : Array Slot), Hs s0 D ac (z.1) H locs → lv_has ls 4 [(0, .ref a0), (1, .int a1), (2, .int z.2)] → W p l e ({ frames := 5, cells := 0, slots := 0, locals := 114 } : Room) s m args below meth c H locs 0 0 (MQ below (Qn s0 D ac none σ') args s 0 0 (fr s0)) (F0 m 108 ls [])) ?_ _ _ hL _ _ _ h (lv_sub hl [1, 2, 0] rfl)
      clear hK hL h hl hf
      intro z o hf ih hX H locs ls h hl
      obtain ⟨σ28, x29⟩ := z
      have h : Hs s0 D ac σ28 H locs := h
      have hl : lv_has ls 4 [(0, .ref a0), (1, .int a1), (2, .int x29)] := hl
      have hf : lX5_step_108 a0 σ28 x29 = some o := hf
      unfold lX5_step_108 at hf
      refine lv_iload_n hx hb dX5_step_108 rfl (lv_at hl 2 rfl) ?_
      refine lv_aload_n hx hb dX5_step_109 rfl (lv_at hl 0 rfl) ?_
      refine x_gR (q := (RX5, TX5, 9)) (j := 8) G C h rfl (by decide) (fun _ _ _ => rfl) (lk C q145) (fun _ z => z) dX5_step_110 hf (fun r30 hf => ?_)
      refine x_gI (q := (RX0, TX0, 33)) (j := 3) G C h rfl (by decide) (fun _ _ _ => rfl) (lkn G C q204) (fun _ z => z) dX5_step_113 hf (fun x31 hf => ?_)
      refine lv_icmp_ge (tgt := 156) hx hb dX5_step_116 (by decide) (fun hc => ?_) (fun hc => ?_)
      · have hf := hf_t hc hf
        cases hf
        exact hE108_0 _ (hX _ rfl) _ _ _ h (lv_sub hl [0, 1] rfl)
      · have hf := hf_f hc hf
        refine lv_aload_n hx hb dX5_step_119 rfl (lv_at hl 0 rfl) ?_
        refine x_gR (q := (RX5, TX5, 9)) (j := 2) G C h rfl (by decide) (fun _ _ _ => rfl) (lk C q130) (fun _ z => z) dX5_step_120 hf (fun r32 hf => ?_)
        refine lv_iload_n hx hb dX5_step_123 rfl (lv_at hl 2 rfl) ?_
        refine lv_bipush (v := 30) hx hb dX5_step_124 (by decide) ?_
        refine lv_aload_n hx hb dX5_step_126 rfl (lv_at hl 0 rfl) ?_
        refine x_gR (q := (RX5, TX5, 9)) (j := 2) G C h rfl (by decide) (fun _ _ _ => rfl) (lk C q130) (fun _ z => z) dX5_step_127 hf (fun r33 hf => ?_)
        refine lv_iload_n hx hb dX5_step_130 rfl (lv_at hl 2 rfl) ?_
        refine x_iald G C h dX5_step_131 hf (fun x34 hf => ?_)
        refine lv_iconst (v := 1) hx hb dX5_step_132 (by decide) ?_
        refine lv_iadd hx hb dX5_step_133 ?_
        refine x_min C hl.1 q502 q475 q63 q476 (Nat.le_of_ble_eq_true rfl) (Nat.le_of_ble_eq_true rfl) (Nat.le_of_ble_eq_true rfl) (Nat.le_of_ble_eq_true rfl) dX5_step_134 ?_
        refine x_letI hf (fun x35 hf => ?_)
        refine x_iast G C h dX5_step_137 hf (fun σ36 H locs h hf => ?_)
        refine lv_aload_n hx hb dX5_step_138 rfl (lv_at hl 0 rfl) ?_
        refine x_gR (q := (RX5, TX5, 9)) (j := 3) G C h rfl (by decide) (fun _ _ _ => rfl) (lk C q134) (fun _ z => z) dX5_step_139 hf (fun r37 hf => ?_)
        refine lv_iload_n hx hb dX5_step_142 rfl (lv_at hl 2 rfl) ?_
        refine lv_aload_n hx hb dX5_step_143 rfl (lv_at hl 0 rfl) ?_
        refine x_gR (q := (RX5, TX5, 9)) (j := 4) G C h rfl (by decide) (fun _ _ _ => rfl) (lk C q137) (fun _ z => z) dX5_step_144 hf (fun r38 hf => ?_)
        refine lv_iload_n hx hb dX5_step_147 rfl (lv_at hl 2 rfl) ?_
        refine x_iald G C h dX5_step_148 hf (fun x39 hf => ?_)
        refine x_iast G C h dX5_step_149 hf (fun σ40 H locs h hf => ?_)
        refine lv_iinc (v := x29 + 1) (lv' := [(2, .int (x29 + 1)), (0, .ref a0), (1, .int a1)]) hx hb dX5_step_150 hl (k := 2) rfl rfl (by decide) rfl (fun ls hl => ?_)
        refine lv_goto (tgt := 108) hx hb dX5_step_153 (by decide) ?_
        cases hf
        exact ih _ rfl _ _ _ h (lv_sub hl [1, 2, 0] rfl)
    refine loopF_ind (P := fun z => ∀ (H : Heap) (locs : List Loc) (ls : Array Slot), Hs s0 D ac (z.1) H locs → lv_has ls 4 [(0, .ref a0), (1, .int a1), (2, .int z.2)] → W p l e ({ frames := 5, cells := 0, slots := 0, locals := 114 } : Room) s m args below meth c H locs 0 0 (MQ below (Qn s0 D ac none σ') args s 0 0 (fr s0)) (F0 m 78 ls [])) ?_ _ _ hL _ _ _ h (lv_sub hl [1, 2, 0] rfl)
    clear hK hL h hl hf
    intro z o hf ih hX H locs ls h hl
    obtain ⟨σ20, x21⟩ := z
    have h : Hs s0 D ac σ20 H locs := h
    have hl : lv_has ls 4 [(0, .ref a0), (1, .int a1), (2, .int x21)] := hl
    have hf : lX5_step_78 a0 σ20 x21 = some o := hf
    unfold lX5_step_78 at hf
    refine lv_iload_n hx hb dX5_step_78 rfl (lv_at hl 2 rfl) ?_
    refine lv_aload_n hx hb dX5_step_79 rfl (lv_at hl 0 rfl) ?_
    refine x_gR (q := (RX5, TX5, 9)) (j := 8) G C h rfl (by decide) (fun _ _ _ => rfl) (lk C q145) (fun _ z => z) dX5_step_80 hf (fun r22 hf => ?_)
    refine x_gI (q := (RX0, TX0, 33)) (j := 3) G C h rfl (by decide) (fun _ _ _ => rfl) (lkn G C q204) (fun _ z => z) dX5_step_83 hf (fun x23 hf => ?_)
    refine lv_icmp_ge (tgt := 106) hx hb dX5_step_86 (by decide) (fun hc => ?_) (fun hc => ?_)
    · have hf := hf_t hc hf
      cases hf
      exact hE78_0 _ (hX _ rfl) _ _ _ h (lv_sub hl [0, 1] rfl)
    · have hf := hf_f hc hf
      refine lv_aload_n hx hb dX5_step_89 rfl (lv_at hl 0 rfl) ?_
      refine x_gR (q := (RX5, TX5, 9)) (j := 6) G C h rfl (by decide) (fun _ _ _ => rfl) (lk C q140) (fun _ z => z) dX5_step_90 hf (fun r24 hf => ?_)
      refine lv_iload_n hx hb dX5_step_93 rfl (lv_at hl 2 rfl) ?_
      refine x_aald (q := 5) rfl rfl (fun _ _ _ => rfl) G C h dX5_step_94 hf (fun r25 hf => ?_)
      refine lv_aload_n hx hb dX5_step_95 rfl (lv_at hl 0 rfl) ?_
      refine lv_iload_n hx hb dX5_step_96 rfl (lv_at hl 2 rfl) ?_
      obtain ⟨σ26, hc, hf⟩ := hf_b hf
      refine x_vAct_run (rest := []) (As := [.ref a0, .int x21]) G C h hc q451 ⟨Nat.le_of_ble_eq_true rfl, Nat.le_of_ble_eq_true rfl⟩ hl.1 rfl (Nat.le_of_ble_eq_true rfl) dX5_step_97 ⟨(Nat.le_of_ble_eq_true rfl), (Nat.le_of_ble_eq_true rfl)⟩ rfl (fun H locs h => ?_)
      refine lv_iinc (v := x21 + 1) (lv' := [(2, .int (x21 + 1)), (0, .ref a0), (1, .int a1)]) hx hb dX5_step_100 hl (k := 2) rfl rfl (by decide) rfl (fun ls hl => ?_)
      refine lv_goto (tgt := 78) hx hb dX5_step_103 (by decide) ?_
      cases hf
      exact ih _ rfl _ _ _ h (lv_sub hl [1, 2, 0] rfl)
  refine loopF_ind (P := fun z => ∀ (H : Heap) (locs : List Loc) (ls : Array Slot), Hs s0 D ac (z.1) H locs → lv_has ls 4 [(0, .ref a0), (1, .int a1), (2, .int z.2)] → W p l e ({ frames := 5, cells := 0, slots := 0, locals := 114 } : Room) s m args below meth c H locs 0 0 (MQ below (Qn s0 D ac none σ') args s 0 0 (fr s0)) (F0 m 2 ls [])) ?_ _ _ hL _ _ _ h (lv_sub hl [1, 2, 0] rfl)
  clear hK hL h hl hf
  intro z o hf ih hX H locs ls h hl
  obtain ⟨σ1, x2⟩ := z
  have h : Hs s0 D ac σ1 H locs := h
  have hl : lv_has ls 4 [(0, .ref a0), (1, .int a1), (2, .int x2)] := hl
  have hf : lX5_step_2 a0 a1 σ1 x2 = some o := hf
  unfold lX5_step_2 at hf
  refine lv_iload_n hx hb dX5_step_2 rfl (lv_at hl 2 rfl) ?_
  refine lv_aload_n hx hb dX5_step_3 rfl (lv_at hl 0 rfl) ?_
  refine x_gR (q := (RX5, TX5, 9)) (j := 8) G C h rfl (by decide) (fun _ _ _ => rfl) (lk C q145) (fun _ z => z) dX5_step_4 hf (fun r3 hf => ?_)
  refine x_gI (q := (RX0, TX0, 33)) (j := 3) G C h rfl (by decide) (fun _ _ _ => rfl) (lkn G C q204) (fun _ z => z) dX5_step_7 hf (fun x4 hf => ?_)
  refine lv_icmp_ge (tgt := 76) hx hb dX5_step_10 (by decide) (fun hc => ?_) (fun hc => ?_)
  · have hf := hf_t hc hf
    cases hf
    exact hE2_0 _ (hX _ rfl) _ _ _ h (lv_sub hl [0, 1] rfl)
  · have hf := hf_f hc hf
    refine lv_aload_n hx hb dX5_step_13 rfl (lv_at hl 0 rfl) ?_
    refine lv_iload_n hx hb dX5_step_14 rfl (lv_at hl 2 rfl) ?_
    obtain ⟨hk, hf⟩ := k_of hf
    obtain ⟨r5, hc, hf⟩ := hf_b hf
    refine x_cV (q := (RX5, TX5, 9)) (rest := []) (As := [.int x2]) (n := 1) (ov := (some (.ref r5))) G C h (wX5_actOf G hc) hk rfl (lw_V q414 q415 q416 q59 q417) (by decide +kernel) ⟨Nat.le_of_ble_eq_true rfl, Nat.le_of_ble_eq_true rfl⟩ rfl rfl rfl hl.1 rfl (Nat.le_of_ble_eq_true rfl) dX5_step_15 ⟨(Nat.le_of_ble_eq_true rfl), (Nat.le_of_ble_eq_true rfl)⟩ (fun H locs h => ?_)
    refine lv_astore_n (lv' := [(3, .ref r5), (0, .ref a0), (1, .int a1), (2, .int x2)]) hx hb dX5_step_18 rfl hl (by decide) rfl (fun ls hl => ?_)
    refine lv_aload_n hx hb dX5_step_19 rfl (lv_at hl 1 rfl) ?_
    refine x_gR (q := (RX5, TX5, 9)) (j := 6) G C h rfl (by decide) (fun _ _ _ => rfl) (lk C q140) (fun _ z => z) dX5_step_20 hf (fun r6 hf => ?_)
    refine lv_iload_n hx hb dX5_step_23 rfl (lv_at hl 3 rfl) ?_
    refine lv_iload_n hx hb dX5_step_24 rfl (lv_at hl 2 rfl) ?_
    refine jn_of (P := fun j => ∀ (r10 : Nat), j r10 = some o → ∀ (H : Heap) (locs : List Loc) (ls : Array Slot), Hs s0 D ac σ1 H locs → lv_has ls 4 [(0, .ref a0), (1, .int a1), (2, .int x2), (3, .ref r5)] → W p l e ({ frames := 5, cells := 0, slots := 0, locals := 114 } : Room) s m args below meth c H locs 0 0 (MQ below (Qn s0 D ac none σ') args s 0 0 (fr s0)) (F0 m 47 ls [.ref r10, .int x2, .ref r6])) hf ?_ ?_
    · intro r10 hf H locs ls h hl
      refine x_aast G C h dX5_step_47 hf (fun σ11 H locs h hf => ?_)
      refine lv_aload_n hx hb dX5_step_48 rfl (lv_at hl 0 rfl) ?_
      refine x_gR (q := (RX5, TX5, 9)) (j := 5) G C h rfl (by decide) (fun _ _ _ => rfl) (lk C q138) (fun _ z => z) dX5_step_49 hf (fun r12 hf => ?_)
      refine lv_iload_n hx hb dX5_step_52 rfl (lv_at hl 2 rfl) ?_
      refine lv_aload_n hx hb dX5_step_53 rfl (lv_at hl 0 rfl) ?_
      refine x_gR (q := (RX5, TX5, 9)) (j := 6) G C h rfl (by decide) (fun _ _ _ => rfl) (lk C q140) (fun _ z => z) dX5_step_54 hf (fun r13 hf => ?_)
      refine lv_iload_n hx hb dX5_step_57 rfl (lv_at hl 2 rfl) ?_
      refine x_aald (q := 5) rfl rfl (fun _ _ _ => rfl) G C h dX5_step_58 hf (fun r14 hf => ?_)
      obtain ⟨x15, hc, hf⟩ := hf_b hf
      refine x_vAct_code (rest := [.int x2, .ref r12]) (As := []) G C h hc q433 ⟨Nat.le_of_ble_eq_true rfl, Nat.le_of_ble_eq_true rfl⟩ hl.1 rfl (Nat.le_of_ble_eq_true rfl) dX5_step_59 ⟨(Nat.le_of_ble_eq_true rfl), (Nat.le_of_ble_eq_true rfl)⟩ rfl (fun H locs h => ?_)
      refine x_iast G C h dX5_step_62 hf (fun σ16 H locs h hf => ?_)
      refine lv_aload_n hx hb dX5_step_63 rfl (lv_at hl 0 rfl) ?_
      refine x_gR (q := (RX5, TX5, 9)) (j := 4) G C h rfl (by decide) (fun _ _ _ => rfl) (lk C q137) (fun _ z => z) dX5_step_64 hf (fun r17 hf => ?_)
      refine lv_iload_n hx hb dX5_step_67 rfl (lv_at hl 2 rfl) ?_
      refine lv_iconst (v := 0) hx hb dX5_step_68 (by decide) ?_
      refine x_iast G C h dX5_step_69 hf (fun σ18 H locs h hf => ?_)
      refine lv_iinc (v := x2 + 1) (lv' := [(2, .int (x2 + 1)), (0, .ref a0), (1, .int a1), (3, .ref r5)]) hx hb dX5_step_70 hl (k := 2) rfl rfl (by decide) rfl (fun ls hl => ?_)
      refine lv_goto (tgt := 2) hx hb dX5_step_73 (by decide) ?_
      cases hf
      exact ih _ rfl _ _ _ h (lv_sub hl [1, 2, 0] rfl)
    intro j47 hj47 hf
    refine jn_of (P := fun j => ∀ (u0 : Unit), j u0 = some o → ∀ (H : Heap) (locs : List Loc) (ls : Array Slot), Hs s0 D ac σ1 H locs → lv_has ls 4 [(0, .ref a0), (1, .int a1), (2, .int x2), (3, .ref r5)] → W p l e ({ frames := 5, cells := 0, slots := 0, locals := 114 } : Room) s m args below meth c H locs 0 0 (MQ below (Qn s0 D ac none σ') args s 0 0 (fr s0)) (F0 m 46 ls [.int x2, .ref r6])) hf ?_ ?_
    · intro u0 hf H locs ls h hl
      refine lv_aload_n hx hb dX5_step_46 rfl (lv_at hl 3 rfl) ?_
      exact hj47 _ hf _ _ _ h (lv_sub hl [0, 1, 2, 3] rfl)
    intro j46 hj46 hf
    refine lv_if_ne (tgt := 46) hx hb dX5_step_25 (by decide) (fun hc => ?_) (fun hc => ?_)
    · have hf := hf_f hc hf
      exact hj46 () hf _ _ _ h (lv_sub hl [1, 2, 3, 0] rfl)
    · have hf := hf_t hc hf
      refine lv_aload_n hx hb dX5_step_28 rfl (lv_at hl 0 rfl) ?_
      obtain ⟨x7, hc, hf⟩ := hf_b hf
      refine x_vAct_code (rest := [.int x2, .ref r6]) (As := []) G C h hc q433 ⟨Nat.le_of_ble_eq_true rfl, Nat.le_of_ble_eq_true rfl⟩ hl.1 rfl (Nat.le_of_ble_eq_true rfl) dX5_step_29 ⟨(Nat.le_of_ble_eq_true rfl), (Nat.le_of_ble_eq_true rfl)⟩ rfl (fun H locs h => ?_)
      refine lv_iconst (v := 4) hx hb dX5_step_32 (by decide) ?_
      refine lv_icmp_ne (tgt := 46) hx hb dX5_step_33 (by decide) (fun hc => ?_) (fun hc => ?_)
      · have hf := hf_f hc hf
        exact hj46 () hf _ _ _ h (lv_sub hl [1, 2, 3, 0] rfl)
      · have hf := hf_t hc hf
        refine lv_aload_n hx hb dX5_step_36 rfl (lv_at hl 1 rfl) ?_
        refine x_gR (q := (RX5, TX5, 9)) (j := 8) G C h rfl (by decide) (fun _ _ _ => rfl) (lk C q145) (fun _ z => z) dX5_step_37 hf (fun r8 hf => ?_)
        refine x_gR (q := (RX0, TX0, 33)) (j := 0) G C h rfl (by decide) (fun _ _ _ => rfl) (lkn G C q196) (fun _ z => z) dX5_step_40 hf (fun r9 hf => ?_)
        refine lv_goto (tgt := 47) hx hb dX5_step_43 (by decide) ?_
        exact hj47 _ hf _ _ _ h (lv_sub hl [1, 2, 3, 0] rfl)

theorem dX0_hours_0 : decode cX0_hours 0 = .ok (.iload_n 1, 1) := by decide +kernel
theorem dX0_hours_1 : decode cX0_hours 1 = .ok (.invokestatic 199, 3) := by decide +kernel
theorem dX0_hours_4 : decode cX0_hours 4 = .ok (.ifCond .eq 18, 3) := by decide +kernel
theorem dX0_hours_7 : decode cX0_hours 7 = .ok (.aload_n 0, 1) := by decide +kernel
theorem dX0_hours_8 : decode cX0_hours 8 = .ok (.getfield 45, 3) := by decide +kernel
theorem dX0_hours_11 : decode cX0_hours 11 = .ok (.getfield 202, 3) := by decide +kernel
theorem dX0_hours_14 : decode cX0_hours 14 = .ok (.iload_n 1, 1) := by decide +kernel
theorem dX0_hours_15 : decode cX0_hours 15 = .ok (.iadd, 1) := by decide +kernel
theorem dX0_hours_16 : decode cX0_hours 16 = .ok (.sipush 900, 3) := by decide +kernel
theorem dX0_hours_19 : decode cX0_hours 19 = .ok (.if_icmp .le 6, 3) := by decide +kernel
theorem dX0_hours_22 : decode cX0_hours 22 = .ok (.bipush (-3), 2) := by decide +kernel
theorem dX0_hours_24 : decode cX0_hours 24 = .ok (.ireturn, 1) := by decide +kernel
theorem dX0_hours_25 : decode cX0_hours 25 = .ok (.iconst 0, 1) := by decide +kernel
theorem dX0_hours_26 : decode cX0_hours 26 = .ok (.istore_n 2, 1) := by decide +kernel
theorem dX0_hours_27 : decode cX0_hours 27 = .ok (.iload_n 2, 1) := by decide +kernel
theorem dX0_hours_28 : decode cX0_hours 28 = .ok (.iload_n 1, 1) := by decide +kernel
theorem dX0_hours_29 : decode cX0_hours 29 = .ok (.if_icmp .ge 17, 3) := by decide +kernel
theorem dX0_hours_32 : decode cX0_hours 32 = .ok (.aload_n 0, 1) := by decide +kernel
theorem dX0_hours_33 : decode cX0_hours 33 = .ok (.getfield 45, 3) := by decide +kernel
theorem dX0_hours_36 : decode cX0_hours 36 = .ok (.iconst 1, 1) := by decide +kernel
theorem dX0_hours_37 : decode cX0_hours 37 = .ok (.invokevirtual 205, 3) := by decide +kernel
theorem dX0_hours_40 : decode cX0_hours 40 = .ok (.iinc 2 1, 3) := by decide +kernel
theorem dX0_hours_43 : decode cX0_hours 43 = .ok (.goto (-16), 3) := by decide +kernel
theorem dX0_hours_46 : decode cX0_hours 46 = .ok (.aload_n 0, 1) := by decide +kernel
theorem dX0_hours_47 : decode cX0_hours 47 = .ok (.getfield 45, 3) := by decide +kernel
theorem dX0_hours_50 : decode cX0_hours 50 = .ok (.getfield 202, 3) := by decide +kernel
theorem dX0_hours_53 : decode cX0_hours 53 = .ok (.ireturn, 1) := by decide +kernel
def lX0_hours_27 (a1 : Int32) (a0 : Nat) (σ4 : St) (x5 : Int32) : Option ((St × Int32) ⊕ (St)) :=
  if a1 ≤ x5 then
    some (.inr σ4)
  else
  o_gR σ4 a0 0 7 fun r6 =>
  o_k σ4 r6 3 <|
  (fX5_step σ4 r6 1).bind fun σ7 =>
  some (.inl (σ7, x5 + 1))

def fX0_hours (σ : St) (a0 : Nat) (a1 : Int32) : Option (Int32 × St) :=
  (fX0_areHours σ a1).bind fun x1 =>
  if x1 = 0 then
    some ((-3), σ)
  else
  o_gR σ a0 0 7 fun r2 =>
  o_gI σ r2 3 0 fun x3 =>
  if (x3 + a1) ≤ 900 then
    (loopF fuel (fun z => lX0_hours_27 a1 a0 z.1 z.2) (σ, 0)).bind <| fun σ8 =>
    o_gR σ8 a0 0 7 fun r9 =>
    o_gI σ8 r9 3 0 fun x10 =>
    some (x10, σ8)
  else
  some ((-3), σ)

set_option maxHeartbeats 4000000 in
theorem wX0_hours {l : Launch} {s0 : State} {A0 : Array Value} {D : va_G} {ac : Nat → ClassId} (G : Gl s0 A0 D ac) {σ : St} {a0 : Nat} {a1 : Int32} {v : Int32} {σ' : St} (hf : fX0_hours σ a0 a1 = some (v, σ')) : Met l yX0_hours (ws_ yX0_hours cX0_hours 3 (some (.int))) ({ frames := 6, cells := 0, slots := 0, locals := 137 } : Room) (Pn s0 D ac [.ref a0, .int a1] σ) (Qn s0 D ac (some (.int v)) σ') 0 0 (fr s0) := by
  refine x_met (by decide) (Nat.le_of_ble_eq_true rfl) ?_
  intro p e s m args below meth c ls C hnm h hl
  have C : Cx s0 p s m args meth c cX0_hours 3 "HutForShow" (some (.int)) := C
  have hx := C.1
  have hb := C.2.1
  have hl : lv_has ls 3 [(0, .ref a0), (1, .int a1)] := hl
  unfold fX0_hours at hf
  refine lv_iload_n hx hb dX0_hours_0 rfl (lv_at hl 1 rfl) ?_
  obtain ⟨x1, hc, hf⟩ := hf_b hf
  refine x_cS (rest := []) (As := [.int a1]) (n := 1) (ov := (some (.int x1))) C h (wX0_areHours G hc) (lw_S q407 q408 q54 q409) (by decide +kernel) ⟨Nat.le_of_ble_eq_true rfl, Nat.le_of_ble_eq_true rfl⟩ rfl rfl rfl hl.1 rfl (Nat.le_of_ble_eq_true rfl) dX0_hours_1 ⟨(Nat.le_of_ble_eq_true rfl), (Nat.le_of_ble_eq_true rfl)⟩ (fun H locs h => ?_)
  refine lv_if_eq (tgt := 22) hx hb dX0_hours_4 (by decide) (fun hc => ?_) (fun hc => ?_)
  · have hf := hf_t hc hf
    refine lv_bipush (v := (-3)) hx hb dX0_hours_22 (by decide) ?_
    cases hf
    refine W.widen (k := 0) (n := 0) (Nat.le_of_ble_eq_true rfl) (Nat.le_of_ble_eq_true rfl) ?_
    exact x_iret C h dX0_hours_24
  · have hf := hf_f hc hf
    refine lv_aload_n hx hb dX0_hours_7 rfl (lv_at hl 0 rfl) ?_
    refine x_gR (q := (RX0, TX0, 33)) (j := 7) G C h rfl (by decide) (fun _ _ _ => rfl) (lk C q213) (fun _ z => z) dX0_hours_8 hf (fun r2 hf => ?_)
    refine x_gI (q := (RX5, TX5, 9)) (j := 0) G C h rfl (by decide) (fun _ _ _ => rfl) (lkn G C q124) (fun _ z => z) dX0_hours_11 hf (fun x3 hf => ?_)
    refine lv_iload_n hx hb dX0_hours_14 rfl (lv_at hl 1 rfl) ?_
    refine lv_iadd hx hb dX0_hours_15 ?_
    refine lv_sipush (v := 900) hx hb dX0_hours_16 (by decide) ?_
    refine lv_icmp_le (tgt := 25) hx hb dX0_hours_19 (by decide) (fun hc => ?_) (fun hc => ?_)
    · have hf := hf_t hc hf
      refine lv_iconst (v := 0) hx hb dX0_hours_25 (by decide) ?_
      refine lv_istore_n (lv' := [(2, .int 0), (0, .ref a0), (1, .int a1)]) hx hb dX0_hours_26 rfl hl (by decide) rfl (fun ls hl => ?_)
      obtain ⟨e27, hL, hK⟩ := hf_b hf
      have hE27_0 : ∀ (σ8 : St), σ8 = e27 → ∀  (H : Heap) (locs : List Loc) (ls : Array Slot), Hs s0 D ac σ8 H locs → lv_has ls 3 [(0, .ref a0), (1, .int a1)] → W p l e ({ frames := 6, cells := 0, slots := 0, locals := 137 } : Room) s m args below meth c H locs 0 0 (MQ below (Qn s0 D ac (some (.int v)) σ') args s 0 0 (fr s0)) (F0 m 46 ls []) := by
        intro σ8 he H locs ls h hl
        subst he
        have hf := hK
        refine lv_aload_n hx hb dX0_hours_46 rfl (lv_at hl 0 rfl) ?_
        refine x_gR (q := (RX0, TX0, 33)) (j := 7) G C h rfl (by decide) (fun _ _ _ => rfl) (lk C q213) (fun _ z => z) dX0_hours_47 hf (fun r9 hf => ?_)
        refine x_gI (q := (RX5, TX5, 9)) (j := 0) G C h rfl (by decide) (fun _ _ _ => rfl) (lkn G C q124) (fun _ z => z) dX0_hours_50 hf (fun x10 hf => ?_)
        cases hf
        refine W.widen (k := 0) (n := 0) (Nat.le_of_ble_eq_true rfl) (Nat.le_of_ble_eq_true rfl) ?_
        exact x_iret C h dX0_hours_53
      refine loopF_ind (P := fun z => ∀ (H : Heap) (locs : List Loc) (ls : Array Slot), Hs s0 D ac (z.1) H locs → lv_has ls 3 [(0, .ref a0), (1, .int a1), (2, .int z.2)] → W p l e ({ frames := 6, cells := 0, slots := 0, locals := 137 } : Room) s m args below meth c H locs 0 0 (MQ below (Qn s0 D ac (some (.int v)) σ') args s 0 0 (fr s0)) (F0 m 27 ls [])) ?_ _ _ hL _ _ _ h (lv_sub hl [1, 2, 0] rfl)
      clear hK hL h hl hf
      intro z o hf ih hX H locs ls h hl
      obtain ⟨σ4, x5⟩ := z
      have h : Hs s0 D ac σ4 H locs := h
      have hl : lv_has ls 3 [(0, .ref a0), (1, .int a1), (2, .int x5)] := hl
      have hf : lX0_hours_27 a1 a0 σ4 x5 = some o := hf
      unfold lX0_hours_27 at hf
      refine lv_iload_n hx hb dX0_hours_27 rfl (lv_at hl 2 rfl) ?_
      refine lv_iload_n hx hb dX0_hours_28 rfl (lv_at hl 1 rfl) ?_
      refine lv_icmp_ge (tgt := 46) hx hb dX0_hours_29 (by decide) (fun hc => ?_) (fun hc => ?_)
      · have hf := hf_t hc hf
        cases hf
        exact hE27_0 _ (hX _ rfl) _ _ _ h (lv_sub hl [0, 1] rfl)
      · have hf := hf_f hc hf
        refine lv_aload_n hx hb dX0_hours_32 rfl (lv_at hl 0 rfl) ?_
        refine x_gR (q := (RX0, TX0, 33)) (j := 7) G C h rfl (by decide) (fun _ _ _ => rfl) (lk C q213) (fun _ z => z) dX0_hours_33 hf (fun r6 hf => ?_)
        refine lv_iconst (v := 1) hx hb dX0_hours_36 (by decide) ?_
        obtain ⟨hk, hf⟩ := k_of hf
        obtain ⟨σ7, hc, hf⟩ := hf_b hf
        refine x_cV (q := (RX5, TX5, 9)) (rest := []) (As := [.int 1]) (n := 1) (ov := none) G C h (wX5_step G hc) hk rfl (lw_V q410 q411 q412 q59 q413) (by decide +kernel) ⟨Nat.le_of_ble_eq_true rfl, Nat.le_of_ble_eq_true rfl⟩ rfl rfl rfl hl.1 rfl (Nat.le_of_ble_eq_true rfl) dX0_hours_37 ⟨(Nat.le_of_ble_eq_true rfl), (Nat.le_of_ble_eq_true rfl)⟩ (fun H locs h => ?_)
        refine lv_iinc (v := x5 + 1) (lv' := [(2, .int (x5 + 1)), (0, .ref a0), (1, .int a1)]) hx hb dX0_hours_40 hl (k := 2) rfl rfl (by decide) rfl (fun ls hl => ?_)
        refine lv_goto (tgt := 27) hx hb dX0_hours_43 (by decide) ?_
        cases hf
        exact ih _ rfl _ _ _ h (lv_sub hl [1, 2, 0] rfl)
    · have hf := hf_f hc hf
      refine lv_bipush (v := (-3)) hx hb dX0_hours_22 (by decide) ?_
      cases hf
      refine W.widen (k := 0) (n := 0) (Nat.le_of_ble_eq_true rfl) (Nat.le_of_ble_eq_true rfl) ?_
      exact x_iret C h dX0_hours_24

theorem dX0_write_0 : decode cX0_write 0 = .ok (.iload_n 3, 1) := by decide +kernel
theorem dX0_write_1 : decode cX0_write 1 = .ok (.i2l, 1) := by decide +kernel
theorem dX0_write_2 : decode cX0_write 2 = .ok (.lconst 1, 1) := by decide +kernel
theorem dX0_write_3 : decode cX0_write 3 = .ok (.ldc2_w 209, 3) := by decide +kernel
theorem dX0_write_6 : decode cX0_write 6 = .ok (.invokestatic 127, 3) := by decide +kernel
theorem dX0_write_9 : decode cX0_write 9 = .ok (.ifCond .ne 6, 3) := by decide +kernel
theorem dX0_write_12 : decode cX0_write 12 = .ok (.bipush (-3), 2) := by decide +kernel
theorem dX0_write_14 : decode cX0_write 14 = .ok (.ireturn, 1) := by decide +kernel
theorem dX0_write_15 : decode cX0_write 15 = .ok (.aload_n 0, 1) := by decide +kernel
theorem dX0_write_16 : decode cX0_write 16 = .ok (.getfield 211, 3) := by decide +kernel
theorem dX0_write_19 : decode cX0_write 19 = .ok (.iload_n 3, 1) := by decide +kernel
theorem dX0_write_20 : decode cX0_write 20 = .ok (.iadd, 1) := by decide +kernel
theorem dX0_write_21 : decode cX0_write 21 = .ok (.sipush 160, 3) := by decide +kernel
theorem dX0_write_24 : decode cX0_write 24 = .ok (.if_icmp .le 6, 3) := by decide +kernel
theorem dX0_write_27 : decode cX0_write 27 = .ok (.bipush (-5), 2) := by decide +kernel
theorem dX0_write_29 : decode cX0_write 29 = .ok (.ireturn, 1) := by decide +kernel
theorem dX0_write_30 : decode cX0_write 30 = .ok (.iconst 0, 1) := by decide +kernel
theorem dX0_write_31 : decode cX0_write 31 = .ok (.istore 4, 2) := by decide +kernel
theorem dX0_write_33 : decode cX0_write 33 = .ok (.iload 4, 2) := by decide +kernel
theorem dX0_write_35 : decode cX0_write 35 = .ok (.iload_n 3, 1) := by decide +kernel
theorem dX0_write_36 : decode cX0_write 36 = .ok (.if_icmp .ge 37, 3) := by decide +kernel
theorem dX0_write_39 : decode cX0_write 39 = .ok (.aload_n 0, 1) := by decide +kernel
theorem dX0_write_40 : decode cX0_write 40 = .ok (.getfield 64, 3) := by decide +kernel
theorem dX0_write_43 : decode cX0_write 43 = .ok (.aload_n 0, 1) := by decide +kernel
theorem dX0_write_44 : decode cX0_write 44 = .ok (.getfield 211, 3) := by decide +kernel
theorem dX0_write_47 : decode cX0_write 47 = .ok (.lload_n 1, 1) := by decide +kernel
theorem dX0_write_48 : decode cX0_write 48 = .ok (.bipush 8, 2) := by decide +kernel
theorem dX0_write_50 : decode cX0_write 50 = .ok (.iload 4, 2) := by decide +kernel
theorem dX0_write_52 : decode cX0_write 52 = .ok (.imul, 1) := by decide +kernel
theorem dX0_write_53 : decode cX0_write 53 = .ok (.lshr, 1) := by decide +kernel
theorem dX0_write_54 : decode cX0_write 54 = .ok (.l2i, 1) := by decide +kernel
theorem dX0_write_55 : decode cX0_write 55 = .ok (.i2b, 1) := by decide +kernel
theorem dX0_write_56 : decode cX0_write 56 = .ok (.bastore, 1) := by decide +kernel
theorem dX0_write_57 : decode cX0_write 57 = .ok (.aload_n 0, 1) := by decide +kernel
theorem dX0_write_58 : decode cX0_write 58 = .ok (.dup, 1) := by decide +kernel
theorem dX0_write_59 : decode cX0_write 59 = .ok (.getfield 211, 3) := by decide +kernel
theorem dX0_write_62 : decode cX0_write 62 = .ok (.iconst 1, 1) := by decide +kernel
theorem dX0_write_63 : decode cX0_write 63 = .ok (.iadd, 1) := by decide +kernel
theorem dX0_write_64 : decode cX0_write 64 = .ok (.putfield 211, 3) := by decide +kernel
theorem dX0_write_67 : decode cX0_write 67 = .ok (.iinc 4 1, 3) := by decide +kernel
theorem dX0_write_70 : decode cX0_write 70 = .ok (.goto (-37), 3) := by decide +kernel
theorem dX0_write_73 : decode cX0_write 73 = .ok (.aload_n 0, 1) := by decide +kernel
theorem dX0_write_74 : decode cX0_write 74 = .ok (.getfield 211, 3) := by decide +kernel
theorem dX0_write_77 : decode cX0_write 77 = .ok (.ireturn, 1) := by decide +kernel
def lX0_write_33 (a2 : Int32) (a0 : Nat) (a1 : Int64) (σ3 : St) (x4 : Int32) : Option ((St × Int32) ⊕ (St)) :=
  if a2 ≤ x4 then
    some (.inr σ3)
  else
  o_gR σ3 a0 0 11 fun r5 =>
  o_gI σ3 a0 0 12 fun x6 =>
  o_sI σ3 r5 1 x6 (vp_nar .byte (((a1 >>> ((8 * x4).toInt64 &&& 63)).toInt32).toInt8.toInt32)) fun σ7 =>
  o_gI σ7 a0 0 12 fun x8 =>
  o_pI σ7 a0 0 12 (x8 + 1) fun σ9 =>
  some (.inl (σ9, x4 + 1))

def fX0_write (σ : St) (a0 : Nat) (a1 : Int64) (a2 : Int32) : Option (Int32 × St) :=
  (fX0_isIn σ (a2.toInt64) 1 8).bind fun x1 =>
  if x1 = 0 then
    some ((-3), σ)
  else
  o_gI σ a0 0 12 fun x2 =>
  if (x2 + a2) ≤ 160 then
    (loopF fuel (fun z => lX0_write_33 a2 a0 a1 z.1 z.2) (σ, 0)).bind <| fun σ10 =>
    o_gI σ10 a0 0 12 fun x11 =>
    some (x11, σ10)
  else
  some ((-5), σ)

set_option maxHeartbeats 4000000 in
theorem wX0_write {l : Launch} {s0 : State} {A0 : Array Value} {D : va_G} {ac : Nat → ClassId} (G : Gl s0 A0 D ac) {σ : St} {a0 : Nat} {a1 : Int64} {a2 : Int32} {v : Int32} {σ' : St} (hf : fX0_write σ a0 a1 a2 = some (v, σ')) : Met l yX0_write (ws_ yX0_write cX0_write 5 (some (.int))) ({ frames := 1, cells := 0, slots := 0, locals := 25 } : Room) (Pn s0 D ac [.ref a0, .long a1, .int a2] σ) (Qn s0 D ac (some (.int v)) σ') 0 0 (fr s0) := by
  refine x_met (by decide) (Nat.le_of_ble_eq_true rfl) ?_
  intro p e s m args below meth c ls C hnm h hl
  have C : Cx s0 p s m args meth c cX0_write 5 "HutForShow" (some (.int)) := C
  have hx := C.1
  have hb := C.2.1
  have hl : lv_has ls 5 [(0, .ref a0), (1, .long a1), (3, .int a2)] := hl
  unfold fX0_write at hf
  refine lv_iload_n hx hb dX0_write_0 rfl (lv_at hl 2 rfl) ?_
  refine lv_i2l hx hb dX0_write_1 rfl ?_
  refine lv_lconst (v := 1) hx hb dX0_write_2 (by decide) ?_
  refine lv_ldc2 (v := 8) hx hb C.2.2.2.1 (C.2.2.2.2.1 _ q507) dX0_write_3 ?_
  obtain ⟨x1, hc, hf⟩ := hf_b hf
  refine x_cS (rest := []) (As := [.long (a2.toInt64), .long 1, .long 8]) (n := 3) (ov := (some (.int x1))) C h (wX0_isIn G hc) (lw_S q318 q319 q54 q320) (by decide +kernel) ⟨Nat.le_of_ble_eq_true rfl, Nat.le_of_ble_eq_true rfl⟩ rfl rfl rfl hl.1 rfl (Nat.le_of_ble_eq_true rfl) dX0_write_6 ⟨(Nat.le_of_ble_eq_true rfl), (Nat.le_of_ble_eq_true rfl)⟩ (fun H locs h => ?_)
  refine lv_if_ne (tgt := 15) hx hb dX0_write_9 (by decide) (fun hc => ?_) (fun hc => ?_)
  · have hf := hf_f hc hf
    refine lv_aload_n hx hb dX0_write_15 rfl (lv_at hl 0 rfl) ?_
    refine x_gI (q := (RX0, TX0, 33)) (j := 12) G C h rfl (by decide) (fun _ _ _ => rfl) (lk C q221) (fun _ z => z) dX0_write_16 hf (fun x2 hf => ?_)
    refine lv_iload_n hx hb dX0_write_19 rfl (lv_at hl 2 rfl) ?_
    refine lv_iadd hx hb dX0_write_20 ?_
    refine lv_sipush (v := 160) hx hb dX0_write_21 (by decide) ?_
    refine lv_icmp_le (tgt := 30) hx hb dX0_write_24 (by decide) (fun hc => ?_) (fun hc => ?_)
    · have hf := hf_t hc hf
      refine lv_iconst (v := 0) hx hb dX0_write_30 (by decide) ?_
      refine lv_istore (lv' := [(4, .int 0), (0, .ref a0), (1, .long a1), (3, .int a2)]) hx hb dX0_write_31 hl (by decide) rfl (fun ls hl => ?_)
      obtain ⟨e33, hL, hK⟩ := hf_b hf
      have hE33_0 : ∀ (σ10 : St), σ10 = e33 → ∀  (H : Heap) (locs : List Loc) (ls : Array Slot), Hs s0 D ac σ10 H locs → lv_has ls 5 [(0, .ref a0), (1, .long a1), (3, .int a2)] → W p l e ({ frames := 1, cells := 0, slots := 0, locals := 25 } : Room) s m args below meth c H locs 0 0 (MQ below (Qn s0 D ac (some (.int v)) σ') args s 0 0 (fr s0)) (F0 m 73 ls []) := by
        intro σ10 he H locs ls h hl
        subst he
        have hf := hK
        refine lv_aload_n hx hb dX0_write_73 rfl (lv_at hl 0 rfl) ?_
        refine x_gI (q := (RX0, TX0, 33)) (j := 12) G C h rfl (by decide) (fun _ _ _ => rfl) (lk C q221) (fun _ z => z) dX0_write_74 hf (fun x11 hf => ?_)
        cases hf
        refine W.widen (k := 0) (n := 0) (Nat.le_of_ble_eq_true rfl) (Nat.le_of_ble_eq_true rfl) ?_
        exact x_iret C h dX0_write_77
      refine loopF_ind (P := fun z => ∀ (H : Heap) (locs : List Loc) (ls : Array Slot), Hs s0 D ac (z.1) H locs → lv_has ls 5 [(0, .ref a0), (1, .long a1), (3, .int a2), (4, .int z.2)] → W p l e ({ frames := 1, cells := 0, slots := 0, locals := 25 } : Room) s m args below meth c H locs 0 0 (MQ below (Qn s0 D ac (some (.int v)) σ') args s 0 0 (fr s0)) (F0 m 33 ls [])) ?_ _ _ hL _ _ _ h (lv_sub hl [1, 2, 3, 0] rfl)
      clear hK hL h hl hf
      intro z o hf ih hX H locs ls h hl
      obtain ⟨σ3, x4⟩ := z
      have h : Hs s0 D ac σ3 H locs := h
      have hl : lv_has ls 5 [(0, .ref a0), (1, .long a1), (3, .int a2), (4, .int x4)] := hl
      have hf : lX0_write_33 a2 a0 a1 σ3 x4 = some o := hf
      unfold lX0_write_33 at hf
      refine lv_iload hx hb dX0_write_33 (lv_at hl 3 rfl) ?_
      refine lv_iload_n hx hb dX0_write_35 rfl (lv_at hl 2 rfl) ?_
      refine lv_icmp_ge (tgt := 73) hx hb dX0_write_36 (by decide) (fun hc => ?_) (fun hc => ?_)
      · have hf := hf_t hc hf
        cases hf
        exact hE33_0 _ (hX _ rfl) _ _ _ h (lv_sub hl [0, 1, 2] rfl)
      · have hf := hf_f hc hf
        refine lv_aload_n hx hb dX0_write_39 rfl (lv_at hl 0 rfl) ?_
        refine x_gR (q := (RX0, TX0, 33)) (j := 11) G C h rfl (by decide) (fun _ _ _ => rfl) (lk C q219) (fun _ z => z) dX0_write_40 hf (fun r5 hf => ?_)
        refine lv_aload_n hx hb dX0_write_43 rfl (lv_at hl 0 rfl) ?_
        refine x_gI (q := (RX0, TX0, 33)) (j := 12) G C h rfl (by decide) (fun _ _ _ => rfl) (lk C q221) (fun _ z => z) dX0_write_44 hf (fun x6 hf => ?_)
        refine lv_lload_n hx hb dX0_write_47 rfl (lv_at hl 1 rfl) ?_
        refine lv_bipush (v := 8) hx hb dX0_write_48 (by decide) ?_
        refine lv_iload hx hb dX0_write_50 (lv_at hl 3 rfl) ?_
        refine lv_imul hx hb dX0_write_52 ?_
        refine lv_lshr hx hb dX0_write_53 rfl ?_
        refine lv_l2i hx hb dX0_write_54 rfl ?_
        refine lv_i2b hx hb dX0_write_55 rfl ?_
        refine x_bast G C h dX0_write_56 hf (fun σ7 H locs h hf => ?_)
        refine lv_aload_n hx hb dX0_write_57 rfl (lv_at hl 0 rfl) ?_
        refine lv_dup hx hb dX0_write_58 rfl ?_
        refine x_gI (q := (RX0, TX0, 33)) (j := 12) G C h rfl (by decide) (fun _ _ _ => rfl) (lk C q221) (fun _ z => z) dX0_write_59 hf (fun x8 hf => ?_)
        refine lv_iconst (v := 1) hx hb dX0_write_62 (by decide) ?_
        refine lv_iadd hx hb dX0_write_63 ?_
        refine x_pI (q := (RX0, TX0, 33)) (j := 12) G C h rfl (by decide) rfl (lk C q221) (fun _ z => z) (Or.inl rfl) dX0_write_64 hf (fun σ9 H locs h hf => ?_)
        refine lv_iinc (v := x4 + 1) (lv' := [(4, .int (x4 + 1)), (0, .ref a0), (1, .long a1), (3, .int a2)]) hx hb dX0_write_67 hl (k := 3) rfl rfl (by decide) rfl (fun ls hl => ?_)
        refine lv_goto (tgt := 33) hx hb dX0_write_70 (by decide) ?_
        cases hf
        exact ih _ rfl _ _ _ h (lv_sub hl [1, 2, 3, 0] rfl)
    · have hf := hf_f hc hf
      refine lv_bipush (v := (-5)) hx hb dX0_write_27 (by decide) ?_
      cases hf
      refine W.widen (k := 0) (n := 0) (Nat.le_of_ble_eq_true rfl) (Nat.le_of_ble_eq_true rfl) ?_
      exact x_iret C h dX0_write_29
  · have hf := hf_t hc hf
    refine lv_bipush (v := (-3)) hx hb dX0_write_12 (by decide) ?_
    cases hf
    refine W.widen (k := 0) (n := 0) (Nat.le_of_ble_eq_true rfl) (Nat.le_of_ble_eq_true rfl) ?_
    exact x_iret C h dX0_write_14

theorem dX0_erase_0 : decode cX0_erase 0 = .ok (.aload_n 0, 1) := by decide +kernel
theorem dX0_erase_1 : decode cX0_erase 1 = .ok (.getfield 211, 3) := by decide +kernel
theorem dX0_erase_4 : decode cX0_erase 4 = .ok (.istore_n 1, 1) := by decide +kernel
theorem dX0_erase_5 : decode cX0_erase 5 = .ok (.aload_n 0, 1) := by decide +kernel
theorem dX0_erase_6 : decode cX0_erase 6 = .ok (.iconst 0, 1) := by decide +kernel
theorem dX0_erase_7 : decode cX0_erase 7 = .ok (.putfield 211, 3) := by decide +kernel
theorem dX0_erase_10 : decode cX0_erase 10 = .ok (.iload_n 1, 1) := by decide +kernel
theorem dX0_erase_11 : decode cX0_erase 11 = .ok (.ireturn, 1) := by decide +kernel
def fX0_erase (σ : St) (a0 : Nat) : Option (Int32 × St) :=
  o_gI σ a0 0 12 fun x1 =>
  o_pI σ a0 0 12 0 fun σ2 =>
  some (x1, σ2)

set_option maxHeartbeats 4000000 in
theorem wX0_erase {l : Launch} {s0 : State} {A0 : Array Value} {D : va_G} {ac : Nat → ClassId} (G : Gl s0 A0 D ac) {σ : St} {a0 : Nat} {v : Int32} {σ' : St} (hf : fX0_erase σ a0 = some (v, σ')) : Met l yX0_erase (ws_ yX0_erase cX0_erase 2 (some (.int))) ({ frames := 0, cells := 0, slots := 0, locals := 0 } : Room) (Pn s0 D ac [.ref a0] σ) (Qn s0 D ac (some (.int v)) σ') 0 0 (fr s0) := by
  refine x_met (by decide) (Nat.le_of_ble_eq_true rfl) ?_
  intro p e s m args below meth c ls C hnm h hl
  have C : Cx s0 p s m args meth c cX0_erase 2 "HutForShow" (some (.int)) := C
  have hx := C.1
  have hb := C.2.1
  have hl : lv_has ls 2 [(0, .ref a0)] := hl
  unfold fX0_erase at hf
  refine lv_aload_n hx hb dX0_erase_0 rfl (lv_at hl 0 rfl) ?_
  refine x_gI (q := (RX0, TX0, 33)) (j := 12) G C h rfl (by decide) (fun _ _ _ => rfl) (lk C q221) (fun _ z => z) dX0_erase_1 hf (fun x1 hf => ?_)
  refine lv_istore_n (lv' := [(1, .int x1), (0, .ref a0)]) hx hb dX0_erase_4 rfl hl (by decide) rfl (fun ls hl => ?_)
  refine lv_aload_n hx hb dX0_erase_5 rfl (lv_at hl 1 rfl) ?_
  refine lv_iconst (v := 0) hx hb dX0_erase_6 (by decide) ?_
  refine x_pI (q := (RX0, TX0, 33)) (j := 12) G C h rfl (by decide) rfl (lk C q221) (fun _ z => z) (Or.inl rfl) dX0_erase_7 hf (fun σ2 H locs h hf => ?_)
  refine lv_iload_n hx hb dX0_erase_10 rfl (lv_at hl 0 rfl) ?_
  cases hf
  refine W.widen (k := 0) (n := 0) (Nat.le_of_ble_eq_true rfl) (Nat.le_of_ble_eq_true rfl) ?_
  exact x_iret C h dX0_erase_11

theorem dX11_init_0 : decode cX11_init 0 = .ok (.aload_n 0, 1) := by decide +kernel
theorem dX11_init_1 : decode cX11_init 1 = .ok (.aload_n 1, 1) := by decide +kernel
theorem dX11_init_2 : decode cX11_init 2 = .ok (.putfield 3, 3) := by decide +kernel
theorem dX11_init_5 : decode cX11_init 5 = .ok (.aload_n 0, 1) := by decide +kernel
theorem dX11_init_6 : decode cX11_init 6 = .ok (.aload_n 1, 1) := by decide +kernel
theorem dX11_init_7 : decode cX11_init 7 = .ok (.invokespecial 9, 3) := by decide +kernel
theorem dX11_init_10 : decode cX11_init 10 = .ok (.aload_n 0, 1) := by decide +kernel
theorem dX11_init_11 : decode cX11_init 11 = .ok (.bipush 6, 2) := by decide +kernel
theorem dX11_init_13 : decode cX11_init 13 = .ok (.anewarray 15, 3) := by decide +kernel
theorem dX11_init_16 : decode cX11_init 16 = .ok (.putfield 17, 3) := by decide +kernel
theorem dX11_init_19 : decode cX11_init 19 = .ok (.aload_n 0, 1) := by decide +kernel
theorem dX11_init_20 : decode cX11_init 20 = .ok (.bipush 6, 2) := by decide +kernel
theorem dX11_init_22 : decode cX11_init 22 = .ok (.iconst 3, 1) := by decide +kernel
theorem dX11_init_23 : decode cX11_init 23 = .ok (.multianewarray 21 2, 4) := by decide +kernel
theorem dX11_init_27 : decode cX11_init 27 = .ok (.putfield 23, 3) := by decide +kernel
theorem dX11_init_30 : decode cX11_init 30 = .ok (.aload_n 0, 1) := by decide +kernel
theorem dX11_init_31 : decode cX11_init 31 = .ok (.bipush 6, 2) := by decide +kernel
theorem dX11_init_33 : decode cX11_init 33 = .ok (.newarray .int, 2) := by decide +kernel
theorem dX11_init_35 : decode cX11_init 35 = .ok (.putfield 26, 3) := by decide +kernel
theorem dX11_init_38 : decode cX11_init 38 = .ok (.return_, 1) := by decide +kernel
def fX11_init (σ : St) (a0 : Nat) (a1 : Nat) : Option (St) :=
  o_pR σ a0 8 4 (some a1) fun σ1 =>
  (fX10_init σ1 a0 a1).bind fun _ =>
  o_newa σ1 5 6 fun r2 σ3 =>
  o_pR σ3 a0 8 1 (some r2) fun σ4 =>
  o_grid σ4 10 9 6 3 fun r5 σ6 =>
  o_pR σ6 a0 8 2 (some r5) fun σ7 =>
  o_newa σ7 0 6 fun r8 σ9 =>
  o_pR σ9 a0 8 3 (some r8) fun σ10 =>
  some σ10

set_option maxHeartbeats 4000000 in
theorem wX11_init {l : Launch} {s0 : State} {A0 : Array Value} {D : va_G} {ac : Nat → ClassId} (G : Gl s0 A0 D ac) {σ : St} {a0 : Nat} {a1 : Nat} {σ' : St} (hf : fX11_init σ a0 a1 = some (σ')) : Met l yX11_init (ws_ yX11_init cX11_init 2 none) ({ frames := 2, cells := 9, slots := 36, locals := 33 } : Room) (Pn s0 D ac [.ref a0, .ref a1] σ) (Qn s0 D ac none σ') 9 36 (fr s0) := by
  refine x_met (by decide) (Nat.le_of_ble_eq_true rfl) ?_
  intro p e s m args below meth c ls C hnm h hl
  have C : Cx s0 p s m args meth c cX11_init 2 "HutForShow$Habit" none := C
  have hx := C.1
  have hb := C.2.1
  have hl : lv_has ls 2 [(0, .ref a0), (1, .ref a1)] := hl
  unfold fX11_init at hf
  refine lv_aload_n hx hb dX11_init_0 rfl (lv_at hl 0 rfl) ?_
  refine lv_aload_n hx hb dX11_init_1 rfl (lv_at hl 1 rfl) ?_
  refine x_pR (q := (RX11, TY11, 5)) (j := 4) G C h rfl (by decide) rfl (lk C q531) (fun _ z => z) (Or.inr ⟨hnm, rfl⟩) dX11_init_2 hf (fun σ1 H locs h hf => ?_)
  refine lv_aload_n hx hb dX11_init_5 rfl (lv_at hl 0 rfl) ?_
  refine lv_aload_n hx hb dX11_init_6 rfl (lv_at hl 1 rfl) ?_
  obtain ⟨_, hc, hf⟩ := hf_b hf
  refine x_cIN (rest := []) (As := [.ref a1]) (n := 1) (ov := none) G C h (wX10_init G hc) q520 q521 q65 q522 rfl (by decide +kernel) ⟨Nat.le_of_ble_eq_true rfl, Nat.le_of_ble_eq_true rfl⟩ rfl rfl rfl hl.1 rfl (Nat.le_of_ble_eq_true rfl) dX11_init_7 ⟨(Nat.le_of_ble_eq_true rfl), (Nat.le_of_ble_eq_true rfl)⟩ (fun H locs h => ?_)
  refine lv_aload_n hx hb dX11_init_10 rfl (lv_at hl 0 rfl) ?_
  refine lv_bipush (v := 6) hx hb dX11_init_11 (by decide) ?_
  refine x_anew (q := 5) (N := 6) G C h rfl q524 q121 (by decide) (by decide) (by decide) (Nat.le_of_ble_eq_true rfl) (Nat.le_of_ble_eq_true rfl) dX11_init_13 hf (fun r2 σ3 H h hf => ?_)
  refine x_pR (q := (RX11, TY11, 5)) (j := 1) G C h rfl (by decide) rfl (lk C q528) (fun _ z => z) (Or.inr ⟨hnm, rfl⟩) dX11_init_16 hf (fun σ4 H locs h hf => ?_)
  refine lv_aload_n hx hb dX11_init_19 rfl (lv_at hl 0 rfl) ?_
  refine lv_bipush (v := 6) hx hb dX11_init_20 (by decide) ?_
  refine lv_iconst (v := 3) hx hb dX11_init_22 (by decide) ?_
  refine x_grid (q1 := 10) (q0 := 9) (N := 6) (M := 3) G C h rfl rfl (by decide +kernel) (by decide +kernel) q525 rfl (by decide) (by decide) (by decide) (by decide) (by decide) (by decide) (by decide) rfl rfl (Nat.le_of_ble_eq_true rfl) (Nat.le_of_ble_eq_true rfl) dX11_init_23 hf (fun r5 σ6 H locs h hf => ?_)
  refine x_pR (q := (RX11, TY11, 5)) (j := 2) G C h rfl (by decide) rfl (lk C q529) (fun _ z => z) (Or.inr ⟨hnm, rfl⟩) dX11_init_27 hf (fun σ7 H locs h hf => ?_)
  refine lv_aload_n hx hb dX11_init_30 rfl (lv_at hl 0 rfl) ?_
  refine lv_bipush (v := 6) hx hb dX11_init_31 (by decide) ?_
  refine x_newa (atype := .int) (q := 0) (N := 6) G C h rfl rfl q165 (by decide) (by decide) (by decide) (Nat.le_of_ble_eq_true rfl) (Nat.le_of_ble_eq_true rfl) dX11_init_33 hf (fun r8 σ9 H h hf => ?_)
  refine x_pR (q := (RX11, TY11, 5)) (j := 3) G C h rfl (by decide) rfl (lk C q530) (fun _ z => z) (Or.inr ⟨hnm, rfl⟩) dX11_init_35 hf (fun σ10 H locs h hf => ?_)
  cases hf
  refine W.widen (k := 9) (n := 36) (Nat.le_of_ble_eq_true rfl) (Nat.le_of_ble_eq_true rfl) ?_
  exact x_vret C h dX11_init_38

theorem dX6_kindAt_0 : decode cX6_kindAt 0 = .ok (.aload_n 0, 1) := by decide +kernel
theorem dX6_kindAt_1 : decode cX6_kindAt 1 = .ok (.getfield 3, 3) := by decide +kernel
theorem dX6_kindAt_4 : decode cX6_kindAt 4 = .ok (.getfield 15, 3) := by decide +kernel
theorem dX6_kindAt_7 : decode cX6_kindAt 7 = .ok (.iload_n 1, 1) := by decide +kernel
theorem dX6_kindAt_8 : decode cX6_kindAt 8 = .ok (.baload, 1) := by decide +kernel
theorem dX6_kindAt_9 : decode cX6_kindAt 9 = .ok (.i2l, 1) := by decide +kernel
theorem dX6_kindAt_10 : decode cX6_kindAt 10 = .ok (.ldc2_w 19, 3) := by decide +kernel
theorem dX6_kindAt_13 : decode cX6_kindAt 13 = .ok (.ldc2_w 21, 3) := by decide +kernel
theorem dX6_kindAt_16 : decode cX6_kindAt 16 = .ok (.invokestatic 23, 3) := by decide +kernel
theorem dX6_kindAt_19 : decode cX6_kindAt 19 = .ok (.ifCond .eq 7, 3) := by decide +kernel
theorem dX6_kindAt_22 : decode cX6_kindAt 22 = .ok (.iconst 1, 1) := by decide +kernel
theorem dX6_kindAt_23 : decode cX6_kindAt 23 = .ok (.goto 30, 3) := by decide +kernel
theorem dX6_kindAt_26 : decode cX6_kindAt 26 = .ok (.aload_n 0, 1) := by decide +kernel
theorem dX6_kindAt_27 : decode cX6_kindAt 27 = .ok (.getfield 3, 3) := by decide +kernel
theorem dX6_kindAt_30 : decode cX6_kindAt 30 = .ok (.getfield 15, 3) := by decide +kernel
theorem dX6_kindAt_33 : decode cX6_kindAt 33 = .ok (.iload_n 1, 1) := by decide +kernel
theorem dX6_kindAt_34 : decode cX6_kindAt 34 = .ok (.baload, 1) := by decide +kernel
theorem dX6_kindAt_35 : decode cX6_kindAt 35 = .ok (.i2l, 1) := by decide +kernel
theorem dX6_kindAt_36 : decode cX6_kindAt 36 = .ok (.ldc2_w 27, 3) := by decide +kernel
theorem dX6_kindAt_39 : decode cX6_kindAt 39 = .ok (.ldc2_w 29, 3) := by decide +kernel
theorem dX6_kindAt_42 : decode cX6_kindAt 42 = .ok (.invokestatic 23, 3) := by decide +kernel
theorem dX6_kindAt_45 : decode cX6_kindAt 45 = .ok (.ifCond .eq 7, 3) := by decide +kernel
theorem dX6_kindAt_48 : decode cX6_kindAt 48 = .ok (.iconst 2, 1) := by decide +kernel
theorem dX6_kindAt_49 : decode cX6_kindAt 49 = .ok (.goto 4, 3) := by decide +kernel
theorem dX6_kindAt_52 : decode cX6_kindAt 52 = .ok (.iconst 0, 1) := by decide +kernel
theorem dX6_kindAt_53 : decode cX6_kindAt 53 = .ok (.ireturn, 1) := by decide +kernel
def fX6_kindAt (σ : St) (a0 : Nat) (a1 : Int32) : Option (Int32) :=
  o_gR σ a0 4 3 fun r1 =>
  o_gR σ r1 0 11 fun r2 =>
  o_aI σ r2 1 a1 fun x3 =>
  (fX0_isIn σ (x3.toInt64) 97 122).bind fun x4 =>
  if x4 = 0 then
    o_gR σ a0 4 3 fun r5 =>
    o_gR σ r5 0 11 fun r6 =>
    o_aI σ r6 1 a1 fun x7 =>
    (fX0_isIn σ (x7.toInt64) 48 57).bind fun x8 =>
    if x8 = 0 then
      some 0
    else
    some 2
  else
  some 1

set_option maxHeartbeats 4000000 in
theorem wX6_kindAt {l : Launch} {s0 : State} {A0 : Array Value} {D : va_G} {ac : Nat → ClassId} (G : Gl s0 A0 D ac) {σ : St} {a0 : Nat} {a1 : Int32} {v : Int32} (hf : fX6_kindAt σ a0 a1 = some (v)) : Met l yX6_kindAt (ws_ yX6_kindAt cX6_kindAt 2 (some (.int))) ({ frames := 1, cells := 0, slots := 0, locals := 25 } : Room) (Pn s0 D ac [.ref a0, .int a1] σ) (Qn s0 D ac (some (.int v)) σ) 0 0 (fr s0) := by
  refine x_met (by decide) (Nat.le_of_ble_eq_true rfl) ?_
  intro p e s m args below meth c ls C hnm h hl
  have C : Cx s0 p s m args meth c cX6_kindAt 2 "HutForShow$Reader" (some (.int)) := C
  have hx := C.1
  have hb := C.2.1
  have hl : lv_has ls 2 [(0, .ref a0), (1, .int a1)] := hl
  unfold fX6_kindAt at hf
  refine lv_aload_n hx hb dX6_kindAt_0 rfl (lv_at hl 0 rfl) ?_
  refine x_gR (q := (RX6, TX6, 4)) (j := 3) G C h rfl (by decide) (fun _ _ _ => rfl) (lk C q179) (fun _ z => z) dX6_kindAt_1 hf (fun r1 hf => ?_)
  refine x_gR (q := (RX0, TX0, 33)) (j := 11) G C h rfl (by decide) (fun _ _ _ => rfl) (lkn G C q218) (fun _ z => z) dX6_kindAt_4 hf (fun r2 hf => ?_)
  refine lv_iload_n hx hb dX6_kindAt_7 rfl (lv_at hl 1 rfl) ?_
  refine x_bald G C h dX6_kindAt_8 hf (fun x3 hf => ?_)
  refine lv_i2l hx hb dX6_kindAt_9 rfl ?_
  refine lv_ldc2 (v := 97) hx hb C.2.2.2.1 (C.2.2.2.2.1 _ q569) dX6_kindAt_10 ?_
  refine lv_ldc2 (v := 122) hx hb C.2.2.2.1 (C.2.2.2.2.1 _ q570) dX6_kindAt_13 ?_
  obtain ⟨x4, hc, hf⟩ := hf_b hf
  refine x_cSN (rest := []) (As := [.long (x3.toInt64), .long 97, .long 122]) (n := 3) (ov := (some (.int x4))) G C h (wX0_isIn G hc) q571 q319 q54 q320 (by decide +kernel) ⟨Nat.le_of_ble_eq_true rfl, Nat.le_of_ble_eq_true rfl⟩ rfl rfl rfl hl.1 rfl (Nat.le_of_ble_eq_true rfl) dX6_kindAt_16 ⟨(Nat.le_of_ble_eq_true rfl), (Nat.le_of_ble_eq_true rfl)⟩ (fun H locs h => ?_)
  refine lv_if_eq (tgt := 26) hx hb dX6_kindAt_19 (by decide) (fun hc => ?_) (fun hc => ?_)
  · have hf := hf_t hc hf
    refine lv_aload_n hx hb dX6_kindAt_26 rfl (lv_at hl 0 rfl) ?_
    refine x_gR (q := (RX6, TX6, 4)) (j := 3) G C h rfl (by decide) (fun _ _ _ => rfl) (lk C q179) (fun _ z => z) dX6_kindAt_27 hf (fun r5 hf => ?_)
    refine x_gR (q := (RX0, TX0, 33)) (j := 11) G C h rfl (by decide) (fun _ _ _ => rfl) (lkn G C q218) (fun _ z => z) dX6_kindAt_30 hf (fun r6 hf => ?_)
    refine lv_iload_n hx hb dX6_kindAt_33 rfl (lv_at hl 1 rfl) ?_
    refine x_bald G C h dX6_kindAt_34 hf (fun x7 hf => ?_)
    refine lv_i2l hx hb dX6_kindAt_35 rfl ?_
    refine lv_ldc2 (v := 48) hx hb C.2.2.2.1 (C.2.2.2.2.1 _ q572) dX6_kindAt_36 ?_
    refine lv_ldc2 (v := 57) hx hb C.2.2.2.1 (C.2.2.2.2.1 _ q573) dX6_kindAt_39 ?_
    obtain ⟨x8, hc, hf⟩ := hf_b hf
    refine x_cSN (rest := []) (As := [.long (x7.toInt64), .long 48, .long 57]) (n := 3) (ov := (some (.int x8))) G C h (wX0_isIn G hc) q571 q319 q54 q320 (by decide +kernel) ⟨Nat.le_of_ble_eq_true rfl, Nat.le_of_ble_eq_true rfl⟩ rfl rfl rfl hl.1 rfl (Nat.le_of_ble_eq_true rfl) dX6_kindAt_42 ⟨(Nat.le_of_ble_eq_true rfl), (Nat.le_of_ble_eq_true rfl)⟩ (fun H locs h => ?_)
    refine lv_if_eq (tgt := 52) hx hb dX6_kindAt_45 (by decide) (fun hc => ?_) (fun hc => ?_)
    · have hf := hf_t hc hf
      refine lv_iconst (v := 0) hx hb dX6_kindAt_52 (by decide) ?_
      cases hf
      refine W.widen (k := 0) (n := 0) (Nat.le_of_ble_eq_true rfl) (Nat.le_of_ble_eq_true rfl) ?_
      exact x_iret C h dX6_kindAt_53
    · have hf := hf_f hc hf
      refine lv_iconst (v := 2) hx hb dX6_kindAt_48 (by decide) ?_
      refine lv_goto (tgt := 53) hx hb dX6_kindAt_49 (by decide) ?_
      cases hf
      refine W.widen (k := 0) (n := 0) (Nat.le_of_ble_eq_true rfl) (Nat.le_of_ble_eq_true rfl) ?_
      exact x_iret C h dX6_kindAt_53
  · have hf := hf_f hc hf
    refine lv_iconst (v := 1) hx hb dX6_kindAt_22 (by decide) ?_
    refine lv_goto (tgt := 53) hx hb dX6_kindAt_23 (by decide) ?_
    cases hf
    refine W.widen (k := 0) (n := 0) (Nat.le_of_ble_eq_true rfl) (Nat.le_of_ble_eq_true rfl) ?_
    exact x_iret C h dX6_kindAt_53

theorem dX6_token_0 : decode cX6_token 0 = .ok (.aload_n 0, 1) := by decide +kernel
theorem dX6_token_1 : decode cX6_token 1 = .ok (.getfield 31, 3) := by decide +kernel
theorem dX6_token_4 : decode cX6_token 4 = .ok (.aload_n 0, 1) := by decide +kernel
theorem dX6_token_5 : decode cX6_token 5 = .ok (.getfield 3, 3) := by decide +kernel
theorem dX6_token_8 : decode cX6_token 8 = .ok (.getfield 35, 3) := by decide +kernel
theorem dX6_token_11 : decode cX6_token 11 = .ok (.if_icmp .ge 33, 3) := by decide +kernel
theorem dX6_token_14 : decode cX6_token 14 = .ok (.aload_n 0, 1) := by decide +kernel
theorem dX6_token_15 : decode cX6_token 15 = .ok (.getfield 3, 3) := by decide +kernel
theorem dX6_token_18 : decode cX6_token 18 = .ok (.getfield 15, 3) := by decide +kernel
theorem dX6_token_21 : decode cX6_token 21 = .ok (.aload_n 0, 1) := by decide +kernel
theorem dX6_token_22 : decode cX6_token 22 = .ok (.getfield 31, 3) := by decide +kernel
theorem dX6_token_25 : decode cX6_token 25 = .ok (.baload, 1) := by decide +kernel
theorem dX6_token_26 : decode cX6_token 26 = .ok (.bipush 32, 2) := by decide +kernel
theorem dX6_token_28 : decode cX6_token 28 = .ok (.if_icmp .ne 16, 3) := by decide +kernel
theorem dX6_token_31 : decode cX6_token 31 = .ok (.aload_n 0, 1) := by decide +kernel
theorem dX6_token_32 : decode cX6_token 32 = .ok (.dup, 1) := by decide +kernel
theorem dX6_token_33 : decode cX6_token 33 = .ok (.getfield 31, 3) := by decide +kernel
theorem dX6_token_36 : decode cX6_token 36 = .ok (.iconst 1, 1) := by decide +kernel
theorem dX6_token_37 : decode cX6_token 37 = .ok (.iadd, 1) := by decide +kernel
theorem dX6_token_38 : decode cX6_token 38 = .ok (.putfield 31, 3) := by decide +kernel
theorem dX6_token_41 : decode cX6_token 41 = .ok (.goto (-41), 3) := by decide +kernel
theorem dX6_token_44 : decode cX6_token 44 = .ok (.aload_n 0, 1) := by decide +kernel
theorem dX6_token_45 : decode cX6_token 45 = .ok (.aload_n 0, 1) := by decide +kernel
theorem dX6_token_46 : decode cX6_token 46 = .ok (.getfield 31, 3) := by decide +kernel
theorem dX6_token_49 : decode cX6_token 49 = .ok (.putfield 38, 3) := by decide +kernel
theorem dX6_token_52 : decode cX6_token 52 = .ok (.aload_n 0, 1) := by decide +kernel
theorem dX6_token_53 : decode cX6_token 53 = .ok (.dup, 1) := by decide +kernel
theorem dX6_token_54 : decode cX6_token 54 = .ok (.getfield 31, 3) := by decide +kernel
theorem dX6_token_57 : decode cX6_token 57 = .ok (.aload_n 0, 1) := by decide +kernel
theorem dX6_token_58 : decode cX6_token 58 = .ok (.getfield 31, 3) := by decide +kernel
theorem dX6_token_61 : decode cX6_token 61 = .ok (.aload_n 0, 1) := by decide +kernel
theorem dX6_token_62 : decode cX6_token 62 = .ok (.getfield 3, 3) := by decide +kernel
theorem dX6_token_65 : decode cX6_token 65 = .ok (.getfield 35, 3) := by decide +kernel
theorem dX6_token_68 : decode cX6_token 68 = .ok (.if_icmp .ge 7, 3) := by decide +kernel
theorem dX6_token_71 : decode cX6_token 71 = .ok (.iconst 1, 1) := by decide +kernel
theorem dX6_token_72 : decode cX6_token 72 = .ok (.goto 4, 3) := by decide +kernel
theorem dX6_token_75 : decode cX6_token 75 = .ok (.iconst 0, 1) := by decide +kernel
theorem dX6_token_76 : decode cX6_token 76 = .ok (.iadd, 1) := by decide +kernel
theorem dX6_token_77 : decode cX6_token 77 = .ok (.putfield 31, 3) := by decide +kernel
theorem dX6_token_80 : decode cX6_token 80 = .ok (.aload_n 0, 1) := by decide +kernel
theorem dX6_token_81 : decode cX6_token 81 = .ok (.getfield 31, 3) := by decide +kernel
theorem dX6_token_84 : decode cX6_token 84 = .ok (.aload_n 0, 1) := by decide +kernel
theorem dX6_token_85 : decode cX6_token 85 = .ok (.getfield 3, 3) := by decide +kernel
theorem dX6_token_88 : decode cX6_token 88 = .ok (.getfield 35, 3) := by decide +kernel
theorem dX6_token_91 : decode cX6_token 91 = .ok (.if_icmp .ge 46, 3) := by decide +kernel
theorem dX6_token_94 : decode cX6_token 94 = .ok (.aload_n 0, 1) := by decide +kernel
theorem dX6_token_95 : decode cX6_token 95 = .ok (.aload_n 0, 1) := by decide +kernel
theorem dX6_token_96 : decode cX6_token 96 = .ok (.getfield 38, 3) := by decide +kernel
theorem dX6_token_99 : decode cX6_token 99 = .ok (.invokevirtual 41, 3) := by decide +kernel
theorem dX6_token_102 : decode cX6_token 102 = .ok (.ifCond .le 35, 3) := by decide +kernel
theorem dX6_token_105 : decode cX6_token 105 = .ok (.aload_n 0, 1) := by decide +kernel
theorem dX6_token_106 : decode cX6_token 106 = .ok (.aload_n 0, 1) := by decide +kernel
theorem dX6_token_107 : decode cX6_token 107 = .ok (.getfield 31, 3) := by decide +kernel
theorem dX6_token_110 : decode cX6_token 110 = .ok (.invokevirtual 41, 3) := by decide +kernel
theorem dX6_token_113 : decode cX6_token 113 = .ok (.aload_n 0, 1) := by decide +kernel
theorem dX6_token_114 : decode cX6_token 114 = .ok (.aload_n 0, 1) := by decide +kernel
theorem dX6_token_115 : decode cX6_token 115 = .ok (.getfield 38, 3) := by decide +kernel
theorem dX6_token_118 : decode cX6_token 118 = .ok (.invokevirtual 41, 3) := by decide +kernel
theorem dX6_token_121 : decode cX6_token 121 = .ok (.if_icmp .ne 16, 3) := by decide +kernel
theorem dX6_token_124 : decode cX6_token 124 = .ok (.aload_n 0, 1) := by decide +kernel
theorem dX6_token_125 : decode cX6_token 125 = .ok (.dup, 1) := by decide +kernel
theorem dX6_token_126 : decode cX6_token 126 = .ok (.getfield 31, 3) := by decide +kernel
theorem dX6_token_129 : decode cX6_token 129 = .ok (.iconst 1, 1) := by decide +kernel
theorem dX6_token_130 : decode cX6_token 130 = .ok (.iadd, 1) := by decide +kernel
theorem dX6_token_131 : decode cX6_token 131 = .ok (.putfield 31, 3) := by decide +kernel
theorem dX6_token_134 : decode cX6_token 134 = .ok (.goto (-54), 3) := by decide +kernel
theorem dX6_token_137 : decode cX6_token 137 = .ok (.aload_n 0, 1) := by decide +kernel
theorem dX6_token_138 : decode cX6_token 138 = .ok (.aload_n 0, 1) := by decide +kernel
theorem dX6_token_139 : decode cX6_token 139 = .ok (.getfield 31, 3) := by decide +kernel
theorem dX6_token_142 : decode cX6_token 142 = .ok (.putfield 45, 3) := by decide +kernel
theorem dX6_token_145 : decode cX6_token 145 = .ok (.return_, 1) := by decide +kernel
def lX6_token_0 (a0 : Nat) (σ1 : St) : Option ((St) ⊕ (St)) :=
  o_gI σ1 a0 4 0 fun x2 =>
  o_gR σ1 a0 4 3 fun r3 =>
  o_gI σ1 r3 0 12 fun x4 =>
  if x4 ≤ x2 then
    some (.inr σ1)
  else
  o_gR σ1 a0 4 3 fun r5 =>
  o_gR σ1 r5 0 11 fun r6 =>
  o_gI σ1 a0 4 0 fun x7 =>
  o_aI σ1 r6 1 x7 fun x8 =>
  if x8 = 32 then
    o_gI σ1 a0 4 0 fun x9 =>
    o_pI σ1 a0 4 0 (x9 + 1) fun σ10 =>
    some (.inl σ10)
  else
  some (.inr σ1)

def lX6_token_80 (a0 : Nat) (σ20 : St) : Option ((St) ⊕ (St)) :=
  o_gI σ20 a0 4 0 fun x21 =>
  o_gR σ20 a0 4 3 fun r22 =>
  o_gI σ20 r22 0 12 fun x23 =>
  if x23 ≤ x21 then
    some (.inr σ20)
  else
  o_gI σ20 a0 4 1 fun x24 =>
  o_k σ20 a0 4 <|
  (fX6_kindAt σ20 a0 x24).bind fun x25 =>
  if x25 ≤ 0 then
    some (.inr σ20)
  else
  o_gI σ20 a0 4 0 fun x26 =>
  o_k σ20 a0 4 <|
  (fX6_kindAt σ20 a0 x26).bind fun x27 =>
  o_gI σ20 a0 4 1 fun x28 =>
  o_k σ20 a0 4 <|
  (fX6_kindAt σ20 a0 x28).bind fun x29 =>
  if x27 = x29 then
    o_gI σ20 a0 4 0 fun x30 =>
    o_pI σ20 a0 4 0 (x30 + 1) fun σ31 =>
    some (.inl σ31)
  else
  some (.inr σ20)

def fX6_token (σ : St) (a0 : Nat) : Option (St) :=
  (loopF fuel (fun z => lX6_token_0 a0 z) σ).bind <| fun σ11 =>
  o_gI σ11 a0 4 0 fun x12 =>
  o_pI σ11 a0 4 1 x12 fun σ13 =>
  o_gI σ13 a0 4 0 fun x14 =>
  o_gI σ13 a0 4 0 fun x15 =>
  o_gR σ13 a0 4 3 fun r16 =>
  o_gI σ13 r16 0 12 fun x17 =>
  jn (fun (x18 : Int32) =>
    o_pI σ13 a0 4 0 (x14 + x18) fun σ19 =>
    (loopF fuel (fun z => lX6_token_80 a0 z) σ19).bind <| fun σ32 =>
    o_gI σ32 a0 4 0 fun x33 =>
    o_pI σ32 a0 4 2 x33 fun σ34 =>
    some σ34) fun j76 =>
  if x17 ≤ x15 then
    j76 0
  else
  j76 1

set_option maxHeartbeats 4000000 in
theorem wX6_token {l : Launch} {s0 : State} {A0 : Array Value} {D : va_G} {ac : Nat → ClassId} (G : Gl s0 A0 D ac) {σ : St} {a0 : Nat} {σ' : St} (hf : fX6_token σ a0 = some (σ')) : Met l yX6_token (ws_ yX6_token cX6_token 1 none) ({ frames := 2, cells := 0, slots := 0, locals := 46 } : Room) (Pn s0 D ac [.ref a0] σ) (Qn s0 D ac none σ') 0 0 (fr s0) := by
  refine x_met (by decide) (Nat.le_of_ble_eq_true rfl) ?_
  intro p e s m args below meth c ls C hnm h hl
  have C : Cx s0 p s m args meth c cX6_token 1 "HutForShow$Reader" none := C
  have hx := C.1
  have hb := C.2.1
  have hl : lv_has ls 1 [(0, .ref a0)] := hl
  unfold fX6_token at hf
  obtain ⟨e0, hL, hK⟩ := hf_b hf
  have hE0_0 : ∀ (σ11 : St), σ11 = e0 → ∀  (H : Heap) (locs : List Loc) (ls : Array Slot), Hs s0 D ac σ11 H locs → lv_has ls 1 [(0, .ref a0)] → W p l e ({ frames := 2, cells := 0, slots := 0, locals := 46 } : Room) s m args below meth c H locs 0 0 (MQ below (Qn s0 D ac none σ') args s 0 0 (fr s0)) (F0 m 44 ls []) := by
    intro σ11 he H locs ls h hl
    subst he
    have hf := hK
    refine lv_aload_n hx hb dX6_token_44 rfl (lv_at hl 0 rfl) ?_
    refine lv_aload_n hx hb dX6_token_45 rfl (lv_at hl 0 rfl) ?_
    refine x_gI (q := (RX6, TX6, 4)) (j := 0) G C h rfl (by decide) (fun _ _ _ => rfl) (lk C q176) (fun _ z => z) dX6_token_46 hf (fun x12 hf => ?_)
    refine x_pI (q := (RX6, TX6, 4)) (j := 1) G C h rfl (by decide) rfl (lk C q177) (fun _ z => z) (Or.inl rfl) dX6_token_49 hf (fun σ13 H locs h hf => ?_)
    refine lv_aload_n hx hb dX6_token_52 rfl (lv_at hl 0 rfl) ?_
    refine lv_dup hx hb dX6_token_53 rfl ?_
    refine x_gI (q := (RX6, TX6, 4)) (j := 0) G C h rfl (by decide) (fun _ _ _ => rfl) (lk C q176) (fun _ z => z) dX6_token_54 hf (fun x14 hf => ?_)
    refine lv_aload_n hx hb dX6_token_57 rfl (lv_at hl 0 rfl) ?_
    refine x_gI (q := (RX6, TX6, 4)) (j := 0) G C h rfl (by decide) (fun _ _ _ => rfl) (lk C q176) (fun _ z => z) dX6_token_58 hf (fun x15 hf => ?_)
    refine lv_aload_n hx hb dX6_token_61 rfl (lv_at hl 0 rfl) ?_
    refine x_gR (q := (RX6, TX6, 4)) (j := 3) G C h rfl (by decide) (fun _ _ _ => rfl) (lk C q179) (fun _ z => z) dX6_token_62 hf (fun r16 hf => ?_)
    refine x_gI (q := (RX0, TX0, 33)) (j := 12) G C h rfl (by decide) (fun _ _ _ => rfl) (lkn G C q220) (fun _ z => z) dX6_token_65 hf (fun x17 hf => ?_)
    refine jn_of (P := fun j => ∀ (x18 : Int32), j x18 = some (σ') → ∀ (H : Heap) (locs : List Loc) (ls : Array Slot), Hs s0 D ac σ13 H locs → lv_has ls 1 [(0, .ref a0)] → W p l e ({ frames := 2, cells := 0, slots := 0, locals := 46 } : Room) s m args below meth c H locs 0 0 (MQ below (Qn s0 D ac none σ') args s 0 0 (fr s0)) (F0 m 76 ls [.int x18, .int x14, .ref a0])) hf ?_ ?_
    · intro x18 hf H locs ls h hl
      refine lv_iadd hx hb dX6_token_76 ?_
      refine x_pI (q := (RX6, TX6, 4)) (j := 0) G C h rfl (by decide) rfl (lk C q176) (fun _ z => z) (Or.inl rfl) dX6_token_77 hf (fun σ19 H locs h hf => ?_)
      obtain ⟨e80, hL, hK⟩ := hf_b hf
      have hE80_0 : ∀ (σ32 : St), σ32 = e80 → ∀  (H : Heap) (locs : List Loc) (ls : Array Slot), Hs s0 D ac σ32 H locs → lv_has ls 1 [(0, .ref a0)] → W p l e ({ frames := 2, cells := 0, slots := 0, locals := 46 } : Room) s m args below meth c H locs 0 0 (MQ below (Qn s0 D ac none σ') args s 0 0 (fr s0)) (F0 m 137 ls []) := by
        intro σ32 he H locs ls h hl
        subst he
        have hf := hK
        refine lv_aload_n hx hb dX6_token_137 rfl (lv_at hl 0 rfl) ?_
        refine lv_aload_n hx hb dX6_token_138 rfl (lv_at hl 0 rfl) ?_
        refine x_gI (q := (RX6, TX6, 4)) (j := 0) G C h rfl (by decide) (fun _ _ _ => rfl) (lk C q176) (fun _ z => z) dX6_token_139 hf (fun x33 hf => ?_)
        refine x_pI (q := (RX6, TX6, 4)) (j := 2) G C h rfl (by decide) rfl (lk C q178) (fun _ z => z) (Or.inl rfl) dX6_token_142 hf (fun σ34 H locs h hf => ?_)
        cases hf
        refine W.widen (k := 0) (n := 0) (Nat.le_of_ble_eq_true rfl) (Nat.le_of_ble_eq_true rfl) ?_
        exact x_vret C h dX6_token_145
      refine loopF_ind (P := fun z => ∀ (H : Heap) (locs : List Loc) (ls : Array Slot), Hs s0 D ac z H locs → lv_has ls 1 [(0, .ref a0)] → W p l e ({ frames := 2, cells := 0, slots := 0, locals := 46 } : Room) s m args below meth c H locs 0 0 (MQ below (Qn s0 D ac none σ') args s 0 0 (fr s0)) (F0 m 80 ls [])) ?_ _ _ hL _ _ _ h (lv_sub hl [0] rfl)
      clear hK hL h hl hf
      intro z o hf ih hX H locs ls h hl
      obtain ⟨σ20, rfl⟩ : ∃ y, y = z := ⟨_, rfl⟩
      have h : Hs s0 D ac σ20 H locs := h
      have hl : lv_has ls 1 [(0, .ref a0)] := hl
      have hf : lX6_token_80 a0 σ20 = some o := hf
      unfold lX6_token_80 at hf
      refine lv_aload_n hx hb dX6_token_80 rfl (lv_at hl 0 rfl) ?_
      refine x_gI (q := (RX6, TX6, 4)) (j := 0) G C h rfl (by decide) (fun _ _ _ => rfl) (lk C q176) (fun _ z => z) dX6_token_81 hf (fun x21 hf => ?_)
      refine lv_aload_n hx hb dX6_token_84 rfl (lv_at hl 0 rfl) ?_
      refine x_gR (q := (RX6, TX6, 4)) (j := 3) G C h rfl (by decide) (fun _ _ _ => rfl) (lk C q179) (fun _ z => z) dX6_token_85 hf (fun r22 hf => ?_)
      refine x_gI (q := (RX0, TX0, 33)) (j := 12) G C h rfl (by decide) (fun _ _ _ => rfl) (lkn G C q220) (fun _ z => z) dX6_token_88 hf (fun x23 hf => ?_)
      refine lv_icmp_ge (tgt := 137) hx hb dX6_token_91 (by decide) (fun hc => ?_) (fun hc => ?_)
      · have hf := hf_t hc hf
        cases hf
        exact hE80_0 _ (hX _ rfl) _ _ _ h (lv_sub hl [0] rfl)
      · have hf := hf_f hc hf
        refine lv_aload_n hx hb dX6_token_94 rfl (lv_at hl 0 rfl) ?_
        refine lv_aload_n hx hb dX6_token_95 rfl (lv_at hl 0 rfl) ?_
        refine x_gI (q := (RX6, TX6, 4)) (j := 1) G C h rfl (by decide) (fun _ _ _ => rfl) (lk C q177) (fun _ z => z) dX6_token_96 hf (fun x24 hf => ?_)
        obtain ⟨hk, hf⟩ := k_of hf
        obtain ⟨x25, hc, hf⟩ := hf_b hf
        refine x_cV (q := (RX6, TX6, 4)) (rest := []) (As := [.int x24]) (n := 1) (ov := (some (.int x25))) G C h (wX6_kindAt G hc) hk rfl (lw_V q565 q567 qs5 q60 q568) (by decide +kernel) ⟨Nat.le_of_ble_eq_true rfl, Nat.le_of_ble_eq_true rfl⟩ rfl rfl rfl hl.1 rfl (Nat.le_of_ble_eq_true rfl) dX6_token_99 ⟨(Nat.le_of_ble_eq_true rfl), (Nat.le_of_ble_eq_true rfl)⟩ (fun H locs h => ?_)
        refine lv_if_le (tgt := 137) hx hb dX6_token_102 (by decide) (fun hc => ?_) (fun hc => ?_)
        · have hf := hf_t hc hf
          cases hf
          exact hE80_0 _ (hX _ rfl) _ _ _ h (lv_sub hl [0] rfl)
        · have hf := hf_f hc hf
          refine lv_aload_n hx hb dX6_token_105 rfl (lv_at hl 0 rfl) ?_
          refine lv_aload_n hx hb dX6_token_106 rfl (lv_at hl 0 rfl) ?_
          refine x_gI (q := (RX6, TX6, 4)) (j := 0) G C h rfl (by decide) (fun _ _ _ => rfl) (lk C q176) (fun _ z => z) dX6_token_107 hf (fun x26 hf => ?_)
          obtain ⟨hk, hf⟩ := k_of hf
          obtain ⟨x27, hc, hf⟩ := hf_b hf
          refine x_cV (q := (RX6, TX6, 4)) (rest := []) (As := [.int x26]) (n := 1) (ov := (some (.int x27))) G C h (wX6_kindAt G hc) hk rfl (lw_V q565 q567 qs5 q60 q568) (by decide +kernel) ⟨Nat.le_of_ble_eq_true rfl, Nat.le_of_ble_eq_true rfl⟩ rfl rfl rfl hl.1 rfl (Nat.le_of_ble_eq_true rfl) dX6_token_110 ⟨(Nat.le_of_ble_eq_true rfl), (Nat.le_of_ble_eq_true rfl)⟩ (fun H locs h => ?_)
          refine lv_aload_n hx hb dX6_token_113 rfl (lv_at hl 0 rfl) ?_
          refine lv_aload_n hx hb dX6_token_114 rfl (lv_at hl 0 rfl) ?_
          refine x_gI (q := (RX6, TX6, 4)) (j := 1) G C h rfl (by decide) (fun _ _ _ => rfl) (lk C q177) (fun _ z => z) dX6_token_115 hf (fun x28 hf => ?_)
          obtain ⟨hk, hf⟩ := k_of hf
          obtain ⟨x29, hc, hf⟩ := hf_b hf
          refine x_cV (q := (RX6, TX6, 4)) (rest := [.int x27]) (As := [.int x28]) (n := 1) (ov := (some (.int x29))) G C h (wX6_kindAt G hc) hk rfl (lw_V q565 q567 qs5 q60 q568) (by decide +kernel) ⟨Nat.le_of_ble_eq_true rfl, Nat.le_of_ble_eq_true rfl⟩ rfl rfl rfl hl.1 rfl (Nat.le_of_ble_eq_true rfl) dX6_token_118 ⟨(Nat.le_of_ble_eq_true rfl), (Nat.le_of_ble_eq_true rfl)⟩ (fun H locs h => ?_)
          refine lv_icmp_ne (tgt := 137) hx hb dX6_token_121 (by decide) (fun hc => ?_) (fun hc => ?_)
          · have hf := hf_f hc hf
            cases hf
            exact hE80_0 _ (hX _ rfl) _ _ _ h (lv_sub hl [0] rfl)
          · have hf := hf_t hc hf
            refine lv_aload_n hx hb dX6_token_124 rfl (lv_at hl 0 rfl) ?_
            refine lv_dup hx hb dX6_token_125 rfl ?_
            refine x_gI (q := (RX6, TX6, 4)) (j := 0) G C h rfl (by decide) (fun _ _ _ => rfl) (lk C q176) (fun _ z => z) dX6_token_126 hf (fun x30 hf => ?_)
            refine lv_iconst (v := 1) hx hb dX6_token_129 (by decide) ?_
            refine lv_iadd hx hb dX6_token_130 ?_
            refine x_pI (q := (RX6, TX6, 4)) (j := 0) G C h rfl (by decide) rfl (lk C q176) (fun _ z => z) (Or.inl rfl) dX6_token_131 hf (fun σ31 H locs h hf => ?_)
            refine lv_goto (tgt := 80) hx hb dX6_token_134 (by decide) ?_
            cases hf
            exact ih _ rfl _ _ _ h (lv_sub hl [0] rfl)
    intro j76 hj76 hf
    refine lv_icmp_ge (tgt := 75) hx hb dX6_token_68 (by decide) (fun hc => ?_) (fun hc => ?_)
    · have hf := hf_t hc hf
      refine lv_iconst (v := 0) hx hb dX6_token_75 (by decide) ?_
      exact hj76 _ hf _ _ _ h (lv_sub hl [0] rfl)
    · have hf := hf_f hc hf
      refine lv_iconst (v := 1) hx hb dX6_token_71 (by decide) ?_
      refine lv_goto (tgt := 76) hx hb dX6_token_72 (by decide) ?_
      exact hj76 _ hf _ _ _ h (lv_sub hl [0] rfl)
  refine loopF_ind (P := fun z => ∀ (H : Heap) (locs : List Loc) (ls : Array Slot), Hs s0 D ac z H locs → lv_has ls 1 [(0, .ref a0)] → W p l e ({ frames := 2, cells := 0, slots := 0, locals := 46 } : Room) s m args below meth c H locs 0 0 (MQ below (Qn s0 D ac none σ') args s 0 0 (fr s0)) (F0 m 0 ls [])) ?_ _ _ hL _ _ _ h (lv_sub hl [0] rfl)
  clear hK hL h hl hf
  intro z o hf ih hX H locs ls h hl
  obtain ⟨σ1, rfl⟩ : ∃ y, y = z := ⟨_, rfl⟩
  have h : Hs s0 D ac σ1 H locs := h
  have hl : lv_has ls 1 [(0, .ref a0)] := hl
  have hf : lX6_token_0 a0 σ1 = some o := hf
  unfold lX6_token_0 at hf
  refine lv_aload_n hx hb dX6_token_0 rfl (lv_at hl 0 rfl) ?_
  refine x_gI (q := (RX6, TX6, 4)) (j := 0) G C h rfl (by decide) (fun _ _ _ => rfl) (lk C q176) (fun _ z => z) dX6_token_1 hf (fun x2 hf => ?_)
  refine lv_aload_n hx hb dX6_token_4 rfl (lv_at hl 0 rfl) ?_
  refine x_gR (q := (RX6, TX6, 4)) (j := 3) G C h rfl (by decide) (fun _ _ _ => rfl) (lk C q179) (fun _ z => z) dX6_token_5 hf (fun r3 hf => ?_)
  refine x_gI (q := (RX0, TX0, 33)) (j := 12) G C h rfl (by decide) (fun _ _ _ => rfl) (lkn G C q220) (fun _ z => z) dX6_token_8 hf (fun x4 hf => ?_)
  refine lv_icmp_ge (tgt := 44) hx hb dX6_token_11 (by decide) (fun hc => ?_) (fun hc => ?_)
  · have hf := hf_t hc hf
    cases hf
    exact hE0_0 _ (hX _ rfl) _ _ _ h (lv_sub hl [0] rfl)
  · have hf := hf_f hc hf
    refine lv_aload_n hx hb dX6_token_14 rfl (lv_at hl 0 rfl) ?_
    refine x_gR (q := (RX6, TX6, 4)) (j := 3) G C h rfl (by decide) (fun _ _ _ => rfl) (lk C q179) (fun _ z => z) dX6_token_15 hf (fun r5 hf => ?_)
    refine x_gR (q := (RX0, TX0, 33)) (j := 11) G C h rfl (by decide) (fun _ _ _ => rfl) (lkn G C q218) (fun _ z => z) dX6_token_18 hf (fun r6 hf => ?_)
    refine lv_aload_n hx hb dX6_token_21 rfl (lv_at hl 0 rfl) ?_
    refine x_gI (q := (RX6, TX6, 4)) (j := 0) G C h rfl (by decide) (fun _ _ _ => rfl) (lk C q176) (fun _ z => z) dX6_token_22 hf (fun x7 hf => ?_)
    refine x_bald G C h dX6_token_25 hf (fun x8 hf => ?_)
    refine lv_bipush (v := 32) hx hb dX6_token_26 (by decide) ?_
    refine lv_icmp_ne (tgt := 44) hx hb dX6_token_28 (by decide) (fun hc => ?_) (fun hc => ?_)
    · have hf := hf_f hc hf
      cases hf
      exact hE0_0 _ (hX _ rfl) _ _ _ h (lv_sub hl [0] rfl)
    · have hf := hf_t hc hf
      refine lv_aload_n hx hb dX6_token_31 rfl (lv_at hl 0 rfl) ?_
      refine lv_dup hx hb dX6_token_32 rfl ?_
      refine x_gI (q := (RX6, TX6, 4)) (j := 0) G C h rfl (by decide) (fun _ _ _ => rfl) (lk C q176) (fun _ z => z) dX6_token_33 hf (fun x9 hf => ?_)
      refine lv_iconst (v := 1) hx hb dX6_token_36 (by decide) ?_
      refine lv_iadd hx hb dX6_token_37 ?_
      refine x_pI (q := (RX6, TX6, 4)) (j := 0) G C h rfl (by decide) rfl (lk C q176) (fun _ z => z) (Or.inl rfl) dX6_token_38 hf (fun σ10 H locs h hf => ?_)
      refine lv_goto (tgt := 0) hx hb dX6_token_41 (by decide) ?_
      cases hf
      exact ih _ rfl _ _ _ h (lv_sub hl [0] rfl)

theorem dX6_isWord_0 : decode cX6_isWord 0 = .ok (.aload_n 0, 1) := by decide +kernel
theorem dX6_isWord_1 : decode cX6_isWord 1 = .ok (.getfield 45, 3) := by decide +kernel
theorem dX6_isWord_4 : decode cX6_isWord 4 = .ok (.aload_n 0, 1) := by decide +kernel
theorem dX6_isWord_5 : decode cX6_isWord 5 = .ok (.getfield 38, 3) := by decide +kernel
theorem dX6_isWord_8 : decode cX6_isWord 8 = .ok (.isub, 1) := by decide +kernel
theorem dX6_isWord_9 : decode cX6_isWord 9 = .ok (.aload_n 1, 1) := by decide +kernel
theorem dX6_isWord_10 : decode cX6_isWord 10 = .ok (.invokevirtual 48, 3) := by decide +kernel
theorem dX6_isWord_13 : decode cX6_isWord 13 = .ok (.if_icmp .ne 7, 3) := by decide +kernel
theorem dX6_isWord_16 : decode cX6_isWord 16 = .ok (.iconst 1, 1) := by decide +kernel
theorem dX6_isWord_17 : decode cX6_isWord 17 = .ok (.goto 4, 3) := by decide +kernel
theorem dX6_isWord_20 : decode cX6_isWord 20 = .ok (.iconst 0, 1) := by decide +kernel
theorem dX6_isWord_21 : decode cX6_isWord 21 = .ok (.istore_n 2, 1) := by decide +kernel
theorem dX6_isWord_22 : decode cX6_isWord 22 = .ok (.iconst 0, 1) := by decide +kernel
theorem dX6_isWord_23 : decode cX6_isWord 23 = .ok (.istore_n 3, 1) := by decide +kernel
theorem dX6_isWord_24 : decode cX6_isWord 24 = .ok (.iload_n 2, 1) := by decide +kernel
theorem dX6_isWord_25 : decode cX6_isWord 25 = .ok (.ifCond .eq 45, 3) := by decide +kernel
theorem dX6_isWord_28 : decode cX6_isWord 28 = .ok (.iload_n 3, 1) := by decide +kernel
theorem dX6_isWord_29 : decode cX6_isWord 29 = .ok (.aload_n 1, 1) := by decide +kernel
theorem dX6_isWord_30 : decode cX6_isWord 30 = .ok (.invokevirtual 48, 3) := by decide +kernel
theorem dX6_isWord_33 : decode cX6_isWord 33 = .ok (.if_icmp .ge 37, 3) := by decide +kernel
theorem dX6_isWord_36 : decode cX6_isWord 36 = .ok (.aload_n 0, 1) := by decide +kernel
theorem dX6_isWord_37 : decode cX6_isWord 37 = .ok (.getfield 3, 3) := by decide +kernel
theorem dX6_isWord_40 : decode cX6_isWord 40 = .ok (.getfield 15, 3) := by decide +kernel
theorem dX6_isWord_43 : decode cX6_isWord 43 = .ok (.aload_n 0, 1) := by decide +kernel
theorem dX6_isWord_44 : decode cX6_isWord 44 = .ok (.getfield 38, 3) := by decide +kernel
theorem dX6_isWord_47 : decode cX6_isWord 47 = .ok (.iload_n 3, 1) := by decide +kernel
theorem dX6_isWord_48 : decode cX6_isWord 48 = .ok (.iadd, 1) := by decide +kernel
theorem dX6_isWord_49 : decode cX6_isWord 49 = .ok (.baload, 1) := by decide +kernel
theorem dX6_isWord_50 : decode cX6_isWord 50 = .ok (.aload_n 1, 1) := by decide +kernel
theorem dX6_isWord_51 : decode cX6_isWord 51 = .ok (.iload_n 3, 1) := by decide +kernel
theorem dX6_isWord_52 : decode cX6_isWord 52 = .ok (.invokevirtual 53, 3) := by decide +kernel
theorem dX6_isWord_55 : decode cX6_isWord 55 = .ok (.if_icmp .ne 7, 3) := by decide +kernel
theorem dX6_isWord_58 : decode cX6_isWord 58 = .ok (.iconst 1, 1) := by decide +kernel
theorem dX6_isWord_59 : decode cX6_isWord 59 = .ok (.goto 4, 3) := by decide +kernel
theorem dX6_isWord_62 : decode cX6_isWord 62 = .ok (.iconst 0, 1) := by decide +kernel
theorem dX6_isWord_63 : decode cX6_isWord 63 = .ok (.istore_n 2, 1) := by decide +kernel
theorem dX6_isWord_64 : decode cX6_isWord 64 = .ok (.iinc 3 1, 3) := by decide +kernel
theorem dX6_isWord_67 : decode cX6_isWord 67 = .ok (.goto (-43), 3) := by decide +kernel
theorem dX6_isWord_70 : decode cX6_isWord 70 = .ok (.iload_n 2, 1) := by decide +kernel
theorem dX6_isWord_71 : decode cX6_isWord 71 = .ok (.ireturn, 1) := by decide +kernel
def lX6_isWord_24 (a1 : Nat) (a0 : Nat) (σ5 : St) (x6 : Int32) (x7 : Int32) : Option ((St × Int32 × Int32) ⊕ (St × Int32)) :=
  if x6 = 0 then
    some (.inr (σ5, x6))
  else
  o_slen a1 fun x8 =>
  if x8 ≤ x7 then
    some (.inr (σ5, x6))
  else
  o_gR σ5 a0 4 3 fun r9 =>
  o_gR σ5 r9 0 11 fun r10 =>
  o_gI σ5 a0 4 1 fun x11 =>
  o_aI σ5 r10 1 (x11 + x7) fun x12 =>
  o_schr a1 x7 fun x13 =>
  jn (fun (x14 : Int32) =>
    some (.inl (σ5, x14, x7 + 1))) fun j63 =>
  if x12 = x13 then
    j63 1
  else
  j63 0

def fX6_isWord (σ : St) (a0 : Nat) (a1 : Nat) : Option (Int32 × St) :=
  o_gI σ a0 4 2 fun x1 =>
  o_gI σ a0 4 1 fun x2 =>
  o_slen a1 fun x3 =>
  jn (fun (x4 : Int32) =>
    (loopF fuel (fun z => lX6_isWord_24 a1 a0 z.1 z.2.1 z.2.2) (σ, x4, 0)).bind <| un2 fun σ15 x16 =>
    o_bz x16 <| some (x16, σ15)) fun j21 =>
  if (x1 - x2) = x3 then
    j21 1
  else
  j21 0

set_option maxHeartbeats 4000000 in
theorem wX6_isWord {l : Launch} {s0 : State} {A0 : Array Value} {D : va_G} {ac : Nat → ClassId} (G : Gl s0 A0 D ac) {σ : St} {a0 : Nat} {a1 : Nat} {v : Int32} {σ' : St} (hf : fX6_isWord σ a0 a1 = some (v, σ')) : Met l yX6_isWord (ws_ yX6_isWord cX6_isWord 4 (some (.boolean))) ({ frames := 4, cells := 0, slots := 0, locals := 85 } : Room) (Pn s0 D ac [.ref a0, .ref (sA s0 a1)] σ) (Qn s0 D ac (some (.int v)) σ') 0 0 (fr s0) := by
  refine x_met (by decide) (Nat.le_of_ble_eq_true rfl) ?_
  intro p e s m args below meth c ls C hnm h hl
  have C : Cx s0 p s m args meth c cX6_isWord 4 "HutForShow$Reader" (some (.boolean)) := C
  have hx := C.1
  have hb := C.2.1
  have hl : lv_has ls 4 [(0, .ref a0), (1, .ref (sA s0 a1))] := hl
  unfold fX6_isWord at hf
  refine lv_aload_n hx hb dX6_isWord_0 rfl (lv_at hl 0 rfl) ?_
  refine x_gI (q := (RX6, TX6, 4)) (j := 2) G C h rfl (by decide) (fun _ _ _ => rfl) (lk C q178) (fun _ z => z) dX6_isWord_1 hf (fun x1 hf => ?_)
  refine lv_aload_n hx hb dX6_isWord_4 rfl (lv_at hl 0 rfl) ?_
  refine x_gI (q := (RX6, TX6, 4)) (j := 1) G C h rfl (by decide) (fun _ _ _ => rfl) (lk C q177) (fun _ z => z) dX6_isWord_5 hf (fun x2 hf => ?_)
  refine lv_isub hx hb dX6_isWord_8 ?_
  refine lv_aload_n hx hb dX6_isWord_9 rfl (lv_at hl 1 rfl) ?_
  refine x_slen G C h q593 ⟨Nat.le_of_ble_eq_true rfl, Nat.le_of_ble_eq_true rfl⟩ hl.1 (Nat.le_of_ble_eq_true rfl) dX6_isWord_10 ⟨Nat.le_of_ble_eq_true rfl, Nat.le_of_ble_eq_true rfl⟩ hf (fun x3 H locs h hf => ?_)
  refine jn_of (P := fun j => ∀ (x4 : Int32), j x4 = some (v, σ') → ∀ (H : Heap) (locs : List Loc) (ls : Array Slot), Hs s0 D ac σ H locs → lv_has ls 4 [(0, .ref a0), (1, .ref (sA s0 a1))] → W p l e ({ frames := 4, cells := 0, slots := 0, locals := 85 } : Room) s m args below meth c H locs 0 0 (MQ below (Qn s0 D ac (some (.int v)) σ') args s 0 0 (fr s0)) (F0 m 21 ls [.int x4])) hf ?_ ?_
  · intro x4 hf H locs ls h hl
    refine lv_istore_n (lv' := [(2, .int x4), (0, .ref a0), (1, .ref (sA s0 a1))]) hx hb dX6_isWord_21 rfl hl (by decide) rfl (fun ls hl => ?_)
    refine lv_iconst (v := 0) hx hb dX6_isWord_22 (by decide) ?_
    refine lv_istore_n (lv' := [(3, .int 0), (2, .int x4), (0, .ref a0), (1, .ref (sA s0 a1))]) hx hb dX6_isWord_23 rfl hl (by decide) rfl (fun ls hl => ?_)
    obtain ⟨e24, hL, hK⟩ := hf_b hf
    have hE24_0 : ∀ (σ15 : St) (x16 : Int32), (σ15, x16) = e24 → ∀  (H : Heap) (locs : List Loc) (ls : Array Slot), Hs s0 D ac σ15 H locs → lv_has ls 4 [(0, .ref a0), (1, .ref (sA s0 a1)), (2, .int x16)] → W p l e ({ frames := 4, cells := 0, slots := 0, locals := 85 } : Room) s m args below meth c H locs 0 0 (MQ below (Qn s0 D ac (some (.int v)) σ') args s 0 0 (fr s0)) (F0 m 70 ls []) := by
      intro σ15 x16 he H locs ls h hl
      subst he
      have hf := hK
      have hf := hf_u2 hf
      refine lv_iload_n hx hb dX6_isWord_70 rfl (lv_at hl 2 rfl) ?_
      obtain ⟨hz, hf⟩ := bz_of hf
      cases hf
      refine W.widen (k := 0) (n := 0) (Nat.le_of_ble_eq_true rfl) (Nat.le_of_ble_eq_true rfl) ?_
      exact x_zret C h hz dX6_isWord_71
    refine loopF_ind (P := fun z => ∀ (H : Heap) (locs : List Loc) (ls : Array Slot), Hs s0 D ac (z.1) H locs → lv_has ls 4 [(0, .ref a0), (1, .ref (sA s0 a1)), (2, .int z.2.1), (3, .int z.2.2)] → W p l e ({ frames := 4, cells := 0, slots := 0, locals := 85 } : Room) s m args below meth c H locs 0 0 (MQ below (Qn s0 D ac (some (.int v)) σ') args s 0 0 (fr s0)) (F0 m 24 ls [])) ?_ _ _ hL _ _ _ h (lv_sub hl [2, 3, 1, 0] rfl)
    clear hK hL h hl hf
    intro z o hf ih hX H locs ls h hl
    obtain ⟨σ5, x6, x7⟩ := z
    have h : Hs s0 D ac σ5 H locs := h
    have hl : lv_has ls 4 [(0, .ref a0), (1, .ref (sA s0 a1)), (2, .int x6), (3, .int x7)] := hl
    have hf : lX6_isWord_24 a1 a0 σ5 x6 x7 = some o := hf
    unfold lX6_isWord_24 at hf
    refine lv_iload_n hx hb dX6_isWord_24 rfl (lv_at hl 2 rfl) ?_
    refine lv_if_eq (tgt := 70) hx hb dX6_isWord_25 (by decide) (fun hc => ?_) (fun hc => ?_)
    · have hf := hf_t hc hf
      cases hf
      exact hE24_0 _ _ (hX _ rfl) _ _ _ h (lv_sub hl [0, 1, 2] rfl)
    · have hf := hf_f hc hf
      refine lv_iload_n hx hb dX6_isWord_28 rfl (lv_at hl 3 rfl) ?_
      refine lv_aload_n hx hb dX6_isWord_29 rfl (lv_at hl 1 rfl) ?_
      refine x_slen G C h q593 ⟨Nat.le_of_ble_eq_true rfl, Nat.le_of_ble_eq_true rfl⟩ hl.1 (Nat.le_of_ble_eq_true rfl) dX6_isWord_30 ⟨Nat.le_of_ble_eq_true rfl, Nat.le_of_ble_eq_true rfl⟩ hf (fun x8 H locs h hf => ?_)
      refine lv_icmp_ge (tgt := 70) hx hb dX6_isWord_33 (by decide) (fun hc => ?_) (fun hc => ?_)
      · have hf := hf_t hc hf
        cases hf
        exact hE24_0 _ _ (hX _ rfl) _ _ _ h (lv_sub hl [0, 1, 2] rfl)
      · have hf := hf_f hc hf
        refine lv_aload_n hx hb dX6_isWord_36 rfl (lv_at hl 0 rfl) ?_
        refine x_gR (q := (RX6, TX6, 4)) (j := 3) G C h rfl (by decide) (fun _ _ _ => rfl) (lk C q179) (fun _ z => z) dX6_isWord_37 hf (fun r9 hf => ?_)
        refine x_gR (q := (RX0, TX0, 33)) (j := 11) G C h rfl (by decide) (fun _ _ _ => rfl) (lkn G C q218) (fun _ z => z) dX6_isWord_40 hf (fun r10 hf => ?_)
        refine lv_aload_n hx hb dX6_isWord_43 rfl (lv_at hl 0 rfl) ?_
        refine x_gI (q := (RX6, TX6, 4)) (j := 1) G C h rfl (by decide) (fun _ _ _ => rfl) (lk C q177) (fun _ z => z) dX6_isWord_44 hf (fun x11 hf => ?_)
        refine lv_iload_n hx hb dX6_isWord_47 rfl (lv_at hl 3 rfl) ?_
        refine lv_iadd hx hb dX6_isWord_48 ?_
        refine x_bald G C h dX6_isWord_49 hf (fun x12 hf => ?_)
        refine lv_aload_n hx hb dX6_isWord_50 rfl (lv_at hl 1 rfl) ?_
        refine lv_iload_n hx hb dX6_isWord_51 rfl (lv_at hl 3 rfl) ?_
        refine x_schr G C h q603 ⟨Nat.le_of_ble_eq_true rfl, Nat.le_of_ble_eq_true rfl⟩ hl.1 (Nat.le_of_ble_eq_true rfl) dX6_isWord_52 ⟨Nat.le_of_ble_eq_true rfl, Nat.le_of_ble_eq_true rfl⟩ hf (fun x13 H locs h hf => ?_)
        refine jn_of (P := fun j => ∀ (x14 : Int32), j x14 = some o → ∀ (H : Heap) (locs : List Loc) (ls : Array Slot), Hs s0 D ac σ5 H locs → lv_has ls 4 [(0, .ref a0), (1, .ref (sA s0 a1)), (2, .int x6), (3, .int x7)] → W p l e ({ frames := 4, cells := 0, slots := 0, locals := 85 } : Room) s m args below meth c H locs 0 0 (MQ below (Qn s0 D ac (some (.int v)) σ') args s 0 0 (fr s0)) (F0 m 63 ls [.int x14])) hf ?_ ?_
        · intro x14 hf H locs ls h hl
          refine lv_istore_n (lv' := [(2, .int x14), (0, .ref a0), (1, .ref (sA s0 a1)), (3, .int x7)]) hx hb dX6_isWord_63 rfl hl (by decide) rfl (fun ls hl => ?_)
          refine lv_iinc (v := x7 + 1) (lv' := [(3, .int (x7 + 1)), (2, .int x14), (0, .ref a0), (1, .ref (sA s0 a1))]) hx hb dX6_isWord_64 hl (k := 3) rfl rfl (by decide) rfl (fun ls hl => ?_)
          refine lv_goto (tgt := 24) hx hb dX6_isWord_67 (by decide) ?_
          cases hf
          exact ih _ rfl _ _ _ h (lv_sub hl [2, 3, 1, 0] rfl)
        intro j63 hj63 hf
        refine lv_icmp_ne (tgt := 62) hx hb dX6_isWord_55 (by decide) (fun hc => ?_) (fun hc => ?_)
        · have hf := hf_f hc hf
          refine lv_iconst (v := 0) hx hb dX6_isWord_62 (by decide) ?_
          exact hj63 _ hf _ _ _ h (lv_sub hl [0, 1, 2, 3] rfl)
        · have hf := hf_t hc hf
          refine lv_iconst (v := 1) hx hb dX6_isWord_58 (by decide) ?_
          refine lv_goto (tgt := 63) hx hb dX6_isWord_59 (by decide) ?_
          exact hj63 _ hf _ _ _ h (lv_sub hl [0, 1, 2, 3] rfl)
  intro j21 hj21 hf
  refine lv_icmp_ne (tgt := 20) hx hb dX6_isWord_13 (by decide) (fun hc => ?_) (fun hc => ?_)
  · have hf := hf_f hc hf
    refine lv_iconst (v := 0) hx hb dX6_isWord_20 (by decide) ?_
    exact hj21 _ hf _ _ _ h (lv_sub hl [0, 1] rfl)
  · have hf := hf_t hc hf
    refine lv_iconst (v := 1) hx hb dX6_isWord_16 (by decide) ?_
    refine lv_goto (tgt := 21) hx hb dX6_isWord_17 (by decide) ?_
    exact hj21 _ hf _ _ _ h (lv_sub hl [0, 1] rfl)

theorem dX6_skips_0 : decode cX6_skips 0 = .ok (.aload_n 0, 1) := by decide +kernel
theorem dX6_skips_1 : decode cX6_skips 1 = .ok (.aload_n 1, 1) := by decide +kernel
theorem dX6_skips_2 : decode cX6_skips 2 = .ok (.invokevirtual 57, 3) := by decide +kernel
theorem dX6_skips_5 : decode cX6_skips 5 = .ok (.istore_n 2, 1) := by decide +kernel
theorem dX6_skips_6 : decode cX6_skips 6 = .ok (.iload_n 2, 1) := by decide +kernel
theorem dX6_skips_7 : decode cX6_skips 7 = .ok (.ifCond .eq 7, 3) := by decide +kernel
theorem dX6_skips_10 : decode cX6_skips 10 = .ok (.aload_n 0, 1) := by decide +kernel
theorem dX6_skips_11 : decode cX6_skips 11 = .ok (.invokevirtual 61, 3) := by decide +kernel
theorem dX6_skips_14 : decode cX6_skips 14 = .ok (.iload_n 2, 1) := by decide +kernel
theorem dX6_skips_15 : decode cX6_skips 15 = .ok (.ireturn, 1) := by decide +kernel
def fX6_skips (σ : St) (a0 : Nat) (a1 : Nat) : Option (Int32 × St) :=
  o_k σ a0 4 <|
  (fX6_isWord σ a0 a1).bind <| un2 fun x1 σ2 =>
  jn (fun (σ4 : St) =>
    o_bz x1 <| some (x1, σ4)) fun j14 =>
  if x1 = 0 then
    j14 σ2
  else
  o_k σ2 a0 4 <|
  (fX6_token σ2 a0).bind fun σ3 =>
  j14 σ3

set_option maxHeartbeats 4000000 in
theorem wX6_skips {l : Launch} {s0 : State} {A0 : Array Value} {D : va_G} {ac : Nat → ClassId} (G : Gl s0 A0 D ac) {σ : St} {a0 : Nat} {a1 : Nat} {v : Int32} {σ' : St} (hf : fX6_skips σ a0 a1 = some (v, σ')) : Met l yX6_skips (ws_ yX6_skips cX6_skips 3 (some (.boolean))) ({ frames := 5, cells := 0, slots := 0, locals := 108 } : Room) (Pn s0 D ac [.ref a0, .ref (sA s0 a1)] σ) (Qn s0 D ac (some (.int v)) σ') 0 0 (fr s0) := by
  refine x_met (by decide) (Nat.le_of_ble_eq_true rfl) ?_
  intro p e s m args below meth c ls C hnm h hl
  have C : Cx s0 p s m args meth c cX6_skips 3 "HutForShow$Reader" (some (.boolean)) := C
  have hx := C.1
  have hb := C.2.1
  have hl : lv_has ls 3 [(0, .ref a0), (1, .ref (sA s0 a1))] := hl
  unfold fX6_skips at hf
  refine lv_aload_n hx hb dX6_skips_0 rfl (lv_at hl 0 rfl) ?_
  refine lv_aload_n hx hb dX6_skips_1 rfl (lv_at hl 1 rfl) ?_
  obtain ⟨hk, hf⟩ := k_of hf
  obtain ⟨⟨x1, σ2⟩, hc, hf⟩ := hf_b hf
  have hf := hf_u2 hf
  refine x_cV (q := (RX6, TX6, 4)) (rest := []) (As := [.ref (sA s0 a1)]) (n := 1) (ov := (some (.int x1))) G C h (wX6_isWord G hc) hk rfl (lw_V q589 q591 qs6 q60 q592) (by decide +kernel) ⟨Nat.le_of_ble_eq_true rfl, Nat.le_of_ble_eq_true rfl⟩ rfl rfl rfl hl.1 rfl (Nat.le_of_ble_eq_true rfl) dX6_skips_2 ⟨(Nat.le_of_ble_eq_true rfl), (Nat.le_of_ble_eq_true rfl)⟩ (fun H locs h => ?_)
  refine lv_istore_n (lv' := [(2, .int x1), (0, .ref a0), (1, .ref (sA s0 a1))]) hx hb dX6_skips_5 rfl hl (by decide) rfl (fun ls hl => ?_)
  refine lv_iload_n hx hb dX6_skips_6 rfl (lv_at hl 0 rfl) ?_
  refine jn_of (P := fun j => ∀ (σ4 : St), j σ4 = some (v, σ') → ∀ (H : Heap) (locs : List Loc) (ls : Array Slot), Hs s0 D ac σ4 H locs → lv_has ls 3 [(0, .ref a0), (1, .ref (sA s0 a1)), (2, .int x1)] → W p l e ({ frames := 5, cells := 0, slots := 0, locals := 108 } : Room) s m args below meth c H locs 0 0 (MQ below (Qn s0 D ac (some (.int v)) σ') args s 0 0 (fr s0)) (F0 m 14 ls [])) hf ?_ ?_
  · intro σ4 hf H locs ls h hl
    refine lv_iload_n hx hb dX6_skips_14 rfl (lv_at hl 2 rfl) ?_
    obtain ⟨hz, hf⟩ := bz_of hf
    cases hf
    refine W.widen (k := 0) (n := 0) (Nat.le_of_ble_eq_true rfl) (Nat.le_of_ble_eq_true rfl) ?_
    exact x_zret C h hz dX6_skips_15
  intro j14 hj14 hf
  refine lv_if_eq (tgt := 14) hx hb dX6_skips_7 (by decide) (fun hc => ?_) (fun hc => ?_)
  · have hf := hf_t hc hf
    exact hj14 _ hf _ _ _ h (lv_sub hl [1, 2, 0] rfl)
  · have hf := hf_f hc hf
    refine lv_aload_n hx hb dX6_skips_10 rfl (lv_at hl 1 rfl) ?_
    obtain ⟨hk, hf⟩ := k_of hf
    obtain ⟨σ3, hc, hf⟩ := hf_b hf
    refine x_cV (q := (RX6, TX6, 4)) (rest := []) (As := []) (n := 0) (ov := none) G C h (wX6_token G hc) hk rfl (lw_V q561 q563 qs4 q60 q564) (by decide +kernel) ⟨Nat.le_of_ble_eq_true rfl, Nat.le_of_ble_eq_true rfl⟩ rfl rfl rfl hl.1 rfl (Nat.le_of_ble_eq_true rfl) dX6_skips_11 ⟨(Nat.le_of_ble_eq_true rfl), (Nat.le_of_ble_eq_true rfl)⟩ (fun H locs h => ?_)
    exact hj14 _ hf _ _ _ h (lv_sub hl [1, 2, 0] rfl)

theorem dX12_init_0 : decode cX12_init 0 = .ok (.aload_n 0, 1) := by decide +kernel
theorem dX12_init_1 : decode cX12_init 1 = .ok (.invokespecial 3, 3) := by decide +kernel
theorem dX12_init_4 : decode cX12_init 4 = .ok (.return_, 1) := by decide +kernel
def fX12_init (σ : St) (a0 : Nat) : Option (Unit) :=
  (fX1_init σ a0).bind fun _ =>
  some ()

set_option maxHeartbeats 4000000 in
theorem wX12_init {l : Launch} {s0 : State} {A0 : Array Value} {D : va_G} {ac : Nat → ClassId} (G : Gl s0 A0 D ac) {σ : St} {a0 : Nat}  (hf : fX12_init σ a0 = some (())) : Met l yX12_init (ws_ yX12_init cX12_init 1 none) ({ frames := 2, cells := 0, slots := 0, locals := 32 } : Room) (Pn s0 D ac [.ref a0] σ) (Qn s0 D ac none σ) 0 0 (fr s0) := by
  refine x_met (by decide) (Nat.le_of_ble_eq_true rfl) ?_
  intro p e s m args below meth c ls C hnm h hl
  have C : Cx s0 p s m args meth c cX12_init 1 "HutForShow$Mend" none := C
  have hx := C.1
  have hb := C.2.1
  have hl : lv_has ls 1 [(0, .ref a0)] := hl
  unfold fX12_init at hf
  refine lv_aload_n hx hb dX12_init_0 rfl (lv_at hl 0 rfl) ?_
  obtain ⟨_, hc, hf⟩ := hf_b hf
  refine x_cIN (rest := []) (As := []) (n := 0) (ov := none) G C h (wX1_init G hc) q646 q96 q55 q97 rfl (by decide +kernel) ⟨Nat.le_of_ble_eq_true rfl, Nat.le_of_ble_eq_true rfl⟩ rfl rfl rfl hl.1 rfl (Nat.le_of_ble_eq_true rfl) dX12_init_1 ⟨(Nat.le_of_ble_eq_true rfl), (Nat.le_of_ble_eq_true rfl)⟩ (fun H locs h => ?_)
  cases hf
  refine W.widen (k := 0) (n := 0) (Nat.le_of_ble_eq_true rfl) (Nat.le_of_ble_eq_true rfl) ?_
  exact x_vret C h dX12_init_4

theorem dX13_init_0 : decode cX13_init 0 = .ok (.aload_n 0, 1) := by decide +kernel
theorem dX13_init_1 : decode cX13_init 1 = .ok (.invokespecial 3, 3) := by decide +kernel
theorem dX13_init_4 : decode cX13_init 4 = .ok (.return_, 1) := by decide +kernel
def fX13_init (σ : St) (a0 : Nat) : Option (Unit) :=
  (fX3_init σ a0).bind fun _ =>
  some ()

set_option maxHeartbeats 4000000 in
theorem wX13_init {l : Launch} {s0 : State} {A0 : Array Value} {D : va_G} {ac : Nat → ClassId} (G : Gl s0 A0 D ac) {σ : St} {a0 : Nat}  (hf : fX13_init σ a0 = some (())) : Met l yX13_init (ws_ yX13_init cX13_init 1 none) ({ frames := 3, cells := 0, slots := 0, locals := 52 } : Room) (Pn s0 D ac [.ref a0] σ) (Qn s0 D ac none σ) 0 0 (fr s0) := by
  refine x_met (by decide) (Nat.le_of_ble_eq_true rfl) ?_
  intro p e s m args below meth c ls C hnm h hl
  have C : Cx s0 p s m args meth c cX13_init 1 "HutForShow$Find" none := C
  have hx := C.1
  have hb := C.2.1
  have hl : lv_has ls 1 [(0, .ref a0)] := hl
  unfold fX13_init at hf
  refine lv_aload_n hx hb dX13_init_0 rfl (lv_at hl 0 rfl) ?_
  obtain ⟨_, hc, hf⟩ := hf_b hf
  refine x_cIN (rest := []) (As := []) (n := 0) (ov := none) G C h (wX3_init G hc) q654 q106 q57 q107 rfl (by decide +kernel) ⟨Nat.le_of_ble_eq_true rfl, Nat.le_of_ble_eq_true rfl⟩ rfl rfl rfl hl.1 rfl (Nat.le_of_ble_eq_true rfl) dX13_init_1 ⟨(Nat.le_of_ble_eq_true rfl), (Nat.le_of_ble_eq_true rfl)⟩ (fun H locs h => ?_)
  cases hf
  refine W.widen (k := 0) (n := 0) (Nat.le_of_ble_eq_true rfl) (Nat.le_of_ble_eq_true rfl) ?_
  exact x_vret C h dX13_init_4

theorem dX14_init_0 : decode cX14_init 0 = .ok (.aload_n 0, 1) := by decide +kernel
theorem dX14_init_1 : decode cX14_init 1 = .ok (.ldc 1, 2) := by decide +kernel
theorem dX14_init_3 : decode cX14_init 3 = .ok (.aconst_null, 1) := by decide +kernel
theorem dX14_init_4 : decode cX14_init 4 = .ok (.iconst 0, 1) := by decide +kernel
theorem dX14_init_5 : decode cX14_init 5 = .ok (.iconst 0, 1) := by decide +kernel
theorem dX14_init_6 : decode cX14_init 6 = .ok (.invokespecial 3, 3) := by decide +kernel
theorem dX14_init_9 : decode cX14_init 9 = .ok (.aload_n 0, 1) := by decide +kernel
theorem dX14_init_10 : decode cX14_init 10 = .ok (.iload_n 1, 1) := by decide +kernel
theorem dX14_init_11 : decode cX14_init 11 = .ok (.putfield 9, 3) := by decide +kernel
theorem dX14_init_14 : decode cX14_init 14 = .ok (.return_, 1) := by decide +kernel
def fX14_init (σ : St) (a0 : Nat) (a1 : Int32) : Option (St) :=
  (fJ6_init σ a0 8 none 0 0).bind fun _ =>
  o_pI σ a0 11 0 a1 fun σ1 =>
  some σ1

set_option maxHeartbeats 4000000 in
theorem wX14_init {l : Launch} {s0 : State} {A0 : Array Value} {D : va_G} {ac : Nat → ClassId} (G : Gl s0 A0 D ac) {σ : St} {a0 : Nat} {a1 : Int32} {σ' : St} (hf : fX14_init σ a0 a1 = some (σ')) : Met l yX14_init (ws_ yX14_init cX14_init 2 none) ({ frames := 3, cells := 0, slots := 0, locals := 60 } : Room) (Pn s0 D ac [.ref a0, .int a1] σ) (Qn s0 D ac none σ') 0 0 (fr s0) := by
  refine x_met (by decide) (Nat.le_of_ble_eq_true rfl) ?_
  intro p e s m args below meth c ls C hnm h hl
  have C : Cx s0 p s m args meth c cX14_init 2 "HutForShow$Fault" none := C
  have hx := C.1
  have hb := C.2.1
  have hl : lv_has ls 2 [(0, .ref a0), (1, .int a1)] := hl
  unfold fX14_init at hf
  refine lv_aload_n hx hb dX14_init_0 rfl (lv_at hl 0 rfl) ?_
  refine x_ldcS (i := 8) G C (by decide) rfl rfl dX14_init_1 ?_
  refine lv_null hx hb dX14_init_3 ?_
  refine lv_iconst (v := 0) hx hb dX14_init_4 (by decide) ?_
  refine lv_iconst (v := 0) hx hb dX14_init_5 (by decide) ?_
  obtain ⟨_, hc, hf⟩ := hf_b hf
  refine x_cI (rest := []) (As := [.ref (sA s0 8), .null, .int 0, .int 0]) (n := 4) (ov := none) C h (wJ6_init G hc) q704 q705 q74 q706 rfl (by decide +kernel) ⟨Nat.le_of_ble_eq_true rfl, Nat.le_of_ble_eq_true rfl⟩ rfl rfl rfl hl.1 rfl (Nat.le_of_ble_eq_true rfl) dX14_init_6 ⟨(Nat.le_of_ble_eq_true rfl), (Nat.le_of_ble_eq_true rfl)⟩ (fun H locs h => ?_)
  refine lv_aload_n hx hb dX14_init_9 rfl (lv_at hl 0 rfl) ?_
  refine lv_iload_n hx hb dX14_init_10 rfl (lv_at hl 1 rfl) ?_
  refine x_pI (q := (RX14, TY14, 1)) (j := 0) G C h rfl (by decide) rfl (lk C q710) (fun _ z => z) (Or.inr ⟨hnm, rfl⟩) dX14_init_11 hf (fun σ1 H locs h hf => ?_)
  cases hf
  refine W.widen (k := 0) (n := 0) (Nat.le_of_ble_eq_true rfl) (Nat.le_of_ble_eq_true rfl) ?_
  exact x_vret C h dX14_init_14

theorem dX6_need_0 : decode cX6_need 0 = .ok (.iload_n 1, 1) := by decide +kernel
theorem dX6_need_1 : decode cX6_need 1 = .ok (.ifCond .ne 15, 3) := by decide +kernel
theorem dX6_need_4 : decode cX6_need 4 = .ok (.new 64, 3) := by decide +kernel
theorem dX6_need_7 : decode cX6_need 7 = .ok (.dup, 1) := by decide +kernel
theorem dX6_need_8 : decode cX6_need 8 = .ok (.aload_n 0, 1) := by decide +kernel
theorem dX6_need_9 : decode cX6_need 9 = .ok (.getfield 38, 3) := by decide +kernel
theorem dX6_need_12 : decode cX6_need 12 = .ok (.invokespecial 66, 3) := by decide +kernel
theorem dX6_need_15 : decode cX6_need 15 = .ok (.athrow, 1) := by decide +kernel
theorem dX6_need_16 : decode cX6_need 16 = .ok (.return_, 1) := by decide +kernel
def fX6_need (σ : St) (a0 : Nat) (a1 : Int32) : Option (Rx Unit) :=
  if a1 = 0 then
    o_new σ 11 fun r1 σ2 =>
    o_gI σ2 a0 4 1 fun x3 =>
    (fX14_init σ2 r1 x3).bind fun σ4 =>
    some (.inr (r1, σ4))
  else
  some (.inl ((), σ))

set_option maxHeartbeats 4000000 in
theorem wX6_need {l : Launch} {s0 : State} {A0 : Array Value} {D : va_G} {ac : Nat → ClassId} (G : Gl s0 A0 D ac) {σ : St} {a0 : Nat} {a1 : Int32} {res : Rx Unit} (hf : fX6_need σ a0 a1 = some res) : MetX l yX6_need (ws_ yX6_need cX6_need 2 none) ({ frames := 4, cells := 1, slots := 7, locals := 81 } : Room) (Pn s0 D ac [.ref a0, .int a1] σ) (Qx s0 D ac (resO kV res) (resS res)) 1 7 (fr s0) := by
  refine x_metX (by decide) (Nat.le_of_ble_eq_true rfl) ?_
  intro p e s m args below meth c ls C hno h hl
  have C : Cx s0 p s m args meth c cX6_need 2 "HutForShow$Reader" none := C
  have hx := C.1
  have hb := C.2.1
  have hl : lv_has ls 2 [(0, .ref a0), (1, .int a1)] := hl
  unfold fX6_need at hf
  refine lv_iload_n hx hb dX6_need_0 rfl (lv_at hl 1 rfl) ?_
  refine lv_if_ne (tgt := 16) hx hb dX6_need_1 (by decide) (fun hc => ?_) (fun hc => ?_)
  · have hf := hf_f hc hf
    cases hf
    refine W.widen (k := 1) (n := 7) (Nat.le_of_ble_eq_true rfl) (Nat.le_of_ble_eq_true rfl) ?_
    exact x_vretX C h dX6_need_16
  · have hf := hf_t hc hf
    refine x_new (q := (RX14, TY14, 1)) G C h rfl (fun j _ => nf_all 11 j) q663 q664 q75 (Nat.le_of_ble_eq_true rfl) (Nat.le_of_ble_eq_true rfl) dX6_need_4 hf (fun r1 σ2 H h hf => ?_)
    refine lv_dup hx hb dX6_need_7 rfl ?_
    refine lv_aload_n hx hb dX6_need_8 rfl (lv_at hl 0 rfl) ?_
    refine x_gI (q := (RX6, TX6, 4)) (j := 1) G C h rfl (by decide) (fun _ _ _ => rfl) (lk C q177) (fun _ z => z) dX6_need_9 hf (fun x3 hf => ?_)
    obtain ⟨σ4, hc, hf⟩ := hf_b hf
    refine x_cI (rest := [.ref r1]) (As := [.int x3]) (n := 1) (ov := none) C h (wX14_init G hc) q700 q701 q75 q702 rfl (by decide +kernel) ⟨Nat.le_of_ble_eq_true rfl, Nat.le_of_ble_eq_true rfl⟩ rfl rfl rfl hl.1 rfl (Nat.le_of_ble_eq_true rfl) dX6_need_12 ⟨(Nat.le_of_ble_eq_true rfl), (Nat.le_of_ble_eq_true rfl)⟩ (fun H locs h => ?_)
    cases hf
    refine W.widen (k := 1) (n := 7) (Nat.le_of_ble_eq_true rfl) (Nat.le_of_ble_eq_true rfl) ?_
    exact x_athrow C hno h dX6_need_15

theorem dX6_number_0 : decode cX6_number 0 = .ok (.aload_n 0, 1) := by decide +kernel
theorem dX6_number_1 : decode cX6_number 1 = .ok (.getfield 38, 3) := by decide +kernel
theorem dX6_number_4 : decode cX6_number 4 = .ok (.aload_n 0, 1) := by decide +kernel
theorem dX6_number_5 : decode cX6_number 5 = .ok (.getfield 3, 3) := by decide +kernel
theorem dX6_number_8 : decode cX6_number 8 = .ok (.getfield 35, 3) := by decide +kernel
theorem dX6_number_11 : decode cX6_number 11 = .ok (.if_icmp .ge 32, 3) := by decide +kernel
theorem dX6_number_14 : decode cX6_number 14 = .ok (.aload_n 0, 1) := by decide +kernel
theorem dX6_number_15 : decode cX6_number 15 = .ok (.aload_n 0, 1) := by decide +kernel
theorem dX6_number_16 : decode cX6_number 16 = .ok (.getfield 38, 3) := by decide +kernel
theorem dX6_number_19 : decode cX6_number 19 = .ok (.invokevirtual 41, 3) := by decide +kernel
theorem dX6_number_22 : decode cX6_number 22 = .ok (.iconst 2, 1) := by decide +kernel
theorem dX6_number_23 : decode cX6_number 23 = .ok (.if_icmp .ne 20, 3) := by decide +kernel
theorem dX6_number_26 : decode cX6_number 26 = .ok (.aload_n 0, 1) := by decide +kernel
theorem dX6_number_27 : decode cX6_number 27 = .ok (.getfield 45, 3) := by decide +kernel
theorem dX6_number_30 : decode cX6_number 30 = .ok (.aload_n 0, 1) := by decide +kernel
theorem dX6_number_31 : decode cX6_number 31 = .ok (.getfield 38, 3) := by decide +kernel
theorem dX6_number_34 : decode cX6_number 34 = .ok (.isub, 1) := by decide +kernel
theorem dX6_number_35 : decode cX6_number 35 = .ok (.iconst 2, 1) := by decide +kernel
theorem dX6_number_36 : decode cX6_number 36 = .ok (.if_icmp .gt 7, 3) := by decide +kernel
theorem dX6_number_39 : decode cX6_number 39 = .ok (.iconst 1, 1) := by decide +kernel
theorem dX6_number_40 : decode cX6_number 40 = .ok (.goto 4, 3) := by decide +kernel
theorem dX6_number_43 : decode cX6_number 43 = .ok (.iconst 0, 1) := by decide +kernel
theorem dX6_number_44 : decode cX6_number 44 = .ok (.istore_n 2, 1) := by decide +kernel
theorem dX6_number_45 : decode cX6_number 45 = .ok (.iconst 0, 1) := by decide +kernel
theorem dX6_number_46 : decode cX6_number 46 = .ok (.istore_n 3, 1) := by decide +kernel
theorem dX6_number_47 : decode cX6_number 47 = .ok (.aload_n 0, 1) := by decide +kernel
theorem dX6_number_48 : decode cX6_number 48 = .ok (.getfield 38, 3) := by decide +kernel
theorem dX6_number_51 : decode cX6_number 51 = .ok (.istore 4, 2) := by decide +kernel
theorem dX6_number_53 : decode cX6_number 53 = .ok (.iload_n 2, 1) := by decide +kernel
theorem dX6_number_54 : decode cX6_number 54 = .ok (.ifCond .eq 37, 3) := by decide +kernel
theorem dX6_number_57 : decode cX6_number 57 = .ok (.iload 4, 2) := by decide +kernel
theorem dX6_number_59 : decode cX6_number 59 = .ok (.aload_n 0, 1) := by decide +kernel
theorem dX6_number_60 : decode cX6_number 60 = .ok (.getfield 45, 3) := by decide +kernel
theorem dX6_number_63 : decode cX6_number 63 = .ok (.if_icmp .ge 28, 3) := by decide +kernel
theorem dX6_number_66 : decode cX6_number 66 = .ok (.bipush 10, 2) := by decide +kernel
theorem dX6_number_68 : decode cX6_number 68 = .ok (.iload_n 3, 1) := by decide +kernel
theorem dX6_number_69 : decode cX6_number 69 = .ok (.imul, 1) := by decide +kernel
theorem dX6_number_70 : decode cX6_number 70 = .ok (.aload_n 0, 1) := by decide +kernel
theorem dX6_number_71 : decode cX6_number 71 = .ok (.getfield 3, 3) := by decide +kernel
theorem dX6_number_74 : decode cX6_number 74 = .ok (.getfield 15, 3) := by decide +kernel
theorem dX6_number_77 : decode cX6_number 77 = .ok (.iload 4, 2) := by decide +kernel
theorem dX6_number_79 : decode cX6_number 79 = .ok (.baload, 1) := by decide +kernel
theorem dX6_number_80 : decode cX6_number 80 = .ok (.iadd, 1) := by decide +kernel
theorem dX6_number_81 : decode cX6_number 81 = .ok (.bipush 48, 2) := by decide +kernel
theorem dX6_number_83 : decode cX6_number 83 = .ok (.isub, 1) := by decide +kernel
theorem dX6_number_84 : decode cX6_number 84 = .ok (.istore_n 3, 1) := by decide +kernel
theorem dX6_number_85 : decode cX6_number 85 = .ok (.iinc 4 1, 3) := by decide +kernel
theorem dX6_number_88 : decode cX6_number 88 = .ok (.goto (-35), 3) := by decide +kernel
theorem dX6_number_91 : decode cX6_number 91 = .ok (.aload_n 0, 1) := by decide +kernel
theorem dX6_number_92 : decode cX6_number 92 = .ok (.iload_n 2, 1) := by decide +kernel
theorem dX6_number_93 : decode cX6_number 93 = .ok (.ifCond .eq 12, 3) := by decide +kernel
theorem dX6_number_96 : decode cX6_number 96 = .ok (.iload_n 3, 1) := by decide +kernel
theorem dX6_number_97 : decode cX6_number 97 = .ok (.iload_n 1, 1) := by decide +kernel
theorem dX6_number_98 : decode cX6_number 98 = .ok (.if_icmp .gt 7, 3) := by decide +kernel
theorem dX6_number_101 : decode cX6_number 101 = .ok (.iconst 1, 1) := by decide +kernel
theorem dX6_number_102 : decode cX6_number 102 = .ok (.goto 4, 3) := by decide +kernel
theorem dX6_number_105 : decode cX6_number 105 = .ok (.iconst 0, 1) := by decide +kernel
theorem dX6_number_106 : decode cX6_number 106 = .ok (.invokevirtual 69, 3) := by decide +kernel
theorem dX6_number_109 : decode cX6_number 109 = .ok (.aload_n 0, 1) := by decide +kernel
theorem dX6_number_110 : decode cX6_number 110 = .ok (.invokevirtual 61, 3) := by decide +kernel
theorem dX6_number_113 : decode cX6_number 113 = .ok (.iload_n 3, 1) := by decide +kernel
theorem dX6_number_114 : decode cX6_number 114 = .ok (.ireturn, 1) := by decide +kernel
def lX6_number_53 (x8 : Int32) (σ : St) (a0 : Nat) (x10 : Int32) (x11 : Int32) : Option ((Int32 × Int32) ⊕ (Int32)) :=
  if x8 = 0 then
    some (.inr x10)
  else
  o_gI σ a0 4 2 fun x12 =>
  if x12 ≤ x11 then
    some (.inr x10)
  else
  o_gR σ a0 4 3 fun r13 =>
  o_gR σ r13 0 11 fun r14 =>
  o_aI σ r14 1 x11 fun x15 =>
  some (.inl (((10 * x10) + x15) - 48, x11 + 1))

def fX6_number (σ : St) (a0 : Nat) (a1 : Int32) : Option (Rx Int32) :=
  o_gI σ a0 4 1 fun x1 =>
  o_gR σ a0 4 3 fun r2 =>
  o_gI σ r2 0 12 fun x3 =>
  jn (fun (x8 : Int32) =>
    o_gI σ a0 4 1 fun x9 =>
    (loopF fuel (fun z => lX6_number_53 x8 σ a0 z.1 z.2) (0, x9)).bind <| fun x16 =>
    jn (fun (x17 : Int32) =>
      o_k σ a0 4 <|
      (fX6_need σ a0 x17).bind <| xs fun _ σ18 =>
      o_k σ18 a0 4 <|
      (fX6_token σ18 a0).bind fun σ19 =>
      some (.inl (x16, σ19))) fun j106 =>
    jn (fun (_ : Unit) =>
      j106 0) fun j105 =>
    if x8 = 0 then
      j105 ()
    else
    if a1 < x16 then
      j105 ()
    else
    j106 1) fun j44 =>
  jn (fun (_ : Unit) =>
    j44 0) fun j43 =>
  if x3 ≤ x1 then
    j43 ()
  else
  o_gI σ a0 4 1 fun x4 =>
  o_k σ a0 4 <|
  (fX6_kindAt σ a0 x4).bind fun x5 =>
  if x5 = 2 then
    o_gI σ a0 4 2 fun x6 =>
    o_gI σ a0 4 1 fun x7 =>
    if 2 < (x6 - x7) then
      j43 ()
    else
    j44 1
  else
  j43 ()

set_option maxHeartbeats 4000000 in
theorem wX6_number {l : Launch} {s0 : State} {A0 : Array Value} {D : va_G} {ac : Nat → ClassId} (G : Gl s0 A0 D ac) {σ : St} {a0 : Nat} {a1 : Int32} {res : Rx Int32} (hf : fX6_number σ a0 a1 = some res) : MetX l yX6_number (ws_ yX6_number cX6_number 5 (some (.int))) ({ frames := 5, cells := 1, slots := 7, locals := 102 } : Room) (Pn s0 D ac [.ref a0, .int a1] σ) (Qx s0 D ac (resO kI res) (resS res)) 1 7 (fr s0) := by
  refine x_metX (by decide) (Nat.le_of_ble_eq_true rfl) ?_
  intro p e s m args below meth c ls C hno h hl
  have C : Cx s0 p s m args meth c cX6_number 5 "HutForShow$Reader" (some (.int)) := C
  have hx := C.1
  have hb := C.2.1
  have hl : lv_has ls 5 [(0, .ref a0), (1, .int a1)] := hl
  unfold fX6_number at hf
  refine lv_aload_n hx hb dX6_number_0 rfl (lv_at hl 0 rfl) ?_
  refine x_gI (q := (RX6, TX6, 4)) (j := 1) G C h rfl (by decide) (fun _ _ _ => rfl) (lk C q177) (fun _ z => z) dX6_number_1 hf (fun x1 hf => ?_)
  refine lv_aload_n hx hb dX6_number_4 rfl (lv_at hl 0 rfl) ?_
  refine x_gR (q := (RX6, TX6, 4)) (j := 3) G C h rfl (by decide) (fun _ _ _ => rfl) (lk C q179) (fun _ z => z) dX6_number_5 hf (fun r2 hf => ?_)
  refine x_gI (q := (RX0, TX0, 33)) (j := 12) G C h rfl (by decide) (fun _ _ _ => rfl) (lkn G C q220) (fun _ z => z) dX6_number_8 hf (fun x3 hf => ?_)
  refine jn_of (P := fun j => ∀ (x8 : Int32), j x8 = some res → ∀ (H : Heap) (locs : List Loc) (ls : Array Slot), Hs s0 D ac σ H locs → lv_has ls 5 [(0, .ref a0), (1, .int a1)] → W p l e ({ frames := 5, cells := 1, slots := 7, locals := 102 } : Room) s m args below meth c H locs 0 0 (MQX below (Qx s0 D ac (resO kI res) (resS res)) args s 1 7 (fr s0)) (F0 m 44 ls [.int x8])) hf ?_ ?_
  · intro x8 hf H locs ls h hl
    refine lv_istore_n (lv' := [(2, .int x8), (0, .ref a0), (1, .int a1)]) hx hb dX6_number_44 rfl hl (by decide) rfl (fun ls hl => ?_)
    refine lv_iconst (v := 0) hx hb dX6_number_45 (by decide) ?_
    refine lv_istore_n (lv' := [(3, .int 0), (2, .int x8), (0, .ref a0), (1, .int a1)]) hx hb dX6_number_46 rfl hl (by decide) rfl (fun ls hl => ?_)
    refine lv_aload_n hx hb dX6_number_47 rfl (lv_at hl 2 rfl) ?_
    refine x_gI (q := (RX6, TX6, 4)) (j := 1) G C h rfl (by decide) (fun _ _ _ => rfl) (lk C q177) (fun _ z => z) dX6_number_48 hf (fun x9 hf => ?_)
    refine lv_istore (lv' := [(4, .int x9), (3, .int 0), (2, .int x8), (0, .ref a0), (1, .int a1)]) hx hb dX6_number_51 hl (by decide) rfl (fun ls hl => ?_)
    obtain ⟨e53, hL, hK⟩ := hf_b hf
    have hE53_0 : ∀ (x16 : Int32), x16 = e53 → ∀  (H : Heap) (locs : List Loc) (ls : Array Slot), Hs s0 D ac σ H locs → lv_has ls 5 [(0, .ref a0), (1, .int a1), (2, .int x8), (3, .int x16)] → W p l e ({ frames := 5, cells := 1, slots := 7, locals := 102 } : Room) s m args below meth c H locs 0 0 (MQX below (Qx s0 D ac (resO kI res) (resS res)) args s 1 7 (fr s0)) (F0 m 91 ls []) := by
      intro x16 he H locs ls h hl
      subst he
      have hf := hK
      refine lv_aload_n hx hb dX6_number_91 rfl (lv_at hl 0 rfl) ?_
      refine lv_iload_n hx hb dX6_number_92 rfl (lv_at hl 2 rfl) ?_
      refine jn_of (P := fun j => ∀ (x17 : Int32), j x17 = some res → ∀ (H : Heap) (locs : List Loc) (ls : Array Slot), Hs s0 D ac σ H locs → lv_has ls 5 [(0, .ref a0), (1, .int a1), (2, .int x8), (3, .int x16)] → W p l e ({ frames := 5, cells := 1, slots := 7, locals := 102 } : Room) s m args below meth c H locs 0 0 (MQX below (Qx s0 D ac (resO kI res) (resS res)) args s 1 7 (fr s0)) (F0 m 106 ls [.int x17, .ref a0])) hf ?_ ?_
      · intro x17 hf H locs ls h hl
        obtain ⟨hk, hf⟩ := k_of hf
        obtain ⟨rx, hc, hf⟩ := hf_b hf
        refine x_cVX (q := (RX6, TX6, 4)) (rest := []) (As := [.int x17]) (n := 1) (kA := kV) G C hno h (wX6_need G hc) hk rfl q659 q660 q661 q60 q662 (by decide +kernel) ⟨Nat.le_of_ble_eq_true rfl, Nat.le_of_ble_eq_true rfl⟩ rfl rfl rfl hl.1 rfl (Nat.le_of_ble_eq_true rfl) dX6_number_106 ⟨(Nat.le_of_ble_eq_true rfl), (Nat.le_of_ble_eq_true rfl)⟩ ⟨(Nat.le_of_ble_eq_true rfl), (Nat.le_of_ble_eq_true rfl)⟩ (fun x9 σ9 he => by subst he; cases hf; rfl) (fun _ σ18 H locs h he => ?_)
        subst he
        have hf := hf_xs hf
        refine lv_aload_n hx hb dX6_number_109 rfl (lv_at hl 0 rfl) ?_
        obtain ⟨hk, hf⟩ := k_of hf
        obtain ⟨σ19, hc, hf⟩ := hf_b hf
        refine x_cV (q := (RX6, TX6, 4)) (rest := []) (As := []) (n := 0) (ov := none) G C h (wX6_token G hc) hk rfl (lw_V q561 q563 qs4 q60 q564) (by decide +kernel) ⟨Nat.le_of_ble_eq_true rfl, Nat.le_of_ble_eq_true rfl⟩ rfl rfl rfl hl.1 rfl (Nat.le_of_ble_eq_true rfl) dX6_number_110 ⟨(Nat.le_of_ble_eq_true rfl), (Nat.le_of_ble_eq_true rfl)⟩ (fun H locs h => ?_)
        refine lv_iload_n hx hb dX6_number_113 rfl (lv_at hl 3 rfl) ?_
        cases hf
        refine W.widen (k := 1) (n := 7) (Nat.le_of_ble_eq_true rfl) (Nat.le_of_ble_eq_true rfl) ?_
        exact x_iretX C h dX6_number_114
      intro j106 hj106 hf
      refine jn_of (P := fun j => ∀ (u0 : Unit), j u0 = some res → ∀ (H : Heap) (locs : List Loc) (ls : Array Slot), Hs s0 D ac σ H locs → lv_has ls 5 [(0, .ref a0), (1, .int a1), (2, .int x8), (3, .int x16)] → W p l e ({ frames := 5, cells := 1, slots := 7, locals := 102 } : Room) s m args below meth c H locs 0 0 (MQX below (Qx s0 D ac (resO kI res) (resS res)) args s 1 7 (fr s0)) (F0 m 105 ls [.ref a0])) hf ?_ ?_
      · intro u0 hf H locs ls h hl
        refine lv_iconst (v := 0) hx hb dX6_number_105 (by decide) ?_
        exact hj106 _ hf _ _ _ h (lv_sub hl [0, 1, 2, 3] rfl)
      intro j105 hj105 hf
      refine lv_if_eq (tgt := 105) hx hb dX6_number_93 (by decide) (fun hc => ?_) (fun hc => ?_)
      · have hf := hf_t hc hf
        exact hj105 () hf _ _ _ h (lv_sub hl [0, 1, 2, 3] rfl)
      · have hf := hf_f hc hf
        refine lv_iload_n hx hb dX6_number_96 rfl (lv_at hl 3 rfl) ?_
        refine lv_iload_n hx hb dX6_number_97 rfl (lv_at hl 1 rfl) ?_
        refine lv_icmp_gt (tgt := 105) hx hb dX6_number_98 (by decide) (fun hc => ?_) (fun hc => ?_)
        · have hf := hf_t hc hf
          exact hj105 () hf _ _ _ h (lv_sub hl [0, 1, 2, 3] rfl)
        · have hf := hf_f hc hf
          refine lv_iconst (v := 1) hx hb dX6_number_101 (by decide) ?_
          refine lv_goto (tgt := 106) hx hb dX6_number_102 (by decide) ?_
          exact hj106 _ hf _ _ _ h (lv_sub hl [0, 1, 2, 3] rfl)
    refine loopF_ind (P := fun z => ∀ (H : Heap) (locs : List Loc) (ls : Array Slot), Hs s0 D ac σ H locs → lv_has ls 5 [(0, .ref a0), (1, .int a1), (2, .int x8), (3, .int z.1), (4, .int z.2)] → W p l e ({ frames := 5, cells := 1, slots := 7, locals := 102 } : Room) s m args below meth c H locs 0 0 (MQX below (Qx s0 D ac (resO kI res) (resS res)) args s 1 7 (fr s0)) (F0 m 53 ls [])) ?_ _ _ hL _ _ _ h (lv_sub hl [3, 4, 2, 1, 0] rfl)
    clear hK hL h hl hf
    intro z o hf ih hX H locs ls h hl
    obtain ⟨x10, x11⟩ := z
    have h : Hs s0 D ac σ H locs := h
    have hl : lv_has ls 5 [(0, .ref a0), (1, .int a1), (2, .int x8), (3, .int x10), (4, .int x11)] := hl
    have hf : lX6_number_53 x8 σ a0 x10 x11 = some o := hf
    unfold lX6_number_53 at hf
    refine lv_iload_n hx hb dX6_number_53 rfl (lv_at hl 2 rfl) ?_
    refine lv_if_eq (tgt := 91) hx hb dX6_number_54 (by decide) (fun hc => ?_) (fun hc => ?_)
    · have hf := hf_t hc hf
      cases hf
      exact hE53_0 _ (hX _ rfl) _ _ _ h (lv_sub hl [0, 1, 2, 3] rfl)
    · have hf := hf_f hc hf
      refine lv_iload hx hb dX6_number_57 (lv_at hl 4 rfl) ?_
      refine lv_aload_n hx hb dX6_number_59 rfl (lv_at hl 0 rfl) ?_
      refine x_gI (q := (RX6, TX6, 4)) (j := 2) G C h rfl (by decide) (fun _ _ _ => rfl) (lk C q178) (fun _ z => z) dX6_number_60 hf (fun x12 hf => ?_)
      refine lv_icmp_ge (tgt := 91) hx hb dX6_number_63 (by decide) (fun hc => ?_) (fun hc => ?_)
      · have hf := hf_t hc hf
        cases hf
        exact hE53_0 _ (hX _ rfl) _ _ _ h (lv_sub hl [0, 1, 2, 3] rfl)
      · have hf := hf_f hc hf
        refine lv_bipush (v := 10) hx hb dX6_number_66 (by decide) ?_
        refine lv_iload_n hx hb dX6_number_68 rfl (lv_at hl 3 rfl) ?_
        refine lv_imul hx hb dX6_number_69 ?_
        refine lv_aload_n hx hb dX6_number_70 rfl (lv_at hl 0 rfl) ?_
        refine x_gR (q := (RX6, TX6, 4)) (j := 3) G C h rfl (by decide) (fun _ _ _ => rfl) (lk C q179) (fun _ z => z) dX6_number_71 hf (fun r13 hf => ?_)
        refine x_gR (q := (RX0, TX0, 33)) (j := 11) G C h rfl (by decide) (fun _ _ _ => rfl) (lkn G C q218) (fun _ z => z) dX6_number_74 hf (fun r14 hf => ?_)
        refine lv_iload hx hb dX6_number_77 (lv_at hl 4 rfl) ?_
        refine x_bald G C h dX6_number_79 hf (fun x15 hf => ?_)
        refine lv_iadd hx hb dX6_number_80 ?_
        refine lv_bipush (v := 48) hx hb dX6_number_81 (by decide) ?_
        refine lv_isub hx hb dX6_number_83 ?_
        refine lv_istore_n (lv' := [(3, .int (((10 * x10) + x15) - 48)), (0, .ref a0), (1, .int a1), (2, .int x8), (4, .int x11)]) hx hb dX6_number_84 rfl hl (by decide) rfl (fun ls hl => ?_)
        refine lv_iinc (v := x11 + 1) (lv' := [(4, .int (x11 + 1)), (3, .int (((10 * x10) + x15) - 48)), (0, .ref a0), (1, .int a1), (2, .int x8)]) hx hb dX6_number_85 hl (k := 4) rfl rfl (by decide) rfl (fun ls hl => ?_)
        refine lv_goto (tgt := 53) hx hb dX6_number_88 (by decide) ?_
        cases hf
        exact ih _ rfl _ _ _ h (lv_sub hl [2, 3, 4, 1, 0] rfl)
  intro j44 hj44 hf
  refine jn_of (P := fun j => ∀ (u0 : Unit), j u0 = some res → ∀ (H : Heap) (locs : List Loc) (ls : Array Slot), Hs s0 D ac σ H locs → lv_has ls 5 [(0, .ref a0), (1, .int a1)] → W p l e ({ frames := 5, cells := 1, slots := 7, locals := 102 } : Room) s m args below meth c H locs 0 0 (MQX below (Qx s0 D ac (resO kI res) (resS res)) args s 1 7 (fr s0)) (F0 m 43 ls [])) hf ?_ ?_
  · intro u0 hf H locs ls h hl
    refine lv_iconst (v := 0) hx hb dX6_number_43 (by decide) ?_
    exact hj44 _ hf _ _ _ h (lv_sub hl [0, 1] rfl)
  intro j43 hj43 hf
  refine lv_icmp_ge (tgt := 43) hx hb dX6_number_11 (by decide) (fun hc => ?_) (fun hc => ?_)
  · have hf := hf_t hc hf
    exact hj43 () hf _ _ _ h (lv_sub hl [0, 1] rfl)
  · have hf := hf_f hc hf
    refine lv_aload_n hx hb dX6_number_14 rfl (lv_at hl 0 rfl) ?_
    refine lv_aload_n hx hb dX6_number_15 rfl (lv_at hl 0 rfl) ?_
    refine x_gI (q := (RX6, TX6, 4)) (j := 1) G C h rfl (by decide) (fun _ _ _ => rfl) (lk C q177) (fun _ z => z) dX6_number_16 hf (fun x4 hf => ?_)
    obtain ⟨hk, hf⟩ := k_of hf
    obtain ⟨x5, hc, hf⟩ := hf_b hf
    refine x_cV (q := (RX6, TX6, 4)) (rest := []) (As := [.int x4]) (n := 1) (ov := (some (.int x5))) G C h (wX6_kindAt G hc) hk rfl (lw_V q565 q567 qs5 q60 q568) (by decide +kernel) ⟨Nat.le_of_ble_eq_true rfl, Nat.le_of_ble_eq_true rfl⟩ rfl rfl rfl hl.1 rfl (Nat.le_of_ble_eq_true rfl) dX6_number_19 ⟨(Nat.le_of_ble_eq_true rfl), (Nat.le_of_ble_eq_true rfl)⟩ (fun H locs h => ?_)
    refine lv_iconst (v := 2) hx hb dX6_number_22 (by decide) ?_
    refine lv_icmp_ne (tgt := 43) hx hb dX6_number_23 (by decide) (fun hc => ?_) (fun hc => ?_)
    · have hf := hf_f hc hf
      exact hj43 () hf _ _ _ h (lv_sub hl [0, 1] rfl)
    · have hf := hf_t hc hf
      refine lv_aload_n hx hb dX6_number_26 rfl (lv_at hl 0 rfl) ?_
      refine x_gI (q := (RX6, TX6, 4)) (j := 2) G C h rfl (by decide) (fun _ _ _ => rfl) (lk C q178) (fun _ z => z) dX6_number_27 hf (fun x6 hf => ?_)
      refine lv_aload_n hx hb dX6_number_30 rfl (lv_at hl 0 rfl) ?_
      refine x_gI (q := (RX6, TX6, 4)) (j := 1) G C h rfl (by decide) (fun _ _ _ => rfl) (lk C q177) (fun _ z => z) dX6_number_31 hf (fun x7 hf => ?_)
      refine lv_isub hx hb dX6_number_34 ?_
      refine lv_iconst (v := 2) hx hb dX6_number_35 (by decide) ?_
      refine lv_icmp_gt (tgt := 43) hx hb dX6_number_36 (by decide) (fun hc => ?_) (fun hc => ?_)
      · have hf := hf_t hc hf
        exact hj43 () hf _ _ _ h (lv_sub hl [0, 1] rfl)
      · have hf := hf_f hc hf
        refine lv_iconst (v := 1) hx hb dX6_number_39 (by decide) ?_
        refine lv_goto (tgt := 44) hx hb dX6_number_40 (by decide) ?_
        exact hj44 _ hf _ _ _ h (lv_sub hl [0, 1] rfl)

theorem dX15_init_0 : decode cX15_init 0 = .ok (.aload_n 0, 1) := by decide +kernel
theorem dX15_init_1 : decode cX15_init 1 = .ok (.invokespecial 3, 3) := by decide +kernel
theorem dX15_init_4 : decode cX15_init 4 = .ok (.aload_n 0, 1) := by decide +kernel
theorem dX15_init_5 : decode cX15_init 5 = .ok (.iload_n 1, 1) := by decide +kernel
theorem dX15_init_6 : decode cX15_init 6 = .ok (.putfield 9, 3) := by decide +kernel
theorem dX15_init_9 : decode cX15_init 9 = .ok (.return_, 1) := by decide +kernel
def fX15_init (σ : St) (a0 : Nat) (a1 : Int32) : Option (St) :=
  (fX3_init σ a0).bind fun _ =>
  o_pI σ a0 12 0 a1 fun σ1 =>
  some σ1

set_option maxHeartbeats 4000000 in
theorem wX15_init {l : Launch} {s0 : State} {A0 : Array Value} {D : va_G} {ac : Nat → ClassId} (G : Gl s0 A0 D ac) {σ : St} {a0 : Nat} {a1 : Int32} {σ' : St} (hf : fX15_init σ a0 a1 = some (σ')) : Met l yX15_init (ws_ yX15_init cX15_init 2 none) ({ frames := 3, cells := 0, slots := 0, locals := 52 } : Room) (Pn s0 D ac [.ref a0, .int a1] σ) (Qn s0 D ac none σ') 0 0 (fr s0) := by
  refine x_met (by decide) (Nat.le_of_ble_eq_true rfl) ?_
  intro p e s m args below meth c ls C hnm h hl
  have C : Cx s0 p s m args meth c cX15_init 2 "HutForShow$Raid" none := C
  have hx := C.1
  have hb := C.2.1
  have hl : lv_has ls 2 [(0, .ref a0), (1, .int a1)] := hl
  unfold fX15_init at hf
  refine lv_aload_n hx hb dX15_init_0 rfl (lv_at hl 0 rfl) ?_
  obtain ⟨_, hc, hf⟩ := hf_b hf
  refine x_cIN (rest := []) (As := []) (n := 0) (ov := none) G C h (wX3_init G hc) q736 q106 q57 q107 rfl (by decide +kernel) ⟨Nat.le_of_ble_eq_true rfl, Nat.le_of_ble_eq_true rfl⟩ rfl rfl rfl hl.1 rfl (Nat.le_of_ble_eq_true rfl) dX15_init_1 ⟨(Nat.le_of_ble_eq_true rfl), (Nat.le_of_ble_eq_true rfl)⟩ (fun H locs h => ?_)
  refine lv_aload_n hx hb dX15_init_4 rfl (lv_at hl 0 rfl) ?_
  refine lv_iload_n hx hb dX15_init_5 rfl (lv_at hl 1 rfl) ?_
  refine x_pI (q := (RX15, TX15, 1)) (j := 0) G C h rfl (by decide) rfl (lk C q737) (fun _ z => z) (Or.inr ⟨hnm, rfl⟩) dX15_init_6 hf (fun σ1 H locs h hf => ?_)
  cases hf
  refine W.widen (k := 0) (n := 0) (Nat.le_of_ble_eq_true rfl) (Nat.le_of_ble_eq_true rfl) ?_
  exact x_vret C h dX15_init_9

theorem dX6_act_0 : decode cX6_act 0 = .ok (.aload_n 0, 1) := by decide +kernel
theorem dX6_act_1 : decode cX6_act 1 = .ok (.ldc 73, 2) := by decide +kernel
theorem dX6_act_3 : decode cX6_act 3 = .ok (.invokevirtual 75, 3) := by decide +kernel
theorem dX6_act_6 : decode cX6_act 6 = .ok (.ifCond .eq 11, 3) := by decide +kernel
theorem dX6_act_9 : decode cX6_act 9 = .ok (.new 78, 3) := by decide +kernel
theorem dX6_act_12 : decode cX6_act 12 = .ok (.dup, 1) := by decide +kernel
theorem dX6_act_13 : decode cX6_act 13 = .ok (.invokespecial 80, 3) := by decide +kernel
theorem dX6_act_16 : decode cX6_act 16 = .ok (.areturn, 1) := by decide +kernel
theorem dX6_act_17 : decode cX6_act 17 = .ok (.aload_n 0, 1) := by decide +kernel
theorem dX6_act_18 : decode cX6_act 18 = .ok (.ldc 81, 2) := by decide +kernel
theorem dX6_act_20 : decode cX6_act 20 = .ok (.invokevirtual 75, 3) := by decide +kernel
theorem dX6_act_23 : decode cX6_act 23 = .ok (.ifCond .eq 11, 3) := by decide +kernel
theorem dX6_act_26 : decode cX6_act 26 = .ok (.new 83, 3) := by decide +kernel
theorem dX6_act_29 : decode cX6_act 29 = .ok (.dup, 1) := by decide +kernel
theorem dX6_act_30 : decode cX6_act 30 = .ok (.invokespecial 85, 3) := by decide +kernel
theorem dX6_act_33 : decode cX6_act 33 = .ok (.areturn, 1) := by decide +kernel
theorem dX6_act_34 : decode cX6_act 34 = .ok (.aload_n 0, 1) := by decide +kernel
theorem dX6_act_35 : decode cX6_act 35 = .ok (.ldc 86, 2) := by decide +kernel
theorem dX6_act_37 : decode cX6_act 37 = .ok (.invokevirtual 75, 3) := by decide +kernel
theorem dX6_act_40 : decode cX6_act 40 = .ok (.ifCond .eq 11, 3) := by decide +kernel
theorem dX6_act_43 : decode cX6_act 43 = .ok (.aload_n 0, 1) := by decide +kernel
theorem dX6_act_44 : decode cX6_act 44 = .ok (.getfield 3, 3) := by decide +kernel
theorem dX6_act_47 : decode cX6_act 47 = .ok (.getfield 88, 3) := by decide +kernel
theorem dX6_act_50 : decode cX6_act 50 = .ok (.areturn, 1) := by decide +kernel
theorem dX6_act_51 : decode cX6_act 51 = .ok (.aload_n 0, 1) := by decide +kernel
theorem dX6_act_52 : decode cX6_act 52 = .ok (.ldc 91, 2) := by decide +kernel
theorem dX6_act_54 : decode cX6_act 54 = .ok (.invokevirtual 75, 3) := by decide +kernel
theorem dX6_act_57 : decode cX6_act 57 = .ok (.ifCond .eq 11, 3) := by decide +kernel
theorem dX6_act_60 : decode cX6_act 60 = .ok (.aload_n 0, 1) := by decide +kernel
theorem dX6_act_61 : decode cX6_act 61 = .ok (.getfield 3, 3) := by decide +kernel
theorem dX6_act_64 : decode cX6_act 64 = .ok (.getfield 93, 3) := by decide +kernel
theorem dX6_act_67 : decode cX6_act 67 = .ok (.areturn, 1) := by decide +kernel
theorem dX6_act_68 : decode cX6_act 68 = .ok (.aload_n 0, 1) := by decide +kernel
theorem dX6_act_69 : decode cX6_act 69 = .ok (.aload_n 0, 1) := by decide +kernel
theorem dX6_act_70 : decode cX6_act 70 = .ok (.ldc 95, 2) := by decide +kernel
theorem dX6_act_72 : decode cX6_act 72 = .ok (.invokevirtual 75, 3) := by decide +kernel
theorem dX6_act_75 : decode cX6_act 75 = .ok (.invokevirtual 69, 3) := by decide +kernel
theorem dX6_act_78 : decode cX6_act 78 = .ok (.new 97, 3) := by decide +kernel
theorem dX6_act_81 : decode cX6_act 81 = .ok (.dup, 1) := by decide +kernel
theorem dX6_act_82 : decode cX6_act 82 = .ok (.aload_n 0, 1) := by decide +kernel
theorem dX6_act_83 : decode cX6_act 83 = .ok (.iconst 5, 1) := by decide +kernel
theorem dX6_act_84 : decode cX6_act 84 = .ok (.invokevirtual 99, 3) := by decide +kernel
theorem dX6_act_87 : decode cX6_act 87 = .ok (.invokespecial 102, 3) := by decide +kernel
theorem dX6_act_90 : decode cX6_act 90 = .ok (.areturn, 1) := by decide +kernel
def fX6_act (σ : St) (a0 : Nat) : Option (Rx Nat) :=
  o_k σ a0 4 <|
  (fX6_skips σ a0 14).bind <| un2 fun x1 σ2 =>
  if x1 = 0 then
    o_k σ2 a0 4 <|
    (fX6_skips σ2 a0 15).bind <| un2 fun x3 σ4 =>
    if x3 = 0 then
      o_k σ4 a0 4 <|
      (fX6_skips σ4 a0 16).bind <| un2 fun x5 σ6 =>
      if x5 = 0 then
        o_k σ6 a0 4 <|
        (fX6_skips σ6 a0 17).bind <| un2 fun x7 σ8 =>
        if x7 = 0 then
          o_k σ8 a0 4 <|
          (fX6_skips σ8 a0 18).bind <| un2 fun x9 σ10 =>
          o_k σ10 a0 4 <|
          (fX6_need σ10 a0 x9).bind <| xs fun _ σ11 =>
          o_new σ11 12 fun r12 σ13 =>
          o_k σ13 a0 4 <|
          (fX6_number σ13 a0 5).bind <| xs fun x15 σ14 =>
          (fX15_init σ14 r12 x15).bind fun σ16 =>
          some (.inl (r12, σ16))
        else
        o_gR σ8 a0 4 3 fun r17 =>
        o_gR σ8 r17 0 0 fun r18 =>
        some (.inl (r18, σ8))
      else
      o_gR σ6 a0 4 3 fun r19 =>
      o_gR σ6 r19 0 1 fun r20 =>
      some (.inl (r20, σ6))
    else
    o_new σ4 10 fun r21 σ22 =>
    (fX13_init σ22 r21).bind fun _ =>
    some (.inl (r21, σ22))
  else
  o_new σ2 9 fun r23 σ24 =>
  (fX12_init σ24 r23).bind fun _ =>
  some (.inl (r23, σ24))

set_option maxHeartbeats 4000000 in
theorem wX6_act {l : Launch} {s0 : State} {A0 : Array Value} {D : va_G} {ac : Nat → ClassId} (G : Gl s0 A0 D ac) {σ : St} {a0 : Nat} {res : Rx Nat} (hf : fX6_act σ a0 = some res) : MetX l yX6_act (ws_ yX6_act cX6_act 1 (some (.object "HutForShow$Act"))) ({ frames := 6, cells := 3, slots := 15, locals := 130 } : Room) (Pn s0 D ac [.ref a0] σ) (Qx s0 D ac (resO kR res) (resS res)) 3 15 (fr s0) := by
  refine x_metX (by decide) (Nat.le_of_ble_eq_true rfl) ?_
  intro p e s m args below meth c ls C hno h hl
  have C : Cx s0 p s m args meth c cX6_act 1 "HutForShow$Reader" (some (.object "HutForShow$Act")) := C
  have hx := C.1
  have hb := C.2.1
  have hl : lv_has ls 1 [(0, .ref a0)] := hl
  unfold fX6_act at hf
  refine lv_aload_n hx hb dX6_act_0 rfl (lv_at hl 0 rfl) ?_
  refine x_ldcS (i := 14) G C (by decide) rfl rfl dX6_act_1 ?_
  obtain ⟨hk, hf⟩ := k_of hf
  obtain ⟨⟨x1, σ2⟩, hc, hf⟩ := hf_b hf
  have hf := hf_u2 hf
  refine x_cV (q := (RX6, TX6, 4)) (rest := []) (As := [.ref (sA s0 14)]) (n := 1) (ov := (some (.int x1))) G C h (wX6_skips G hc) hk rfl (lw_V q585 q586 q587 q60 q588) (by decide +kernel) ⟨Nat.le_of_ble_eq_true rfl, Nat.le_of_ble_eq_true rfl⟩ rfl rfl rfl hl.1 rfl (Nat.le_of_ble_eq_true rfl) dX6_act_3 ⟨(Nat.le_of_ble_eq_true rfl), (Nat.le_of_ble_eq_true rfl)⟩ (fun H locs h => ?_)
  refine lv_if_eq (tgt := 17) hx hb dX6_act_6 (by decide) (fun hc => ?_) (fun hc => ?_)
  · have hf := hf_t hc hf
    refine lv_aload_n hx hb dX6_act_17 rfl (lv_at hl 0 rfl) ?_
    refine x_ldcS (i := 15) G C (by decide) rfl rfl dX6_act_18 ?_
    obtain ⟨hk, hf⟩ := k_of hf
    obtain ⟨⟨x3, σ4⟩, hc, hf⟩ := hf_b hf
    have hf := hf_u2 hf
    refine x_cV (q := (RX6, TX6, 4)) (rest := []) (As := [.ref (sA s0 15)]) (n := 1) (ov := (some (.int x3))) G C h (wX6_skips G hc) hk rfl (lw_V q585 q586 q587 q60 q588) (by decide +kernel) ⟨Nat.le_of_ble_eq_true rfl, Nat.le_of_ble_eq_true rfl⟩ rfl rfl rfl hl.1 rfl (Nat.le_of_ble_eq_true rfl) dX6_act_20 ⟨(Nat.le_of_ble_eq_true rfl), (Nat.le_of_ble_eq_true rfl)⟩ (fun H locs h => ?_)
    refine lv_if_eq (tgt := 34) hx hb dX6_act_23 (by decide) (fun hc => ?_) (fun hc => ?_)
    · have hf := hf_t hc hf
      refine lv_aload_n hx hb dX6_act_34 rfl (lv_at hl 0 rfl) ?_
      refine x_ldcS (i := 16) G C (by decide) rfl rfl dX6_act_35 ?_
      obtain ⟨hk, hf⟩ := k_of hf
      obtain ⟨⟨x5, σ6⟩, hc, hf⟩ := hf_b hf
      have hf := hf_u2 hf
      refine x_cV (q := (RX6, TX6, 4)) (rest := []) (As := [.ref (sA s0 16)]) (n := 1) (ov := (some (.int x5))) G C h (wX6_skips G hc) hk rfl (lw_V q585 q586 q587 q60 q588) (by decide +kernel) ⟨Nat.le_of_ble_eq_true rfl, Nat.le_of_ble_eq_true rfl⟩ rfl rfl rfl hl.1 rfl (Nat.le_of_ble_eq_true rfl) dX6_act_37 ⟨(Nat.le_of_ble_eq_true rfl), (Nat.le_of_ble_eq_true rfl)⟩ (fun H locs h => ?_)
      refine lv_if_eq (tgt := 51) hx hb dX6_act_40 (by decide) (fun hc => ?_) (fun hc => ?_)
      · have hf := hf_t hc hf
        refine lv_aload_n hx hb dX6_act_51 rfl (lv_at hl 0 rfl) ?_
        refine x_ldcS (i := 17) G C (by decide) rfl rfl dX6_act_52 ?_
        obtain ⟨hk, hf⟩ := k_of hf
        obtain ⟨⟨x7, σ8⟩, hc, hf⟩ := hf_b hf
        have hf := hf_u2 hf
        refine x_cV (q := (RX6, TX6, 4)) (rest := []) (As := [.ref (sA s0 17)]) (n := 1) (ov := (some (.int x7))) G C h (wX6_skips G hc) hk rfl (lw_V q585 q586 q587 q60 q588) (by decide +kernel) ⟨Nat.le_of_ble_eq_true rfl, Nat.le_of_ble_eq_true rfl⟩ rfl rfl rfl hl.1 rfl (Nat.le_of_ble_eq_true rfl) dX6_act_54 ⟨(Nat.le_of_ble_eq_true rfl), (Nat.le_of_ble_eq_true rfl)⟩ (fun H locs h => ?_)
        refine lv_if_eq (tgt := 68) hx hb dX6_act_57 (by decide) (fun hc => ?_) (fun hc => ?_)
        · have hf := hf_t hc hf
          refine lv_aload_n hx hb dX6_act_68 rfl (lv_at hl 0 rfl) ?_
          refine lv_aload_n hx hb dX6_act_69 rfl (lv_at hl 0 rfl) ?_
          refine x_ldcS (i := 18) G C (by decide) rfl rfl dX6_act_70 ?_
          obtain ⟨hk, hf⟩ := k_of hf
          obtain ⟨⟨x9, σ10⟩, hc, hf⟩ := hf_b hf
          have hf := hf_u2 hf
          refine x_cV (q := (RX6, TX6, 4)) (rest := [.ref a0]) (As := [.ref (sA s0 18)]) (n := 1) (ov := (some (.int x9))) G C h (wX6_skips G hc) hk rfl (lw_V q585 q586 q587 q60 q588) (by decide +kernel) ⟨Nat.le_of_ble_eq_true rfl, Nat.le_of_ble_eq_true rfl⟩ rfl rfl rfl hl.1 rfl (Nat.le_of_ble_eq_true rfl) dX6_act_72 ⟨(Nat.le_of_ble_eq_true rfl), (Nat.le_of_ble_eq_true rfl)⟩ (fun H locs h => ?_)
          obtain ⟨hk, hf⟩ := k_of hf
          obtain ⟨rx, hc, hf⟩ := hf_b hf
          refine x_cVX (q := (RX6, TX6, 4)) (rest := []) (As := [.int x9]) (n := 1) (kA := kV) G C hno h (wX6_need G hc) hk rfl q659 q660 q661 q60 q662 (by decide +kernel) ⟨Nat.le_of_ble_eq_true rfl, Nat.le_of_ble_eq_true rfl⟩ rfl rfl rfl hl.1 rfl (Nat.le_of_ble_eq_true rfl) dX6_act_75 ⟨(Nat.le_of_ble_eq_true rfl), (Nat.le_of_ble_eq_true rfl)⟩ ⟨(Nat.le_of_ble_eq_true rfl), (Nat.le_of_ble_eq_true rfl)⟩ (fun x9 σ9 he => by subst he; cases hf; rfl) (fun _ σ11 H locs h he => ?_)
          subst he
          have hf := hf_xs hf
          refine x_new (q := (RX15, TX15, 1)) G C h rfl (fun j _ => nf_all 12 j) q727 q728 q76 (Nat.le_of_ble_eq_true rfl) (Nat.le_of_ble_eq_true rfl) dX6_act_78 hf (fun r12 σ13 H h hf => ?_)
          refine lv_dup hx hb dX6_act_81 rfl ?_
          refine lv_aload_n hx hb dX6_act_82 rfl (lv_at hl 0 rfl) ?_
          refine lv_iconst (v := 5) hx hb dX6_act_83 (by decide) ?_
          obtain ⟨hk, hf⟩ := k_of hf
          obtain ⟨rx, hc, hf⟩ := hf_b hf
          refine x_cVX (q := (RX6, TX6, 4)) (rest := [.ref r12, .ref r12]) (As := [.int 5]) (n := 1) (kA := kI) G C hno h (wX6_number G hc) hk rfl q729 q730 q731 q60 q732 (by decide +kernel) ⟨Nat.le_of_ble_eq_true rfl, Nat.le_of_ble_eq_true rfl⟩ rfl rfl rfl hl.1 rfl (Nat.le_of_ble_eq_true rfl) dX6_act_84 ⟨(Nat.le_of_ble_eq_true rfl), (Nat.le_of_ble_eq_true rfl)⟩ ⟨(Nat.le_of_ble_eq_true rfl), (Nat.le_of_ble_eq_true rfl)⟩ (fun x9 σ9 he => by subst he; cases hf; rfl) (fun x15 σ14 H locs h he => ?_)
          subst he
          have hf := hf_xs hf
          obtain ⟨σ16, hc, hf⟩ := hf_b hf
          refine x_cI (rest := [.ref r12]) (As := [.int x15]) (n := 1) (ov := none) C h (wX15_init G hc) q733 q734 q76 q735 rfl (by decide +kernel) ⟨Nat.le_of_ble_eq_true rfl, Nat.le_of_ble_eq_true rfl⟩ rfl rfl rfl hl.1 rfl (Nat.le_of_ble_eq_true rfl) dX6_act_87 ⟨(Nat.le_of_ble_eq_true rfl), (Nat.le_of_ble_eq_true rfl)⟩ (fun H locs h => ?_)
          cases hf
          refine W.widen (k := 3) (n := 15) (Nat.le_of_ble_eq_true rfl) (Nat.le_of_ble_eq_true rfl) ?_
          exact x_aretX C h dX6_act_90
        · have hf := hf_f hc hf
          refine lv_aload_n hx hb dX6_act_60 rfl (lv_at hl 0 rfl) ?_
          refine x_gR (q := (RX6, TX6, 4)) (j := 3) G C h rfl (by decide) (fun _ _ _ => rfl) (lk C q179) (fun _ z => z) dX6_act_61 hf (fun r17 hf => ?_)
          refine x_gR (q := (RX0, TX0, 33)) (j := 0) G C h rfl (by decide) (fun _ _ _ => rfl) (lkn G C q197) (fun _ z => z) dX6_act_64 hf (fun r18 hf => ?_)
          cases hf
          refine W.widen (k := 3) (n := 15) (Nat.le_of_ble_eq_true rfl) (Nat.le_of_ble_eq_true rfl) ?_
          exact x_aretX C h dX6_act_67
      · have hf := hf_f hc hf
        refine lv_aload_n hx hb dX6_act_43 rfl (lv_at hl 0 rfl) ?_
        refine x_gR (q := (RX6, TX6, 4)) (j := 3) G C h rfl (by decide) (fun _ _ _ => rfl) (lk C q179) (fun _ z => z) dX6_act_44 hf (fun r19 hf => ?_)
        refine x_gR (q := (RX0, TX0, 33)) (j := 1) G C h rfl (by decide) (fun _ _ _ => rfl) (lkn G C q200) (fun _ z => z) dX6_act_47 hf (fun r20 hf => ?_)
        cases hf
        refine W.widen (k := 3) (n := 15) (Nat.le_of_ble_eq_true rfl) (Nat.le_of_ble_eq_true rfl) ?_
        exact x_aretX C h dX6_act_50
    · have hf := hf_f hc hf
      refine x_new (q := (RX13, TZ0, 0)) G C h rfl (fun j _ => nf_all 10 j) q649 q650 q72 (Nat.le_of_ble_eq_true rfl) (Nat.le_of_ble_eq_true rfl) dX6_act_26 hf (fun r21 σ22 H h hf => ?_)
      refine lv_dup hx hb dX6_act_29 rfl ?_
      obtain ⟨_, hc, hf⟩ := hf_b hf
      refine x_cIN (rest := [.ref r21]) (As := []) (n := 0) (ov := none) G C h (wX13_init G hc) q651 q652 q72 q653 rfl (by decide +kernel) ⟨Nat.le_of_ble_eq_true rfl, Nat.le_of_ble_eq_true rfl⟩ rfl rfl rfl hl.1 rfl (Nat.le_of_ble_eq_true rfl) dX6_act_30 ⟨(Nat.le_of_ble_eq_true rfl), (Nat.le_of_ble_eq_true rfl)⟩ (fun H locs h => ?_)
      cases hf
      refine W.widen (k := 3) (n := 15) (Nat.le_of_ble_eq_true rfl) (Nat.le_of_ble_eq_true rfl) ?_
      exact x_aretX C h dX6_act_33
  · have hf := hf_f hc hf
    refine x_new (q := (RX12, TZ0, 0)) G C h rfl (fun j _ => nf_all 9 j) q641 q642 q71 (Nat.le_of_ble_eq_true rfl) (Nat.le_of_ble_eq_true rfl) dX6_act_9 hf (fun r23 σ24 H h hf => ?_)
    refine lv_dup hx hb dX6_act_12 rfl ?_
    obtain ⟨_, hc, hf⟩ := hf_b hf
    refine x_cIN (rest := [.ref r23]) (As := []) (n := 0) (ov := none) G C h (wX12_init G hc) q643 q644 q71 q645 rfl (by decide +kernel) ⟨Nat.le_of_ble_eq_true rfl, Nat.le_of_ble_eq_true rfl⟩ rfl rfl rfl hl.1 rfl (Nat.le_of_ble_eq_true rfl) dX6_act_13 ⟨(Nat.le_of_ble_eq_true rfl), (Nat.le_of_ble_eq_true rfl)⟩ (fun H locs h => ?_)
    cases hf
    refine W.widen (k := 3) (n := 15) (Nat.le_of_ble_eq_true rfl) (Nat.le_of_ble_eq_true rfl) ?_
    exact x_aretX C h dX6_act_16

theorem dX16_init_0 : decode cX16_init 0 = .ok (.aload_n 0, 1) := by decide +kernel
theorem dX16_init_1 : decode cX16_init 1 = .ok (.invokespecial 1, 3) := by decide +kernel
theorem dX16_init_4 : decode cX16_init 4 = .ok (.aload_n 0, 1) := by decide +kernel
theorem dX16_init_5 : decode cX16_init 5 = .ok (.iload_n 1, 1) := by decide +kernel
theorem dX16_init_6 : decode cX16_init 6 = .ok (.putfield 7, 3) := by decide +kernel
theorem dX16_init_9 : decode cX16_init 9 = .ok (.aload_n 0, 1) := by decide +kernel
theorem dX16_init_10 : decode cX16_init 10 = .ok (.iload_n 2, 1) := by decide +kernel
theorem dX16_init_11 : decode cX16_init 11 = .ok (.putfield 13, 3) := by decide +kernel
theorem dX16_init_14 : decode cX16_init 14 = .ok (.aload_n 0, 1) := by decide +kernel
theorem dX16_init_15 : decode cX16_init 15 = .ok (.iload_n 3, 1) := by decide +kernel
theorem dX16_init_16 : decode cX16_init 16 = .ok (.putfield 17, 3) := by decide +kernel
theorem dX16_init_19 : decode cX16_init 19 = .ok (.return_, 1) := by decide +kernel
def fX16_init (σ : St) (a0 : Nat) (a1 : Int32) (a2 : Int32) (a3 : Int32) : Option (St) :=
  o_pI σ a0 13 0 a1 fun σ1 =>
  o_bz a2 <|
  o_pI σ1 a0 13 1 a2 fun σ2 =>
  o_pI σ2 a0 13 2 a3 fun σ3 =>
  some σ3

set_option maxHeartbeats 4000000 in
theorem wX16_init {l : Launch} {s0 : State} {A0 : Array Value} {D : va_G} {ac : Nat → ClassId} (G : Gl s0 A0 D ac) {σ : St} {a0 : Nat} {a1 : Int32} {a2 : Int32} {a3 : Int32} {σ' : St} (hf : fX16_init σ a0 a1 a2 a3 = some (σ')) : Met l yX16_init (ws_ yX16_init cX16_init 4 none) ({ frames := 1, cells := 0, slots := 0, locals := 12 } : Room) (Pn s0 D ac [.ref a0, .int a1, .int a2, .int a3] σ) (Qn s0 D ac none σ') 0 0 (fr s0) := by
  refine x_met (by decide) (Nat.le_of_ble_eq_true rfl) ?_
  intro p e s m args below meth c ls C hnm h hl
  have C : Cx s0 p s m args meth c cX16_init 4 "HutForShow$Test" none := C
  have hx := C.1
  have hb := C.2.1
  have hl : lv_has ls 4 [(0, .ref a0), (1, .int a1), (2, .int a2), (3, .int a3)] := hl
  unfold fX16_init at hf
  refine lv_aload_n hx hb dX16_init_0 rfl (lv_at hl 0 rfl) ?_
  refine W.objInit hx hb C.2.2.2.1 (C.2.2.2.2.1 _ q756) (C.2.2.2.2.1 _ q88) (C.2.2.2.2.1 _ q89) rfl (by rw [C.2.2.1]; exact hl.1) rfl dX16_init_1 (Nat.le_of_ble_eq_true rfl) (Nat.le_of_ble_eq_true rfl) ?_
  refine W.eq (g2 := F0 m 4 ls []) rfl ?_
  refine lv_aload_n hx hb dX16_init_4 rfl (lv_at hl 0 rfl) ?_
  refine lv_iload_n hx hb dX16_init_5 rfl (lv_at hl 1 rfl) ?_
  refine x_pI (q := (RX16, TX16, 3)) (j := 0) G C h rfl (by decide) rfl (lk C q757) (fun _ z => z) (Or.inr ⟨hnm, rfl⟩) dX16_init_6 hf (fun σ1 H locs h hf => ?_)
  refine lv_aload_n hx hb dX16_init_9 rfl (lv_at hl 0 rfl) ?_
  refine lv_iload_n hx hb dX16_init_10 rfl (lv_at hl 2 rfl) ?_
  refine x_pZ (q := (RX16, TX16, 3)) (j := 1) G C h rfl (by decide) rfl (lk C q758) (fun _ z => z) (Or.inr ⟨hnm, rfl⟩) dX16_init_11 hf (fun σ2 H locs h hf => ?_)
  refine lv_aload_n hx hb dX16_init_14 rfl (lv_at hl 0 rfl) ?_
  refine lv_iload_n hx hb dX16_init_15 rfl (lv_at hl 3 rfl) ?_
  refine x_pI (q := (RX16, TX16, 3)) (j := 2) G C h rfl (by decide) rfl (lk C q759) (fun _ z => z) (Or.inr ⟨hnm, rfl⟩) dX16_init_16 hf (fun σ3 H locs h hf => ?_)
  cases hf
  refine W.widen (k := 0) (n := 0) (Nat.le_of_ble_eq_true rfl) (Nat.le_of_ble_eq_true rfl) ?_
  exact x_vret C h dX16_init_19

theorem dX6_test_0 : decode cX6_test 0 = .ok (.iconst (-1), 1) := by decide +kernel
theorem dX6_test_1 : decode cX6_test 1 = .ok (.istore_n 1, 1) := by decide +kernel
theorem dX6_test_2 : decode cX6_test 2 = .ok (.iconst 0, 1) := by decide +kernel
theorem dX6_test_3 : decode cX6_test 3 = .ok (.istore_n 2, 1) := by decide +kernel
theorem dX6_test_4 : decode cX6_test 4 = .ok (.iload_n 2, 1) := by decide +kernel
theorem dX6_test_5 : decode cX6_test 5 = .ok (.getstatic 103, 3) := by decide +kernel
theorem dX6_test_8 : decode cX6_test 8 = .ok (.arraylength, 1) := by decide +kernel
theorem dX6_test_9 : decode cX6_test 9 = .ok (.if_icmp .ge 32, 3) := by decide +kernel
theorem dX6_test_12 : decode cX6_test 12 = .ok (.iload_n 1, 1) := by decide +kernel
theorem dX6_test_13 : decode cX6_test 13 = .ok (.iconst (-1), 1) := by decide +kernel
theorem dX6_test_14 : decode cX6_test 14 = .ok (.if_icmp .ne 27, 3) := by decide +kernel
theorem dX6_test_17 : decode cX6_test 17 = .ok (.aload_n 0, 1) := by decide +kernel
theorem dX6_test_18 : decode cX6_test 18 = .ok (.getstatic 103, 3) := by decide +kernel
theorem dX6_test_21 : decode cX6_test 21 = .ok (.iload_n 2, 1) := by decide +kernel
theorem dX6_test_22 : decode cX6_test 22 = .ok (.aaload, 1) := by decide +kernel
theorem dX6_test_23 : decode cX6_test 23 = .ok (.invokevirtual 75, 3) := by decide +kernel
theorem dX6_test_26 : decode cX6_test 26 = .ok (.ifCond .eq 7, 3) := by decide +kernel
theorem dX6_test_29 : decode cX6_test 29 = .ok (.iload_n 2, 1) := by decide +kernel
theorem dX6_test_30 : decode cX6_test 30 = .ok (.goto 4, 3) := by decide +kernel
theorem dX6_test_33 : decode cX6_test 33 = .ok (.iconst (-1), 1) := by decide +kernel
theorem dX6_test_34 : decode cX6_test 34 = .ok (.istore_n 1, 1) := by decide +kernel
theorem dX6_test_35 : decode cX6_test 35 = .ok (.iinc 2 1, 3) := by decide +kernel
theorem dX6_test_38 : decode cX6_test 38 = .ok (.goto (-34), 3) := by decide +kernel
theorem dX6_test_41 : decode cX6_test 41 = .ok (.aload_n 0, 1) := by decide +kernel
theorem dX6_test_42 : decode cX6_test 42 = .ok (.iload_n 1, 1) := by decide +kernel
theorem dX6_test_43 : decode cX6_test 43 = .ok (.iconst (-1), 1) := by decide +kernel
theorem dX6_test_44 : decode cX6_test 44 = .ok (.if_icmp .eq 7, 3) := by decide +kernel
theorem dX6_test_47 : decode cX6_test 47 = .ok (.iconst 1, 1) := by decide +kernel
theorem dX6_test_48 : decode cX6_test 48 = .ok (.goto 4, 3) := by decide +kernel
theorem dX6_test_51 : decode cX6_test 51 = .ok (.iconst 0, 1) := by decide +kernel
theorem dX6_test_52 : decode cX6_test 52 = .ok (.invokevirtual 69, 3) := by decide +kernel
theorem dX6_test_55 : decode cX6_test 55 = .ok (.aload_n 0, 1) := by decide +kernel
theorem dX6_test_56 : decode cX6_test 56 = .ok (.ldc 107, 2) := by decide +kernel
theorem dX6_test_58 : decode cX6_test 58 = .ok (.invokevirtual 57, 3) := by decide +kernel
theorem dX6_test_61 : decode cX6_test 61 = .ok (.istore_n 2, 1) := by decide +kernel
theorem dX6_test_62 : decode cX6_test 62 = .ok (.aload_n 0, 1) := by decide +kernel
theorem dX6_test_63 : decode cX6_test 63 = .ok (.iload_n 2, 1) := by decide +kernel
theorem dX6_test_64 : decode cX6_test 64 = .ok (.ifCond .ne 12, 3) := by decide +kernel
theorem dX6_test_67 : decode cX6_test 67 = .ok (.aload_n 0, 1) := by decide +kernel
theorem dX6_test_68 : decode cX6_test 68 = .ok (.ldc 109, 2) := by decide +kernel
theorem dX6_test_70 : decode cX6_test 70 = .ok (.invokevirtual 57, 3) := by decide +kernel
theorem dX6_test_73 : decode cX6_test 73 = .ok (.ifCond .eq 7, 3) := by decide +kernel
theorem dX6_test_76 : decode cX6_test 76 = .ok (.iconst 1, 1) := by decide +kernel
theorem dX6_test_77 : decode cX6_test 77 = .ok (.goto 4, 3) := by decide +kernel
theorem dX6_test_80 : decode cX6_test 80 = .ok (.iconst 0, 1) := by decide +kernel
theorem dX6_test_81 : decode cX6_test 81 = .ok (.invokevirtual 69, 3) := by decide +kernel
theorem dX6_test_84 : decode cX6_test 84 = .ok (.aload_n 0, 1) := by decide +kernel
theorem dX6_test_85 : decode cX6_test 85 = .ok (.invokevirtual 61, 3) := by decide +kernel
theorem dX6_test_88 : decode cX6_test 88 = .ok (.new 111, 3) := by decide +kernel
theorem dX6_test_91 : decode cX6_test 91 = .ok (.dup, 1) := by decide +kernel
theorem dX6_test_92 : decode cX6_test 92 = .ok (.iload_n 1, 1) := by decide +kernel
theorem dX6_test_93 : decode cX6_test 93 = .ok (.iload_n 2, 1) := by decide +kernel
theorem dX6_test_94 : decode cX6_test 94 = .ok (.aload_n 0, 1) := by decide +kernel
theorem dX6_test_95 : decode cX6_test 95 = .ok (.bipush 99, 2) := by decide +kernel
theorem dX6_test_97 : decode cX6_test 97 = .ok (.invokevirtual 99, 3) := by decide +kernel
theorem dX6_test_100 : decode cX6_test 100 = .ok (.invokespecial 113, 3) := by decide +kernel
theorem dX6_test_103 : decode cX6_test 103 = .ok (.areturn, 1) := by decide +kernel
def lX6_test_4 (a0 : Nat) (σ1 : St) (x2 : Int32) (x3 : Int32) : Option ((St × Int32 × Int32) ⊕ (St × Int32)) :=
  if (Int32.ofNat 6) ≤ x3 then
    some (.inr (σ1, x2))
  else
  if x2 = ((-1)) then
    o_rd x3 fun w4 =>
    o_k σ1 a0 4 <|
    (fX6_skips σ1 a0 w4).bind <| un2 fun x5 σ6 =>
    jn (fun (x7 : Int32) =>
      some (.inl (σ6, x7, x3 + 1))) fun j34 =>
    if x5 = 0 then
      j34 ((-1))
    else
    j34 x3
  else
  some (.inr (σ1, x2))

def fX6_test (σ : St) (a0 : Nat) : Option (Rx Nat) :=
  (loopF fuel (fun z => lX6_test_4 a0 z.1 z.2.1 z.2.2) (σ, (-1), 0)).bind <| un2 fun σ8 x9 =>
  jn (fun (x10 : Int32) =>
    o_k σ8 a0 4 <|
    (fX6_need σ8 a0 x10).bind <| xs fun _ σ11 =>
    o_k σ11 a0 4 <|
    (fX6_isWord σ11 a0 19).bind <| un2 fun x12 σ13 =>
    jn (fun (σ17 : St) (x18 : Int32) =>
      o_k σ17 a0 4 <|
      (fX6_need σ17 a0 x18).bind <| xs fun _ σ19 =>
      o_k σ19 a0 4 <|
      (fX6_token σ19 a0).bind fun σ20 =>
      o_new σ20 13 fun r21 σ22 =>
      o_k σ22 a0 4 <|
      (fX6_number σ22 a0 99).bind <| xs fun x24 σ23 =>
      (fX16_init σ23 r21 x9 x12 x24).bind fun σ25 =>
      some (.inl (r21, σ25))) fun j81 =>
    jn (fun (σ16 : St) =>
      j81 σ16 1) fun j76 =>
    if x12 = 0 then
      o_k σ13 a0 4 <|
      (fX6_isWord σ13 a0 20).bind <| un2 fun x14 σ15 =>
      if x14 = 0 then
        j81 σ15 0
      else
      j76 σ15
    else
    j76 σ13) fun j52 =>
  if x9 = ((-1)) then
    j52 0
  else
  j52 1

set_option maxHeartbeats 4000000 in
theorem wX6_test {l : Launch} {s0 : State} {A0 : Array Value} {D : va_G} {ac : Nat → ClassId} (G : Gl s0 A0 D ac) {σ : St} {a0 : Nat} {res : Rx Nat} (hf : fX6_test σ a0 = some res) : MetX l yX6_test (ws_ yX6_test cX6_test 3 (some (.object "HutForShow$Test"))) ({ frames := 6, cells := 4, slots := 24, locals := 130 } : Room) (Pn s0 D ac [.ref a0] σ) (Qx s0 D ac (resO kR res) (resS res)) 4 24 (fr s0) := by
  obtain ⟨tR, hZR, hTR⟩ := G.2.2.2.2.2.2.2.2.2.2
  refine x_metX (by decide) (Nat.le_of_ble_eq_true rfl) ?_
  intro p e s m args below meth c ls C hno h hl
  have C : Cx s0 p s m args meth c cX6_test 3 "HutForShow$Reader" (some (.object "HutForShow$Test")) := C
  have hx := C.1
  have hb := C.2.1
  have hl : lv_has ls 3 [(0, .ref a0)] := hl
  unfold fX6_test at hf
  refine lv_iconst (v := (-1)) hx hb dX6_test_0 (by decide) ?_
  refine lv_istore_n (lv' := [(1, .int ((-1))), (0, .ref a0)]) hx hb dX6_test_1 rfl hl (by decide) rfl (fun ls hl => ?_)
  refine lv_iconst (v := 0) hx hb dX6_test_2 (by decide) ?_
  refine lv_istore_n (lv' := [(2, .int 0), (1, .int ((-1))), (0, .ref a0)]) hx hb dX6_test_3 rfl hl (by decide) rfl (fun ls hl => ?_)
  obtain ⟨e4, hL, hK⟩ := hf_b hf
  have hE4_0 : ∀ (σ8 : St) (x9 : Int32), (σ8, x9) = e4 → ∀  (H : Heap) (locs : List Loc) (ls : Array Slot), Hs s0 D ac σ8 H locs → lv_has ls 3 [(0, .ref a0), (1, .int x9)] → W p l e ({ frames := 6, cells := 4, slots := 24, locals := 130 } : Room) s m args below meth c H locs 0 0 (MQX below (Qx s0 D ac (resO kR res) (resS res)) args s 4 24 (fr s0)) (F0 m 41 ls []) := by
    intro σ8 x9 he H locs ls h hl
    subst he
    have hf := hK
    have hf := hf_u2 hf
    refine lv_aload_n hx hb dX6_test_41 rfl (lv_at hl 0 rfl) ?_
    refine lv_iload_n hx hb dX6_test_42 rfl (lv_at hl 1 rfl) ?_
    refine lv_iconst (v := (-1)) hx hb dX6_test_43 (by decide) ?_
    refine jn_of (P := fun j => ∀ (x10 : Int32), j x10 = some res → ∀ (H : Heap) (locs : List Loc) (ls : Array Slot), Hs s0 D ac σ8 H locs → lv_has ls 3 [(0, .ref a0), (1, .int x9)] → W p l e ({ frames := 6, cells := 4, slots := 24, locals := 130 } : Room) s m args below meth c H locs 0 0 (MQX below (Qx s0 D ac (resO kR res) (resS res)) args s 4 24 (fr s0)) (F0 m 52 ls [.int x10, .ref a0])) hf ?_ ?_
    · intro x10 hf H locs ls h hl
      obtain ⟨hk, hf⟩ := k_of hf
      obtain ⟨rx, hc, hf⟩ := hf_b hf
      refine x_cVX (q := (RX6, TX6, 4)) (rest := []) (As := [.int x10]) (n := 1) (kA := kV) G C hno h (wX6_need G hc) hk rfl q659 q660 q661 q60 q662 (by decide +kernel) ⟨Nat.le_of_ble_eq_true rfl, Nat.le_of_ble_eq_true rfl⟩ rfl rfl rfl hl.1 rfl (Nat.le_of_ble_eq_true rfl) dX6_test_52 ⟨(Nat.le_of_ble_eq_true rfl), (Nat.le_of_ble_eq_true rfl)⟩ ⟨(Nat.le_of_ble_eq_true rfl), (Nat.le_of_ble_eq_true rfl)⟩ (fun x9 σ9 he => by subst he; cases hf; rfl) (fun _ σ11 H locs h he => ?_)
      subst he
      have hf := hf_xs hf
      refine lv_aload_n hx hb dX6_test_55 rfl (lv_at hl 0 rfl) ?_
      refine x_ldcS (i := 19) G C (by decide) rfl rfl dX6_test_56 ?_
      obtain ⟨hk, hf⟩ := k_of hf
      obtain ⟨⟨x12, σ13⟩, hc, hf⟩ := hf_b hf
      have hf := hf_u2 hf
      refine x_cV (q := (RX6, TX6, 4)) (rest := []) (As := [.ref (sA s0 19)]) (n := 1) (ov := (some (.int x12))) G C h (wX6_isWord G hc) hk rfl (lw_V q589 q591 qs6 q60 q592) (by decide +kernel) ⟨Nat.le_of_ble_eq_true rfl, Nat.le_of_ble_eq_true rfl⟩ rfl rfl rfl hl.1 rfl (Nat.le_of_ble_eq_true rfl) dX6_test_58 ⟨(Nat.le_of_ble_eq_true rfl), (Nat.le_of_ble_eq_true rfl)⟩ (fun H locs h => ?_)
      refine lv_istore_n (lv' := [(2, .int x12), (0, .ref a0), (1, .int x9)]) hx hb dX6_test_61 rfl hl (by decide) rfl (fun ls hl => ?_)
      refine lv_aload_n hx hb dX6_test_62 rfl (lv_at hl 1 rfl) ?_
      refine lv_iload_n hx hb dX6_test_63 rfl (lv_at hl 0 rfl) ?_
      refine jn_of (P := fun j => ∀ (σ17 : St) (x18 : Int32), j σ17 x18 = some res → ∀ (H : Heap) (locs : List Loc) (ls : Array Slot), Hs s0 D ac σ17 H locs → lv_has ls 3 [(0, .ref a0), (1, .int x9), (2, .int x12)] → W p l e ({ frames := 6, cells := 4, slots := 24, locals := 130 } : Room) s m args below meth c H locs 1 7 (MQX below (Qx s0 D ac (resO kR res) (resS res)) args s 4 24 (fr s0)) (F0 m 81 ls [.int x18, .ref a0])) hf ?_ ?_
      · intro σ17 x18 hf H locs ls h hl
        obtain ⟨hk, hf⟩ := k_of hf
        obtain ⟨rx, hc, hf⟩ := hf_b hf
        refine x_cVX (q := (RX6, TX6, 4)) (rest := []) (As := [.int x18]) (n := 1) (kA := kV) G C hno h (wX6_need G hc) hk rfl q659 q660 q661 q60 q662 (by decide +kernel) ⟨Nat.le_of_ble_eq_true rfl, Nat.le_of_ble_eq_true rfl⟩ rfl rfl rfl hl.1 rfl (Nat.le_of_ble_eq_true rfl) dX6_test_81 ⟨(Nat.le_of_ble_eq_true rfl), (Nat.le_of_ble_eq_true rfl)⟩ ⟨(Nat.le_of_ble_eq_true rfl), (Nat.le_of_ble_eq_true rfl)⟩ (fun x9 σ9 he => by subst he; cases hf; rfl) (fun _ σ19 H locs h he => ?_)
        subst he
        have hf := hf_xs hf
        refine lv_aload_n hx hb dX6_test_84 rfl (lv_at hl 0 rfl) ?_
        obtain ⟨hk, hf⟩ := k_of hf
        obtain ⟨σ20, hc, hf⟩ := hf_b hf
        refine x_cV (q := (RX6, TX6, 4)) (rest := []) (As := []) (n := 0) (ov := none) G C h (wX6_token G hc) hk rfl (lw_V q561 q563 qs4 q60 q564) (by decide +kernel) ⟨Nat.le_of_ble_eq_true rfl, Nat.le_of_ble_eq_true rfl⟩ rfl rfl rfl hl.1 rfl (Nat.le_of_ble_eq_true rfl) dX6_test_85 ⟨(Nat.le_of_ble_eq_true rfl), (Nat.le_of_ble_eq_true rfl)⟩ (fun H locs h => ?_)
        refine x_new (q := (RX16, TX16, 3)) G C h rfl (fun j _ => nf_all 13 j) q752 q429 q77 (Nat.le_of_ble_eq_true rfl) (Nat.le_of_ble_eq_true rfl) dX6_test_88 hf (fun r21 σ22 H h hf => ?_)
        refine lv_dup hx hb dX6_test_91 rfl ?_
        refine lv_iload_n hx hb dX6_test_92 rfl (lv_at hl 1 rfl) ?_
        refine lv_iload_n hx hb dX6_test_93 rfl (lv_at hl 2 rfl) ?_
        refine lv_aload_n hx hb dX6_test_94 rfl (lv_at hl 0 rfl) ?_
        refine lv_bipush (v := 99) hx hb dX6_test_95 (by decide) ?_
        obtain ⟨hk, hf⟩ := k_of hf
        obtain ⟨rx, hc, hf⟩ := hf_b hf
        refine x_cVX (q := (RX6, TX6, 4)) (rest := [.int x12, .int x9, .ref r21, .ref r21]) (As := [.int 99]) (n := 1) (kA := kI) G C hno h (wX6_number G hc) hk rfl q729 q730 q731 q60 q732 (by decide +kernel) ⟨Nat.le_of_ble_eq_true rfl, Nat.le_of_ble_eq_true rfl⟩ rfl rfl rfl hl.1 rfl (Nat.le_of_ble_eq_true rfl) dX6_test_97 ⟨(Nat.le_of_ble_eq_true rfl), (Nat.le_of_ble_eq_true rfl)⟩ ⟨(Nat.le_of_ble_eq_true rfl), (Nat.le_of_ble_eq_true rfl)⟩ (fun x9 σ9 he => by subst he; cases hf; rfl) (fun x24 σ23 H locs h he => ?_)
        subst he
        have hf := hf_xs hf
        obtain ⟨σ25, hc, hf⟩ := hf_b hf
        refine x_cI (rest := [.ref r21]) (As := [.int x9, .int x12, .int x24]) (n := 3) (ov := none) C h (wX16_init G hc) q753 q754 q77 q755 rfl (by decide +kernel) ⟨Nat.le_of_ble_eq_true rfl, Nat.le_of_ble_eq_true rfl⟩ rfl rfl rfl hl.1 rfl (Nat.le_of_ble_eq_true rfl) dX6_test_100 ⟨(Nat.le_of_ble_eq_true rfl), (Nat.le_of_ble_eq_true rfl)⟩ (fun H locs h => ?_)
        cases hf
        refine W.widen (k := 4) (n := 24) (Nat.le_of_ble_eq_true rfl) (Nat.le_of_ble_eq_true rfl) ?_
        exact x_aretX C h dX6_test_103
      intro j81 hj81 hf
      refine jn_of (P := fun j => ∀ (σ16 : St), j σ16 = some res → ∀ (H : Heap) (locs : List Loc) (ls : Array Slot), Hs s0 D ac σ16 H locs → lv_has ls 3 [(0, .ref a0), (1, .int x9), (2, .int x12)] → W p l e ({ frames := 6, cells := 4, slots := 24, locals := 130 } : Room) s m args below meth c H locs 1 7 (MQX below (Qx s0 D ac (resO kR res) (resS res)) args s 4 24 (fr s0)) (F0 m 76 ls [.ref a0])) hf ?_ ?_
      · intro σ16 hf H locs ls h hl
        refine lv_iconst (v := 1) hx hb dX6_test_76 (by decide) ?_
        refine lv_goto (tgt := 81) hx hb dX6_test_77 (by decide) ?_
        exact hj81 _ _ hf _ _ _ h (lv_sub hl [0, 1, 2] rfl)
      intro j76 hj76 hf
      refine lv_if_ne (tgt := 76) hx hb dX6_test_64 (by decide) (fun hc => ?_) (fun hc => ?_)
      · have hf := hf_f hc hf
        exact hj76 _ hf _ _ _ h (lv_sub hl [1, 2, 0] rfl)
      · have hf := hf_t hc hf
        refine lv_aload_n hx hb dX6_test_67 rfl (lv_at hl 1 rfl) ?_
        refine x_ldcS (i := 20) G C (by decide) rfl rfl dX6_test_68 ?_
        obtain ⟨hk, hf⟩ := k_of hf
        obtain ⟨⟨x14, σ15⟩, hc, hf⟩ := hf_b hf
        have hf := hf_u2 hf
        refine x_cV (q := (RX6, TX6, 4)) (rest := [.ref a0]) (As := [.ref (sA s0 20)]) (n := 1) (ov := (some (.int x14))) G C h (wX6_isWord G hc) hk rfl (lw_V q589 q591 qs6 q60 q592) (by decide +kernel) ⟨Nat.le_of_ble_eq_true rfl, Nat.le_of_ble_eq_true rfl⟩ rfl rfl rfl hl.1 rfl (Nat.le_of_ble_eq_true rfl) dX6_test_70 ⟨(Nat.le_of_ble_eq_true rfl), (Nat.le_of_ble_eq_true rfl)⟩ (fun H locs h => ?_)
        refine lv_if_eq (tgt := 80) hx hb dX6_test_73 (by decide) (fun hc => ?_) (fun hc => ?_)
        · have hf := hf_t hc hf
          refine lv_iconst (v := 0) hx hb dX6_test_80 (by decide) ?_
          exact hj81 _ _ hf _ _ _ h (lv_sub hl [1, 2, 0] rfl)
        · have hf := hf_f hc hf
          exact hj76 _ hf _ _ _ h (lv_sub hl [1, 2, 0] rfl)
    intro j52 hj52 hf
    refine lv_icmp_eq (tgt := 51) hx hb dX6_test_44 (by decide) (fun hc => ?_) (fun hc => ?_)
    · have hf := hf_t hc hf
      refine lv_iconst (v := 0) hx hb dX6_test_51 (by decide) ?_
      exact hj52 _ hf _ _ _ h (lv_sub hl [0, 1] rfl)
    · have hf := hf_f hc hf
      refine lv_iconst (v := 1) hx hb dX6_test_47 (by decide) ?_
      refine lv_goto (tgt := 52) hx hb dX6_test_48 (by decide) ?_
      exact hj52 _ hf _ _ _ h (lv_sub hl [0, 1] rfl)
  refine loopF_ind (P := fun z => ∀ (H : Heap) (locs : List Loc) (ls : Array Slot), Hs s0 D ac (z.1) H locs → lv_has ls 3 [(0, .ref a0), (1, .int z.2.1), (2, .int z.2.2)] → W p l e ({ frames := 6, cells := 4, slots := 24, locals := 130 } : Room) s m args below meth c H locs 0 0 (MQX below (Qx s0 D ac (resO kR res) (resS res)) args s 4 24 (fr s0)) (F0 m 4 ls [])) ?_ _ _ hL _ _ _ h (lv_sub hl [2, 1, 0] rfl)
  clear hK hL h hl hf
  intro z o hf ih hX H locs ls h hl
  obtain ⟨σ1, x2, x3⟩ := z
  have h : Hs s0 D ac σ1 H locs := h
  have hl : lv_has ls 3 [(0, .ref a0), (1, .int x2), (2, .int x3)] := hl
  have hf : lX6_test_4 a0 σ1 x2 x3 = some o := hf
  unfold lX6_test_4 at hf
  refine lv_iload_n hx hb dX6_test_4 rfl (lv_at hl 2 rfl) ?_
  refine x_getsN G C h hZR q748 dX6_test_5 ?_
  refine x_lenT C h hTR dX6_test_8 ?_
  refine lv_icmp_ge (tgt := 41) hx hb dX6_test_9 (by decide) (fun hc => ?_) (fun hc => ?_)
  · have hf := hf_t hc hf
    cases hf
    exact hE4_0 _ _ (hX _ rfl) _ _ _ h (lv_sub hl [0, 1] rfl)
  · have hf := hf_f hc hf
    refine lv_iload_n hx hb dX6_test_12 rfl (lv_at hl 1 rfl) ?_
    refine lv_iconst (v := (-1)) hx hb dX6_test_13 (by decide) ?_
    refine lv_icmp_ne (tgt := 41) hx hb dX6_test_14 (by decide) (fun hc => ?_) (fun hc => ?_)
    · have hf := hf_f hc hf
      cases hf
      exact hE4_0 _ _ (hX _ rfl) _ _ _ h (lv_sub hl [0, 1] rfl)
    · have hf := hf_t hc hf
      refine lv_aload_n hx hb dX6_test_17 rfl (lv_at hl 0 rfl) ?_
      refine x_getsN G C h hZR q748 dX6_test_18 ?_
      refine lv_iload_n hx hb dX6_test_21 rfl (lv_at hl 2 rfl) ?_
      refine x_rd C h hTR dX6_test_22 hf (fun w4 hf => ?_)
      obtain ⟨hk, hf⟩ := k_of hf
      obtain ⟨⟨x5, σ6⟩, hc, hf⟩ := hf_b hf
      have hf := hf_u2 hf
      refine x_cV (q := (RX6, TX6, 4)) (rest := []) (As := [.ref (sA s0 w4)]) (n := 1) (ov := (some (.int x5))) G C h (wX6_skips G hc) hk rfl (lw_V q585 q586 q587 q60 q588) (by decide +kernel) ⟨Nat.le_of_ble_eq_true rfl, Nat.le_of_ble_eq_true rfl⟩ rfl rfl rfl hl.1 rfl (Nat.le_of_ble_eq_true rfl) dX6_test_23 ⟨(Nat.le_of_ble_eq_true rfl), (Nat.le_of_ble_eq_true rfl)⟩ (fun H locs h => ?_)
      refine jn_of (P := fun j => ∀ (x7 : Int32), j x7 = some o → ∀ (H : Heap) (locs : List Loc) (ls : Array Slot), Hs s0 D ac σ6 H locs → lv_has ls 3 [(0, .ref a0), (1, .int x2), (2, .int x3)] → W p l e ({ frames := 6, cells := 4, slots := 24, locals := 130 } : Room) s m args below meth c H locs 0 0 (MQX below (Qx s0 D ac (resO kR res) (resS res)) args s 4 24 (fr s0)) (F0 m 34 ls [.int x7])) hf ?_ ?_
      · intro x7 hf H locs ls h hl
        refine lv_istore_n (lv' := [(1, .int x7), (0, .ref a0), (2, .int x3)]) hx hb dX6_test_34 rfl hl (by decide) rfl (fun ls hl => ?_)
        refine lv_iinc (v := x3 + 1) (lv' := [(2, .int (x3 + 1)), (1, .int x7), (0, .ref a0)]) hx hb dX6_test_35 hl (k := 2) rfl rfl (by decide) rfl (fun ls hl => ?_)
        refine lv_goto (tgt := 4) hx hb dX6_test_38 (by decide) ?_
        cases hf
        exact ih _ rfl _ _ _ h (lv_sub hl [2, 1, 0] rfl)
      intro j34 hj34 hf
      refine lv_if_eq (tgt := 33) hx hb dX6_test_26 (by decide) (fun hc => ?_) (fun hc => ?_)
      · have hf := hf_t hc hf
        refine lv_iconst (v := (-1)) hx hb dX6_test_33 (by decide) ?_
        exact hj34 _ hf _ _ _ h (lv_sub hl [0, 1, 2] rfl)
      · have hf := hf_f hc hf
        refine lv_iload_n hx hb dX6_test_29 rfl (lv_at hl 2 rfl) ?_
        refine lv_goto (tgt := 34) hx hb dX6_test_30 (by decide) ?_
        exact hj34 _ hf _ _ _ h (lv_sub hl [0, 1, 2] rfl)
