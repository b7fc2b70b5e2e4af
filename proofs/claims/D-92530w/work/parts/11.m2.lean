set_option maxRecDepth 100000
theorem dX7_actOf_0 : decode cX7_actOf 0 = .ok (.aload_n 0, 1) := by decide +kernel
theorem dX7_actOf_1 : decode cX7_actOf 1 = .ok (.getfield 16, 3) := by decide +kernel
theorem dX7_actOf_4 : decode cX7_actOf 4 = .ok (.bipush 6, 2) := by decide +kernel
theorem dX7_actOf_6 : decode cX7_actOf 6 = .ok (.iload_n 1, 1) := by decide +kernel
theorem dX7_actOf_7 : decode cX7_actOf 7 = .ok (.iadd, 1) := by decide +kernel
theorem dX7_actOf_8 : decode cX7_actOf 8 = .ok (.iaload, 1) := by decide +kernel
theorem dX7_actOf_9 : decode cX7_actOf 9 = .ok (.bipush 20, 2) := by decide +kernel
theorem dX7_actOf_11 : decode cX7_actOf 11 = .ok (.if_icmp .lt 5, 3) := by decide +kernel
theorem dX7_actOf_14 : decode cX7_actOf 14 = .ok (.iconst 3, 1) := by decide +kernel
theorem dX7_actOf_15 : decode cX7_actOf 15 = .ok (.ireturn, 1) := by decide +kernel
theorem dX7_actOf_16 : decode cX7_actOf 16 = .ok (.iconst 0, 1) := by decide +kernel
theorem dX7_actOf_17 : decode cX7_actOf 17 = .ok (.istore_n 3, 1) := by decide +kernel
theorem dX7_actOf_18 : decode cX7_actOf 18 = .ok (.iload_n 3, 1) := by decide +kernel
theorem dX7_actOf_19 : decode cX7_actOf 19 = .ok (.aload_n 0, 1) := by decide +kernel
theorem dX7_actOf_20 : decode cX7_actOf 20 = .ok (.getfield 59, 3) := by decide +kernel
theorem dX7_actOf_23 : decode cX7_actOf 23 = .ok (.iload_n 1, 1) := by decide +kernel
theorem dX7_actOf_24 : decode cX7_actOf 24 = .ok (.iaload, 1) := by decide +kernel
theorem dX7_actOf_25 : decode cX7_actOf 25 = .ok (.if_icmp .ge 65, 3) := by decide +kernel
theorem dX7_actOf_28 : decode cX7_actOf 28 = .ok (.bipush 72, 2) := by decide +kernel
theorem dX7_actOf_30 : decode cX7_actOf 30 = .ok (.iload_n 1, 1) := by decide +kernel
theorem dX7_actOf_31 : decode cX7_actOf 31 = .ok (.imul, 1) := by decide +kernel
theorem dX7_actOf_32 : decode cX7_actOf 32 = .ok (.bipush 12, 2) := by decide +kernel
theorem dX7_actOf_34 : decode cX7_actOf 34 = .ok (.iload_n 3, 1) := by decide +kernel
theorem dX7_actOf_35 : decode cX7_actOf 35 = .ok (.imul, 1) := by decide +kernel
theorem dX7_actOf_36 : decode cX7_actOf 36 = .ok (.iadd, 1) := by decide +kernel
theorem dX7_actOf_37 : decode cX7_actOf 37 = .ok (.istore 4, 2) := by decide +kernel
theorem dX7_actOf_39 : decode cX7_actOf 39 = .ok (.aload_n 0, 1) := by decide +kernel
theorem dX7_actOf_40 : decode cX7_actOf 40 = .ok (.iload 4, 2) := by decide +kernel
theorem dX7_actOf_42 : decode cX7_actOf 42 = .ok (.iload_n 1, 1) := by decide +kernel
theorem dX7_actOf_43 : decode cX7_actOf 43 = .ok (.iload_n 2, 1) := by decide +kernel
theorem dX7_actOf_44 : decode cX7_actOf 44 = .ok (.invokevirtual 145, 3) := by decide +kernel
theorem dX7_actOf_47 : decode cX7_actOf 47 = .ok (.ifCond .eq 37, 3) := by decide +kernel
theorem dX7_actOf_50 : decode cX7_actOf 50 = .ok (.aload_n 0, 1) := by decide +kernel
theorem dX7_actOf_51 : decode cX7_actOf 51 = .ok (.getfield 62, 3) := by decide +kernel
theorem dX7_actOf_54 : decode cX7_actOf 54 = .ok (.iload 4, 2) := by decide +kernel
theorem dX7_actOf_56 : decode cX7_actOf 56 = .ok (.iaload, 1) := by decide +kernel
theorem dX7_actOf_57 : decode cX7_actOf 57 = .ok (.iconst 4, 1) := by decide +kernel
theorem dX7_actOf_58 : decode cX7_actOf 58 = .ok (.if_icmp .ne 18, 3) := by decide +kernel
theorem dX7_actOf_61 : decode cX7_actOf 61 = .ok (.bipush 10, 2) := by decide +kernel
theorem dX7_actOf_63 : decode cX7_actOf 63 = .ok (.aload_n 0, 1) := by decide +kernel
theorem dX7_actOf_64 : decode cX7_actOf 64 = .ok (.getfield 62, 3) := by decide +kernel
theorem dX7_actOf_67 : decode cX7_actOf 67 = .ok (.iload 4, 2) := by decide +kernel
theorem dX7_actOf_69 : decode cX7_actOf 69 = .ok (.iconst 1, 1) := by decide +kernel
theorem dX7_actOf_70 : decode cX7_actOf 70 = .ok (.iadd, 1) := by decide +kernel
theorem dX7_actOf_71 : decode cX7_actOf 71 = .ok (.iaload, 1) := by decide +kernel
theorem dX7_actOf_72 : decode cX7_actOf 72 = .ok (.iadd, 1) := by decide +kernel
theorem dX7_actOf_73 : decode cX7_actOf 73 = .ok (.goto 10, 3) := by decide +kernel
theorem dX7_actOf_76 : decode cX7_actOf 76 = .ok (.aload_n 0, 1) := by decide +kernel
theorem dX7_actOf_77 : decode cX7_actOf 77 = .ok (.getfield 62, 3) := by decide +kernel
theorem dX7_actOf_80 : decode cX7_actOf 80 = .ok (.iload 4, 2) := by decide +kernel
theorem dX7_actOf_82 : decode cX7_actOf 82 = .ok (.iaload, 1) := by decide +kernel
theorem dX7_actOf_83 : decode cX7_actOf 83 = .ok (.ireturn, 1) := by decide +kernel
theorem dX7_actOf_84 : decode cX7_actOf 84 = .ok (.iinc 3 1, 3) := by decide +kernel
theorem dX7_actOf_87 : decode cX7_actOf 87 = .ok (.goto (-69), 3) := by decide +kernel
theorem dX7_actOf_90 : decode cX7_actOf 90 = .ok (.iconst 0, 1) := by decide +kernel
theorem dX7_actOf_91 : decode cX7_actOf 91 = .ok (.ireturn, 1) := by decide +kernel
def lX7_actOf_18 (σ : St) (a0 : Nat) (a1 : Int32) (a2 : Int32) (x3 : Int32) : Option ((Int32) ⊕ ((Int32) ⊕ (Unit))) :=
  o_gR σ a0 5 28 fun r4 =>
  o_aI σ r4 0 a1 fun x5 =>
  if x5 ≤ x3 then
    some (.inr (.inr ()))
  else
  o_k σ a0 5 <|
  (fX7_doesHold σ a0 ((72 * a1) + (12 * x3)) a1 a2).bind fun x6 =>
  if x6 = 0 then
    some (.inl (x3 + 1))
  else
  some (.inr (.inl ((72 * a1) + (12 * x3))))

def fX7_actOf (σ : St) (a0 : Nat) (a1 : Int32) (a2 : Int32) : Option (Int32) :=
  o_gR σ a0 5 4 fun r1 =>
  o_aI σ r1 0 (6 + a1) fun x2 =>
  if x2 < 20 then
    (loopF fuel (fun z => lX7_actOf_18 σ a0 a1 a2 z) 0).bind <| sm (  fun x7 =>
      o_gR σ a0 5 29 fun r8 =>
      o_aI σ r8 0 x7 fun x9 =>
      if x9 = 4 then
        o_gR σ a0 5 29 fun r12 =>
        o_aI σ r12 0 (x7 + 1) fun x13 =>
        some (10 + x13)
      else
      o_gR σ a0 5 29 fun r10 =>
      o_aI σ r10 0 x7 fun x11 =>
      some x11) <| fun (_ : Unit) =>
    some 0
  else
  some 3

set_option maxHeartbeats 4000000 in
theorem wX7_actOf {l : Launch} {s0 : State} {A0 : Array Value} {D : va_G} {ac : Nat → ClassId} (G : Gl s0 A0 D ac) {σ : St} {a0 : Nat} {a1 : Int32} {a2 : Int32} {v : Int32} (hf : fX7_actOf σ a0 a1 a2 = some (v)) : Met l yX7_actOf (ws_ yX7_actOf cX7_actOf 5 (some (.int))) ({ frames := 3, cells := 0, slots := 0, locals := 74 } : Room) (Pn s0 D ac [.ref a0, .int a1, .int a2] σ) (Qn s0 D ac (some (.int v)) σ) 0 0 (fr s0) := by
  refine x_met (by decide) (Nat.le_of_ble_eq_true rfl) ?_
  intro p e s m args below meth c ls C hnm h hl
  have C : Cx s0 p s m args meth c cX7_actOf 5 "HutForShowModel" (some (.int)) := C
  have hx := C.1
  have hb := C.2.1
  have hl : lv_has ls 5 [(0, .ref a0), (1, .int a1), (2, .int a2)] := hl
  unfold fX7_actOf at hf
  refine lv_aload_n hx hb dX7_actOf_0 rfl (lv_at hl 0 rfl) ?_
  refine x_gR (q := (RX7, TX7, 50)) (j := 4) G C h rfl (by decide) (fun _ _ _ => rfl) (lk C q1060) (fun _ z => z) dX7_actOf_1 hf (fun r1 hf => ?_)
  refine lv_bipush (v := 6) hx hb dX7_actOf_4 (by decide) ?_
  refine lv_iload_n hx hb dX7_actOf_6 rfl (lv_at hl 1 rfl) ?_
  refine lv_iadd hx hb dX7_actOf_7 ?_
  refine x_iald G C h dX7_actOf_8 hf (fun x2 hf => ?_)
  refine lv_bipush (v := 20) hx hb dX7_actOf_9 (by decide) ?_
  refine lv_icmp_lt (tgt := 16) hx hb dX7_actOf_11 (by decide) (fun hc => ?_) (fun hc => ?_)
  · have hf := hf_t hc hf
    refine lv_iconst (v := 0) hx hb dX7_actOf_16 (by decide) ?_
    refine lv_istore_n (lv' := [(3, .int 0), (0, .ref a0), (1, .int a1), (2, .int a2)]) hx hb dX7_actOf_17 rfl hl (by decide) rfl (fun ls hl => ?_)
    obtain ⟨e18, hL, hK⟩ := hf_b hf
    have hE18_0 : ∀ (x7 : Int32), (.inl x7) = e18 → ∀  (H : Heap) (locs : List Loc) (ls : Array Slot), Hs s0 D ac σ H locs → lv_has ls 5 [(0, .ref a0), (1, .int a1), (2, .int a2), (4, .int x7)] → W p l e ({ frames := 3, cells := 0, slots := 0, locals := 74 } : Room) s m args below meth c H locs 0 0 (MQ below (Qn s0 D ac (some (.int v)) σ) args s 0 0 (fr s0)) (F0 m 50 ls []) := by
      intro x7 he H locs ls h hl
      subst he
      have hf := hK
      have hf := hf_sl hf
      refine lv_aload_n hx hb dX7_actOf_50 rfl (lv_at hl 0 rfl) ?_
      refine x_gR (q := (RX7, TX7, 50)) (j := 29) G C h rfl (by decide) (fun _ _ _ => rfl) (lk C q1085) (fun _ z => z) dX7_actOf_51 hf (fun r8 hf => ?_)
      refine lv_iload hx hb dX7_actOf_54 (lv_at hl 3 rfl) ?_
      refine x_iald G C h dX7_actOf_56 hf (fun x9 hf => ?_)
      refine lv_iconst (v := 4) hx hb dX7_actOf_57 (by decide) ?_
      refine lv_icmp_ne (tgt := 76) hx hb dX7_actOf_58 (by decide) (fun hc => ?_) (fun hc => ?_)
      · have hf := hf_f hc hf
        refine lv_aload_n hx hb dX7_actOf_76 rfl (lv_at hl 0 rfl) ?_
        refine x_gR (q := (RX7, TX7, 50)) (j := 29) G C h rfl (by decide) (fun _ _ _ => rfl) (lk C q1085) (fun _ z => z) dX7_actOf_77 hf (fun r10 hf => ?_)
        refine lv_iload hx hb dX7_actOf_80 (lv_at hl 3 rfl) ?_
        refine x_iald G C h dX7_actOf_82 hf (fun x11 hf => ?_)
        cases hf
        refine W.widen (k := 0) (n := 0) (Nat.le_of_ble_eq_true rfl) (Nat.le_of_ble_eq_true rfl) ?_
        exact x_iret C h dX7_actOf_83
      · have hf := hf_t hc hf
        refine lv_bipush (v := 10) hx hb dX7_actOf_61 (by decide) ?_
        refine lv_aload_n hx hb dX7_actOf_63 rfl (lv_at hl 0 rfl) ?_
        refine x_gR (q := (RX7, TX7, 50)) (j := 29) G C h rfl (by decide) (fun _ _ _ => rfl) (lk C q1085) (fun _ z => z) dX7_actOf_64 hf (fun r12 hf => ?_)
        refine lv_iload hx hb dX7_actOf_67 (lv_at hl 3 rfl) ?_
        refine lv_iconst (v := 1) hx hb dX7_actOf_69 (by decide) ?_
        refine lv_iadd hx hb dX7_actOf_70 ?_
        refine x_iald G C h dX7_actOf_71 hf (fun x13 hf => ?_)
        refine lv_iadd hx hb dX7_actOf_72 ?_
        refine lv_goto (tgt := 83) hx hb dX7_actOf_73 (by decide) ?_
        cases hf
        refine W.widen (k := 0) (n := 0) (Nat.le_of_ble_eq_true rfl) (Nat.le_of_ble_eq_true rfl) ?_
        exact x_iret C h dX7_actOf_83
    have hE18_1 : (.inr ()) = e18 → ∀  (H : Heap) (locs : List Loc) (ls : Array Slot), Hs s0 D ac σ H locs → lv_has ls 5 [(0, .ref a0), (1, .int a1), (2, .int a2)] → W p l e ({ frames := 3, cells := 0, slots := 0, locals := 74 } : Room) s m args below meth c H locs 0 0 (MQ below (Qn s0 D ac (some (.int v)) σ) args s 0 0 (fr s0)) (F0 m 90 ls []) := by
      intro he H locs ls h hl
      subst he
      have hf := hK
      have hf := hf_sr hf
      refine lv_iconst (v := 0) hx hb dX7_actOf_90 (by decide) ?_
      cases hf
      refine W.widen (k := 0) (n := 0) (Nat.le_of_ble_eq_true rfl) (Nat.le_of_ble_eq_true rfl) ?_
      exact x_iret C h dX7_actOf_91
    refine loopF_ind (P := fun z => ∀ (H : Heap) (locs : List Loc) (ls : Array Slot), Hs s0 D ac σ H locs → lv_has ls 5 [(0, .ref a0), (1, .int a1), (2, .int a2), (3, .int z)] → W p l e ({ frames := 3, cells := 0, slots := 0, locals := 74 } : Room) s m args below meth c H locs 0 0 (MQ below (Qn s0 D ac (some (.int v)) σ) args s 0 0 (fr s0)) (F0 m 18 ls [])) ?_ _ _ hL _ _ _ h (lv_sub hl [1, 2, 3, 0] rfl)
    clear hK hL h hl hf
    intro z o hf ih hX H locs ls h hl
    obtain ⟨x3, rfl⟩ : ∃ y, y = z := ⟨_, rfl⟩
    have h : Hs s0 D ac σ H locs := h
    have hl : lv_has ls 5 [(0, .ref a0), (1, .int a1), (2, .int a2), (3, .int x3)] := hl
    have hf : lX7_actOf_18 σ a0 a1 a2 x3 = some o := hf
    unfold lX7_actOf_18 at hf
    refine lv_iload_n hx hb dX7_actOf_18 rfl (lv_at hl 3 rfl) ?_
    refine lv_aload_n hx hb dX7_actOf_19 rfl (lv_at hl 0 rfl) ?_
    refine x_gR (q := (RX7, TX7, 50)) (j := 28) G C h rfl (by decide) (fun _ _ _ => rfl) (lk C q1084) (fun _ z => z) dX7_actOf_20 hf (fun r4 hf => ?_)
    refine lv_iload_n hx hb dX7_actOf_23 rfl (lv_at hl 1 rfl) ?_
    refine x_iald G C h dX7_actOf_24 hf (fun x5 hf => ?_)
    refine lv_icmp_ge (tgt := 90) hx hb dX7_actOf_25 (by decide) (fun hc => ?_) (fun hc => ?_)
    · have hf := hf_t hc hf
      cases hf
      exact hE18_1 (hX _ rfl) _ _ _ h (lv_sub hl [0, 1, 2] rfl)
    · have hf := hf_f hc hf
      refine lv_bipush (v := 72) hx hb dX7_actOf_28 (by decide) ?_
      refine lv_iload_n hx hb dX7_actOf_30 rfl (lv_at hl 1 rfl) ?_
      refine lv_imul hx hb dX7_actOf_31 ?_
      refine lv_bipush (v := 12) hx hb dX7_actOf_32 (by decide) ?_
      refine lv_iload_n hx hb dX7_actOf_34 rfl (lv_at hl 3 rfl) ?_
      refine lv_imul hx hb dX7_actOf_35 ?_
      refine lv_iadd hx hb dX7_actOf_36 ?_
      refine lv_istore (lv' := [(4, .int ((72 * a1) + (12 * x3))), (0, .ref a0), (1, .int a1), (2, .int a2), (3, .int x3)]) hx hb dX7_actOf_37 hl (by decide) rfl (fun ls hl => ?_)
      refine lv_aload_n hx hb dX7_actOf_39 rfl (lv_at hl 1 rfl) ?_
      refine lv_iload hx hb dX7_actOf_40 (lv_at hl 0 rfl) ?_
      refine lv_iload_n hx hb dX7_actOf_42 rfl (lv_at hl 2 rfl) ?_
      refine lv_iload_n hx hb dX7_actOf_43 rfl (lv_at hl 3 rfl) ?_
      obtain ⟨hk, hf⟩ := k_of hf
      obtain ⟨x6, hc, hf⟩ := hf_b hf
      refine x_cV (q := (RX7, TX7, 50)) (rest := []) (As := [.int ((72 * a1) + (12 * x3)), .int a1, .int a2]) (n := 3) (ov := (some (.int x6))) G C h (wX7_doesHold G hc) hk rfl (lw_V q1265 q1267 qs28 q61 q1268) (by decide +kernel) ⟨Nat.le_of_ble_eq_true rfl, Nat.le_of_ble_eq_true rfl⟩ rfl rfl rfl hl.1 rfl (Nat.le_of_ble_eq_true rfl) dX7_actOf_44 ⟨(Nat.le_of_ble_eq_true rfl), (Nat.le_of_ble_eq_true rfl)⟩ (fun H locs h => ?_)
      refine lv_if_eq (tgt := 84) hx hb dX7_actOf_47 (by decide) (fun hc => ?_) (fun hc => ?_)
      · have hf := hf_t hc hf
        refine lv_iinc (v := x3 + 1) (lv' := [(3, .int (x3 + 1)), (4, .int ((72 * a1) + (12 * x3))), (0, .ref a0), (1, .int a1), (2, .int a2)]) hx hb dX7_actOf_84 hl (k := 4) rfl rfl (by decide) rfl (fun ls hl => ?_)
        refine lv_goto (tgt := 18) hx hb dX7_actOf_87 (by decide) ?_
        cases hf
        exact ih _ rfl _ _ _ h (lv_sub hl [2, 3, 4, 0] rfl)
      · have hf := hf_f hc hf
        cases hf
        exact hE18_0 _ (hX _ rfl) _ _ _ h (lv_sub hl [1, 2, 3, 0] rfl)
  · have hf := hf_f hc hf
    refine lv_iconst (v := 3) hx hb dX7_actOf_14 (by decide) ?_
    cases hf
    refine W.widen (k := 0) (n := 0) (Nat.le_of_ble_eq_true rfl) (Nat.le_of_ble_eq_true rfl) ?_
    exact x_iret C h dX7_actOf_15

theorem dX7_raid_0 : decode cX7_raid 0 = .ok (.aload_n 0, 1) := by decide +kernel
theorem dX7_raid_1 : decode cX7_raid 1 = .ok (.iload_n 2, 1) := by decide +kernel
theorem dX7_raid_2 : decode cX7_raid 2 = .ok (.invokevirtual 121, 3) := by decide +kernel
theorem dX7_raid_5 : decode cX7_raid 5 = .ok (.ifCond .eq 40, 3) := by decide +kernel
theorem dX7_raid_8 : decode cX7_raid 8 = .ok (.iload_n 2, 1) := by decide +kernel
theorem dX7_raid_9 : decode cX7_raid 9 = .ok (.iload_n 1, 1) := by decide +kernel
theorem dX7_raid_10 : decode cX7_raid 10 = .ok (.if_icmp .eq 35, 3) := by decide +kernel
theorem dX7_raid_13 : decode cX7_raid 13 = .ok (.aload_n 0, 1) := by decide +kernel
theorem dX7_raid_14 : decode cX7_raid 14 = .ok (.iload_n 1, 1) := by decide +kernel
theorem dX7_raid_15 : decode cX7_raid 15 = .ok (.iload_n 2, 1) := by decide +kernel
theorem dX7_raid_16 : decode cX7_raid 16 = .ok (.invokevirtual 125, 3) := by decide +kernel
theorem dX7_raid_19 : decode cX7_raid 19 = .ok (.aload_n 0, 1) := by decide +kernel
theorem dX7_raid_20 : decode cX7_raid 20 = .ok (.getfield 40, 3) := by decide +kernel
theorem dX7_raid_23 : decode cX7_raid 23 = .ok (.if_icmp .gt 22, 3) := by decide +kernel
theorem dX7_raid_26 : decode cX7_raid 26 = .ok (.aload_n 0, 1) := by decide +kernel
theorem dX7_raid_27 : decode cX7_raid 27 = .ok (.getfield 22, 3) := by decide +kernel
theorem dX7_raid_30 : decode cX7_raid 30 = .ok (.iload_n 2, 1) := by decide +kernel
theorem dX7_raid_31 : decode cX7_raid 31 = .ok (.iaload, 1) := by decide +kernel
theorem dX7_raid_32 : decode cX7_raid 32 = .ok (.ifCond .eq 13, 3) := by decide +kernel
theorem dX7_raid_35 : decode cX7_raid 35 = .ok (.aload_n 0, 1) := by decide +kernel
theorem dX7_raid_36 : decode cX7_raid 36 = .ok (.getfield 22, 3) := by decide +kernel
theorem dX7_raid_39 : decode cX7_raid 39 = .ok (.iload_n 2, 1) := by decide +kernel
theorem dX7_raid_40 : decode cX7_raid 40 = .ok (.iaload, 1) := by decide +kernel
theorem dX7_raid_41 : decode cX7_raid 41 = .ok (.iconst 1, 1) := by decide +kernel
theorem dX7_raid_42 : decode cX7_raid 42 = .ok (.if_icmp .ne 4, 3) := by decide +kernel
theorem dX7_raid_45 : decode cX7_raid 45 = .ok (.return_, 1) := by decide +kernel
theorem dX7_raid_46 : decode cX7_raid 46 = .ok (.aload_n 0, 1) := by decide +kernel
theorem dX7_raid_47 : decode cX7_raid 47 = .ok (.getfield 16, 3) := by decide +kernel
theorem dX7_raid_50 : decode cX7_raid 50 = .ok (.iload_n 2, 1) := by decide +kernel
theorem dX7_raid_51 : decode cX7_raid 51 = .ok (.aload_n 0, 1) := by decide +kernel
theorem dX7_raid_52 : decode cX7_raid 52 = .ok (.getfield 16, 3) := by decide +kernel
theorem dX7_raid_55 : decode cX7_raid 55 = .ok (.iload_n 2, 1) := by decide +kernel
theorem dX7_raid_56 : decode cX7_raid 56 = .ok (.iaload, 1) := by decide +kernel
theorem dX7_raid_57 : decode cX7_raid 57 = .ok (.iconst 5, 1) := by decide +kernel
theorem dX7_raid_58 : decode cX7_raid 58 = .ok (.if_icmp .ge 7, 3) := by decide +kernel
theorem dX7_raid_61 : decode cX7_raid 61 = .ok (.iconst 0, 1) := by decide +kernel
theorem dX7_raid_62 : decode cX7_raid 62 = .ok (.goto 11, 3) := by decide +kernel
theorem dX7_raid_65 : decode cX7_raid 65 = .ok (.aload_n 0, 1) := by decide +kernel
theorem dX7_raid_66 : decode cX7_raid 66 = .ok (.getfield 16, 3) := by decide +kernel
theorem dX7_raid_69 : decode cX7_raid 69 = .ok (.iload_n 2, 1) := by decide +kernel
theorem dX7_raid_70 : decode cX7_raid 70 = .ok (.iaload, 1) := by decide +kernel
theorem dX7_raid_71 : decode cX7_raid 71 = .ok (.iconst 5, 1) := by decide +kernel
theorem dX7_raid_72 : decode cX7_raid 72 = .ok (.isub, 1) := by decide +kernel
theorem dX7_raid_73 : decode cX7_raid 73 = .ok (.iastore, 1) := by decide +kernel
theorem dX7_raid_74 : decode cX7_raid 74 = .ok (.iconst (-1), 1) := by decide +kernel
theorem dX7_raid_75 : decode cX7_raid 75 = .ok (.istore_n 3, 1) := by decide +kernel
theorem dX7_raid_76 : decode cX7_raid 76 = .ok (.aload_n 0, 1) := by decide +kernel
theorem dX7_raid_77 : decode cX7_raid 77 = .ok (.getfield 129, 3) := by decide +kernel
theorem dX7_raid_80 : decode cX7_raid 80 = .ok (.iconst 1, 1) := by decide +kernel
theorem dX7_raid_81 : decode cX7_raid 81 = .ok (.isub, 1) := by decide +kernel
theorem dX7_raid_82 : decode cX7_raid 82 = .ok (.istore 4, 2) := by decide +kernel
theorem dX7_raid_84 : decode cX7_raid 84 = .ok (.iload 4, 2) := by decide +kernel
theorem dX7_raid_86 : decode cX7_raid 86 = .ok (.ifCond .lt 92, 3) := by decide +kernel
theorem dX7_raid_89 : decode cX7_raid 89 = .ok (.aload_n 0, 1) := by decide +kernel
theorem dX7_raid_90 : decode cX7_raid 90 = .ok (.getfield 25, 3) := by decide +kernel
theorem dX7_raid_93 : decode cX7_raid 93 = .ok (.iload 4, 2) := by decide +kernel
theorem dX7_raid_95 : decode cX7_raid 95 = .ok (.iaload, 1) := by decide +kernel
theorem dX7_raid_96 : decode cX7_raid 96 = .ok (.iload_n 2, 1) := by decide +kernel
theorem dX7_raid_97 : decode cX7_raid 97 = .ok (.if_icmp .ne 60, 3) := by decide +kernel
theorem dX7_raid_100 : decode cX7_raid 100 = .ok (.iload_n 3, 1) := by decide +kernel
theorem dX7_raid_101 : decode cX7_raid 101 = .ok (.iconst (-1), 1) := by decide +kernel
theorem dX7_raid_102 : decode cX7_raid 102 = .ok (.if_icmp .eq 51, 3) := by decide +kernel
theorem dX7_raid_105 : decode cX7_raid 105 = .ok (.aload_n 0, 1) := by decide +kernel
theorem dX7_raid_106 : decode cX7_raid 106 = .ok (.getfield 31, 3) := by decide +kernel
theorem dX7_raid_109 : decode cX7_raid 109 = .ok (.iload 4, 2) := by decide +kernel
theorem dX7_raid_111 : decode cX7_raid 111 = .ok (.iaload, 1) := by decide +kernel
theorem dX7_raid_112 : decode cX7_raid 112 = .ok (.aload_n 0, 1) := by decide +kernel
theorem dX7_raid_113 : decode cX7_raid 113 = .ok (.getfield 31, 3) := by decide +kernel
theorem dX7_raid_116 : decode cX7_raid 116 = .ok (.iload_n 3, 1) := by decide +kernel
theorem dX7_raid_117 : decode cX7_raid 117 = .ok (.iaload, 1) := by decide +kernel
theorem dX7_raid_118 : decode cX7_raid 118 = .ok (.if_icmp .lt 35, 3) := by decide +kernel
theorem dX7_raid_121 : decode cX7_raid 121 = .ok (.aload_n 0, 1) := by decide +kernel
theorem dX7_raid_122 : decode cX7_raid 122 = .ok (.getfield 31, 3) := by decide +kernel
theorem dX7_raid_125 : decode cX7_raid 125 = .ok (.iload 4, 2) := by decide +kernel
theorem dX7_raid_127 : decode cX7_raid 127 = .ok (.iaload, 1) := by decide +kernel
theorem dX7_raid_128 : decode cX7_raid 128 = .ok (.aload_n 0, 1) := by decide +kernel
theorem dX7_raid_129 : decode cX7_raid 129 = .ok (.getfield 31, 3) := by decide +kernel
theorem dX7_raid_132 : decode cX7_raid 132 = .ok (.iload_n 3, 1) := by decide +kernel
theorem dX7_raid_133 : decode cX7_raid 133 = .ok (.iaload, 1) := by decide +kernel
theorem dX7_raid_134 : decode cX7_raid 134 = .ok (.if_icmp .ne 23, 3) := by decide +kernel
theorem dX7_raid_137 : decode cX7_raid 137 = .ok (.aload_n 0, 1) := by decide +kernel
theorem dX7_raid_138 : decode cX7_raid 138 = .ok (.getfield 34, 3) := by decide +kernel
theorem dX7_raid_141 : decode cX7_raid 141 = .ok (.iload 4, 2) := by decide +kernel
theorem dX7_raid_143 : decode cX7_raid 143 = .ok (.iaload, 1) := by decide +kernel
theorem dX7_raid_144 : decode cX7_raid 144 = .ok (.aload_n 0, 1) := by decide +kernel
theorem dX7_raid_145 : decode cX7_raid 145 = .ok (.getfield 34, 3) := by decide +kernel
theorem dX7_raid_148 : decode cX7_raid 148 = .ok (.iload_n 3, 1) := by decide +kernel
theorem dX7_raid_149 : decode cX7_raid 149 = .ok (.iaload, 1) := by decide +kernel
theorem dX7_raid_150 : decode cX7_raid 150 = .ok (.if_icmp .lt 7, 3) := by decide +kernel
theorem dX7_raid_153 : decode cX7_raid 153 = .ok (.iconst 1, 1) := by decide +kernel
theorem dX7_raid_154 : decode cX7_raid 154 = .ok (.goto 4, 3) := by decide +kernel
theorem dX7_raid_157 : decode cX7_raid 157 = .ok (.iconst 0, 1) := by decide +kernel
theorem dX7_raid_158 : decode cX7_raid 158 = .ok (.istore 5, 2) := by decide +kernel
theorem dX7_raid_160 : decode cX7_raid 160 = .ok (.iload 5, 2) := by decide +kernel
theorem dX7_raid_162 : decode cX7_raid 162 = .ok (.ifCond .eq 8, 3) := by decide +kernel
theorem dX7_raid_165 : decode cX7_raid 165 = .ok (.iload 4, 2) := by decide +kernel
theorem dX7_raid_167 : decode cX7_raid 167 = .ok (.goto 4, 3) := by decide +kernel
theorem dX7_raid_170 : decode cX7_raid 170 = .ok (.iload_n 3, 1) := by decide +kernel
theorem dX7_raid_171 : decode cX7_raid 171 = .ok (.istore_n 3, 1) := by decide +kernel
theorem dX7_raid_172 : decode cX7_raid 172 = .ok (.iinc 4 (-1), 3) := by decide +kernel
theorem dX7_raid_175 : decode cX7_raid 175 = .ok (.goto (-91), 3) := by decide +kernel
theorem dX7_raid_178 : decode cX7_raid 178 = .ok (.iload_n 3, 1) := by decide +kernel
theorem dX7_raid_179 : decode cX7_raid 179 = .ok (.iconst (-1), 1) := by decide +kernel
theorem dX7_raid_180 : decode cX7_raid 180 = .ok (.if_icmp .eq 33, 3) := by decide +kernel
theorem dX7_raid_183 : decode cX7_raid 183 = .ok (.aload_n 0, 1) := by decide +kernel
theorem dX7_raid_184 : decode cX7_raid 184 = .ok (.iload_n 1, 1) := by decide +kernel
theorem dX7_raid_185 : decode cX7_raid 185 = .ok (.invokevirtual 132, 3) := by decide +kernel
theorem dX7_raid_188 : decode cX7_raid 188 = .ok (.bipush 12, 2) := by decide +kernel
theorem dX7_raid_190 : decode cX7_raid 190 = .ok (.if_icmp .ge 23, 3) := by decide +kernel
theorem dX7_raid_193 : decode cX7_raid 193 = .ok (.aload_n 0, 1) := by decide +kernel
theorem dX7_raid_194 : decode cX7_raid 194 = .ok (.getfield 25, 3) := by decide +kernel
theorem dX7_raid_197 : decode cX7_raid 197 = .ok (.iload_n 3, 1) := by decide +kernel
theorem dX7_raid_198 : decode cX7_raid 198 = .ok (.iload_n 1, 1) := by decide +kernel
theorem dX7_raid_199 : decode cX7_raid 199 = .ok (.iastore, 1) := by decide +kernel
theorem dX7_raid_200 : decode cX7_raid 200 = .ok (.aload_n 0, 1) := by decide +kernel
theorem dX7_raid_201 : decode cX7_raid 201 = .ok (.getfield 16, 3) := by decide +kernel
theorem dX7_raid_204 : decode cX7_raid 204 = .ok (.bipush 12, 2) := by decide +kernel
theorem dX7_raid_206 : decode cX7_raid 206 = .ok (.iload_n 2, 1) := by decide +kernel
theorem dX7_raid_207 : decode cX7_raid 207 = .ok (.iadd, 1) := by decide +kernel
theorem dX7_raid_208 : decode cX7_raid 208 = .ok (.dup2, 1) := by decide +kernel
theorem dX7_raid_209 : decode cX7_raid 209 = .ok (.iaload, 1) := by decide +kernel
theorem dX7_raid_210 : decode cX7_raid 210 = .ok (.iconst 1, 1) := by decide +kernel
theorem dX7_raid_211 : decode cX7_raid 211 = .ok (.iadd, 1) := by decide +kernel
theorem dX7_raid_212 : decode cX7_raid 212 = .ok (.iastore, 1) := by decide +kernel
theorem dX7_raid_213 : decode cX7_raid 213 = .ok (.return_, 1) := by decide +kernel
def lX7_raid_84 (σ14 : St) (a0 : Nat) (a2 : Int32) (x16 : Int32) (x17 : Int32) : Option ((Int32 × Int32) ⊕ (Int32)) :=
  if x17 < 0 then
    some (.inr x16)
  else
  o_gR σ14 a0 5 8 fun r18 =>
  o_aI σ14 r18 0 x17 fun x19 =>
  jn (fun (x32 : Int32) =>
    jn (fun (x33 : Int32) =>
      some (.inl (x33, x17 + (-1)))) fun j171 =>
    if x32 = 0 then
      j171 x16
    else
    j171 x17) fun j158 =>
  jn (fun (_ : Unit) =>
    j158 0) fun j157 =>
  if x19 = a2 then
    jn (fun (_ : Unit) =>
      j158 1) fun j153 =>
    if x16 = ((-1)) then
      j153 ()
    else
    o_gR σ14 a0 5 10 fun r20 =>
    o_aI σ14 r20 0 x17 fun x21 =>
    o_gR σ14 a0 5 10 fun r22 =>
    o_aI σ14 r22 0 x16 fun x23 =>
    if x21 < x23 then
      j153 ()
    else
    o_gR σ14 a0 5 10 fun r24 =>
    o_aI σ14 r24 0 x17 fun x25 =>
    o_gR σ14 a0 5 10 fun r26 =>
    o_aI σ14 r26 0 x16 fun x27 =>
    if x25 = x27 then
      o_gR σ14 a0 5 11 fun r28 =>
      o_aI σ14 r28 0 x17 fun x29 =>
      o_gR σ14 a0 5 11 fun r30 =>
      o_aI σ14 r30 0 x16 fun x31 =>
      if x29 < x31 then
        j157 ()
      else
      j153 ()
    else
    j157 ()
  else
  j157 ()

def fX7_raid (σ : St) (a0 : Nat) (a1 : Int32) (a2 : Int32) : Option (St) :=
  o_k σ a0 5 <|
  (fX7_isHut σ a0 a2).bind fun x1 =>
  if x1 = 0 then
    some σ
  else
  if a2 = a1 then
    some σ
  else
  o_k σ a0 5 <|
  (fX7_farOf σ a0 a1 a2).bind fun x2 =>
  o_gI σ a0 5 13 fun x3 =>
  if x3 < x2 then
    some σ
  else
  o_gR σ a0 5 6 fun r4 =>
  o_aI σ r4 0 a2 fun x5 =>
  if x5 = 0 then
    some σ
  else
  o_gR σ a0 5 6 fun r6 =>
  o_aI σ r6 0 a2 fun x7 =>
  if x7 = 1 then
    some σ
  else
  o_gR σ a0 5 4 fun r8 =>
  o_gR σ a0 5 4 fun r9 =>
  o_aI σ r9 0 a2 fun x10 =>
  jn (fun (x13 : Int32) =>
    o_sI σ r8 0 a2 x13 fun σ14 =>
    o_gI σ14 a0 5 7 fun x15 =>
    (loopF fuel (fun z => lX7_raid_84 σ14 a0 a2 z.1 z.2) ((-1), x15 - 1)).bind <| fun x34 =>
    if x34 = ((-1)) then
      some σ14
    else
    o_k σ14 a0 5 <|
    (fX7_thingsOf σ14 a0 a1).bind fun x35 =>
    if 12 ≤ x35 then
      some σ14
    else
    o_gR σ14 a0 5 8 fun r36 =>
    o_sI σ14 r36 0 x34 a1 fun σ37 =>
    o_gR σ37 a0 5 4 fun r38 =>
    o_aI σ37 r38 0 (12 + a2) fun x39 =>
    o_sI σ37 r38 0 (12 + a2) (x39 + 1) fun σ40 =>
    some σ40) fun j73 =>
  if 5 ≤ x10 then
    o_gR σ a0 5 4 fun r11 =>
    o_aI σ r11 0 a2 fun x12 =>
    j73 (x12 - 5)
  else
  j73 0

set_option maxHeartbeats 4000000 in
theorem wX7_raid {l : Launch} {s0 : State} {A0 : Array Value} {D : va_G} {ac : Nat → ClassId} (G : Gl s0 A0 D ac) {σ : St} {a0 : Nat} {a1 : Int32} {a2 : Int32} {σ' : St} (hf : fX7_raid σ a0 a1 a2 = some (σ')) : Met l yX7_raid (ws_ yX7_raid cX7_raid 6 none) ({ frames := 2, cells := 0, slots := 0, locals := 43 } : Room) (Pn s0 D ac [.ref a0, .int a1, .int a2] σ) (Qn s0 D ac none σ') 0 0 (fr s0) := by
  refine x_met (by decide) (Nat.le_of_ble_eq_true rfl) ?_
  intro p e s m args below meth c ls C hnm h hl
  have C : Cx s0 p s m args meth c cX7_raid 6 "HutForShowModel" none := C
  have hx := C.1
  have hb := C.2.1
  have hl : lv_has ls 6 [(0, .ref a0), (1, .int a1), (2, .int a2)] := hl
  unfold fX7_raid at hf
  refine lv_aload_n hx hb dX7_raid_0 rfl (lv_at hl 0 rfl) ?_
  refine lv_iload_n hx hb dX7_raid_1 rfl (lv_at hl 2 rfl) ?_
  obtain ⟨hk, hf⟩ := k_of hf
  obtain ⟨x1, hc, hf⟩ := hf_b hf
  refine x_cV (q := (RX7, TX7, 50)) (rest := []) (As := [.int a2]) (n := 1) (ov := (some (.int x1))) G C h (wX7_isHut G hc) hk rfl (lw_V q1218 q1220 qs22 q61 q1221) (by decide +kernel) ⟨Nat.le_of_ble_eq_true rfl, Nat.le_of_ble_eq_true rfl⟩ rfl rfl rfl hl.1 rfl (Nat.le_of_ble_eq_true rfl) dX7_raid_2 ⟨(Nat.le_of_ble_eq_true rfl), (Nat.le_of_ble_eq_true rfl)⟩ (fun H locs h => ?_)
  refine lv_if_eq (tgt := 45) hx hb dX7_raid_5 (by decide) (fun hc => ?_) (fun hc => ?_)
  · have hf := hf_t hc hf
    cases hf
    refine W.widen (k := 0) (n := 0) (Nat.le_of_ble_eq_true rfl) (Nat.le_of_ble_eq_true rfl) ?_
    exact x_vret C h dX7_raid_45
  · have hf := hf_f hc hf
    refine lv_iload_n hx hb dX7_raid_8 rfl (lv_at hl 2 rfl) ?_
    refine lv_iload_n hx hb dX7_raid_9 rfl (lv_at hl 1 rfl) ?_
    refine lv_icmp_eq (tgt := 45) hx hb dX7_raid_10 (by decide) (fun hc => ?_) (fun hc => ?_)
    · have hf := hf_t hc hf
      cases hf
      refine W.widen (k := 0) (n := 0) (Nat.le_of_ble_eq_true rfl) (Nat.le_of_ble_eq_true rfl) ?_
      exact x_vret C h dX7_raid_45
    · have hf := hf_f hc hf
      refine lv_aload_n hx hb dX7_raid_13 rfl (lv_at hl 0 rfl) ?_
      refine lv_iload_n hx hb dX7_raid_14 rfl (lv_at hl 1 rfl) ?_
      refine lv_iload_n hx hb dX7_raid_15 rfl (lv_at hl 2 rfl) ?_
      obtain ⟨hk, hf⟩ := k_of hf
      obtain ⟨x2, hc, hf⟩ := hf_b hf
      refine x_cV (q := (RX7, TX7, 50)) (rest := []) (As := [.int a1, .int a2]) (n := 2) (ov := (some (.int x2))) G C h (wX7_farOf G hc) hk rfl (lw_V q1222 q1224 qs23 q61 q1225) (by decide +kernel) ⟨Nat.le_of_ble_eq_true rfl, Nat.le_of_ble_eq_true rfl⟩ rfl rfl rfl hl.1 rfl (Nat.le_of_ble_eq_true rfl) dX7_raid_16 ⟨(Nat.le_of_ble_eq_true rfl), (Nat.le_of_ble_eq_true rfl)⟩ (fun H locs h => ?_)
      refine lv_aload_n hx hb dX7_raid_19 rfl (lv_at hl 0 rfl) ?_
      refine x_gI (q := (RX7, TX7, 50)) (j := 13) G C h rfl (by decide) (fun _ _ _ => rfl) (lk C q1069) (fun _ z => z) dX7_raid_20 hf (fun x3 hf => ?_)
      refine lv_icmp_gt (tgt := 45) hx hb dX7_raid_23 (by decide) (fun hc => ?_) (fun hc => ?_)
      · have hf := hf_t hc hf
        cases hf
        refine W.widen (k := 0) (n := 0) (Nat.le_of_ble_eq_true rfl) (Nat.le_of_ble_eq_true rfl) ?_
        exact x_vret C h dX7_raid_45
      · have hf := hf_f hc hf
        refine lv_aload_n hx hb dX7_raid_26 rfl (lv_at hl 0 rfl) ?_
        refine x_gR (q := (RX7, TX7, 50)) (j := 6) G C h rfl (by decide) (fun _ _ _ => rfl) (lk C q1062) (fun _ z => z) dX7_raid_27 hf (fun r4 hf => ?_)
        refine lv_iload_n hx hb dX7_raid_30 rfl (lv_at hl 2 rfl) ?_
        refine x_iald G C h dX7_raid_31 hf (fun x5 hf => ?_)
        refine lv_if_eq (tgt := 45) hx hb dX7_raid_32 (by decide) (fun hc => ?_) (fun hc => ?_)
        · have hf := hf_t hc hf
          cases hf
          refine W.widen (k := 0) (n := 0) (Nat.le_of_ble_eq_true rfl) (Nat.le_of_ble_eq_true rfl) ?_
          exact x_vret C h dX7_raid_45
        · have hf := hf_f hc hf
          refine lv_aload_n hx hb dX7_raid_35 rfl (lv_at hl 0 rfl) ?_
          refine x_gR (q := (RX7, TX7, 50)) (j := 6) G C h rfl (by decide) (fun _ _ _ => rfl) (lk C q1062) (fun _ z => z) dX7_raid_36 hf (fun r6 hf => ?_)
          refine lv_iload_n hx hb dX7_raid_39 rfl (lv_at hl 2 rfl) ?_
          refine x_iald G C h dX7_raid_40 hf (fun x7 hf => ?_)
          refine lv_iconst (v := 1) hx hb dX7_raid_41 (by decide) ?_
          refine lv_icmp_ne (tgt := 46) hx hb dX7_raid_42 (by decide) (fun hc => ?_) (fun hc => ?_)
          · have hf := hf_f hc hf
            refine lv_aload_n hx hb dX7_raid_46 rfl (lv_at hl 0 rfl) ?_
            refine x_gR (q := (RX7, TX7, 50)) (j := 4) G C h rfl (by decide) (fun _ _ _ => rfl) (lk C q1060) (fun _ z => z) dX7_raid_47 hf (fun r8 hf => ?_)
            refine lv_iload_n hx hb dX7_raid_50 rfl (lv_at hl 2 rfl) ?_
            refine lv_aload_n hx hb dX7_raid_51 rfl (lv_at hl 0 rfl) ?_
            refine x_gR (q := (RX7, TX7, 50)) (j := 4) G C h rfl (by decide) (fun _ _ _ => rfl) (lk C q1060) (fun _ z => z) dX7_raid_52 hf (fun r9 hf => ?_)
            refine lv_iload_n hx hb dX7_raid_55 rfl (lv_at hl 2 rfl) ?_
            refine x_iald G C h dX7_raid_56 hf (fun x10 hf => ?_)
            refine lv_iconst (v := 5) hx hb dX7_raid_57 (by decide) ?_
            refine jn_of (P := fun j => ∀ (x13 : Int32), j x13 = some (σ') → ∀ (H : Heap) (locs : List Loc) (ls : Array Slot), Hs s0 D ac σ H locs → lv_has ls 6 [(0, .ref a0), (1, .int a1), (2, .int a2)] → W p l e ({ frames := 2, cells := 0, slots := 0, locals := 43 } : Room) s m args below meth c H locs 0 0 (MQ below (Qn s0 D ac none σ') args s 0 0 (fr s0)) (F0 m 73 ls [.int x13, .int a2, .ref r8])) hf ?_ ?_
            · intro x13 hf H locs ls h hl
              refine x_iast G C h dX7_raid_73 hf (fun σ14 H locs h hf => ?_)
              refine lv_iconst (v := (-1)) hx hb dX7_raid_74 (by decide) ?_
              refine lv_istore_n (lv' := [(3, .int ((-1))), (0, .ref a0), (1, .int a1), (2, .int a2)]) hx hb dX7_raid_75 rfl hl (by decide) rfl (fun ls hl => ?_)
              refine lv_aload_n hx hb dX7_raid_76 rfl (lv_at hl 1 rfl) ?_
              refine x_gI (q := (RX7, TX7, 50)) (j := 7) G C h rfl (by decide) (fun _ _ _ => rfl) (lk C q1063) (fun _ z => z) dX7_raid_77 hf (fun x15 hf => ?_)
              refine lv_iconst (v := 1) hx hb dX7_raid_80 (by decide) ?_
              refine lv_isub hx hb dX7_raid_81 ?_
              refine lv_istore (lv' := [(4, .int (x15 - 1)), (3, .int ((-1))), (0, .ref a0), (1, .int a1), (2, .int a2)]) hx hb dX7_raid_82 hl (by decide) rfl (fun ls hl => ?_)
              obtain ⟨e84, hL, hK⟩ := hf_b hf
              have hE84_0 : ∀ (x34 : Int32), x34 = e84 → ∀  (H : Heap) (locs : List Loc) (ls : Array Slot), Hs s0 D ac σ14 H locs → lv_has ls 6 [(0, .ref a0), (1, .int a1), (2, .int a2), (3, .int x34)] → W p l e ({ frames := 2, cells := 0, slots := 0, locals := 43 } : Room) s m args below meth c H locs 0 0 (MQ below (Qn s0 D ac none σ') args s 0 0 (fr s0)) (F0 m 178 ls []) := by
                intro x34 he H locs ls h hl
                subst he
                have hf := hK
                refine lv_iload_n hx hb dX7_raid_178 rfl (lv_at hl 3 rfl) ?_
                refine lv_iconst (v := (-1)) hx hb dX7_raid_179 (by decide) ?_
                refine lv_icmp_eq (tgt := 213) hx hb dX7_raid_180 (by decide) (fun hc => ?_) (fun hc => ?_)
                · have hf := hf_t hc hf
                  cases hf
                  refine W.widen (k := 0) (n := 0) (Nat.le_of_ble_eq_true rfl) (Nat.le_of_ble_eq_true rfl) ?_
                  exact x_vret C h dX7_raid_213
                · have hf := hf_f hc hf
                  refine lv_aload_n hx hb dX7_raid_183 rfl (lv_at hl 0 rfl) ?_
                  refine lv_iload_n hx hb dX7_raid_184 rfl (lv_at hl 1 rfl) ?_
                  obtain ⟨hk, hf⟩ := k_of hf
                  obtain ⟨x35, hc, hf⟩ := hf_b hf
                  refine x_cV (q := (RX7, TX7, 50)) (rest := []) (As := [.int a1]) (n := 1) (ov := (some (.int x35))) G C h (wX7_thingsOf G hc) hk rfl (lw_V q1233 q1235 qs24 q61 q1236) (by decide +kernel) ⟨Nat.le_of_ble_eq_true rfl, Nat.le_of_ble_eq_true rfl⟩ rfl rfl rfl hl.1 rfl (Nat.le_of_ble_eq_true rfl) dX7_raid_185 ⟨(Nat.le_of_ble_eq_true rfl), (Nat.le_of_ble_eq_true rfl)⟩ (fun H locs h => ?_)
                  refine lv_bipush (v := 12) hx hb dX7_raid_188 (by decide) ?_
                  refine lv_icmp_ge (tgt := 213) hx hb dX7_raid_190 (by decide) (fun hc => ?_) (fun hc => ?_)
                  · have hf := hf_t hc hf
                    cases hf
                    refine W.widen (k := 0) (n := 0) (Nat.le_of_ble_eq_true rfl) (Nat.le_of_ble_eq_true rfl) ?_
                    exact x_vret C h dX7_raid_213
                  · have hf := hf_f hc hf
                    refine lv_aload_n hx hb dX7_raid_193 rfl (lv_at hl 0 rfl) ?_
                    refine x_gR (q := (RX7, TX7, 50)) (j := 8) G C h rfl (by decide) (fun _ _ _ => rfl) (lk C q1064) (fun _ z => z) dX7_raid_194 hf (fun r36 hf => ?_)
                    refine lv_iload_n hx hb dX7_raid_197 rfl (lv_at hl 3 rfl) ?_
                    refine lv_iload_n hx hb dX7_raid_198 rfl (lv_at hl 1 rfl) ?_
                    refine x_iast G C h dX7_raid_199 hf (fun σ37 H locs h hf => ?_)
                    refine lv_aload_n hx hb dX7_raid_200 rfl (lv_at hl 0 rfl) ?_
                    refine x_gR (q := (RX7, TX7, 50)) (j := 4) G C h rfl (by decide) (fun _ _ _ => rfl) (lk C q1060) (fun _ z => z) dX7_raid_201 hf (fun r38 hf => ?_)
                    refine lv_bipush (v := 12) hx hb dX7_raid_204 (by decide) ?_
                    refine lv_iload_n hx hb dX7_raid_206 rfl (lv_at hl 2 rfl) ?_
                    refine lv_iadd hx hb dX7_raid_207 ?_
                    refine lv_dup2_11 hx hb dX7_raid_208 rfl rfl ?_
                    refine x_iald G C h dX7_raid_209 hf (fun x39 hf => ?_)
                    refine lv_iconst (v := 1) hx hb dX7_raid_210 (by decide) ?_
                    refine lv_iadd hx hb dX7_raid_211 ?_
                    refine x_iast G C h dX7_raid_212 hf (fun σ40 H locs h hf => ?_)
                    cases hf
                    refine W.widen (k := 0) (n := 0) (Nat.le_of_ble_eq_true rfl) (Nat.le_of_ble_eq_true rfl) ?_
                    exact x_vret C h dX7_raid_213
              refine loopF_ind (P := fun z => ∀ (H : Heap) (locs : List Loc) (ls : Array Slot), Hs s0 D ac σ14 H locs → lv_has ls 6 [(0, .ref a0), (1, .int a1), (2, .int a2), (3, .int z.1), (4, .int z.2)] → W p l e ({ frames := 2, cells := 0, slots := 0, locals := 43 } : Room) s m args below meth c H locs 0 0 (MQ below (Qn s0 D ac none σ') args s 0 0 (fr s0)) (F0 m 84 ls [])) ?_ _ _ hL _ _ _ h (lv_sub hl [2, 3, 4, 1, 0] rfl)
              clear hK hL h hl hf
              intro z o hf ih hX H locs ls h hl
              obtain ⟨x16, x17⟩ := z
              have h : Hs s0 D ac σ14 H locs := h
              have hl : lv_has ls 6 [(0, .ref a0), (1, .int a1), (2, .int a2), (3, .int x16), (4, .int x17)] := hl
              have hf : lX7_raid_84 σ14 a0 a2 x16 x17 = some o := hf
              unfold lX7_raid_84 at hf
              refine lv_iload hx hb dX7_raid_84 (lv_at hl 4 rfl) ?_
              refine lv_if_lt (tgt := 178) hx hb dX7_raid_86 (by decide) (fun hc => ?_) (fun hc => ?_)
              · have hf := hf_t hc hf
                cases hf
                exact hE84_0 _ (hX _ rfl) _ _ _ h (lv_sub hl [0, 1, 2, 3] rfl)
              · have hf := hf_f hc hf
                refine lv_aload_n hx hb dX7_raid_89 rfl (lv_at hl 0 rfl) ?_
                refine x_gR (q := (RX7, TX7, 50)) (j := 8) G C h rfl (by decide) (fun _ _ _ => rfl) (lk C q1064) (fun _ z => z) dX7_raid_90 hf (fun r18 hf => ?_)
                refine lv_iload hx hb dX7_raid_93 (lv_at hl 4 rfl) ?_
                refine x_iald G C h dX7_raid_95 hf (fun x19 hf => ?_)
                refine lv_iload_n hx hb dX7_raid_96 rfl (lv_at hl 2 rfl) ?_
                refine jn_of (P := fun j => ∀ (x32 : Int32), j x32 = some o → ∀ (H : Heap) (locs : List Loc) (ls : Array Slot), Hs s0 D ac σ14 H locs → lv_has ls 6 [(0, .ref a0), (1, .int a1), (2, .int a2), (3, .int x16), (4, .int x17)] → W p l e ({ frames := 2, cells := 0, slots := 0, locals := 43 } : Room) s m args below meth c H locs 0 0 (MQ below (Qn s0 D ac none σ') args s 0 0 (fr s0)) (F0 m 158 ls [.int x32])) hf ?_ ?_
                · intro x32 hf H locs ls h hl
                  refine lv_istore (lv' := [(5, .int x32), (0, .ref a0), (1, .int a1), (2, .int a2), (3, .int x16), (4, .int x17)]) hx hb dX7_raid_158 hl (by decide) rfl (fun ls hl => ?_)
                  refine lv_iload hx hb dX7_raid_160 (lv_at hl 0 rfl) ?_
                  refine jn_of (P := fun j => ∀ (x33 : Int32), j x33 = some o → ∀ (H : Heap) (locs : List Loc) (ls : Array Slot), Hs s0 D ac σ14 H locs → lv_has ls 6 [(0, .ref a0), (1, .int a1), (2, .int a2), (3, .int x16), (4, .int x17), (5, .int x32)] → W p l e ({ frames := 2, cells := 0, slots := 0, locals := 43 } : Room) s m args below meth c H locs 0 0 (MQ below (Qn s0 D ac none σ') args s 0 0 (fr s0)) (F0 m 171 ls [.int x33])) hf ?_ ?_
                  · intro x33 hf H locs ls h hl
                    refine lv_istore_n (lv' := [(3, .int x33), (0, .ref a0), (1, .int a1), (2, .int a2), (4, .int x17), (5, .int x32)]) hx hb dX7_raid_171 rfl hl (by decide) rfl (fun ls hl => ?_)
                    refine lv_iinc (v := x17 + (-1)) (lv' := [(4, .int (x17 + (-1))), (3, .int x33), (0, .ref a0), (1, .int a1), (2, .int a2), (5, .int x32)]) hx hb dX7_raid_172 hl (k := 4) rfl rfl (by decide) rfl (fun ls hl => ?_)
                    refine lv_goto (tgt := 84) hx hb dX7_raid_175 (by decide) ?_
                    cases hf
                    exact ih _ rfl _ _ _ h (lv_sub hl [2, 3, 4, 1, 0] rfl)
                  intro j171 hj171 hf
                  refine lv_if_eq (tgt := 170) hx hb dX7_raid_162 (by decide) (fun hc => ?_) (fun hc => ?_)
                  · have hf := hf_t hc hf
                    refine lv_iload_n hx hb dX7_raid_170 rfl (lv_at hl 4 rfl) ?_
                    exact hj171 _ hf _ _ _ h (lv_sub hl [1, 2, 3, 4, 5, 0] rfl)
                  · have hf := hf_f hc hf
                    refine lv_iload hx hb dX7_raid_165 (lv_at hl 5 rfl) ?_
                    refine lv_goto (tgt := 171) hx hb dX7_raid_167 (by decide) ?_
                    exact hj171 _ hf _ _ _ h (lv_sub hl [1, 2, 3, 4, 5, 0] rfl)
                intro j158 hj158 hf
                refine jn_of (P := fun j => ∀ (u0 : Unit), j u0 = some o → ∀ (H : Heap) (locs : List Loc) (ls : Array Slot), Hs s0 D ac σ14 H locs → lv_has ls 6 [(0, .ref a0), (1, .int a1), (2, .int a2), (3, .int x16), (4, .int x17)] → W p l e ({ frames := 2, cells := 0, slots := 0, locals := 43 } : Room) s m args below meth c H locs 0 0 (MQ below (Qn s0 D ac none σ') args s 0 0 (fr s0)) (F0 m 157 ls [])) hf ?_ ?_
                · intro u0 hf H locs ls h hl
                  refine lv_iconst (v := 0) hx hb dX7_raid_157 (by decide) ?_
                  exact hj158 _ hf _ _ _ h (lv_sub hl [0, 1, 2, 3, 4] rfl)
                intro j157 hj157 hf
                refine lv_icmp_ne (tgt := 157) hx hb dX7_raid_97 (by decide) (fun hc => ?_) (fun hc => ?_)
                · have hf := hf_f hc hf
                  exact hj157 () hf _ _ _ h (lv_sub hl [0, 1, 2, 3, 4] rfl)
                · have hf := hf_t hc hf
                  refine lv_iload_n hx hb dX7_raid_100 rfl (lv_at hl 3 rfl) ?_
                  refine lv_iconst (v := (-1)) hx hb dX7_raid_101 (by decide) ?_
                  refine jn_of (P := fun j => ∀ (u0 : Unit), j u0 = some o → ∀ (H : Heap) (locs : List Loc) (ls : Array Slot), Hs s0 D ac σ14 H locs → lv_has ls 6 [(0, .ref a0), (1, .int a1), (2, .int a2), (3, .int x16), (4, .int x17)] → W p l e ({ frames := 2, cells := 0, slots := 0, locals := 43 } : Room) s m args below meth c H locs 0 0 (MQ below (Qn s0 D ac none σ') args s 0 0 (fr s0)) (F0 m 153 ls [])) hf ?_ ?_
                  · intro u0 hf H locs ls h hl
                    refine lv_iconst (v := 1) hx hb dX7_raid_153 (by decide) ?_
                    refine lv_goto (tgt := 158) hx hb dX7_raid_154 (by decide) ?_
                    exact hj158 _ hf _ _ _ h (lv_sub hl [0, 1, 2, 3, 4] rfl)
                  intro j153 hj153 hf
                  refine lv_icmp_eq (tgt := 153) hx hb dX7_raid_102 (by decide) (fun hc => ?_) (fun hc => ?_)
                  · have hf := hf_t hc hf
                    exact hj153 () hf _ _ _ h (lv_sub hl [0, 1, 2, 3, 4] rfl)
                  · have hf := hf_f hc hf
                    refine lv_aload_n hx hb dX7_raid_105 rfl (lv_at hl 0 rfl) ?_
                    refine x_gR (q := (RX7, TX7, 50)) (j := 10) G C h rfl (by decide) (fun _ _ _ => rfl) (lk C q1066) (fun _ z => z) dX7_raid_106 hf (fun r20 hf => ?_)
                    refine lv_iload hx hb dX7_raid_109 (lv_at hl 4 rfl) ?_
                    refine x_iald G C h dX7_raid_111 hf (fun x21 hf => ?_)
                    refine lv_aload_n hx hb dX7_raid_112 rfl (lv_at hl 0 rfl) ?_
                    refine x_gR (q := (RX7, TX7, 50)) (j := 10) G C h rfl (by decide) (fun _ _ _ => rfl) (lk C q1066) (fun _ z => z) dX7_raid_113 hf (fun r22 hf => ?_)
                    refine lv_iload_n hx hb dX7_raid_116 rfl (lv_at hl 3 rfl) ?_
                    refine x_iald G C h dX7_raid_117 hf (fun x23 hf => ?_)
                    refine lv_icmp_lt (tgt := 153) hx hb dX7_raid_118 (by decide) (fun hc => ?_) (fun hc => ?_)
                    · have hf := hf_t hc hf
                      exact hj153 () hf _ _ _ h (lv_sub hl [0, 1, 2, 3, 4] rfl)
                    · have hf := hf_f hc hf
                      refine lv_aload_n hx hb dX7_raid_121 rfl (lv_at hl 0 rfl) ?_
                      refine x_gR (q := (RX7, TX7, 50)) (j := 10) G C h rfl (by decide) (fun _ _ _ => rfl) (lk C q1066) (fun _ z => z) dX7_raid_122 hf (fun r24 hf => ?_)
                      refine lv_iload hx hb dX7_raid_125 (lv_at hl 4 rfl) ?_
                      refine x_iald G C h dX7_raid_127 hf (fun x25 hf => ?_)
                      refine lv_aload_n hx hb dX7_raid_128 rfl (lv_at hl 0 rfl) ?_
                      refine x_gR (q := (RX7, TX7, 50)) (j := 10) G C h rfl (by decide) (fun _ _ _ => rfl) (lk C q1066) (fun _ z => z) dX7_raid_129 hf (fun r26 hf => ?_)
                      refine lv_iload_n hx hb dX7_raid_132 rfl (lv_at hl 3 rfl) ?_
                      refine x_iald G C h dX7_raid_133 hf (fun x27 hf => ?_)
                      refine lv_icmp_ne (tgt := 157) hx hb dX7_raid_134 (by decide) (fun hc => ?_) (fun hc => ?_)
                      · have hf := hf_f hc hf
                        exact hj157 () hf _ _ _ h (lv_sub hl [0, 1, 2, 3, 4] rfl)
                      · have hf := hf_t hc hf
                        refine lv_aload_n hx hb dX7_raid_137 rfl (lv_at hl 0 rfl) ?_
                        refine x_gR (q := (RX7, TX7, 50)) (j := 11) G C h rfl (by decide) (fun _ _ _ => rfl) (lk C q1067) (fun _ z => z) dX7_raid_138 hf (fun r28 hf => ?_)
                        refine lv_iload hx hb dX7_raid_141 (lv_at hl 4 rfl) ?_
                        refine x_iald G C h dX7_raid_143 hf (fun x29 hf => ?_)
                        refine lv_aload_n hx hb dX7_raid_144 rfl (lv_at hl 0 rfl) ?_
                        refine x_gR (q := (RX7, TX7, 50)) (j := 11) G C h rfl (by decide) (fun _ _ _ => rfl) (lk C q1067) (fun _ z => z) dX7_raid_145 hf (fun r30 hf => ?_)
                        refine lv_iload_n hx hb dX7_raid_148 rfl (lv_at hl 3 rfl) ?_
                        refine x_iald G C h dX7_raid_149 hf (fun x31 hf => ?_)
                        refine lv_icmp_lt (tgt := 157) hx hb dX7_raid_150 (by decide) (fun hc => ?_) (fun hc => ?_)
                        · have hf := hf_t hc hf
                          exact hj157 () hf _ _ _ h (lv_sub hl [0, 1, 2, 3, 4] rfl)
                        · have hf := hf_f hc hf
                          exact hj153 () hf _ _ _ h (lv_sub hl [0, 1, 2, 3, 4] rfl)
            intro j73 hj73 hf
            refine lv_icmp_ge (tgt := 65) hx hb dX7_raid_58 (by decide) (fun hc => ?_) (fun hc => ?_)
            · have hf := hf_t hc hf
              refine lv_aload_n hx hb dX7_raid_65 rfl (lv_at hl 0 rfl) ?_
              refine x_gR (q := (RX7, TX7, 50)) (j := 4) G C h rfl (by decide) (fun _ _ _ => rfl) (lk C q1060) (fun _ z => z) dX7_raid_66 hf (fun r11 hf => ?_)
              refine lv_iload_n hx hb dX7_raid_69 rfl (lv_at hl 2 rfl) ?_
              refine x_iald G C h dX7_raid_70 hf (fun x12 hf => ?_)
              refine lv_iconst (v := 5) hx hb dX7_raid_71 (by decide) ?_
              refine lv_isub hx hb dX7_raid_72 ?_
              exact hj73 _ hf _ _ _ h (lv_sub hl [0, 1, 2] rfl)
            · have hf := hf_f hc hf
              refine lv_iconst (v := 0) hx hb dX7_raid_61 (by decide) ?_
              refine lv_goto (tgt := 73) hx hb dX7_raid_62 (by decide) ?_
              exact hj73 _ hf _ _ _ h (lv_sub hl [0, 1, 2] rfl)
          · have hf := hf_t hc hf
            cases hf
            refine W.widen (k := 0) (n := 0) (Nat.le_of_ble_eq_true rfl) (Nat.le_of_ble_eq_true rfl) ?_
            exact x_vret C h dX7_raid_45

theorem dX7_goHour_0 : decode cX7_goHour 0 = .ok (.iconst 0, 1) := by decide +kernel
theorem dX7_goHour_1 : decode cX7_goHour 1 = .ok (.istore_n 3, 1) := by decide +kernel
theorem dX7_goHour_2 : decode cX7_goHour 2 = .ok (.iload_n 3, 1) := by decide +kernel
theorem dX7_goHour_3 : decode cX7_goHour 3 = .ok (.aload_n 0, 1) := by decide +kernel
theorem dX7_goHour_4 : decode cX7_goHour 4 = .ok (.getfield 110, 3) := by decide +kernel
theorem dX7_goHour_7 : decode cX7_goHour 7 = .ok (.if_icmp .ge 52, 3) := by decide +kernel
theorem dX7_goHour_10 : decode cX7_goHour 10 = .ok (.aload_n 0, 1) := by decide +kernel
theorem dX7_goHour_11 : decode cX7_goHour 11 = .ok (.getfield 22, 3) := by decide +kernel
theorem dX7_goHour_14 : decode cX7_goHour 14 = .ok (.iload_n 3, 1) := by decide +kernel
theorem dX7_goHour_15 : decode cX7_goHour 15 = .ok (.aload_n 0, 1) := by decide +kernel
theorem dX7_goHour_16 : decode cX7_goHour 16 = .ok (.iload_n 3, 1) := by decide +kernel
theorem dX7_goHour_17 : decode cX7_goHour 17 = .ok (.iload_n 1, 1) := by decide +kernel
theorem dX7_goHour_18 : decode cX7_goHour 18 = .ok (.invokevirtual 148, 3) := by decide +kernel
theorem dX7_goHour_21 : decode cX7_goHour 21 = .ok (.iastore, 1) := by decide +kernel
theorem dX7_goHour_22 : decode cX7_goHour 22 = .ok (.aload_n 0, 1) := by decide +kernel
theorem dX7_goHour_23 : decode cX7_goHour 23 = .ok (.getfield 22, 3) := by decide +kernel
theorem dX7_goHour_26 : decode cX7_goHour 26 = .ok (.iload_n 3, 1) := by decide +kernel
theorem dX7_goHour_27 : decode cX7_goHour 27 = .ok (.iload_n 2, 1) := by decide +kernel
theorem dX7_goHour_28 : decode cX7_goHour 28 = .ok (.ifCond .eq 18, 3) := by decide +kernel
theorem dX7_goHour_31 : decode cX7_goHour 31 = .ok (.aload_n 0, 1) := by decide +kernel
theorem dX7_goHour_32 : decode cX7_goHour 32 = .ok (.getfield 22, 3) := by decide +kernel
theorem dX7_goHour_35 : decode cX7_goHour 35 = .ok (.iload_n 3, 1) := by decide +kernel
theorem dX7_goHour_36 : decode cX7_goHour 36 = .ok (.iaload, 1) := by decide +kernel
theorem dX7_goHour_37 : decode cX7_goHour 37 = .ok (.bipush 10, 2) := by decide +kernel
theorem dX7_goHour_39 : decode cX7_goHour 39 = .ok (.if_icmp .lt 7, 3) := by decide +kernel
theorem dX7_goHour_42 : decode cX7_goHour 42 = .ok (.iconst 0, 1) := by decide +kernel
theorem dX7_goHour_43 : decode cX7_goHour 43 = .ok (.goto 9, 3) := by decide +kernel
theorem dX7_goHour_46 : decode cX7_goHour 46 = .ok (.aload_n 0, 1) := by decide +kernel
theorem dX7_goHour_47 : decode cX7_goHour 47 = .ok (.getfield 22, 3) := by decide +kernel
theorem dX7_goHour_50 : decode cX7_goHour 50 = .ok (.iload_n 3, 1) := by decide +kernel
theorem dX7_goHour_51 : decode cX7_goHour 51 = .ok (.iaload, 1) := by decide +kernel
theorem dX7_goHour_52 : decode cX7_goHour 52 = .ok (.iastore, 1) := by decide +kernel
theorem dX7_goHour_53 : decode cX7_goHour 53 = .ok (.iinc 3 1, 3) := by decide +kernel
theorem dX7_goHour_56 : decode cX7_goHour 56 = .ok (.goto (-54), 3) := by decide +kernel
theorem dX7_goHour_59 : decode cX7_goHour 59 = .ok (.iconst 0, 1) := by decide +kernel
theorem dX7_goHour_60 : decode cX7_goHour 60 = .ok (.istore_n 3, 1) := by decide +kernel
theorem dX7_goHour_61 : decode cX7_goHour 61 = .ok (.iload_n 3, 1) := by decide +kernel
theorem dX7_goHour_62 : decode cX7_goHour 62 = .ok (.aload_n 0, 1) := by decide +kernel
theorem dX7_goHour_63 : decode cX7_goHour 63 = .ok (.getfield 110, 3) := by decide +kernel
theorem dX7_goHour_66 : decode cX7_goHour 66 = .ok (.if_icmp .ge 19, 3) := by decide +kernel
theorem dX7_goHour_69 : decode cX7_goHour 69 = .ok (.aload_n 0, 1) := by decide +kernel
theorem dX7_goHour_70 : decode cX7_goHour 70 = .ok (.getfield 16, 3) := by decide +kernel
theorem dX7_goHour_73 : decode cX7_goHour 73 = .ok (.bipush 12, 2) := by decide +kernel
theorem dX7_goHour_75 : decode cX7_goHour 75 = .ok (.iload_n 3, 1) := by decide +kernel
theorem dX7_goHour_76 : decode cX7_goHour 76 = .ok (.iadd, 1) := by decide +kernel
theorem dX7_goHour_77 : decode cX7_goHour 77 = .ok (.iconst 0, 1) := by decide +kernel
theorem dX7_goHour_78 : decode cX7_goHour 78 = .ok (.iastore, 1) := by decide +kernel
theorem dX7_goHour_79 : decode cX7_goHour 79 = .ok (.iinc 3 1, 3) := by decide +kernel
theorem dX7_goHour_82 : decode cX7_goHour 82 = .ok (.goto (-21), 3) := by decide +kernel
theorem dX7_goHour_85 : decode cX7_goHour 85 = .ok (.iconst 0, 1) := by decide +kernel
theorem dX7_goHour_86 : decode cX7_goHour 86 = .ok (.istore_n 3, 1) := by decide +kernel
theorem dX7_goHour_87 : decode cX7_goHour 87 = .ok (.iload_n 3, 1) := by decide +kernel
theorem dX7_goHour_88 : decode cX7_goHour 88 = .ok (.aload_n 0, 1) := by decide +kernel
theorem dX7_goHour_89 : decode cX7_goHour 89 = .ok (.getfield 110, 3) := by decide +kernel
theorem dX7_goHour_92 : decode cX7_goHour 92 = .ok (.if_icmp .ge 198, 3) := by decide +kernel
theorem dX7_goHour_95 : decode cX7_goHour 95 = .ok (.aload_n 0, 1) := by decide +kernel
theorem dX7_goHour_96 : decode cX7_goHour 96 = .ok (.getfield 22, 3) := by decide +kernel
theorem dX7_goHour_99 : decode cX7_goHour 99 = .ok (.iload_n 3, 1) := by decide +kernel
theorem dX7_goHour_100 : decode cX7_goHour 100 = .ok (.iaload, 1) := by decide +kernel
theorem dX7_goHour_101 : decode cX7_goHour 101 = .ok (.bipush 10, 2) := by decide +kernel
theorem dX7_goHour_103 : decode cX7_goHour 103 = .ok (.if_icmp .lt 20, 3) := by decide +kernel
theorem dX7_goHour_106 : decode cX7_goHour 106 = .ok (.aload_n 0, 1) := by decide +kernel
theorem dX7_goHour_107 : decode cX7_goHour 107 = .ok (.iload_n 3, 1) := by decide +kernel
theorem dX7_goHour_108 : decode cX7_goHour 108 = .ok (.aload_n 0, 1) := by decide +kernel
theorem dX7_goHour_109 : decode cX7_goHour 109 = .ok (.getfield 22, 3) := by decide +kernel
theorem dX7_goHour_112 : decode cX7_goHour 112 = .ok (.iload_n 3, 1) := by decide +kernel
theorem dX7_goHour_113 : decode cX7_goHour 113 = .ok (.iaload, 1) := by decide +kernel
theorem dX7_goHour_114 : decode cX7_goHour 114 = .ok (.bipush 10, 2) := by decide +kernel
theorem dX7_goHour_116 : decode cX7_goHour 116 = .ok (.isub, 1) := by decide +kernel
theorem dX7_goHour_117 : decode cX7_goHour 117 = .ok (.invokevirtual 151, 3) := by decide +kernel
theorem dX7_goHour_120 : decode cX7_goHour 120 = .ok (.goto 164, 3) := by decide +kernel
theorem dX7_goHour_123 : decode cX7_goHour 123 = .ok (.aload_n 0, 1) := by decide +kernel
theorem dX7_goHour_124 : decode cX7_goHour 124 = .ok (.getfield 22, 3) := by decide +kernel
theorem dX7_goHour_127 : decode cX7_goHour 127 = .ok (.iload_n 3, 1) := by decide +kernel
theorem dX7_goHour_128 : decode cX7_goHour 128 = .ok (.iaload, 1) := by decide +kernel
theorem dX7_goHour_129 : decode cX7_goHour 129 = .ok (.iconst 1, 1) := by decide +kernel
theorem dX7_goHour_130 : decode cX7_goHour 130 = .ok (.if_icmp .ne 36, 3) := by decide +kernel
theorem dX7_goHour_133 : decode cX7_goHour 133 = .ok (.aload_n 0, 1) := by decide +kernel
theorem dX7_goHour_134 : decode cX7_goHour 134 = .ok (.getfield 16, 3) := by decide +kernel
theorem dX7_goHour_137 : decode cX7_goHour 137 = .ok (.iload_n 3, 1) := by decide +kernel
theorem dX7_goHour_138 : decode cX7_goHour 138 = .ok (.aload_n 0, 1) := by decide +kernel
theorem dX7_goHour_139 : decode cX7_goHour 139 = .ok (.getfield 16, 3) := by decide +kernel
theorem dX7_goHour_142 : decode cX7_goHour 142 = .ok (.iload_n 3, 1) := by decide +kernel
theorem dX7_goHour_143 : decode cX7_goHour 143 = .ok (.iaload, 1) := by decide +kernel
theorem dX7_goHour_144 : decode cX7_goHour 144 = .ok (.bipush 96, 2) := by decide +kernel
theorem dX7_goHour_146 : decode cX7_goHour 146 = .ok (.if_icmp .le 8, 3) := by decide +kernel
theorem dX7_goHour_149 : decode cX7_goHour 149 = .ok (.bipush 99, 2) := by decide +kernel
theorem dX7_goHour_151 : decode cX7_goHour 151 = .ok (.goto 11, 3) := by decide +kernel
theorem dX7_goHour_154 : decode cX7_goHour 154 = .ok (.aload_n 0, 1) := by decide +kernel
theorem dX7_goHour_155 : decode cX7_goHour 155 = .ok (.getfield 16, 3) := by decide +kernel
theorem dX7_goHour_158 : decode cX7_goHour 158 = .ok (.iload_n 3, 1) := by decide +kernel
theorem dX7_goHour_159 : decode cX7_goHour 159 = .ok (.iaload, 1) := by decide +kernel
theorem dX7_goHour_160 : decode cX7_goHour 160 = .ok (.iconst 3, 1) := by decide +kernel
theorem dX7_goHour_161 : decode cX7_goHour 161 = .ok (.iadd, 1) := by decide +kernel
theorem dX7_goHour_162 : decode cX7_goHour 162 = .ok (.iastore, 1) := by decide +kernel
theorem dX7_goHour_163 : decode cX7_goHour 163 = .ok (.goto 121, 3) := by decide +kernel
theorem dX7_goHour_166 : decode cX7_goHour 166 = .ok (.aload_n 0, 1) := by decide +kernel
theorem dX7_goHour_167 : decode cX7_goHour 167 = .ok (.getfield 22, 3) := by decide +kernel
theorem dX7_goHour_170 : decode cX7_goHour 170 = .ok (.iload_n 3, 1) := by decide +kernel
theorem dX7_goHour_171 : decode cX7_goHour 171 = .ok (.iaload, 1) := by decide +kernel
theorem dX7_goHour_172 : decode cX7_goHour 172 = .ok (.iconst 3, 1) := by decide +kernel
theorem dX7_goHour_173 : decode cX7_goHour 173 = .ok (.if_icmp .ne 45, 3) := by decide +kernel
theorem dX7_goHour_176 : decode cX7_goHour 176 = .ok (.aload_n 0, 1) := by decide +kernel
theorem dX7_goHour_177 : decode cX7_goHour 177 = .ok (.getfield 16, 3) := by decide +kernel
theorem dX7_goHour_180 : decode cX7_goHour 180 = .ok (.bipush 6, 2) := by decide +kernel
theorem dX7_goHour_182 : decode cX7_goHour 182 = .ok (.iload_n 3, 1) := by decide +kernel
theorem dX7_goHour_183 : decode cX7_goHour 183 = .ok (.iadd, 1) := by decide +kernel
theorem dX7_goHour_184 : decode cX7_goHour 184 = .ok (.aload_n 0, 1) := by decide +kernel
theorem dX7_goHour_185 : decode cX7_goHour 185 = .ok (.getfield 16, 3) := by decide +kernel
theorem dX7_goHour_188 : decode cX7_goHour 188 = .ok (.bipush 6, 2) := by decide +kernel
theorem dX7_goHour_190 : decode cX7_goHour 190 = .ok (.iload_n 3, 1) := by decide +kernel
theorem dX7_goHour_191 : decode cX7_goHour 191 = .ok (.iadd, 1) := by decide +kernel
theorem dX7_goHour_192 : decode cX7_goHour 192 = .ok (.iaload, 1) := by decide +kernel
theorem dX7_goHour_193 : decode cX7_goHour 193 = .ok (.bipush 6, 2) := by decide +kernel
theorem dX7_goHour_195 : decode cX7_goHour 195 = .ok (.if_icmp .ge 7, 3) := by decide +kernel
theorem dX7_goHour_198 : decode cX7_goHour 198 = .ok (.iconst 0, 1) := by decide +kernel
theorem dX7_goHour_199 : decode cX7_goHour 199 = .ok (.goto 15, 3) := by decide +kernel
theorem dX7_goHour_202 : decode cX7_goHour 202 = .ok (.aload_n 0, 1) := by decide +kernel
theorem dX7_goHour_203 : decode cX7_goHour 203 = .ok (.getfield 16, 3) := by decide +kernel
theorem dX7_goHour_206 : decode cX7_goHour 206 = .ok (.bipush 6, 2) := by decide +kernel
theorem dX7_goHour_208 : decode cX7_goHour 208 = .ok (.iload_n 3, 1) := by decide +kernel
theorem dX7_goHour_209 : decode cX7_goHour 209 = .ok (.iadd, 1) := by decide +kernel
theorem dX7_goHour_210 : decode cX7_goHour 210 = .ok (.iaload, 1) := by decide +kernel
theorem dX7_goHour_211 : decode cX7_goHour 211 = .ok (.bipush 6, 2) := by decide +kernel
theorem dX7_goHour_213 : decode cX7_goHour 213 = .ok (.isub, 1) := by decide +kernel
theorem dX7_goHour_214 : decode cX7_goHour 214 = .ok (.iastore, 1) := by decide +kernel
theorem dX7_goHour_215 : decode cX7_goHour 215 = .ok (.goto 69, 3) := by decide +kernel
theorem dX7_goHour_218 : decode cX7_goHour 218 = .ok (.aload_n 0, 1) := by decide +kernel
theorem dX7_goHour_219 : decode cX7_goHour 219 = .ok (.getfield 22, 3) := by decide +kernel
theorem dX7_goHour_222 : decode cX7_goHour 222 = .ok (.iload_n 3, 1) := by decide +kernel
theorem dX7_goHour_223 : decode cX7_goHour 223 = .ok (.iaload, 1) := by decide +kernel
theorem dX7_goHour_224 : decode cX7_goHour 224 = .ok (.iconst 2, 1) := by decide +kernel
theorem dX7_goHour_225 : decode cX7_goHour 225 = .ok (.if_icmp .ne 59, 3) := by decide +kernel
theorem dX7_goHour_228 : decode cX7_goHour 228 = .ok (.iconst 0, 1) := by decide +kernel
theorem dX7_goHour_229 : decode cX7_goHour 229 = .ok (.istore 4, 2) := by decide +kernel
theorem dX7_goHour_231 : decode cX7_goHour 231 = .ok (.iload 4, 2) := by decide +kernel
theorem dX7_goHour_233 : decode cX7_goHour 233 = .ok (.aload_n 0, 1) := by decide +kernel
theorem dX7_goHour_234 : decode cX7_goHour 234 = .ok (.getfield 129, 3) := by decide +kernel
theorem dX7_goHour_237 : decode cX7_goHour 237 = .ok (.if_icmp .ge 20, 3) := by decide +kernel
theorem dX7_goHour_240 : decode cX7_goHour 240 = .ok (.aload_n 0, 1) := by decide +kernel
theorem dX7_goHour_241 : decode cX7_goHour 241 = .ok (.getfield 25, 3) := by decide +kernel
theorem dX7_goHour_244 : decode cX7_goHour 244 = .ok (.iload 4, 2) := by decide +kernel
theorem dX7_goHour_246 : decode cX7_goHour 246 = .ok (.iaload, 1) := by decide +kernel
theorem dX7_goHour_247 : decode cX7_goHour 247 = .ok (.iconst (-1), 1) := by decide +kernel
theorem dX7_goHour_248 : decode cX7_goHour 248 = .ok (.if_icmp .eq 9, 3) := by decide +kernel
theorem dX7_goHour_251 : decode cX7_goHour 251 = .ok (.iinc 4 1, 3) := by decide +kernel
theorem dX7_goHour_254 : decode cX7_goHour 254 = .ok (.goto (-23), 3) := by decide +kernel
theorem dX7_goHour_257 : decode cX7_goHour 257 = .ok (.iload 4, 2) := by decide +kernel
theorem dX7_goHour_259 : decode cX7_goHour 259 = .ok (.aload_n 0, 1) := by decide +kernel
theorem dX7_goHour_260 : decode cX7_goHour 260 = .ok (.getfield 129, 3) := by decide +kernel
theorem dX7_goHour_263 : decode cX7_goHour 263 = .ok (.if_icmp .ge 21, 3) := by decide +kernel
theorem dX7_goHour_266 : decode cX7_goHour 266 = .ok (.aload_n 0, 1) := by decide +kernel
theorem dX7_goHour_267 : decode cX7_goHour 267 = .ok (.iload_n 3, 1) := by decide +kernel
theorem dX7_goHour_268 : decode cX7_goHour 268 = .ok (.invokevirtual 132, 3) := by decide +kernel
theorem dX7_goHour_271 : decode cX7_goHour 271 = .ok (.bipush 12, 2) := by decide +kernel
theorem dX7_goHour_273 : decode cX7_goHour 273 = .ok (.if_icmp .ge 11, 3) := by decide +kernel
theorem dX7_goHour_276 : decode cX7_goHour 276 = .ok (.aload_n 0, 1) := by decide +kernel
theorem dX7_goHour_277 : decode cX7_goHour 277 = .ok (.getfield 25, 3) := by decide +kernel
theorem dX7_goHour_280 : decode cX7_goHour 280 = .ok (.iload 4, 2) := by decide +kernel
theorem dX7_goHour_282 : decode cX7_goHour 282 = .ok (.iload_n 3, 1) := by decide +kernel
theorem dX7_goHour_283 : decode cX7_goHour 283 = .ok (.iastore, 1) := by decide +kernel
theorem dX7_goHour_284 : decode cX7_goHour 284 = .ok (.iinc 3 1, 3) := by decide +kernel
theorem dX7_goHour_287 : decode cX7_goHour 287 = .ok (.goto (-200), 3) := by decide +kernel
theorem dX7_goHour_290 : decode cX7_goHour 290 = .ok (.iconst 0, 1) := by decide +kernel
theorem dX7_goHour_291 : decode cX7_goHour 291 = .ok (.istore_n 3, 1) := by decide +kernel
theorem dX7_goHour_292 : decode cX7_goHour 292 = .ok (.iload_n 3, 1) := by decide +kernel
theorem dX7_goHour_293 : decode cX7_goHour 293 = .ok (.aload_n 0, 1) := by decide +kernel
theorem dX7_goHour_294 : decode cX7_goHour 294 = .ok (.getfield 110, 3) := by decide +kernel
theorem dX7_goHour_297 : decode cX7_goHour 297 = .ok (.if_icmp .ge 78, 3) := by decide +kernel
theorem dX7_goHour_300 : decode cX7_goHour 300 = .ok (.aload_n 0, 1) := by decide +kernel
theorem dX7_goHour_301 : decode cX7_goHour 301 = .ok (.getfield 16, 3) := by decide +kernel
theorem dX7_goHour_304 : decode cX7_goHour 304 = .ok (.bipush 6, 2) := by decide +kernel
theorem dX7_goHour_306 : decode cX7_goHour 306 = .ok (.iload_n 3, 1) := by decide +kernel
theorem dX7_goHour_307 : decode cX7_goHour 307 = .ok (.iadd, 1) := by decide +kernel
theorem dX7_goHour_308 : decode cX7_goHour 308 = .ok (.aload_n 0, 1) := by decide +kernel
theorem dX7_goHour_309 : decode cX7_goHour 309 = .ok (.getfield 16, 3) := by decide +kernel
theorem dX7_goHour_312 : decode cX7_goHour 312 = .ok (.bipush 6, 2) := by decide +kernel
theorem dX7_goHour_314 : decode cX7_goHour 314 = .ok (.iload_n 3, 1) := by decide +kernel
theorem dX7_goHour_315 : decode cX7_goHour 315 = .ok (.iadd, 1) := by decide +kernel
theorem dX7_goHour_316 : decode cX7_goHour 316 = .ok (.iaload, 1) := by decide +kernel
theorem dX7_goHour_317 : decode cX7_goHour 317 = .ok (.bipush 30, 2) := by decide +kernel
theorem dX7_goHour_319 : decode cX7_goHour 319 = .ok (.if_icmp .ne 8, 3) := by decide +kernel
theorem dX7_goHour_322 : decode cX7_goHour 322 = .ok (.bipush 30, 2) := by decide +kernel
theorem dX7_goHour_324 : decode cX7_goHour 324 = .ok (.goto 14, 3) := by decide +kernel
theorem dX7_goHour_327 : decode cX7_goHour 327 = .ok (.aload_n 0, 1) := by decide +kernel
theorem dX7_goHour_328 : decode cX7_goHour 328 = .ok (.getfield 16, 3) := by decide +kernel
theorem dX7_goHour_331 : decode cX7_goHour 331 = .ok (.bipush 6, 2) := by decide +kernel
theorem dX7_goHour_333 : decode cX7_goHour 333 = .ok (.iload_n 3, 1) := by decide +kernel
theorem dX7_goHour_334 : decode cX7_goHour 334 = .ok (.iadd, 1) := by decide +kernel
theorem dX7_goHour_335 : decode cX7_goHour 335 = .ok (.iaload, 1) := by decide +kernel
theorem dX7_goHour_336 : decode cX7_goHour 336 = .ok (.iconst 1, 1) := by decide +kernel
theorem dX7_goHour_337 : decode cX7_goHour 337 = .ok (.iadd, 1) := by decide +kernel
theorem dX7_goHour_338 : decode cX7_goHour 338 = .ok (.iastore, 1) := by decide +kernel
theorem dX7_goHour_339 : decode cX7_goHour 339 = .ok (.aload_n 0, 1) := by decide +kernel
theorem dX7_goHour_340 : decode cX7_goHour 340 = .ok (.getfield 16, 3) := by decide +kernel
theorem dX7_goHour_343 : decode cX7_goHour 343 = .ok (.bipush 18, 2) := by decide +kernel
theorem dX7_goHour_345 : decode cX7_goHour 345 = .ok (.iload_n 3, 1) := by decide +kernel
theorem dX7_goHour_346 : decode cX7_goHour 346 = .ok (.iadd, 1) := by decide +kernel
theorem dX7_goHour_347 : decode cX7_goHour 347 = .ok (.aload_n 0, 1) := by decide +kernel
theorem dX7_goHour_348 : decode cX7_goHour 348 = .ok (.getfield 22, 3) := by decide +kernel
theorem dX7_goHour_351 : decode cX7_goHour 351 = .ok (.iload_n 3, 1) := by decide +kernel
theorem dX7_goHour_352 : decode cX7_goHour 352 = .ok (.iaload, 1) := by decide +kernel
theorem dX7_goHour_353 : decode cX7_goHour 353 = .ok (.bipush 10, 2) := by decide +kernel
theorem dX7_goHour_355 : decode cX7_goHour 355 = .ok (.if_icmp .lt 7, 3) := by decide +kernel
theorem dX7_goHour_358 : decode cX7_goHour 358 = .ok (.iconst 4, 1) := by decide +kernel
theorem dX7_goHour_359 : decode cX7_goHour 359 = .ok (.goto 9, 3) := by decide +kernel
theorem dX7_goHour_362 : decode cX7_goHour 362 = .ok (.aload_n 0, 1) := by decide +kernel
theorem dX7_goHour_363 : decode cX7_goHour 363 = .ok (.getfield 22, 3) := by decide +kernel
theorem dX7_goHour_366 : decode cX7_goHour 366 = .ok (.iload_n 3, 1) := by decide +kernel
theorem dX7_goHour_367 : decode cX7_goHour 367 = .ok (.iaload, 1) := by decide +kernel
theorem dX7_goHour_368 : decode cX7_goHour 368 = .ok (.iastore, 1) := by decide +kernel
theorem dX7_goHour_369 : decode cX7_goHour 369 = .ok (.iinc 3 1, 3) := by decide +kernel
theorem dX7_goHour_372 : decode cX7_goHour 372 = .ok (.goto (-80), 3) := by decide +kernel
theorem dX7_goHour_375 : decode cX7_goHour 375 = .ok (.return_, 1) := by decide +kernel
def lX7_goHour_2 (a0 : Nat) (a1 : Int32) (a2 : Int32) (σ1 : St) (x2 : Int32) : Option ((St × Int32) ⊕ (St)) :=
  o_gI σ1 a0 5 1 fun x3 =>
  if x3 ≤ x2 then
    some (.inr σ1)
  else
  o_gR σ1 a0 5 6 fun r4 =>
  o_k σ1 a0 5 <|
  (fX7_actOf σ1 a0 x2 a1).bind fun x5 =>
  o_sI σ1 r4 0 x2 x5 fun σ6 =>
  o_gR σ6 a0 5 6 fun r7 =>
  jn (fun (x12 : Int32) =>
    o_sI σ6 r7 0 x2 x12 fun σ13 =>
    some (.inl (σ13, x2 + 1))) fun j52 =>
  jn (fun (_ : Unit) =>
    o_gR σ6 a0 5 6 fun r10 =>
    o_aI σ6 r10 0 x2 fun x11 =>
    j52 x11) fun j46 =>
  if a2 = 0 then
    j46 ()
  else
  o_gR σ6 a0 5 6 fun r8 =>
  o_aI σ6 r8 0 x2 fun x9 =>
  if x9 < 10 then
    j46 ()
  else
  j52 0

def lX7_goHour_61 (a0 : Nat) (σ15 : St) (x16 : Int32) : Option ((St × Int32) ⊕ (St)) :=
  o_gI σ15 a0 5 1 fun x17 =>
  if x17 ≤ x16 then
    some (.inr σ15)
  else
  o_gR σ15 a0 5 4 fun r18 =>
  o_sI σ15 r18 0 (12 + x16) 0 fun σ19 =>
  some (.inl (σ19, x16 + 1))

def lX7_goHour_231 (σ21 : St) (a0 : Nat) (x32 : Int32) : Option ((Int32) ⊕ (Int32)) :=
  o_gI σ21 a0 5 7 fun x33 =>
  if x33 ≤ x32 then
    some (.inr x32)
  else
  o_gR σ21 a0 5 8 fun r34 =>
  o_aI σ21 r34 0 x32 fun x35 =>
  if x35 = ((-1)) then
    some (.inr x32)
  else
  some (.inl (x32 + 1))

def lX7_goHour_87 (a0 : Nat) (σ21 : St) (x22 : Int32) : Option ((St × Int32) ⊕ (St)) :=
  o_gI σ21 a0 5 1 fun x23 =>
  if x23 ≤ x22 then
    some (.inr σ21)
  else
  o_gR σ21 a0 5 6 fun r24 =>
  o_aI σ21 r24 0 x22 fun x25 =>
  jn (fun (σ58 : St) =>
    some (.inl (σ58, x22 + 1))) fun j284 =>
  if x25 < 10 then
    o_gR σ21 a0 5 6 fun r26 =>
    o_aI σ21 r26 0 x22 fun x27 =>
    if x27 = 1 then
      o_gR σ21 a0 5 4 fun r48 =>
      o_gR σ21 a0 5 4 fun r49 =>
      o_aI σ21 r49 0 x22 fun x50 =>
      jn (fun (x53 : Int32) =>
        o_sI σ21 r48 0 x22 x53 fun σ54 =>
        j284 σ54) fun j162 =>
      if x50 ≤ 96 then
        o_gR σ21 a0 5 4 fun r51 =>
        o_aI σ21 r51 0 x22 fun x52 =>
        j162 (x52 + 3)
      else
      j162 99
    else
    o_gR σ21 a0 5 6 fun r28 =>
    o_aI σ21 r28 0 x22 fun x29 =>
    if x29 = 3 then
      o_gR σ21 a0 5 4 fun r41 =>
      o_gR σ21 a0 5 4 fun r42 =>
      o_aI σ21 r42 0 (6 + x22) fun x43 =>
      jn (fun (x46 : Int32) =>
        o_sI σ21 r41 0 (6 + x22) x46 fun σ47 =>
        j284 σ47) fun j214 =>
      if 6 ≤ x43 then
        o_gR σ21 a0 5 4 fun r44 =>
        o_aI σ21 r44 0 (6 + x22) fun x45 =>
        j214 (x45 - 6)
      else
      j214 0
    else
    o_gR σ21 a0 5 6 fun r30 =>
    o_aI σ21 r30 0 x22 fun x31 =>
    if x31 = 2 then
      (loopF fuel (fun z => lX7_goHour_231 σ21 a0 z) 0).bind <| fun x36 =>
      o_gI σ21 a0 5 7 fun x37 =>
      if x37 ≤ x36 then
        j284 σ21
      else
      o_k σ21 a0 5 <|
      (fX7_thingsOf σ21 a0 x22).bind fun x38 =>
      if 12 ≤ x38 then
        j284 σ21
      else
      o_gR σ21 a0 5 8 fun r39 =>
      o_sI σ21 r39 0 x36 x22 fun σ40 =>
      j284 σ40
    else
    j284 σ21
  else
  o_gR σ21 a0 5 6 fun r55 =>
  o_aI σ21 r55 0 x22 fun x56 =>
  o_k σ21 a0 5 <|
  (fX7_raid σ21 a0 x22 (x56 - 10)).bind fun σ57 =>
  j284 σ57

def lX7_goHour_292 (a0 : Nat) (σ60 : St) (x61 : Int32) : Option ((St × Int32) ⊕ (St)) :=
  o_gI σ60 a0 5 1 fun x62 =>
  if x62 ≤ x61 then
    some (.inr σ60)
  else
  o_gR σ60 a0 5 4 fun r63 =>
  o_gR σ60 a0 5 4 fun r64 =>
  o_aI σ60 r64 0 (6 + x61) fun x65 =>
  jn (fun (x68 : Int32) =>
    o_sI σ60 r63 0 (6 + x61) x68 fun σ69 =>
    o_gR σ69 a0 5 4 fun r70 =>
    o_gR σ69 a0 5 6 fun r71 =>
    o_aI σ69 r71 0 x61 fun x72 =>
    jn (fun (x75 : Int32) =>
      o_sI σ69 r70 0 (18 + x61) x75 fun σ76 =>
      some (.inl (σ76, x61 + 1))) fun j368 =>
    if x72 < 10 then
      o_gR σ69 a0 5 6 fun r73 =>
      o_aI σ69 r73 0 x61 fun x74 =>
      j368 x74
    else
    j368 4) fun j338 =>
  if x65 = 30 then
    j338 30
  else
  o_gR σ60 a0 5 4 fun r66 =>
  o_aI σ60 r66 0 (6 + x61) fun x67 =>
  j338 (x67 + 1)

def fX7_goHour (σ : St) (a0 : Nat) (a1 : Int32) (a2 : Int32) : Option (St) :=
  (loopF fuel (fun z => lX7_goHour_2 a0 a1 a2 z.1 z.2) (σ, 0)).bind <| fun σ14 =>
  (loopF fuel (fun z => lX7_goHour_61 a0 z.1 z.2) (σ14, 0)).bind <| fun σ20 =>
  (loopF fuel (fun z => lX7_goHour_87 a0 z.1 z.2) (σ20, 0)).bind <| fun σ59 =>
  (loopF fuel (fun z => lX7_goHour_292 a0 z.1 z.2) (σ59, 0)).bind <| fun σ77 =>
  some σ77

set_option maxHeartbeats 4000000 in
theorem wX7_goHour {l : Launch} {s0 : State} {A0 : Array Value} {D : va_G} {ac : Nat → ClassId} (G : Gl s0 A0 D ac) {σ : St} {a0 : Nat} {a1 : Int32} {a2 : Int32} {σ' : St} (hf : fX7_goHour σ a0 a1 a2 = some (σ')) : Met l yX7_goHour (ws_ yX7_goHour cX7_goHour 5 none) ({ frames := 4, cells := 0, slots := 0, locals := 98 } : Room) (Pn s0 D ac [.ref a0, .int a1, .int a2] σ) (Qn s0 D ac none σ') 0 0 (fr s0) := by
  refine x_met (by decide) (Nat.le_of_ble_eq_true rfl) ?_
  intro p e s m args below meth c ls C hnm h hl
  have C : Cx s0 p s m args meth c cX7_goHour 5 "HutForShowModel" none := C
  have hx := C.1
  have hb := C.2.1
  have hl : lv_has ls 5 [(0, .ref a0), (1, .int a1), (2, .int a2)] := hl
  unfold fX7_goHour at hf
  refine lv_iconst (v := 0) hx hb dX7_goHour_0 (by decide) ?_
  refine lv_istore_n (lv' := [(3, .int 0), (0, .ref a0), (1, .int a1), (2, .int a2)]) hx hb dX7_goHour_1 rfl hl (by decide) rfl (fun ls hl => ?_)
  obtain ⟨e2, hL, hK⟩ := hf_b hf
  have hE2_0 : ∀ (σ14 : St), σ14 = e2 → ∀  (H : Heap) (locs : List Loc) (ls : Array Slot), Hs s0 D ac σ14 H locs → lv_has ls 5 [(0, .ref a0), (1, .int a1), (2, .int a2)] → W p l e ({ frames := 4, cells := 0, slots := 0, locals := 98 } : Room) s m args below meth c H locs 0 0 (MQ below (Qn s0 D ac none σ') args s 0 0 (fr s0)) (F0 m 59 ls []) := by
    intro σ14 he H locs ls h hl
    subst he
    have hf := hK
    refine lv_iconst (v := 0) hx hb dX7_goHour_59 (by decide) ?_
    refine lv_istore_n (lv' := [(3, .int 0), (0, .ref a0), (1, .int a1), (2, .int a2)]) hx hb dX7_goHour_60 rfl hl (by decide) rfl (fun ls hl => ?_)
    obtain ⟨e61, hL, hK⟩ := hf_b hf
    have hE61_0 : ∀ (σ20 : St), σ20 = e61 → ∀  (H : Heap) (locs : List Loc) (ls : Array Slot), Hs s0 D ac σ20 H locs → lv_has ls 5 [(0, .ref a0), (1, .int a1), (2, .int a2)] → W p l e ({ frames := 4, cells := 0, slots := 0, locals := 98 } : Room) s m args below meth c H locs 0 0 (MQ below (Qn s0 D ac none σ') args s 0 0 (fr s0)) (F0 m 85 ls []) := by
      intro σ20 he H locs ls h hl
      subst he
      have hf := hK
      refine lv_iconst (v := 0) hx hb dX7_goHour_85 (by decide) ?_
      refine lv_istore_n (lv' := [(3, .int 0), (0, .ref a0), (1, .int a1), (2, .int a2)]) hx hb dX7_goHour_86 rfl hl (by decide) rfl (fun ls hl => ?_)
      obtain ⟨e87, hL, hK⟩ := hf_b hf
      have hE87_0 : ∀ (σ59 : St), σ59 = e87 → ∀  (H : Heap) (locs : List Loc) (ls : Array Slot), Hs s0 D ac σ59 H locs → lv_has ls 5 [(0, .ref a0), (1, .int a1), (2, .int a2)] → W p l e ({ frames := 4, cells := 0, slots := 0, locals := 98 } : Room) s m args below meth c H locs 0 0 (MQ below (Qn s0 D ac none σ') args s 0 0 (fr s0)) (F0 m 290 ls []) := by
        intro σ59 he H locs ls h hl
        subst he
        have hf := hK
        refine lv_iconst (v := 0) hx hb dX7_goHour_290 (by decide) ?_
        refine lv_istore_n (lv' := [(3, .int 0), (0, .ref a0), (1, .int a1), (2, .int a2)]) hx hb dX7_goHour_291 rfl hl (by decide) rfl (fun ls hl => ?_)
        obtain ⟨e292, hL, hK⟩ := hf_b hf
        have hE292_0 : ∀ (σ77 : St), σ77 = e292 → ∀  (H : Heap) (locs : List Loc) (ls : Array Slot), Hs s0 D ac σ77 H locs → lv_has ls 5 [(0, .ref a0), (1, .int a1), (2, .int a2)] → W p l e ({ frames := 4, cells := 0, slots := 0, locals := 98 } : Room) s m args below meth c H locs 0 0 (MQ below (Qn s0 D ac none σ') args s 0 0 (fr s0)) (F0 m 375 ls []) := by
          intro σ77 he H locs ls h hl
          subst he
          have hf := hK
          cases hf
          refine W.widen (k := 0) (n := 0) (Nat.le_of_ble_eq_true rfl) (Nat.le_of_ble_eq_true rfl) ?_
          exact x_vret C h dX7_goHour_375
        refine loopF_ind (P := fun z => ∀ (H : Heap) (locs : List Loc) (ls : Array Slot), Hs s0 D ac (z.1) H locs → lv_has ls 5 [(0, .ref a0), (1, .int a1), (2, .int a2), (3, .int z.2)] → W p l e ({ frames := 4, cells := 0, slots := 0, locals := 98 } : Room) s m args below meth c H locs 0 0 (MQ below (Qn s0 D ac none σ') args s 0 0 (fr s0)) (F0 m 292 ls [])) ?_ _ _ hL _ _ _ h (lv_sub hl [1, 2, 3, 0] rfl)
        clear hK hL h hl hf
        intro z o hf ih hX H locs ls h hl
        obtain ⟨σ60, x61⟩ := z
        have h : Hs s0 D ac σ60 H locs := h
        have hl : lv_has ls 5 [(0, .ref a0), (1, .int a1), (2, .int a2), (3, .int x61)] := hl
        have hf : lX7_goHour_292 a0 σ60 x61 = some o := hf
        unfold lX7_goHour_292 at hf
        refine lv_iload_n hx hb dX7_goHour_292 rfl (lv_at hl 3 rfl) ?_
        refine lv_aload_n hx hb dX7_goHour_293 rfl (lv_at hl 0 rfl) ?_
        refine x_gI (q := (RX7, TX7, 50)) (j := 1) G C h rfl (by decide) (fun _ _ _ => rfl) (lk C q1057) (fun _ z => z) dX7_goHour_294 hf (fun x62 hf => ?_)
        refine lv_icmp_ge (tgt := 375) hx hb dX7_goHour_297 (by decide) (fun hc => ?_) (fun hc => ?_)
        · have hf := hf_t hc hf
          cases hf
          exact hE292_0 _ (hX _ rfl) _ _ _ h (lv_sub hl [0, 1, 2] rfl)
        · have hf := hf_f hc hf
          refine lv_aload_n hx hb dX7_goHour_300 rfl (lv_at hl 0 rfl) ?_
          refine x_gR (q := (RX7, TX7, 50)) (j := 4) G C h rfl (by decide) (fun _ _ _ => rfl) (lk C q1060) (fun _ z => z) dX7_goHour_301 hf (fun r63 hf => ?_)
          refine lv_bipush (v := 6) hx hb dX7_goHour_304 (by decide) ?_
          refine lv_iload_n hx hb dX7_goHour_306 rfl (lv_at hl 3 rfl) ?_
          refine lv_iadd hx hb dX7_goHour_307 ?_
          refine lv_aload_n hx hb dX7_goHour_308 rfl (lv_at hl 0 rfl) ?_
          refine x_gR (q := (RX7, TX7, 50)) (j := 4) G C h rfl (by decide) (fun _ _ _ => rfl) (lk C q1060) (fun _ z => z) dX7_goHour_309 hf (fun r64 hf => ?_)
          refine lv_bipush (v := 6) hx hb dX7_goHour_312 (by decide) ?_
          refine lv_iload_n hx hb dX7_goHour_314 rfl (lv_at hl 3 rfl) ?_
          refine lv_iadd hx hb dX7_goHour_315 ?_
          refine x_iald G C h dX7_goHour_316 hf (fun x65 hf => ?_)
          refine lv_bipush (v := 30) hx hb dX7_goHour_317 (by decide) ?_
          refine jn_of (P := fun j => ∀ (x68 : Int32), j x68 = some o → ∀ (H : Heap) (locs : List Loc) (ls : Array Slot), Hs s0 D ac σ60 H locs → lv_has ls 5 [(0, .ref a0), (1, .int a1), (2, .int a2), (3, .int x61)] → W p l e ({ frames := 4, cells := 0, slots := 0, locals := 98 } : Room) s m args below meth c H locs 0 0 (MQ below (Qn s0 D ac none σ') args s 0 0 (fr s0)) (F0 m 338 ls [.int x68, .int (6 + x61), .ref r63])) hf ?_ ?_
          · intro x68 hf H locs ls h hl
            refine x_iast G C h dX7_goHour_338 hf (fun σ69 H locs h hf => ?_)
            refine lv_aload_n hx hb dX7_goHour_339 rfl (lv_at hl 0 rfl) ?_
            refine x_gR (q := (RX7, TX7, 50)) (j := 4) G C h rfl (by decide) (fun _ _ _ => rfl) (lk C q1060) (fun _ z => z) dX7_goHour_340 hf (fun r70 hf => ?_)
            refine lv_bipush (v := 18) hx hb dX7_goHour_343 (by decide) ?_
            refine lv_iload_n hx hb dX7_goHour_345 rfl (lv_at hl 3 rfl) ?_
            refine lv_iadd hx hb dX7_goHour_346 ?_
            refine lv_aload_n hx hb dX7_goHour_347 rfl (lv_at hl 0 rfl) ?_
            refine x_gR (q := (RX7, TX7, 50)) (j := 6) G C h rfl (by decide) (fun _ _ _ => rfl) (lk C q1062) (fun _ z => z) dX7_goHour_348 hf (fun r71 hf => ?_)
            refine lv_iload_n hx hb dX7_goHour_351 rfl (lv_at hl 3 rfl) ?_
            refine x_iald G C h dX7_goHour_352 hf (fun x72 hf => ?_)
            refine lv_bipush (v := 10) hx hb dX7_goHour_353 (by decide) ?_
            refine jn_of (P := fun j => ∀ (x75 : Int32), j x75 = some o → ∀ (H : Heap) (locs : List Loc) (ls : Array Slot), Hs s0 D ac σ69 H locs → lv_has ls 5 [(0, .ref a0), (1, .int a1), (2, .int a2), (3, .int x61)] → W p l e ({ frames := 4, cells := 0, slots := 0, locals := 98 } : Room) s m args below meth c H locs 0 0 (MQ below (Qn s0 D ac none σ') args s 0 0 (fr s0)) (F0 m 368 ls [.int x75, .int (18 + x61), .ref r70])) hf ?_ ?_
            · intro x75 hf H locs ls h hl
              refine x_iast G C h dX7_goHour_368 hf (fun σ76 H locs h hf => ?_)
              refine lv_iinc (v := x61 + 1) (lv' := [(3, .int (x61 + 1)), (0, .ref a0), (1, .int a1), (2, .int a2)]) hx hb dX7_goHour_369 hl (k := 3) rfl rfl (by decide) rfl (fun ls hl => ?_)
              refine lv_goto (tgt := 292) hx hb dX7_goHour_372 (by decide) ?_
              cases hf
              exact ih _ rfl _ _ _ h (lv_sub hl [1, 2, 3, 0] rfl)
            intro j368 hj368 hf
            refine lv_icmp_lt (tgt := 362) hx hb dX7_goHour_355 (by decide) (fun hc => ?_) (fun hc => ?_)
            · have hf := hf_t hc hf
              refine lv_aload_n hx hb dX7_goHour_362 rfl (lv_at hl 0 rfl) ?_
              refine x_gR (q := (RX7, TX7, 50)) (j := 6) G C h rfl (by decide) (fun _ _ _ => rfl) (lk C q1062) (fun _ z => z) dX7_goHour_363 hf (fun r73 hf => ?_)
              refine lv_iload_n hx hb dX7_goHour_366 rfl (lv_at hl 3 rfl) ?_
              refine x_iald G C h dX7_goHour_367 hf (fun x74 hf => ?_)
              exact hj368 _ hf _ _ _ h (lv_sub hl [0, 1, 2, 3] rfl)
            · have hf := hf_f hc hf
              refine lv_iconst (v := 4) hx hb dX7_goHour_358 (by decide) ?_
              refine lv_goto (tgt := 368) hx hb dX7_goHour_359 (by decide) ?_
              exact hj368 _ hf _ _ _ h (lv_sub hl [0, 1, 2, 3] rfl)
          intro j338 hj338 hf
          refine lv_icmp_ne (tgt := 327) hx hb dX7_goHour_319 (by decide) (fun hc => ?_) (fun hc => ?_)
          · have hf := hf_f hc hf
            refine lv_aload_n hx hb dX7_goHour_327 rfl (lv_at hl 0 rfl) ?_
            refine x_gR (q := (RX7, TX7, 50)) (j := 4) G C h rfl (by decide) (fun _ _ _ => rfl) (lk C q1060) (fun _ z => z) dX7_goHour_328 hf (fun r66 hf => ?_)
            refine lv_bipush (v := 6) hx hb dX7_goHour_331 (by decide) ?_
            refine lv_iload_n hx hb dX7_goHour_333 rfl (lv_at hl 3 rfl) ?_
            refine lv_iadd hx hb dX7_goHour_334 ?_
            refine x_iald G C h dX7_goHour_335 hf (fun x67 hf => ?_)
            refine lv_iconst (v := 1) hx hb dX7_goHour_336 (by decide) ?_
            refine lv_iadd hx hb dX7_goHour_337 ?_
            exact hj338 _ hf _ _ _ h (lv_sub hl [0, 1, 2, 3] rfl)
          · have hf := hf_t hc hf
            refine lv_bipush (v := 30) hx hb dX7_goHour_322 (by decide) ?_
            refine lv_goto (tgt := 338) hx hb dX7_goHour_324 (by decide) ?_
            exact hj338 _ hf _ _ _ h (lv_sub hl [0, 1, 2, 3] rfl)
      refine loopF_ind (P := fun z => ∀ (H : Heap) (locs : List Loc) (ls : Array Slot), Hs s0 D ac (z.1) H locs → lv_has ls 5 [(0, .ref a0), (1, .int a1), (2, .int a2), (3, .int z.2)] → W p l e ({ frames := 4, cells := 0, slots := 0, locals := 98 } : Room) s m args below meth c H locs 0 0 (MQ below (Qn s0 D ac none σ') args s 0 0 (fr s0)) (F0 m 87 ls [])) ?_ _ _ hL _ _ _ h (lv_sub hl [1, 2, 3, 0] rfl)
      clear hK hL h hl hf
      intro z o hf ih hX H locs ls h hl
      obtain ⟨σ21, x22⟩ := z
      have h : Hs s0 D ac σ21 H locs := h
      have hl : lv_has ls 5 [(0, .ref a0), (1, .int a1), (2, .int a2), (3, .int x22)] := hl
      have hf : lX7_goHour_87 a0 σ21 x22 = some o := hf
      unfold lX7_goHour_87 at hf
      refine lv_iload_n hx hb dX7_goHour_87 rfl (lv_at hl 3 rfl) ?_
      refine lv_aload_n hx hb dX7_goHour_88 rfl (lv_at hl 0 rfl) ?_
      refine x_gI (q := (RX7, TX7, 50)) (j := 1) G C h rfl (by decide) (fun _ _ _ => rfl) (lk C q1057) (fun _ z => z) dX7_goHour_89 hf (fun x23 hf => ?_)
      refine lv_icmp_ge (tgt := 290) hx hb dX7_goHour_92 (by decide) (fun hc => ?_) (fun hc => ?_)
      · have hf := hf_t hc hf
        cases hf
        exact hE87_0 _ (hX _ rfl) _ _ _ h (lv_sub hl [0, 1, 2] rfl)
      · have hf := hf_f hc hf
        refine lv_aload_n hx hb dX7_goHour_95 rfl (lv_at hl 0 rfl) ?_
        refine x_gR (q := (RX7, TX7, 50)) (j := 6) G C h rfl (by decide) (fun _ _ _ => rfl) (lk C q1062) (fun _ z => z) dX7_goHour_96 hf (fun r24 hf => ?_)
        refine lv_iload_n hx hb dX7_goHour_99 rfl (lv_at hl 3 rfl) ?_
        refine x_iald G C h dX7_goHour_100 hf (fun x25 hf => ?_)
        refine lv_bipush (v := 10) hx hb dX7_goHour_101 (by decide) ?_
        refine jn_of (P := fun j => ∀ (σ58 : St), j σ58 = some o → ∀ (H : Heap) (locs : List Loc) (ls : Array Slot), Hs s0 D ac σ58 H locs → lv_has ls 5 [(0, .ref a0), (1, .int a1), (2, .int a2), (3, .int x22)] → W p l e ({ frames := 4, cells := 0, slots := 0, locals := 98 } : Room) s m args below meth c H locs 0 0 (MQ below (Qn s0 D ac none σ') args s 0 0 (fr s0)) (F0 m 284 ls [])) hf ?_ ?_
        · intro σ58 hf H locs ls h hl
          refine lv_iinc (v := x22 + 1) (lv' := [(3, .int (x22 + 1)), (0, .ref a0), (1, .int a1), (2, .int a2)]) hx hb dX7_goHour_284 hl (k := 3) rfl rfl (by decide) rfl (fun ls hl => ?_)
          refine lv_goto (tgt := 87) hx hb dX7_goHour_287 (by decide) ?_
          cases hf
          exact ih _ rfl _ _ _ h (lv_sub hl [1, 2, 3, 0] rfl)
        intro j284 hj284 hf
        refine lv_icmp_lt (tgt := 123) hx hb dX7_goHour_103 (by decide) (fun hc => ?_) (fun hc => ?_)
        · have hf := hf_t hc hf
          refine lv_aload_n hx hb dX7_goHour_123 rfl (lv_at hl 0 rfl) ?_
          refine x_gR (q := (RX7, TX7, 50)) (j := 6) G C h rfl (by decide) (fun _ _ _ => rfl) (lk C q1062) (fun _ z => z) dX7_goHour_124 hf (fun r26 hf => ?_)
          refine lv_iload_n hx hb dX7_goHour_127 rfl (lv_at hl 3 rfl) ?_
          refine x_iald G C h dX7_goHour_128 hf (fun x27 hf => ?_)
          refine lv_iconst (v := 1) hx hb dX7_goHour_129 (by decide) ?_
          refine lv_icmp_ne (tgt := 166) hx hb dX7_goHour_130 (by decide) (fun hc => ?_) (fun hc => ?_)
          · have hf := hf_f hc hf
            refine lv_aload_n hx hb dX7_goHour_166 rfl (lv_at hl 0 rfl) ?_
            refine x_gR (q := (RX7, TX7, 50)) (j := 6) G C h rfl (by decide) (fun _ _ _ => rfl) (lk C q1062) (fun _ z => z) dX7_goHour_167 hf (fun r28 hf => ?_)
            refine lv_iload_n hx hb dX7_goHour_170 rfl (lv_at hl 3 rfl) ?_
            refine x_iald G C h dX7_goHour_171 hf (fun x29 hf => ?_)
            refine lv_iconst (v := 3) hx hb dX7_goHour_172 (by decide) ?_
            refine lv_icmp_ne (tgt := 218) hx hb dX7_goHour_173 (by decide) (fun hc => ?_) (fun hc => ?_)
            · have hf := hf_f hc hf
              refine lv_aload_n hx hb dX7_goHour_218 rfl (lv_at hl 0 rfl) ?_
              refine x_gR (q := (RX7, TX7, 50)) (j := 6) G C h rfl (by decide) (fun _ _ _ => rfl) (lk C q1062) (fun _ z => z) dX7_goHour_219 hf (fun r30 hf => ?_)
              refine lv_iload_n hx hb dX7_goHour_222 rfl (lv_at hl 3 rfl) ?_
              refine x_iald G C h dX7_goHour_223 hf (fun x31 hf => ?_)
              refine lv_iconst (v := 2) hx hb dX7_goHour_224 (by decide) ?_
              refine lv_icmp_ne (tgt := 284) hx hb dX7_goHour_225 (by decide) (fun hc => ?_) (fun hc => ?_)
              · have hf := hf_f hc hf
                exact hj284 _ hf _ _ _ h (lv_sub hl [0, 1, 2, 3] rfl)
              · have hf := hf_t hc hf
                refine lv_iconst (v := 0) hx hb dX7_goHour_228 (by decide) ?_
                refine lv_istore (lv' := [(4, .int 0), (0, .ref a0), (1, .int a1), (2, .int a2), (3, .int x22)]) hx hb dX7_goHour_229 hl (by decide) rfl (fun ls hl => ?_)
                obtain ⟨e231, hL, hK⟩ := hf_b hf
                have hE231_0 : ∀ (x36 : Int32), x36 = e231 → ∀  (H : Heap) (locs : List Loc) (ls : Array Slot), Hs s0 D ac σ21 H locs → lv_has ls 5 [(0, .ref a0), (1, .int a1), (2, .int a2), (3, .int x22), (4, .int x36)] → W p l e ({ frames := 4, cells := 0, slots := 0, locals := 98 } : Room) s m args below meth c H locs 0 0 (MQ below (Qn s0 D ac none σ') args s 0 0 (fr s0)) (F0 m 257 ls []) := by
                  intro x36 he H locs ls h hl
                  subst he
                  have hf := hK
                  refine lv_iload hx hb dX7_goHour_257 (lv_at hl 4 rfl) ?_
                  refine lv_aload_n hx hb dX7_goHour_259 rfl (lv_at hl 0 rfl) ?_
                  refine x_gI (q := (RX7, TX7, 50)) (j := 7) G C h rfl (by decide) (fun _ _ _ => rfl) (lk C q1063) (fun _ z => z) dX7_goHour_260 hf (fun x37 hf => ?_)
                  refine lv_icmp_ge (tgt := 284) hx hb dX7_goHour_263 (by decide) (fun hc => ?_) (fun hc => ?_)
                  · have hf := hf_t hc hf
                    exact hj284 _ hf _ _ _ h (lv_sub hl [0, 1, 2, 3] rfl)
                  · have hf := hf_f hc hf
                    refine lv_aload_n hx hb dX7_goHour_266 rfl (lv_at hl 0 rfl) ?_
                    refine lv_iload_n hx hb dX7_goHour_267 rfl (lv_at hl 3 rfl) ?_
                    obtain ⟨hk, hf⟩ := k_of hf
                    obtain ⟨x38, hc, hf⟩ := hf_b hf
                    refine x_cV (q := (RX7, TX7, 50)) (rest := []) (As := [.int x22]) (n := 1) (ov := (some (.int x38))) G C h (wX7_thingsOf G hc) hk rfl (lw_V q1233 q1235 qs24 q61 q1236) (by decide +kernel) ⟨Nat.le_of_ble_eq_true rfl, Nat.le_of_ble_eq_true rfl⟩ rfl rfl rfl hl.1 rfl (Nat.le_of_ble_eq_true rfl) dX7_goHour_268 ⟨(Nat.le_of_ble_eq_true rfl), (Nat.le_of_ble_eq_true rfl)⟩ (fun H locs h => ?_)
                    refine lv_bipush (v := 12) hx hb dX7_goHour_271 (by decide) ?_
                    refine lv_icmp_ge (tgt := 284) hx hb dX7_goHour_273 (by decide) (fun hc => ?_) (fun hc => ?_)
                    · have hf := hf_t hc hf
                      exact hj284 _ hf _ _ _ h (lv_sub hl [0, 1, 2, 3] rfl)
                    · have hf := hf_f hc hf
                      refine lv_aload_n hx hb dX7_goHour_276 rfl (lv_at hl 0 rfl) ?_
                      refine x_gR (q := (RX7, TX7, 50)) (j := 8) G C h rfl (by decide) (fun _ _ _ => rfl) (lk C q1064) (fun _ z => z) dX7_goHour_277 hf (fun r39 hf => ?_)
                      refine lv_iload hx hb dX7_goHour_280 (lv_at hl 4 rfl) ?_
                      refine lv_iload_n hx hb dX7_goHour_282 rfl (lv_at hl 3 rfl) ?_
                      refine x_iast G C h dX7_goHour_283 hf (fun σ40 H locs h hf => ?_)
                      exact hj284 _ hf _ _ _ h (lv_sub hl [0, 1, 2, 3] rfl)
                refine loopF_ind (P := fun z => ∀ (H : Heap) (locs : List Loc) (ls : Array Slot), Hs s0 D ac σ21 H locs → lv_has ls 5 [(0, .ref a0), (1, .int a1), (2, .int a2), (3, .int x22), (4, .int z)] → W p l e ({ frames := 4, cells := 0, slots := 0, locals := 98 } : Room) s m args below meth c H locs 0 0 (MQ below (Qn s0 D ac none σ') args s 0 0 (fr s0)) (F0 m 231 ls [])) ?_ _ _ hL _ _ _ h (lv_sub hl [1, 2, 3, 4, 0] rfl)
                clear hK hL h hl hf
                intro z o hf ih hX H locs ls h hl
                obtain ⟨x32, rfl⟩ : ∃ y, y = z := ⟨_, rfl⟩
                have h : Hs s0 D ac σ21 H locs := h
                have hl : lv_has ls 5 [(0, .ref a0), (1, .int a1), (2, .int a2), (3, .int x22), (4, .int x32)] := hl
                have hf : lX7_goHour_231 σ21 a0 x32 = some o := hf
                unfold lX7_goHour_231 at hf
                refine lv_iload hx hb dX7_goHour_231 (lv_at hl 4 rfl) ?_
                refine lv_aload_n hx hb dX7_goHour_233 rfl (lv_at hl 0 rfl) ?_
                refine x_gI (q := (RX7, TX7, 50)) (j := 7) G C h rfl (by decide) (fun _ _ _ => rfl) (lk C q1063) (fun _ z => z) dX7_goHour_234 hf (fun x33 hf => ?_)
                refine lv_icmp_ge (tgt := 257) hx hb dX7_goHour_237 (by decide) (fun hc => ?_) (fun hc => ?_)
                · have hf := hf_t hc hf
                  cases hf
                  exact hE231_0 _ (hX _ rfl) _ _ _ h (lv_sub hl [0, 1, 2, 3, 4] rfl)
                · have hf := hf_f hc hf
                  refine lv_aload_n hx hb dX7_goHour_240 rfl (lv_at hl 0 rfl) ?_
                  refine x_gR (q := (RX7, TX7, 50)) (j := 8) G C h rfl (by decide) (fun _ _ _ => rfl) (lk C q1064) (fun _ z => z) dX7_goHour_241 hf (fun r34 hf => ?_)
                  refine lv_iload hx hb dX7_goHour_244 (lv_at hl 4 rfl) ?_
                  refine x_iald G C h dX7_goHour_246 hf (fun x35 hf => ?_)
                  refine lv_iconst (v := (-1)) hx hb dX7_goHour_247 (by decide) ?_
                  refine lv_icmp_eq (tgt := 257) hx hb dX7_goHour_248 (by decide) (fun hc => ?_) (fun hc => ?_)
                  · have hf := hf_t hc hf
                    cases hf
                    exact hE231_0 _ (hX _ rfl) _ _ _ h (lv_sub hl [0, 1, 2, 3, 4] rfl)
                  · have hf := hf_f hc hf
                    refine lv_iinc (v := x32 + 1) (lv' := [(4, .int (x32 + 1)), (0, .ref a0), (1, .int a1), (2, .int a2), (3, .int x22)]) hx hb dX7_goHour_251 hl (k := 4) rfl rfl (by decide) rfl (fun ls hl => ?_)
                    refine lv_goto (tgt := 231) hx hb dX7_goHour_254 (by decide) ?_
                    cases hf
                    exact ih _ rfl _ _ _ h (lv_sub hl [1, 2, 3, 4, 0] rfl)
            · have hf := hf_t hc hf
              refine lv_aload_n hx hb dX7_goHour_176 rfl (lv_at hl 0 rfl) ?_
              refine x_gR (q := (RX7, TX7, 50)) (j := 4) G C h rfl (by decide) (fun _ _ _ => rfl) (lk C q1060) (fun _ z => z) dX7_goHour_177 hf (fun r41 hf => ?_)
              refine lv_bipush (v := 6) hx hb dX7_goHour_180 (by decide) ?_
              refine lv_iload_n hx hb dX7_goHour_182 rfl (lv_at hl 3 rfl) ?_
              refine lv_iadd hx hb dX7_goHour_183 ?_
              refine lv_aload_n hx hb dX7_goHour_184 rfl (lv_at hl 0 rfl) ?_
              refine x_gR (q := (RX7, TX7, 50)) (j := 4) G C h rfl (by decide) (fun _ _ _ => rfl) (lk C q1060) (fun _ z => z) dX7_goHour_185 hf (fun r42 hf => ?_)
              refine lv_bipush (v := 6) hx hb dX7_goHour_188 (by decide) ?_
              refine lv_iload_n hx hb dX7_goHour_190 rfl (lv_at hl 3 rfl) ?_
              refine lv_iadd hx hb dX7_goHour_191 ?_
              refine x_iald G C h dX7_goHour_192 hf (fun x43 hf => ?_)
              refine lv_bipush (v := 6) hx hb dX7_goHour_193 (by decide) ?_
              refine jn_of (P := fun j => ∀ (x46 : Int32), j x46 = some o → ∀ (H : Heap) (locs : List Loc) (ls : Array Slot), Hs s0 D ac σ21 H locs → lv_has ls 5 [(0, .ref a0), (1, .int a1), (2, .int a2), (3, .int x22)] → W p l e ({ frames := 4, cells := 0, slots := 0, locals := 98 } : Room) s m args below meth c H locs 0 0 (MQ below (Qn s0 D ac none σ') args s 0 0 (fr s0)) (F0 m 214 ls [.int x46, .int (6 + x22), .ref r41])) hf ?_ ?_
              · intro x46 hf H locs ls h hl
                refine x_iast G C h dX7_goHour_214 hf (fun σ47 H locs h hf => ?_)
                refine lv_goto (tgt := 284) hx hb dX7_goHour_215 (by decide) ?_
                exact hj284 _ hf _ _ _ h (lv_sub hl [0, 1, 2, 3] rfl)
              intro j214 hj214 hf
              refine lv_icmp_ge (tgt := 202) hx hb dX7_goHour_195 (by decide) (fun hc => ?_) (fun hc => ?_)
              · have hf := hf_t hc hf
                refine lv_aload_n hx hb dX7_goHour_202 rfl (lv_at hl 0 rfl) ?_
                refine x_gR (q := (RX7, TX7, 50)) (j := 4) G C h rfl (by decide) (fun _ _ _ => rfl) (lk C q1060) (fun _ z => z) dX7_goHour_203 hf (fun r44 hf => ?_)
                refine lv_bipush (v := 6) hx hb dX7_goHour_206 (by decide) ?_
                refine lv_iload_n hx hb dX7_goHour_208 rfl (lv_at hl 3 rfl) ?_
                refine lv_iadd hx hb dX7_goHour_209 ?_
                refine x_iald G C h dX7_goHour_210 hf (fun x45 hf => ?_)
                refine lv_bipush (v := 6) hx hb dX7_goHour_211 (by decide) ?_
                refine lv_isub hx hb dX7_goHour_213 ?_
                exact hj214 _ hf _ _ _ h (lv_sub hl [0, 1, 2, 3] rfl)
              · have hf := hf_f hc hf
                refine lv_iconst (v := 0) hx hb dX7_goHour_198 (by decide) ?_
                refine lv_goto (tgt := 214) hx hb dX7_goHour_199 (by decide) ?_
                exact hj214 _ hf _ _ _ h (lv_sub hl [0, 1, 2, 3] rfl)
          · have hf := hf_t hc hf
            refine lv_aload_n hx hb dX7_goHour_133 rfl (lv_at hl 0 rfl) ?_
            refine x_gR (q := (RX7, TX7, 50)) (j := 4) G C h rfl (by decide) (fun _ _ _ => rfl) (lk C q1060) (fun _ z => z) dX7_goHour_134 hf (fun r48 hf => ?_)
            refine lv_iload_n hx hb dX7_goHour_137 rfl (lv_at hl 3 rfl) ?_
            refine lv_aload_n hx hb dX7_goHour_138 rfl (lv_at hl 0 rfl) ?_
            refine x_gR (q := (RX7, TX7, 50)) (j := 4) G C h rfl (by decide) (fun _ _ _ => rfl) (lk C q1060) (fun _ z => z) dX7_goHour_139 hf (fun r49 hf => ?_)
            refine lv_iload_n hx hb dX7_goHour_142 rfl (lv_at hl 3 rfl) ?_
            refine x_iald G C h dX7_goHour_143 hf (fun x50 hf => ?_)
            refine lv_bipush (v := 96) hx hb dX7_goHour_144 (by decide) ?_
            refine jn_of (P := fun j => ∀ (x53 : Int32), j x53 = some o → ∀ (H : Heap) (locs : List Loc) (ls : Array Slot), Hs s0 D ac σ21 H locs → lv_has ls 5 [(0, .ref a0), (1, .int a1), (2, .int a2), (3, .int x22)] → W p l e ({ frames := 4, cells := 0, slots := 0, locals := 98 } : Room) s m args below meth c H locs 0 0 (MQ below (Qn s0 D ac none σ') args s 0 0 (fr s0)) (F0 m 162 ls [.int x53, .int x22, .ref r48])) hf ?_ ?_
            · intro x53 hf H locs ls h hl
              refine x_iast G C h dX7_goHour_162 hf (fun σ54 H locs h hf => ?_)
              refine lv_goto (tgt := 284) hx hb dX7_goHour_163 (by decide) ?_
              exact hj284 _ hf _ _ _ h (lv_sub hl [0, 1, 2, 3] rfl)
            intro j162 hj162 hf
            refine lv_icmp_le (tgt := 154) hx hb dX7_goHour_146 (by decide) (fun hc => ?_) (fun hc => ?_)
            · have hf := hf_t hc hf
              refine lv_aload_n hx hb dX7_goHour_154 rfl (lv_at hl 0 rfl) ?_
              refine x_gR (q := (RX7, TX7, 50)) (j := 4) G C h rfl (by decide) (fun _ _ _ => rfl) (lk C q1060) (fun _ z => z) dX7_goHour_155 hf (fun r51 hf => ?_)
              refine lv_iload_n hx hb dX7_goHour_158 rfl (lv_at hl 3 rfl) ?_
              refine x_iald G C h dX7_goHour_159 hf (fun x52 hf => ?_)
              refine lv_iconst (v := 3) hx hb dX7_goHour_160 (by decide) ?_
              refine lv_iadd hx hb dX7_goHour_161 ?_
              exact hj162 _ hf _ _ _ h (lv_sub hl [0, 1, 2, 3] rfl)
            · have hf := hf_f hc hf
              refine lv_bipush (v := 99) hx hb dX7_goHour_149 (by decide) ?_
              refine lv_goto (tgt := 162) hx hb dX7_goHour_151 (by decide) ?_
              exact hj162 _ hf _ _ _ h (lv_sub hl [0, 1, 2, 3] rfl)
        · have hf := hf_f hc hf
          refine lv_aload_n hx hb dX7_goHour_106 rfl (lv_at hl 0 rfl) ?_
          refine lv_iload_n hx hb dX7_goHour_107 rfl (lv_at hl 3 rfl) ?_
          refine lv_aload_n hx hb dX7_goHour_108 rfl (lv_at hl 0 rfl) ?_
          refine x_gR (q := (RX7, TX7, 50)) (j := 6) G C h rfl (by decide) (fun _ _ _ => rfl) (lk C q1062) (fun _ z => z) dX7_goHour_109 hf (fun r55 hf => ?_)
          refine lv_iload_n hx hb dX7_goHour_112 rfl (lv_at hl 3 rfl) ?_
          refine x_iald G C h dX7_goHour_113 hf (fun x56 hf => ?_)
          refine lv_bipush (v := 10) hx hb dX7_goHour_114 (by decide) ?_
          refine lv_isub hx hb dX7_goHour_116 ?_
          obtain ⟨hk, hf⟩ := k_of hf
          obtain ⟨σ57, hc, hf⟩ := hf_b hf
          refine x_cV (q := (RX7, TX7, 50)) (rest := []) (As := [.int x22, .int (x56 - 10)]) (n := 2) (ov := none) G C h (wX7_raid G hc) hk rfl (lw_V q1273 q1275 qs30 q61 q1276) (by decide +kernel) ⟨Nat.le_of_ble_eq_true rfl, Nat.le_of_ble_eq_true rfl⟩ rfl rfl rfl hl.1 rfl (Nat.le_of_ble_eq_true rfl) dX7_goHour_117 ⟨(Nat.le_of_ble_eq_true rfl), (Nat.le_of_ble_eq_true rfl)⟩ (fun H locs h => ?_)
          refine lv_goto (tgt := 284) hx hb dX7_goHour_120 (by decide) ?_
          exact hj284 _ hf _ _ _ h (lv_sub hl [0, 1, 2, 3] rfl)
    refine loopF_ind (P := fun z => ∀ (H : Heap) (locs : List Loc) (ls : Array Slot), Hs s0 D ac (z.1) H locs → lv_has ls 5 [(0, .ref a0), (1, .int a1), (2, .int a2), (3, .int z.2)] → W p l e ({ frames := 4, cells := 0, slots := 0, locals := 98 } : Room) s m args below meth c H locs 0 0 (MQ below (Qn s0 D ac none σ') args s 0 0 (fr s0)) (F0 m 61 ls [])) ?_ _ _ hL _ _ _ h (lv_sub hl [1, 2, 3, 0] rfl)
    clear hK hL h hl hf
    intro z o hf ih hX H locs ls h hl
    obtain ⟨σ15, x16⟩ := z
    have h : Hs s0 D ac σ15 H locs := h
    have hl : lv_has ls 5 [(0, .ref a0), (1, .int a1), (2, .int a2), (3, .int x16)] := hl
    have hf : lX7_goHour_61 a0 σ15 x16 = some o := hf
    unfold lX7_goHour_61 at hf
    refine lv_iload_n hx hb dX7_goHour_61 rfl (lv_at hl 3 rfl) ?_
    refine lv_aload_n hx hb dX7_goHour_62 rfl (lv_at hl 0 rfl) ?_
    refine x_gI (q := (RX7, TX7, 50)) (j := 1) G C h rfl (by decide) (fun _ _ _ => rfl) (lk C q1057) (fun _ z => z) dX7_goHour_63 hf (fun x17 hf => ?_)
    refine lv_icmp_ge (tgt := 85) hx hb dX7_goHour_66 (by decide) (fun hc => ?_) (fun hc => ?_)
    · have hf := hf_t hc hf
      cases hf
      exact hE61_0 _ (hX _ rfl) _ _ _ h (lv_sub hl [0, 1, 2] rfl)
    · have hf := hf_f hc hf
      refine lv_aload_n hx hb dX7_goHour_69 rfl (lv_at hl 0 rfl) ?_
      refine x_gR (q := (RX7, TX7, 50)) (j := 4) G C h rfl (by decide) (fun _ _ _ => rfl) (lk C q1060) (fun _ z => z) dX7_goHour_70 hf (fun r18 hf => ?_)
      refine lv_bipush (v := 12) hx hb dX7_goHour_73 (by decide) ?_
      refine lv_iload_n hx hb dX7_goHour_75 rfl (lv_at hl 3 rfl) ?_
      refine lv_iadd hx hb dX7_goHour_76 ?_
      refine lv_iconst (v := 0) hx hb dX7_goHour_77 (by decide) ?_
      refine x_iast G C h dX7_goHour_78 hf (fun σ19 H locs h hf => ?_)
      refine lv_iinc (v := x16 + 1) (lv' := [(3, .int (x16 + 1)), (0, .ref a0), (1, .int a1), (2, .int a2)]) hx hb dX7_goHour_79 hl (k := 3) rfl rfl (by decide) rfl (fun ls hl => ?_)
      refine lv_goto (tgt := 61) hx hb dX7_goHour_82 (by decide) ?_
      cases hf
      exact ih _ rfl _ _ _ h (lv_sub hl [1, 2, 3, 0] rfl)
  refine loopF_ind (P := fun z => ∀ (H : Heap) (locs : List Loc) (ls : Array Slot), Hs s0 D ac (z.1) H locs → lv_has ls 5 [(0, .ref a0), (1, .int a1), (2, .int a2), (3, .int z.2)] → W p l e ({ frames := 4, cells := 0, slots := 0, locals := 98 } : Room) s m args below meth c H locs 0 0 (MQ below (Qn s0 D ac none σ') args s 0 0 (fr s0)) (F0 m 2 ls [])) ?_ _ _ hL _ _ _ h (lv_sub hl [1, 2, 3, 0] rfl)
  clear hK hL h hl hf
  intro z o hf ih hX H locs ls h hl
  obtain ⟨σ1, x2⟩ := z
  have h : Hs s0 D ac σ1 H locs := h
  have hl : lv_has ls 5 [(0, .ref a0), (1, .int a1), (2, .int a2), (3, .int x2)] := hl
  have hf : lX7_goHour_2 a0 a1 a2 σ1 x2 = some o := hf
  unfold lX7_goHour_2 at hf
  refine lv_iload_n hx hb dX7_goHour_2 rfl (lv_at hl 3 rfl) ?_
  refine lv_aload_n hx hb dX7_goHour_3 rfl (lv_at hl 0 rfl) ?_
  refine x_gI (q := (RX7, TX7, 50)) (j := 1) G C h rfl (by decide) (fun _ _ _ => rfl) (lk C q1057) (fun _ z => z) dX7_goHour_4 hf (fun x3 hf => ?_)
  refine lv_icmp_ge (tgt := 59) hx hb dX7_goHour_7 (by decide) (fun hc => ?_) (fun hc => ?_)
  · have hf := hf_t hc hf
    cases hf
    exact hE2_0 _ (hX _ rfl) _ _ _ h (lv_sub hl [0, 1, 2] rfl)
  · have hf := hf_f hc hf
    refine lv_aload_n hx hb dX7_goHour_10 rfl (lv_at hl 0 rfl) ?_
    refine x_gR (q := (RX7, TX7, 50)) (j := 6) G C h rfl (by decide) (fun _ _ _ => rfl) (lk C q1062) (fun _ z => z) dX7_goHour_11 hf (fun r4 hf => ?_)
    refine lv_iload_n hx hb dX7_goHour_14 rfl (lv_at hl 3 rfl) ?_
    refine lv_aload_n hx hb dX7_goHour_15 rfl (lv_at hl 0 rfl) ?_
    refine lv_iload_n hx hb dX7_goHour_16 rfl (lv_at hl 3 rfl) ?_
    refine lv_iload_n hx hb dX7_goHour_17 rfl (lv_at hl 1 rfl) ?_
    obtain ⟨hk, hf⟩ := k_of hf
    obtain ⟨x5, hc, hf⟩ := hf_b hf
    refine x_cV (q := (RX7, TX7, 50)) (rest := [.int x2, .ref r4]) (As := [.int x2, .int a1]) (n := 2) (ov := (some (.int x5))) G C h (wX7_actOf G hc) hk rfl (lw_V q1261 q1263 qs27 q61 q1264) (by decide +kernel) ⟨Nat.le_of_ble_eq_true rfl, Nat.le_of_ble_eq_true rfl⟩ rfl rfl rfl hl.1 rfl (Nat.le_of_ble_eq_true rfl) dX7_goHour_18 ⟨(Nat.le_of_ble_eq_true rfl), (Nat.le_of_ble_eq_true rfl)⟩ (fun H locs h => ?_)
    refine x_iast G C h dX7_goHour_21 hf (fun σ6 H locs h hf => ?_)
    refine lv_aload_n hx hb dX7_goHour_22 rfl (lv_at hl 0 rfl) ?_
    refine x_gR (q := (RX7, TX7, 50)) (j := 6) G C h rfl (by decide) (fun _ _ _ => rfl) (lk C q1062) (fun _ z => z) dX7_goHour_23 hf (fun r7 hf => ?_)
    refine lv_iload_n hx hb dX7_goHour_26 rfl (lv_at hl 3 rfl) ?_
    refine lv_iload_n hx hb dX7_goHour_27 rfl (lv_at hl 2 rfl) ?_
    refine jn_of (P := fun j => ∀ (x12 : Int32), j x12 = some o → ∀ (H : Heap) (locs : List Loc) (ls : Array Slot), Hs s0 D ac σ6 H locs → lv_has ls 5 [(0, .ref a0), (1, .int a1), (2, .int a2), (3, .int x2)] → W p l e ({ frames := 4, cells := 0, slots := 0, locals := 98 } : Room) s m args below meth c H locs 0 0 (MQ below (Qn s0 D ac none σ') args s 0 0 (fr s0)) (F0 m 52 ls [.int x12, .int x2, .ref r7])) hf ?_ ?_
    · intro x12 hf H locs ls h hl
      refine x_iast G C h dX7_goHour_52 hf (fun σ13 H locs h hf => ?_)
      refine lv_iinc (v := x2 + 1) (lv' := [(3, .int (x2 + 1)), (0, .ref a0), (1, .int a1), (2, .int a2)]) hx hb dX7_goHour_53 hl (k := 3) rfl rfl (by decide) rfl (fun ls hl => ?_)
      refine lv_goto (tgt := 2) hx hb dX7_goHour_56 (by decide) ?_
      cases hf
      exact ih _ rfl _ _ _ h (lv_sub hl [1, 2, 3, 0] rfl)
    intro j52 hj52 hf
    refine jn_of (P := fun j => ∀ (u0 : Unit), j u0 = some o → ∀ (H : Heap) (locs : List Loc) (ls : Array Slot), Hs s0 D ac σ6 H locs → lv_has ls 5 [(0, .ref a0), (1, .int a1), (2, .int a2), (3, .int x2)] → W p l e ({ frames := 4, cells := 0, slots := 0, locals := 98 } : Room) s m args below meth c H locs 0 0 (MQ below (Qn s0 D ac none σ') args s 0 0 (fr s0)) (F0 m 46 ls [.int x2, .ref r7])) hf ?_ ?_
    · intro u0 hf H locs ls h hl
      refine lv_aload_n hx hb dX7_goHour_46 rfl (lv_at hl 0 rfl) ?_
      refine x_gR (q := (RX7, TX7, 50)) (j := 6) G C h rfl (by decide) (fun _ _ _ => rfl) (lk C q1062) (fun _ z => z) dX7_goHour_47 hf (fun r10 hf => ?_)
      refine lv_iload_n hx hb dX7_goHour_50 rfl (lv_at hl 3 rfl) ?_
      refine x_iald G C h dX7_goHour_51 hf (fun x11 hf => ?_)
      exact hj52 _ hf _ _ _ h (lv_sub hl [0, 1, 2, 3] rfl)
    intro j46 hj46 hf
    refine lv_if_eq (tgt := 46) hx hb dX7_goHour_28 (by decide) (fun hc => ?_) (fun hc => ?_)
    · have hf := hf_t hc hf
      exact hj46 () hf _ _ _ h (lv_sub hl [0, 1, 2, 3] rfl)
    · have hf := hf_f hc hf
      refine lv_aload_n hx hb dX7_goHour_31 rfl (lv_at hl 0 rfl) ?_
      refine x_gR (q := (RX7, TX7, 50)) (j := 6) G C h rfl (by decide) (fun _ _ _ => rfl) (lk C q1062) (fun _ z => z) dX7_goHour_32 hf (fun r8 hf => ?_)
      refine lv_iload_n hx hb dX7_goHour_35 rfl (lv_at hl 3 rfl) ?_
      refine x_iald G C h dX7_goHour_36 hf (fun x9 hf => ?_)
      refine lv_bipush (v := 10) hx hb dX7_goHour_37 (by decide) ?_
      refine lv_icmp_lt (tgt := 46) hx hb dX7_goHour_39 (by decide) (fun hc => ?_) (fun hc => ?_)
      · have hf := hf_t hc hf
        exact hj46 () hf _ _ _ h (lv_sub hl [0, 1, 2, 3] rfl)
      · have hf := hf_f hc hf
        refine lv_iconst (v := 0) hx hb dX7_goHour_42 (by decide) ?_
        refine lv_goto (tgt := 52) hx hb dX7_goHour_43 (by decide) ?_
        exact hj52 _ hf _ _ _ h (lv_sub hl [0, 1, 2, 3] rfl)

theorem dX7_hours_0 : decode cX7_hours 0 = .ok (.iload_n 1, 1) := by decide +kernel
theorem dX7_hours_1 : decode cX7_hours 1 = .ok (.iconst 1, 1) := by decide +kernel
theorem dX7_hours_2 : decode cX7_hours 2 = .ok (.bipush 60, 2) := by decide +kernel
theorem dX7_hours_4 : decode cX7_hours 4 = .ok (.invokestatic 113, 3) := by decide +kernel
theorem dX7_hours_7 : decode cX7_hours 7 = .ok (.ifCond .eq 15, 3) := by decide +kernel
theorem dX7_hours_10 : decode cX7_hours 10 = .ok (.aload_n 0, 1) := by decide +kernel
theorem dX7_hours_11 : decode cX7_hours 11 = .ok (.getfield 155, 3) := by decide +kernel
theorem dX7_hours_14 : decode cX7_hours 14 = .ok (.iload_n 1, 1) := by decide +kernel
theorem dX7_hours_15 : decode cX7_hours 15 = .ok (.iadd, 1) := by decide +kernel
theorem dX7_hours_16 : decode cX7_hours 16 = .ok (.sipush 900, 3) := by decide +kernel
theorem dX7_hours_19 : decode cX7_hours 19 = .ok (.if_icmp .le 6, 3) := by decide +kernel
theorem dX7_hours_22 : decode cX7_hours 22 = .ok (.bipush (-3), 2) := by decide +kernel
theorem dX7_hours_24 : decode cX7_hours 24 = .ok (.ireturn, 1) := by decide +kernel
theorem dX7_hours_25 : decode cX7_hours 25 = .ok (.iconst 0, 1) := by decide +kernel
theorem dX7_hours_26 : decode cX7_hours 26 = .ok (.istore_n 2, 1) := by decide +kernel
theorem dX7_hours_27 : decode cX7_hours 27 = .ok (.iload_n 2, 1) := by decide +kernel
theorem dX7_hours_28 : decode cX7_hours 28 = .ok (.iload_n 1, 1) := by decide +kernel
theorem dX7_hours_29 : decode cX7_hours 29 = .ok (.if_icmp .ge 28, 3) := by decide +kernel
theorem dX7_hours_32 : decode cX7_hours 32 = .ok (.aload_n 0, 1) := by decide +kernel
theorem dX7_hours_33 : decode cX7_hours 33 = .ok (.aload_n 0, 1) := by decide +kernel
theorem dX7_hours_34 : decode cX7_hours 34 = .ok (.getfield 155, 3) := by decide +kernel
theorem dX7_hours_37 : decode cX7_hours 37 = .ok (.iconst 0, 1) := by decide +kernel
theorem dX7_hours_38 : decode cX7_hours 38 = .ok (.invokevirtual 158, 3) := by decide +kernel
theorem dX7_hours_41 : decode cX7_hours 41 = .ok (.aload_n 0, 1) := by decide +kernel
theorem dX7_hours_42 : decode cX7_hours 42 = .ok (.dup, 1) := by decide +kernel
theorem dX7_hours_43 : decode cX7_hours 43 = .ok (.getfield 155, 3) := by decide +kernel
theorem dX7_hours_46 : decode cX7_hours 46 = .ok (.iconst 1, 1) := by decide +kernel
theorem dX7_hours_47 : decode cX7_hours 47 = .ok (.iadd, 1) := by decide +kernel
theorem dX7_hours_48 : decode cX7_hours 48 = .ok (.putfield 155, 3) := by decide +kernel
theorem dX7_hours_51 : decode cX7_hours 51 = .ok (.iinc 2 1, 3) := by decide +kernel
theorem dX7_hours_54 : decode cX7_hours 54 = .ok (.goto (-27), 3) := by decide +kernel
theorem dX7_hours_57 : decode cX7_hours 57 = .ok (.aload_n 0, 1) := by decide +kernel
theorem dX7_hours_58 : decode cX7_hours 58 = .ok (.getfield 155, 3) := by decide +kernel
theorem dX7_hours_61 : decode cX7_hours 61 = .ok (.ireturn, 1) := by decide +kernel
def lX7_hours_27 (a1 : Int32) (a0 : Nat) (σ3 : St) (x4 : Int32) : Option ((St × Int32) ⊕ (St)) :=
  if a1 ≤ x4 then
    some (.inr σ3)
  else
  o_gI σ3 a0 5 0 fun x5 =>
  o_k σ3 a0 5 <|
  (fX7_goHour σ3 a0 x5 0).bind fun σ6 =>
  o_gI σ6 a0 5 0 fun x7 =>
  o_pI σ6 a0 5 0 (x7 + 1) fun σ8 =>
  some (.inl (σ8, x4 + 1))

def fX7_hours (σ : St) (a0 : Nat) (a1 : Int32) : Option (Int32 × St) :=
  (fX7_in σ a1 1 60).bind fun x1 =>
  if x1 = 0 then
    some ((-3), σ)
  else
  o_gI σ a0 5 0 fun x2 =>
  if (x2 + a1) ≤ 900 then
    (loopF fuel (fun z => lX7_hours_27 a1 a0 z.1 z.2) (σ, 0)).bind <| fun σ9 =>
    o_gI σ9 a0 5 0 fun x10 =>
    some (x10, σ9)
  else
  some ((-3), σ)

set_option maxHeartbeats 4000000 in
theorem wX7_hours {l : Launch} {s0 : State} {A0 : Array Value} {D : va_G} {ac : Nat → ClassId} (G : Gl s0 A0 D ac) {σ : St} {a0 : Nat} {a1 : Int32} {v : Int32} {σ' : St} (hf : fX7_hours σ a0 a1 = some (v, σ')) : Met l yX7_hours (ws_ yX7_hours cX7_hours 3 (some (.int))) ({ frames := 5, cells := 0, slots := 0, locals := 122 } : Room) (Pn s0 D ac [.ref a0, .int a1] σ) (Qn s0 D ac (some (.int v)) σ') 0 0 (fr s0) := by
  refine x_met (by decide) (Nat.le_of_ble_eq_true rfl) ?_
  intro p e s m args below meth c ls C hnm h hl
  have C : Cx s0 p s m args meth c cX7_hours 3 "HutForShowModel" (some (.int)) := C
  have hx := C.1
  have hb := C.2.1
  have hl : lv_has ls 3 [(0, .ref a0), (1, .int a1)] := hl
  unfold fX7_hours at hf
  refine lv_iload_n hx hb dX7_hours_0 rfl (lv_at hl 1 rfl) ?_
  refine lv_iconst (v := 1) hx hb dX7_hours_1 (by decide) ?_
  refine lv_bipush (v := 60) hx hb dX7_hours_2 (by decide) ?_
  obtain ⟨x1, hc, hf⟩ := hf_b hf
  refine x_cS (rest := []) (As := [.int a1, .int 1, .int 60]) (n := 3) (ov := (some (.int x1))) C h (wX7_in G hc) (lw_S q1211 q1212 q61 q1213) (by decide +kernel) ⟨Nat.le_of_ble_eq_true rfl, Nat.le_of_ble_eq_true rfl⟩ rfl rfl rfl hl.1 rfl (Nat.le_of_ble_eq_true rfl) dX7_hours_4 ⟨(Nat.le_of_ble_eq_true rfl), (Nat.le_of_ble_eq_true rfl)⟩ (fun H locs h => ?_)
  refine lv_if_eq (tgt := 22) hx hb dX7_hours_7 (by decide) (fun hc => ?_) (fun hc => ?_)
  · have hf := hf_t hc hf
    refine lv_bipush (v := (-3)) hx hb dX7_hours_22 (by decide) ?_
    cases hf
    refine W.widen (k := 0) (n := 0) (Nat.le_of_ble_eq_true rfl) (Nat.le_of_ble_eq_true rfl) ?_
    exact x_iret C h dX7_hours_24
  · have hf := hf_f hc hf
    refine lv_aload_n hx hb dX7_hours_10 rfl (lv_at hl 0 rfl) ?_
    refine x_gI (q := (RX7, TX7, 50)) (j := 0) G C h rfl (by decide) (fun _ _ _ => rfl) (lk C q1056) (fun _ z => z) dX7_hours_11 hf (fun x2 hf => ?_)
    refine lv_iload_n hx hb dX7_hours_14 rfl (lv_at hl 1 rfl) ?_
    refine lv_iadd hx hb dX7_hours_15 ?_
    refine lv_sipush (v := 900) hx hb dX7_hours_16 (by decide) ?_
    refine lv_icmp_le (tgt := 25) hx hb dX7_hours_19 (by decide) (fun hc => ?_) (fun hc => ?_)
    · have hf := hf_t hc hf
      refine lv_iconst (v := 0) hx hb dX7_hours_25 (by decide) ?_
      refine lv_istore_n (lv' := [(2, .int 0), (0, .ref a0), (1, .int a1)]) hx hb dX7_hours_26 rfl hl (by decide) rfl (fun ls hl => ?_)
      obtain ⟨e27, hL, hK⟩ := hf_b hf
      have hE27_0 : ∀ (σ9 : St), σ9 = e27 → ∀  (H : Heap) (locs : List Loc) (ls : Array Slot), Hs s0 D ac σ9 H locs → lv_has ls 3 [(0, .ref a0), (1, .int a1)] → W p l e ({ frames := 5, cells := 0, slots := 0, locals := 122 } : Room) s m args below meth c H locs 0 0 (MQ below (Qn s0 D ac (some (.int v)) σ') args s 0 0 (fr s0)) (F0 m 57 ls []) := by
        intro σ9 he H locs ls h hl
        subst he
        have hf := hK
        refine lv_aload_n hx hb dX7_hours_57 rfl (lv_at hl 0 rfl) ?_
        refine x_gI (q := (RX7, TX7, 50)) (j := 0) G C h rfl (by decide) (fun _ _ _ => rfl) (lk C q1056) (fun _ z => z) dX7_hours_58 hf (fun x10 hf => ?_)
        cases hf
        refine W.widen (k := 0) (n := 0) (Nat.le_of_ble_eq_true rfl) (Nat.le_of_ble_eq_true rfl) ?_
        exact x_iret C h dX7_hours_61
      refine loopF_ind (P := fun z => ∀ (H : Heap) (locs : List Loc) (ls : Array Slot), Hs s0 D ac (z.1) H locs → lv_has ls 3 [(0, .ref a0), (1, .int a1), (2, .int z.2)] → W p l e ({ frames := 5, cells := 0, slots := 0, locals := 122 } : Room) s m args below meth c H locs 0 0 (MQ below (Qn s0 D ac (some (.int v)) σ') args s 0 0 (fr s0)) (F0 m 27 ls [])) ?_ _ _ hL _ _ _ h (lv_sub hl [1, 2, 0] rfl)
      clear hK hL h hl hf
      intro z o hf ih hX H locs ls h hl
      obtain ⟨σ3, x4⟩ := z
      have h : Hs s0 D ac σ3 H locs := h
      have hl : lv_has ls 3 [(0, .ref a0), (1, .int a1), (2, .int x4)] := hl
      have hf : lX7_hours_27 a1 a0 σ3 x4 = some o := hf
      unfold lX7_hours_27 at hf
      refine lv_iload_n hx hb dX7_hours_27 rfl (lv_at hl 2 rfl) ?_
      refine lv_iload_n hx hb dX7_hours_28 rfl (lv_at hl 1 rfl) ?_
      refine lv_icmp_ge (tgt := 57) hx hb dX7_hours_29 (by decide) (fun hc => ?_) (fun hc => ?_)
      · have hf := hf_t hc hf
        cases hf
        exact hE27_0 _ (hX _ rfl) _ _ _ h (lv_sub hl [0, 1] rfl)
      · have hf := hf_f hc hf
        refine lv_aload_n hx hb dX7_hours_32 rfl (lv_at hl 0 rfl) ?_
        refine lv_aload_n hx hb dX7_hours_33 rfl (lv_at hl 0 rfl) ?_
        refine x_gI (q := (RX7, TX7, 50)) (j := 0) G C h rfl (by decide) (fun _ _ _ => rfl) (lk C q1056) (fun _ z => z) dX7_hours_34 hf (fun x5 hf => ?_)
        refine lv_iconst (v := 0) hx hb dX7_hours_37 (by decide) ?_
        obtain ⟨hk, hf⟩ := k_of hf
        obtain ⟨σ6, hc, hf⟩ := hf_b hf
        refine x_cV (q := (RX7, TX7, 50)) (rest := []) (As := [.int x5, .int 0]) (n := 2) (ov := none) G C h (wX7_goHour G hc) hk rfl (lw_V q1257 q1259 qs26 q61 q1260) (by decide +kernel) ⟨Nat.le_of_ble_eq_true rfl, Nat.le_of_ble_eq_true rfl⟩ rfl rfl rfl hl.1 rfl (Nat.le_of_ble_eq_true rfl) dX7_hours_38 ⟨(Nat.le_of_ble_eq_true rfl), (Nat.le_of_ble_eq_true rfl)⟩ (fun H locs h => ?_)
        refine lv_aload_n hx hb dX7_hours_41 rfl (lv_at hl 0 rfl) ?_
        refine lv_dup hx hb dX7_hours_42 rfl ?_
        refine x_gI (q := (RX7, TX7, 50)) (j := 0) G C h rfl (by decide) (fun _ _ _ => rfl) (lk C q1056) (fun _ z => z) dX7_hours_43 hf (fun x7 hf => ?_)
        refine lv_iconst (v := 1) hx hb dX7_hours_46 (by decide) ?_
        refine lv_iadd hx hb dX7_hours_47 ?_
        refine x_pI (q := (RX7, TX7, 50)) (j := 0) G C h rfl (by decide) rfl (lk C q1056) (fun _ z => z) (Or.inl rfl) dX7_hours_48 hf (fun σ8 H locs h hf => ?_)
        refine lv_iinc (v := x4 + 1) (lv' := [(2, .int (x4 + 1)), (0, .ref a0), (1, .int a1)]) hx hb dX7_hours_51 hl (k := 2) rfl rfl (by decide) rfl (fun ls hl => ?_)
        refine lv_goto (tgt := 27) hx hb dX7_hours_54 (by decide) ?_
        cases hf
        exact ih _ rfl _ _ _ h (lv_sub hl [1, 2, 0] rfl)
    · have hf := hf_f hc hf
      refine lv_bipush (v := (-3)) hx hb dX7_hours_22 (by decide) ?_
      cases hf
      refine W.widen (k := 0) (n := 0) (Nat.le_of_ble_eq_true rfl) (Nat.le_of_ble_eq_true rfl) ?_
      exact x_iret C h dX7_hours_24

theorem dX7_write_0 : decode cX7_write 0 = .ok (.iload_n 3, 1) := by decide +kernel
theorem dX7_write_1 : decode cX7_write 1 = .ok (.iconst 1, 1) := by decide +kernel
theorem dX7_write_2 : decode cX7_write 2 = .ok (.bipush 8, 2) := by decide +kernel
theorem dX7_write_4 : decode cX7_write 4 = .ok (.invokestatic 113, 3) := by decide +kernel
theorem dX7_write_7 : decode cX7_write 7 = .ok (.ifCond .ne 6, 3) := by decide +kernel
theorem dX7_write_10 : decode cX7_write 10 = .ok (.bipush (-3), 2) := by decide +kernel
theorem dX7_write_12 : decode cX7_write 12 = .ok (.ireturn, 1) := by decide +kernel
theorem dX7_write_13 : decode cX7_write 13 = .ok (.aload_n 0, 1) := by decide +kernel
theorem dX7_write_14 : decode cX7_write 14 = .ok (.getfield 162, 3) := by decide +kernel
theorem dX7_write_17 : decode cX7_write 17 = .ok (.iload_n 3, 1) := by decide +kernel
theorem dX7_write_18 : decode cX7_write 18 = .ok (.iadd, 1) := by decide +kernel
theorem dX7_write_19 : decode cX7_write 19 = .ok (.sipush 160, 3) := by decide +kernel
theorem dX7_write_22 : decode cX7_write 22 = .ok (.if_icmp .le 6, 3) := by decide +kernel
theorem dX7_write_25 : decode cX7_write 25 = .ok (.bipush (-5), 2) := by decide +kernel
theorem dX7_write_27 : decode cX7_write 27 = .ok (.ireturn, 1) := by decide +kernel
theorem dX7_write_28 : decode cX7_write 28 = .ok (.iconst 0, 1) := by decide +kernel
theorem dX7_write_29 : decode cX7_write 29 = .ok (.istore 4, 2) := by decide +kernel
theorem dX7_write_31 : decode cX7_write 31 = .ok (.iload 4, 2) := by decide +kernel
theorem dX7_write_33 : decode cX7_write 33 = .ok (.iload_n 3, 1) := by decide +kernel
theorem dX7_write_34 : decode cX7_write 34 = .ok (.if_icmp .ge 33, 3) := by decide +kernel
theorem dX7_write_37 : decode cX7_write 37 = .ok (.aload_n 0, 1) := by decide +kernel
theorem dX7_write_38 : decode cX7_write 38 = .ok (.getfield 53, 3) := by decide +kernel
theorem dX7_write_41 : decode cX7_write 41 = .ok (.aload_n 0, 1) := by decide +kernel
theorem dX7_write_42 : decode cX7_write 42 = .ok (.getfield 162, 3) := by decide +kernel
theorem dX7_write_45 : decode cX7_write 45 = .ok (.iload 4, 2) := by decide +kernel
theorem dX7_write_47 : decode cX7_write 47 = .ok (.iadd, 1) := by decide +kernel
theorem dX7_write_48 : decode cX7_write 48 = .ok (.lload_n 1, 1) := by decide +kernel
theorem dX7_write_49 : decode cX7_write 49 = .ok (.bipush 8, 2) := by decide +kernel
theorem dX7_write_51 : decode cX7_write 51 = .ok (.iload 4, 2) := by decide +kernel
theorem dX7_write_53 : decode cX7_write 53 = .ok (.imul, 1) := by decide +kernel
theorem dX7_write_54 : decode cX7_write 54 = .ok (.lshr, 1) := by decide +kernel
theorem dX7_write_55 : decode cX7_write 55 = .ok (.ldc2_w 165, 3) := by decide +kernel
theorem dX7_write_58 : decode cX7_write 58 = .ok (.land, 1) := by decide +kernel
theorem dX7_write_59 : decode cX7_write 59 = .ok (.l2i, 1) := by decide +kernel
theorem dX7_write_60 : decode cX7_write 60 = .ok (.iastore, 1) := by decide +kernel
theorem dX7_write_61 : decode cX7_write 61 = .ok (.iinc 4 1, 3) := by decide +kernel
theorem dX7_write_64 : decode cX7_write 64 = .ok (.goto (-33), 3) := by decide +kernel
theorem dX7_write_67 : decode cX7_write 67 = .ok (.aload_n 0, 1) := by decide +kernel
theorem dX7_write_68 : decode cX7_write 68 = .ok (.dup, 1) := by decide +kernel
theorem dX7_write_69 : decode cX7_write 69 = .ok (.getfield 162, 3) := by decide +kernel
theorem dX7_write_72 : decode cX7_write 72 = .ok (.iload_n 3, 1) := by decide +kernel
theorem dX7_write_73 : decode cX7_write 73 = .ok (.iadd, 1) := by decide +kernel
theorem dX7_write_74 : decode cX7_write 74 = .ok (.putfield 162, 3) := by decide +kernel
theorem dX7_write_77 : decode cX7_write 77 = .ok (.aload_n 0, 1) := by decide +kernel
theorem dX7_write_78 : decode cX7_write 78 = .ok (.getfield 162, 3) := by decide +kernel
theorem dX7_write_81 : decode cX7_write 81 = .ok (.ireturn, 1) := by decide +kernel
def lX7_write_31 (a2 : Int32) (a0 : Nat) (a1 : Int64) (σ3 : St) (x4 : Int32) : Option ((St × Int32) ⊕ (St)) :=
  if a2 ≤ x4 then
    some (.inr σ3)
  else
  o_gR σ3 a0 5 19 fun r5 =>
  o_gI σ3 a0 5 18 fun x6 =>
  o_sI σ3 r5 0 (x6 + x4) (((a1 >>> ((8 * x4).toInt64 &&& 63)) &&& 255).toInt32) fun σ7 =>
  some (.inl (σ7, x4 + 1))

def fX7_write (σ : St) (a0 : Nat) (a1 : Int64) (a2 : Int32) : Option (Int32 × St) :=
  (fX7_in σ a2 1 8).bind fun x1 =>
  if x1 = 0 then
    some ((-3), σ)
  else
  o_gI σ a0 5 18 fun x2 =>
  if (x2 + a2) ≤ 160 then
    (loopF fuel (fun z => lX7_write_31 a2 a0 a1 z.1 z.2) (σ, 0)).bind <| fun σ8 =>
    o_gI σ8 a0 5 18 fun x9 =>
    o_pI σ8 a0 5 18 (x9 + a2) fun σ10 =>
    o_gI σ10 a0 5 18 fun x11 =>
    some (x11, σ10)
  else
  some ((-5), σ)

set_option maxHeartbeats 4000000 in
theorem wX7_write {l : Launch} {s0 : State} {A0 : Array Value} {D : va_G} {ac : Nat → ClassId} (G : Gl s0 A0 D ac) {σ : St} {a0 : Nat} {a1 : Int64} {a2 : Int32} {v : Int32} {σ' : St} (hf : fX7_write σ a0 a1 a2 = some (v, σ')) : Met l yX7_write (ws_ yX7_write cX7_write 5 (some (.int))) ({ frames := 1, cells := 0, slots := 0, locals := 22 } : Room) (Pn s0 D ac [.ref a0, .long a1, .int a2] σ) (Qn s0 D ac (some (.int v)) σ') 0 0 (fr s0) := by
  refine x_met (by decide) (Nat.le_of_ble_eq_true rfl) ?_
  intro p e s m args below meth c ls C hnm h hl
  have C : Cx s0 p s m args meth c cX7_write 5 "HutForShowModel" (some (.int)) := C
  have hx := C.1
  have hb := C.2.1
  have hl : lv_has ls 5 [(0, .ref a0), (1, .long a1), (3, .int a2)] := hl
  unfold fX7_write at hf
  refine lv_iload_n hx hb dX7_write_0 rfl (lv_at hl 2 rfl) ?_
  refine lv_iconst (v := 1) hx hb dX7_write_1 (by decide) ?_
  refine lv_bipush (v := 8) hx hb dX7_write_2 (by decide) ?_
  obtain ⟨x1, hc, hf⟩ := hf_b hf
  refine x_cS (rest := []) (As := [.int a2, .int 1, .int 8]) (n := 3) (ov := (some (.int x1))) C h (wX7_in G hc) (lw_S q1211 q1212 q61 q1213) (by decide +kernel) ⟨Nat.le_of_ble_eq_true rfl, Nat.le_of_ble_eq_true rfl⟩ rfl rfl rfl hl.1 rfl (Nat.le_of_ble_eq_true rfl) dX7_write_4 ⟨(Nat.le_of_ble_eq_true rfl), (Nat.le_of_ble_eq_true rfl)⟩ (fun H locs h => ?_)
  refine lv_if_ne (tgt := 13) hx hb dX7_write_7 (by decide) (fun hc => ?_) (fun hc => ?_)
  · have hf := hf_f hc hf
    refine lv_aload_n hx hb dX7_write_13 rfl (lv_at hl 0 rfl) ?_
    refine x_gI (q := (RX7, TX7, 50)) (j := 18) G C h rfl (by decide) (fun _ _ _ => rfl) (lk C q1074) (fun _ z => z) dX7_write_14 hf (fun x2 hf => ?_)
    refine lv_iload_n hx hb dX7_write_17 rfl (lv_at hl 2 rfl) ?_
    refine lv_iadd hx hb dX7_write_18 ?_
    refine lv_sipush (v := 160) hx hb dX7_write_19 (by decide) ?_
    refine lv_icmp_le (tgt := 28) hx hb dX7_write_22 (by decide) (fun hc => ?_) (fun hc => ?_)
    · have hf := hf_t hc hf
      refine lv_iconst (v := 0) hx hb dX7_write_28 (by decide) ?_
      refine lv_istore (lv' := [(4, .int 0), (0, .ref a0), (1, .long a1), (3, .int a2)]) hx hb dX7_write_29 hl (by decide) rfl (fun ls hl => ?_)
      obtain ⟨e31, hL, hK⟩ := hf_b hf
      have hE31_0 : ∀ (σ8 : St), σ8 = e31 → ∀  (H : Heap) (locs : List Loc) (ls : Array Slot), Hs s0 D ac σ8 H locs → lv_has ls 5 [(0, .ref a0), (1, .long a1), (3, .int a2)] → W p l e ({ frames := 1, cells := 0, slots := 0, locals := 22 } : Room) s m args below meth c H locs 0 0 (MQ below (Qn s0 D ac (some (.int v)) σ') args s 0 0 (fr s0)) (F0 m 67 ls []) := by
        intro σ8 he H locs ls h hl
        subst he
        have hf := hK
        refine lv_aload_n hx hb dX7_write_67 rfl (lv_at hl 0 rfl) ?_
        refine lv_dup hx hb dX7_write_68 rfl ?_
        refine x_gI (q := (RX7, TX7, 50)) (j := 18) G C h rfl (by decide) (fun _ _ _ => rfl) (lk C q1074) (fun _ z => z) dX7_write_69 hf (fun x9 hf => ?_)
        refine lv_iload_n hx hb dX7_write_72 rfl (lv_at hl 2 rfl) ?_
        refine lv_iadd hx hb dX7_write_73 ?_
        refine x_pI (q := (RX7, TX7, 50)) (j := 18) G C h rfl (by decide) rfl (lk C q1074) (fun _ z => z) (Or.inl rfl) dX7_write_74 hf (fun σ10 H locs h hf => ?_)
        refine lv_aload_n hx hb dX7_write_77 rfl (lv_at hl 0 rfl) ?_
        refine x_gI (q := (RX7, TX7, 50)) (j := 18) G C h rfl (by decide) (fun _ _ _ => rfl) (lk C q1074) (fun _ z => z) dX7_write_78 hf (fun x11 hf => ?_)
        cases hf
        refine W.widen (k := 0) (n := 0) (Nat.le_of_ble_eq_true rfl) (Nat.le_of_ble_eq_true rfl) ?_
        exact x_iret C h dX7_write_81
      refine loopF_ind (P := fun z => ∀ (H : Heap) (locs : List Loc) (ls : Array Slot), Hs s0 D ac (z.1) H locs → lv_has ls 5 [(0, .ref a0), (1, .long a1), (3, .int a2), (4, .int z.2)] → W p l e ({ frames := 1, cells := 0, slots := 0, locals := 22 } : Room) s m args below meth c H locs 0 0 (MQ below (Qn s0 D ac (some (.int v)) σ') args s 0 0 (fr s0)) (F0 m 31 ls [])) ?_ _ _ hL _ _ _ h (lv_sub hl [1, 2, 3, 0] rfl)
      clear hK hL h hl hf
      intro z o hf ih hX H locs ls h hl
      obtain ⟨σ3, x4⟩ := z
      have h : Hs s0 D ac σ3 H locs := h
      have hl : lv_has ls 5 [(0, .ref a0), (1, .long a1), (3, .int a2), (4, .int x4)] := hl
      have hf : lX7_write_31 a2 a0 a1 σ3 x4 = some o := hf
      unfold lX7_write_31 at hf
      refine lv_iload hx hb dX7_write_31 (lv_at hl 3 rfl) ?_
      refine lv_iload_n hx hb dX7_write_33 rfl (lv_at hl 2 rfl) ?_
      refine lv_icmp_ge (tgt := 67) hx hb dX7_write_34 (by decide) (fun hc => ?_) (fun hc => ?_)
      · have hf := hf_t hc hf
        cases hf
        exact hE31_0 _ (hX _ rfl) _ _ _ h (lv_sub hl [0, 1, 2] rfl)
      · have hf := hf_f hc hf
        refine lv_aload_n hx hb dX7_write_37 rfl (lv_at hl 0 rfl) ?_
        refine x_gR (q := (RX7, TX7, 50)) (j := 19) G C h rfl (by decide) (fun _ _ _ => rfl) (lk C q1075) (fun _ z => z) dX7_write_38 hf (fun r5 hf => ?_)
        refine lv_aload_n hx hb dX7_write_41 rfl (lv_at hl 0 rfl) ?_
        refine x_gI (q := (RX7, TX7, 50)) (j := 18) G C h rfl (by decide) (fun _ _ _ => rfl) (lk C q1074) (fun _ z => z) dX7_write_42 hf (fun x6 hf => ?_)
        refine lv_iload hx hb dX7_write_45 (lv_at hl 3 rfl) ?_
        refine lv_iadd hx hb dX7_write_47 ?_
        refine lv_lload_n hx hb dX7_write_48 rfl (lv_at hl 1 rfl) ?_
        refine lv_bipush (v := 8) hx hb dX7_write_49 (by decide) ?_
        refine lv_iload hx hb dX7_write_51 (lv_at hl 3 rfl) ?_
        refine lv_imul hx hb dX7_write_53 ?_
        refine lv_lshr hx hb dX7_write_54 rfl ?_
        refine lv_ldc2 (v := 255) hx hb C.2.2.2.1 (C.2.2.2.2.1 _ q1281) dX7_write_55 ?_
        refine lv_land hx hb dX7_write_58 ?_
        refine lv_l2i hx hb dX7_write_59 rfl ?_
        refine x_iast G C h dX7_write_60 hf (fun σ7 H locs h hf => ?_)
        refine lv_iinc (v := x4 + 1) (lv' := [(4, .int (x4 + 1)), (0, .ref a0), (1, .long a1), (3, .int a2)]) hx hb dX7_write_61 hl (k := 3) rfl rfl (by decide) rfl (fun ls hl => ?_)
        refine lv_goto (tgt := 31) hx hb dX7_write_64 (by decide) ?_
        cases hf
        exact ih _ rfl _ _ _ h (lv_sub hl [1, 2, 3, 0] rfl)
    · have hf := hf_f hc hf
      refine lv_bipush (v := (-5)) hx hb dX7_write_25 (by decide) ?_
      cases hf
      refine W.widen (k := 0) (n := 0) (Nat.le_of_ble_eq_true rfl) (Nat.le_of_ble_eq_true rfl) ?_
      exact x_iret C h dX7_write_27
  · have hf := hf_t hc hf
    refine lv_bipush (v := (-3)) hx hb dX7_write_10 (by decide) ?_
    cases hf
    refine W.widen (k := 0) (n := 0) (Nat.le_of_ble_eq_true rfl) (Nat.le_of_ble_eq_true rfl) ?_
    exact x_iret C h dX7_write_12

theorem dX7_erase_0 : decode cX7_erase 0 = .ok (.aload_n 0, 1) := by decide +kernel
theorem dX7_erase_1 : decode cX7_erase 1 = .ok (.getfield 162, 3) := by decide +kernel
theorem dX7_erase_4 : decode cX7_erase 4 = .ok (.istore_n 1, 1) := by decide +kernel
theorem dX7_erase_5 : decode cX7_erase 5 = .ok (.aload_n 0, 1) := by decide +kernel
theorem dX7_erase_6 : decode cX7_erase 6 = .ok (.iconst 0, 1) := by decide +kernel
theorem dX7_erase_7 : decode cX7_erase 7 = .ok (.putfield 162, 3) := by decide +kernel
theorem dX7_erase_10 : decode cX7_erase 10 = .ok (.iload_n 1, 1) := by decide +kernel
theorem dX7_erase_11 : decode cX7_erase 11 = .ok (.ireturn, 1) := by decide +kernel
def fX7_erase (σ : St) (a0 : Nat) : Option (Int32 × St) :=
  o_gI σ a0 5 18 fun x1 =>
  o_pI σ a0 5 18 0 fun σ2 =>
  some (x1, σ2)

set_option maxHeartbeats 4000000 in
theorem wX7_erase {l : Launch} {s0 : State} {A0 : Array Value} {D : va_G} {ac : Nat → ClassId} (G : Gl s0 A0 D ac) {σ : St} {a0 : Nat} {v : Int32} {σ' : St} (hf : fX7_erase σ a0 = some (v, σ')) : Met l yX7_erase (ws_ yX7_erase cX7_erase 2 (some (.int))) ({ frames := 0, cells := 0, slots := 0, locals := 0 } : Room) (Pn s0 D ac [.ref a0] σ) (Qn s0 D ac (some (.int v)) σ') 0 0 (fr s0) := by
  refine x_met (by decide) (Nat.le_of_ble_eq_true rfl) ?_
  intro p e s m args below meth c ls C hnm h hl
  have C : Cx s0 p s m args meth c cX7_erase 2 "HutForShowModel" (some (.int)) := C
  have hx := C.1
  have hb := C.2.1
  have hl : lv_has ls 2 [(0, .ref a0)] := hl
  unfold fX7_erase at hf
  refine lv_aload_n hx hb dX7_erase_0 rfl (lv_at hl 0 rfl) ?_
  refine x_gI (q := (RX7, TX7, 50)) (j := 18) G C h rfl (by decide) (fun _ _ _ => rfl) (lk C q1074) (fun _ z => z) dX7_erase_1 hf (fun x1 hf => ?_)
  refine lv_istore_n (lv' := [(1, .int x1), (0, .ref a0)]) hx hb dX7_erase_4 rfl hl (by decide) rfl (fun ls hl => ?_)
  refine lv_aload_n hx hb dX7_erase_5 rfl (lv_at hl 1 rfl) ?_
  refine lv_iconst (v := 0) hx hb dX7_erase_6 (by decide) ?_
  refine x_pI (q := (RX7, TX7, 50)) (j := 18) G C h rfl (by decide) rfl (lk C q1074) (fun _ z => z) (Or.inl rfl) dX7_erase_7 hf (fun σ2 H locs h hf => ?_)
  refine lv_iload_n hx hb dX7_erase_10 rfl (lv_at hl 0 rfl) ?_
  cases hf
  refine W.widen (k := 0) (n := 0) (Nat.le_of_ble_eq_true rfl) (Nat.le_of_ble_eq_true rfl) ?_
  exact x_iret C h dX7_erase_11

theorem dX7_nextToken_0 : decode cX7_nextToken 0 = .ok (.aload_n 0, 1) := by decide +kernel
theorem dX7_nextToken_1 : decode cX7_nextToken 1 = .ok (.getfield 167, 3) := by decide +kernel
theorem dX7_nextToken_4 : decode cX7_nextToken 4 = .ok (.aload_n 0, 1) := by decide +kernel
theorem dX7_nextToken_5 : decode cX7_nextToken 5 = .ok (.getfield 162, 3) := by decide +kernel
theorem dX7_nextToken_8 : decode cX7_nextToken 8 = .ok (.if_icmp .ge 30, 3) := by decide +kernel
theorem dX7_nextToken_11 : decode cX7_nextToken 11 = .ok (.aload_n 0, 1) := by decide +kernel
theorem dX7_nextToken_12 : decode cX7_nextToken 12 = .ok (.getfield 53, 3) := by decide +kernel
theorem dX7_nextToken_15 : decode cX7_nextToken 15 = .ok (.aload_n 0, 1) := by decide +kernel
theorem dX7_nextToken_16 : decode cX7_nextToken 16 = .ok (.getfield 167, 3) := by decide +kernel
theorem dX7_nextToken_19 : decode cX7_nextToken 19 = .ok (.iaload, 1) := by decide +kernel
theorem dX7_nextToken_20 : decode cX7_nextToken 20 = .ok (.bipush 32, 2) := by decide +kernel
theorem dX7_nextToken_22 : decode cX7_nextToken 22 = .ok (.if_icmp .ne 16, 3) := by decide +kernel
theorem dX7_nextToken_25 : decode cX7_nextToken 25 = .ok (.aload_n 0, 1) := by decide +kernel
theorem dX7_nextToken_26 : decode cX7_nextToken 26 = .ok (.dup, 1) := by decide +kernel
theorem dX7_nextToken_27 : decode cX7_nextToken 27 = .ok (.getfield 167, 3) := by decide +kernel
theorem dX7_nextToken_30 : decode cX7_nextToken 30 = .ok (.iconst 1, 1) := by decide +kernel
theorem dX7_nextToken_31 : decode cX7_nextToken 31 = .ok (.iadd, 1) := by decide +kernel
theorem dX7_nextToken_32 : decode cX7_nextToken 32 = .ok (.putfield 167, 3) := by decide +kernel
theorem dX7_nextToken_35 : decode cX7_nextToken 35 = .ok (.goto (-35), 3) := by decide +kernel
theorem dX7_nextToken_38 : decode cX7_nextToken 38 = .ok (.aload_n 0, 1) := by decide +kernel
theorem dX7_nextToken_39 : decode cX7_nextToken 39 = .ok (.aload_n 0, 1) := by decide +kernel
theorem dX7_nextToken_40 : decode cX7_nextToken 40 = .ok (.getfield 167, 3) := by decide +kernel
theorem dX7_nextToken_43 : decode cX7_nextToken 43 = .ok (.putfield 170, 3) := by decide +kernel
theorem dX7_nextToken_46 : decode cX7_nextToken 46 = .ok (.aload_n 0, 1) := by decide +kernel
theorem dX7_nextToken_47 : decode cX7_nextToken 47 = .ok (.iconst 0, 1) := by decide +kernel
theorem dX7_nextToken_48 : decode cX7_nextToken 48 = .ok (.putfield 173, 3) := by decide +kernel
theorem dX7_nextToken_51 : decode cX7_nextToken 51 = .ok (.aload_n 0, 1) := by decide +kernel
theorem dX7_nextToken_52 : decode cX7_nextToken 52 = .ok (.iconst 0, 1) := by decide +kernel
theorem dX7_nextToken_53 : decode cX7_nextToken 53 = .ok (.putfield 176, 3) := by decide +kernel
theorem dX7_nextToken_56 : decode cX7_nextToken 56 = .ok (.aload_n 0, 1) := by decide +kernel
theorem dX7_nextToken_57 : decode cX7_nextToken 57 = .ok (.getfield 167, 3) := by decide +kernel
theorem dX7_nextToken_60 : decode cX7_nextToken 60 = .ok (.aload_n 0, 1) := by decide +kernel
theorem dX7_nextToken_61 : decode cX7_nextToken 61 = .ok (.getfield 162, 3) := by decide +kernel
theorem dX7_nextToken_64 : decode cX7_nextToken 64 = .ok (.if_icmp .ne 13, 3) := by decide +kernel
theorem dX7_nextToken_67 : decode cX7_nextToken 67 = .ok (.aload_n 0, 1) := by decide +kernel
theorem dX7_nextToken_68 : decode cX7_nextToken 68 = .ok (.ldc2_w 179, 3) := by decide +kernel
theorem dX7_nextToken_71 : decode cX7_nextToken 71 = .ok (.putfield 181, 3) := by decide +kernel
theorem dX7_nextToken_74 : decode cX7_nextToken 74 = .ok (.goto 320, 3) := by decide +kernel
theorem dX7_nextToken_77 : decode cX7_nextToken 77 = .ok (.aload_n 0, 1) := by decide +kernel
theorem dX7_nextToken_78 : decode cX7_nextToken 78 = .ok (.getfield 53, 3) := by decide +kernel
theorem dX7_nextToken_81 : decode cX7_nextToken 81 = .ok (.aload_n 0, 1) := by decide +kernel
theorem dX7_nextToken_82 : decode cX7_nextToken 82 = .ok (.getfield 167, 3) := by decide +kernel
theorem dX7_nextToken_85 : decode cX7_nextToken 85 = .ok (.iaload, 1) := by decide +kernel
theorem dX7_nextToken_86 : decode cX7_nextToken 86 = .ok (.bipush 97, 2) := by decide +kernel
theorem dX7_nextToken_88 : decode cX7_nextToken 88 = .ok (.bipush 122, 2) := by decide +kernel
theorem dX7_nextToken_90 : decode cX7_nextToken 90 = .ok (.invokestatic 113, 3) := by decide +kernel
theorem dX7_nextToken_93 : decode cX7_nextToken 93 = .ok (.ifCond .eq 129, 3) := by decide +kernel
theorem dX7_nextToken_96 : decode cX7_nextToken 96 = .ok (.aload_n 0, 1) := by decide +kernel
theorem dX7_nextToken_97 : decode cX7_nextToken 97 = .ok (.lconst 0, 1) := by decide +kernel
theorem dX7_nextToken_98 : decode cX7_nextToken 98 = .ok (.putfield 181, 3) := by decide +kernel
theorem dX7_nextToken_101 : decode cX7_nextToken 101 = .ok (.aload_n 0, 1) := by decide +kernel
theorem dX7_nextToken_102 : decode cX7_nextToken 102 = .ok (.getfield 167, 3) := by decide +kernel
theorem dX7_nextToken_105 : decode cX7_nextToken 105 = .ok (.aload_n 0, 1) := by decide +kernel
theorem dX7_nextToken_106 : decode cX7_nextToken 106 = .ok (.getfield 162, 3) := by decide +kernel
theorem dX7_nextToken_109 : decode cX7_nextToken 109 = .ok (.if_icmp .ge 82, 3) := by decide +kernel
theorem dX7_nextToken_112 : decode cX7_nextToken 112 = .ok (.aload_n 0, 1) := by decide +kernel
theorem dX7_nextToken_113 : decode cX7_nextToken 113 = .ok (.getfield 53, 3) := by decide +kernel
theorem dX7_nextToken_116 : decode cX7_nextToken 116 = .ok (.aload_n 0, 1) := by decide +kernel
theorem dX7_nextToken_117 : decode cX7_nextToken 117 = .ok (.getfield 167, 3) := by decide +kernel
theorem dX7_nextToken_120 : decode cX7_nextToken 120 = .ok (.iaload, 1) := by decide +kernel
theorem dX7_nextToken_121 : decode cX7_nextToken 121 = .ok (.bipush 97, 2) := by decide +kernel
theorem dX7_nextToken_123 : decode cX7_nextToken 123 = .ok (.bipush 122, 2) := by decide +kernel
theorem dX7_nextToken_125 : decode cX7_nextToken 125 = .ok (.invokestatic 113, 3) := by decide +kernel
theorem dX7_nextToken_128 : decode cX7_nextToken 128 = .ok (.ifCond .eq 63, 3) := by decide +kernel
theorem dX7_nextToken_131 : decode cX7_nextToken 131 = .ok (.aload_n 0, 1) := by decide +kernel
theorem dX7_nextToken_132 : decode cX7_nextToken 132 = .ok (.aload_n 0, 1) := by decide +kernel
theorem dX7_nextToken_133 : decode cX7_nextToken 133 = .ok (.getfield 167, 3) := by decide +kernel
theorem dX7_nextToken_136 : decode cX7_nextToken 136 = .ok (.aload_n 0, 1) := by decide +kernel
theorem dX7_nextToken_137 : decode cX7_nextToken 137 = .ok (.getfield 170, 3) := by decide +kernel
theorem dX7_nextToken_140 : decode cX7_nextToken 140 = .ok (.isub, 1) := by decide +kernel
theorem dX7_nextToken_141 : decode cX7_nextToken 141 = .ok (.bipush 9, 2) := by decide +kernel
theorem dX7_nextToken_143 : decode cX7_nextToken 143 = .ok (.if_icmp .ge 29, 3) := by decide +kernel
theorem dX7_nextToken_146 : decode cX7_nextToken 146 = .ok (.ldc2_w 185, 3) := by decide +kernel
theorem dX7_nextToken_149 : decode cX7_nextToken 149 = .ok (.aload_n 0, 1) := by decide +kernel
theorem dX7_nextToken_150 : decode cX7_nextToken 150 = .ok (.getfield 181, 3) := by decide +kernel
theorem dX7_nextToken_153 : decode cX7_nextToken 153 = .ok (.lmul, 1) := by decide +kernel
theorem dX7_nextToken_154 : decode cX7_nextToken 154 = .ok (.aload_n 0, 1) := by decide +kernel
theorem dX7_nextToken_155 : decode cX7_nextToken 155 = .ok (.getfield 53, 3) := by decide +kernel
theorem dX7_nextToken_158 : decode cX7_nextToken 158 = .ok (.aload_n 0, 1) := by decide +kernel
theorem dX7_nextToken_159 : decode cX7_nextToken 159 = .ok (.getfield 167, 3) := by decide +kernel
theorem dX7_nextToken_162 : decode cX7_nextToken 162 = .ok (.iaload, 1) := by decide +kernel
theorem dX7_nextToken_163 : decode cX7_nextToken 163 = .ok (.i2l, 1) := by decide +kernel
theorem dX7_nextToken_164 : decode cX7_nextToken 164 = .ok (.ladd, 1) := by decide +kernel
theorem dX7_nextToken_165 : decode cX7_nextToken 165 = .ok (.ldc2_w 187, 3) := by decide +kernel
theorem dX7_nextToken_168 : decode cX7_nextToken 168 = .ok (.lsub, 1) := by decide +kernel
theorem dX7_nextToken_169 : decode cX7_nextToken 169 = .ok (.goto 6, 3) := by decide +kernel
theorem dX7_nextToken_172 : decode cX7_nextToken 172 = .ok (.ldc2_w 189, 3) := by decide +kernel
theorem dX7_nextToken_175 : decode cX7_nextToken 175 = .ok (.putfield 181, 3) := by decide +kernel
theorem dX7_nextToken_178 : decode cX7_nextToken 178 = .ok (.aload_n 0, 1) := by decide +kernel
theorem dX7_nextToken_179 : decode cX7_nextToken 179 = .ok (.dup, 1) := by decide +kernel
theorem dX7_nextToken_180 : decode cX7_nextToken 180 = .ok (.getfield 167, 3) := by decide +kernel
theorem dX7_nextToken_183 : decode cX7_nextToken 183 = .ok (.iconst 1, 1) := by decide +kernel
theorem dX7_nextToken_184 : decode cX7_nextToken 184 = .ok (.iadd, 1) := by decide +kernel
theorem dX7_nextToken_185 : decode cX7_nextToken 185 = .ok (.putfield 167, 3) := by decide +kernel
theorem dX7_nextToken_188 : decode cX7_nextToken 188 = .ok (.goto (-87), 3) := by decide +kernel
theorem dX7_nextToken_191 : decode cX7_nextToken 191 = .ok (.aload_n 0, 1) := by decide +kernel
theorem dX7_nextToken_192 : decode cX7_nextToken 192 = .ok (.aload_n 0, 1) := by decide +kernel
theorem dX7_nextToken_193 : decode cX7_nextToken 193 = .ok (.getfield 167, 3) := by decide +kernel
theorem dX7_nextToken_196 : decode cX7_nextToken 196 = .ok (.aload_n 0, 1) := by decide +kernel
theorem dX7_nextToken_197 : decode cX7_nextToken 197 = .ok (.getfield 170, 3) := by decide +kernel
theorem dX7_nextToken_200 : decode cX7_nextToken 200 = .ok (.isub, 1) := by decide +kernel
theorem dX7_nextToken_201 : decode cX7_nextToken 201 = .ok (.bipush 9, 2) := by decide +kernel
theorem dX7_nextToken_203 : decode cX7_nextToken 203 = .ok (.if_icmp .le 9, 3) := by decide +kernel
theorem dX7_nextToken_206 : decode cX7_nextToken 206 = .ok (.ldc2_w 189, 3) := by decide +kernel
theorem dX7_nextToken_209 : decode cX7_nextToken 209 = .ok (.goto 7, 3) := by decide +kernel
theorem dX7_nextToken_212 : decode cX7_nextToken 212 = .ok (.aload_n 0, 1) := by decide +kernel
theorem dX7_nextToken_213 : decode cX7_nextToken 213 = .ok (.getfield 181, 3) := by decide +kernel
theorem dX7_nextToken_216 : decode cX7_nextToken 216 = .ok (.putfield 181, 3) := by decide +kernel
theorem dX7_nextToken_219 : decode cX7_nextToken 219 = .ok (.goto 175, 3) := by decide +kernel
theorem dX7_nextToken_222 : decode cX7_nextToken 222 = .ok (.aload_n 0, 1) := by decide +kernel
theorem dX7_nextToken_223 : decode cX7_nextToken 223 = .ok (.getfield 53, 3) := by decide +kernel
theorem dX7_nextToken_226 : decode cX7_nextToken 226 = .ok (.aload_n 0, 1) := by decide +kernel
theorem dX7_nextToken_227 : decode cX7_nextToken 227 = .ok (.getfield 167, 3) := by decide +kernel
theorem dX7_nextToken_230 : decode cX7_nextToken 230 = .ok (.iaload, 1) := by decide +kernel
theorem dX7_nextToken_231 : decode cX7_nextToken 231 = .ok (.bipush 48, 2) := by decide +kernel
theorem dX7_nextToken_233 : decode cX7_nextToken 233 = .ok (.bipush 57, 2) := by decide +kernel
theorem dX7_nextToken_235 : decode cX7_nextToken 235 = .ok (.invokestatic 113, 3) := by decide +kernel
theorem dX7_nextToken_238 : decode cX7_nextToken 238 = .ok (.ifCond .eq 119, 3) := by decide +kernel
theorem dX7_nextToken_241 : decode cX7_nextToken 241 = .ok (.aload_n 0, 1) := by decide +kernel
theorem dX7_nextToken_242 : decode cX7_nextToken 242 = .ok (.getfield 167, 3) := by decide +kernel
theorem dX7_nextToken_245 : decode cX7_nextToken 245 = .ok (.aload_n 0, 1) := by decide +kernel
theorem dX7_nextToken_246 : decode cX7_nextToken 246 = .ok (.getfield 162, 3) := by decide +kernel
theorem dX7_nextToken_249 : decode cX7_nextToken 249 = .ok (.if_icmp .ge 84, 3) := by decide +kernel
theorem dX7_nextToken_252 : decode cX7_nextToken 252 = .ok (.aload_n 0, 1) := by decide +kernel
theorem dX7_nextToken_253 : decode cX7_nextToken 253 = .ok (.getfield 53, 3) := by decide +kernel
theorem dX7_nextToken_256 : decode cX7_nextToken 256 = .ok (.aload_n 0, 1) := by decide +kernel
theorem dX7_nextToken_257 : decode cX7_nextToken 257 = .ok (.getfield 167, 3) := by decide +kernel
theorem dX7_nextToken_260 : decode cX7_nextToken 260 = .ok (.iaload, 1) := by decide +kernel
theorem dX7_nextToken_261 : decode cX7_nextToken 261 = .ok (.bipush 48, 2) := by decide +kernel
theorem dX7_nextToken_263 : decode cX7_nextToken 263 = .ok (.bipush 57, 2) := by decide +kernel
theorem dX7_nextToken_265 : decode cX7_nextToken 265 = .ok (.invokestatic 113, 3) := by decide +kernel
theorem dX7_nextToken_268 : decode cX7_nextToken 268 = .ok (.ifCond .eq 65, 3) := by decide +kernel
theorem dX7_nextToken_271 : decode cX7_nextToken 271 = .ok (.aload_n 0, 1) := by decide +kernel
theorem dX7_nextToken_272 : decode cX7_nextToken 272 = .ok (.aload_n 0, 1) := by decide +kernel
theorem dX7_nextToken_273 : decode cX7_nextToken 273 = .ok (.getfield 173, 3) := by decide +kernel
theorem dX7_nextToken_276 : decode cX7_nextToken 276 = .ok (.iconst 2, 1) := by decide +kernel
theorem dX7_nextToken_277 : decode cX7_nextToken 277 = .ok (.if_icmp .ge 26, 3) := by decide +kernel
theorem dX7_nextToken_280 : decode cX7_nextToken 280 = .ok (.bipush 10, 2) := by decide +kernel
theorem dX7_nextToken_282 : decode cX7_nextToken 282 = .ok (.aload_n 0, 1) := by decide +kernel
theorem dX7_nextToken_283 : decode cX7_nextToken 283 = .ok (.getfield 176, 3) := by decide +kernel
theorem dX7_nextToken_286 : decode cX7_nextToken 286 = .ok (.imul, 1) := by decide +kernel
theorem dX7_nextToken_287 : decode cX7_nextToken 287 = .ok (.aload_n 0, 1) := by decide +kernel
theorem dX7_nextToken_288 : decode cX7_nextToken 288 = .ok (.getfield 53, 3) := by decide +kernel
theorem dX7_nextToken_291 : decode cX7_nextToken 291 = .ok (.aload_n 0, 1) := by decide +kernel
theorem dX7_nextToken_292 : decode cX7_nextToken 292 = .ok (.getfield 167, 3) := by decide +kernel
theorem dX7_nextToken_295 : decode cX7_nextToken 295 = .ok (.iaload, 1) := by decide +kernel
theorem dX7_nextToken_296 : decode cX7_nextToken 296 = .ok (.iadd, 1) := by decide +kernel
theorem dX7_nextToken_297 : decode cX7_nextToken 297 = .ok (.bipush 48, 2) := by decide +kernel
theorem dX7_nextToken_299 : decode cX7_nextToken 299 = .ok (.isub, 1) := by decide +kernel
theorem dX7_nextToken_300 : decode cX7_nextToken 300 = .ok (.goto 7, 3) := by decide +kernel
theorem dX7_nextToken_303 : decode cX7_nextToken 303 = .ok (.aload_n 0, 1) := by decide +kernel
theorem dX7_nextToken_304 : decode cX7_nextToken 304 = .ok (.getfield 176, 3) := by decide +kernel
theorem dX7_nextToken_307 : decode cX7_nextToken 307 = .ok (.putfield 176, 3) := by decide +kernel
theorem dX7_nextToken_310 : decode cX7_nextToken 310 = .ok (.aload_n 0, 1) := by decide +kernel
theorem dX7_nextToken_311 : decode cX7_nextToken 311 = .ok (.dup, 1) := by decide +kernel
theorem dX7_nextToken_312 : decode cX7_nextToken 312 = .ok (.getfield 173, 3) := by decide +kernel
theorem dX7_nextToken_315 : decode cX7_nextToken 315 = .ok (.iconst 1, 1) := by decide +kernel
theorem dX7_nextToken_316 : decode cX7_nextToken 316 = .ok (.iadd, 1) := by decide +kernel
theorem dX7_nextToken_317 : decode cX7_nextToken 317 = .ok (.putfield 173, 3) := by decide +kernel
theorem dX7_nextToken_320 : decode cX7_nextToken 320 = .ok (.aload_n 0, 1) := by decide +kernel
theorem dX7_nextToken_321 : decode cX7_nextToken 321 = .ok (.dup, 1) := by decide +kernel
theorem dX7_nextToken_322 : decode cX7_nextToken 322 = .ok (.getfield 167, 3) := by decide +kernel
theorem dX7_nextToken_325 : decode cX7_nextToken 325 = .ok (.iconst 1, 1) := by decide +kernel
theorem dX7_nextToken_326 : decode cX7_nextToken 326 = .ok (.iadd, 1) := by decide +kernel
theorem dX7_nextToken_327 : decode cX7_nextToken 327 = .ok (.putfield 167, 3) := by decide +kernel
theorem dX7_nextToken_330 : decode cX7_nextToken 330 = .ok (.goto (-89), 3) := by decide +kernel
theorem dX7_nextToken_333 : decode cX7_nextToken 333 = .ok (.aload_n 0, 1) := by decide +kernel
theorem dX7_nextToken_334 : decode cX7_nextToken 334 = .ok (.aload_n 0, 1) := by decide +kernel
theorem dX7_nextToken_335 : decode cX7_nextToken 335 = .ok (.getfield 173, 3) := by decide +kernel
theorem dX7_nextToken_338 : decode cX7_nextToken 338 = .ok (.iconst 2, 1) := by decide +kernel
theorem dX7_nextToken_339 : decode cX7_nextToken 339 = .ok (.if_icmp .le 9, 3) := by decide +kernel
theorem dX7_nextToken_342 : decode cX7_nextToken 342 = .ok (.ldc2_w 189, 3) := by decide +kernel
theorem dX7_nextToken_345 : decode cX7_nextToken 345 = .ok (.goto 6, 3) := by decide +kernel
theorem dX7_nextToken_348 : decode cX7_nextToken 348 = .ok (.ldc2_w 191, 3) := by decide +kernel
theorem dX7_nextToken_351 : decode cX7_nextToken 351 = .ok (.putfield 181, 3) := by decide +kernel
theorem dX7_nextToken_354 : decode cX7_nextToken 354 = .ok (.goto 40, 3) := by decide +kernel
theorem dX7_nextToken_357 : decode cX7_nextToken 357 = .ok (.aload_n 0, 1) := by decide +kernel
theorem dX7_nextToken_358 : decode cX7_nextToken 358 = .ok (.aload_n 0, 1) := by decide +kernel
theorem dX7_nextToken_359 : decode cX7_nextToken 359 = .ok (.getfield 53, 3) := by decide +kernel
theorem dX7_nextToken_362 : decode cX7_nextToken 362 = .ok (.aload_n 0, 1) := by decide +kernel
theorem dX7_nextToken_363 : decode cX7_nextToken 363 = .ok (.getfield 167, 3) := by decide +kernel
theorem dX7_nextToken_366 : decode cX7_nextToken 366 = .ok (.iaload, 1) := by decide +kernel
theorem dX7_nextToken_367 : decode cX7_nextToken 367 = .ok (.bipush 59, 2) := by decide +kernel
theorem dX7_nextToken_369 : decode cX7_nextToken 369 = .ok (.if_icmp .ne 9, 3) := by decide +kernel
theorem dX7_nextToken_372 : decode cX7_nextToken 372 = .ok (.ldc2_w 193, 3) := by decide +kernel
theorem dX7_nextToken_375 : decode cX7_nextToken 375 = .ok (.goto 6, 3) := by decide +kernel
theorem dX7_nextToken_378 : decode cX7_nextToken 378 = .ok (.ldc2_w 189, 3) := by decide +kernel
theorem dX7_nextToken_381 : decode cX7_nextToken 381 = .ok (.putfield 181, 3) := by decide +kernel
theorem dX7_nextToken_384 : decode cX7_nextToken 384 = .ok (.aload_n 0, 1) := by decide +kernel
theorem dX7_nextToken_385 : decode cX7_nextToken 385 = .ok (.dup, 1) := by decide +kernel
theorem dX7_nextToken_386 : decode cX7_nextToken 386 = .ok (.getfield 167, 3) := by decide +kernel
theorem dX7_nextToken_389 : decode cX7_nextToken 389 = .ok (.iconst 1, 1) := by decide +kernel
theorem dX7_nextToken_390 : decode cX7_nextToken 390 = .ok (.iadd, 1) := by decide +kernel
theorem dX7_nextToken_391 : decode cX7_nextToken 391 = .ok (.putfield 167, 3) := by decide +kernel
theorem dX7_nextToken_394 : decode cX7_nextToken 394 = .ok (.return_, 1) := by decide +kernel
def lX7_nextToken_0 (a0 : Nat) (σ1 : St) : Option ((St) ⊕ (St)) :=
  o_gI σ1 a0 5 20 fun x2 =>
  o_gI σ1 a0 5 18 fun x3 =>
  if x3 ≤ x2 then
    some (.inr σ1)
  else
  o_gR σ1 a0 5 19 fun r4 =>
  o_gI σ1 a0 5 20 fun x5 =>
  o_aI σ1 r4 0 x5 fun x6 =>
  if x6 = 32 then
    o_gI σ1 a0 5 20 fun x7 =>
    o_pI σ1 a0 5 20 (x7 + 1) fun σ8 =>
    some (.inl σ8)
  else
  some (.inr σ1)

def lX7_nextToken_241 (a0 : Nat) (σ31 : St) : Option ((St) ⊕ (St)) :=
  o_gI σ31 a0 5 20 fun x32 =>
  o_gI σ31 a0 5 18 fun x33 =>
  if x33 ≤ x32 then
    some (.inr σ31)
  else
  o_gR σ31 a0 5 19 fun r34 =>
  o_gI σ31 a0 5 20 fun x35 =>
  o_aI σ31 r34 0 x35 fun x36 =>
  (fX7_in σ31 x36 48 57).bind fun x37 =>
  if x37 = 0 then
    some (.inr σ31)
  else
  o_gI σ31 a0 5 23 fun x38 =>
  jn (fun (x44 : Int32) =>
    o_pI σ31 a0 5 24 x44 fun σ45 =>
    o_gI σ45 a0 5 23 fun x46 =>
    o_pI σ45 a0 5 23 (x46 + 1) fun σ47 =>
    o_gI σ47 a0 5 20 fun x48 =>
    o_pI σ47 a0 5 20 (x48 + 1) fun σ49 =>
    some (.inl σ49)) fun j307 =>
  if 2 ≤ x38 then
    o_gI σ31 a0 5 24 fun x39 =>
    j307 x39
  else
  o_gI σ31 a0 5 24 fun x40 =>
  o_gR σ31 a0 5 19 fun r41 =>
  o_gI σ31 a0 5 20 fun x42 =>
  o_aI σ31 r41 0 x42 fun x43 =>
  j307 (((10 * x40) + x43) - 48)

def lX7_nextToken_101 (a0 : Nat) (σ55 : St) : Option ((St) ⊕ (St)) :=
  o_gI σ55 a0 5 20 fun x56 =>
  o_gI σ55 a0 5 18 fun x57 =>
  if x57 ≤ x56 then
    some (.inr σ55)
  else
  o_gR σ55 a0 5 19 fun r58 =>
  o_gI σ55 a0 5 20 fun x59 =>
  o_aI σ55 r58 0 x59 fun x60 =>
  (fX7_in σ55 x60 97 122).bind fun x61 =>
  if x61 = 0 then
    some (.inr σ55)
  else
  o_gI σ55 a0 5 20 fun x62 =>
  o_gI σ55 a0 5 21 fun x63 =>
  jn (fun (y68 : Int64) =>
    o_pL σ55 a0 5 22 y68 fun σ69 =>
    o_gI σ69 a0 5 20 fun x70 =>
    o_pI σ69 a0 5 20 (x70 + 1) fun σ71 =>
    some (.inl σ71)) fun j175 =>
  if 9 ≤ (x62 - x63) then
    j175 ((-4))
  else
  o_gL σ55 a0 5 22 fun y64 =>
  o_gR σ55 a0 5 19 fun r65 =>
  o_gI σ55 a0 5 20 fun x66 =>
  o_aI σ55 r65 0 x66 fun x67 =>
  j175 (((27 * y64) + (x67.toInt64)) - 96)

def fX7_nextToken (σ : St) (a0 : Nat) : Option (St) :=
  (loopF fuel (fun z => lX7_nextToken_0 a0 z) σ).bind <| fun σ9 =>
  o_gI σ9 a0 5 20 fun x10 =>
  o_pI σ9 a0 5 21 x10 fun σ11 =>
  o_pI σ11 a0 5 23 0 fun σ12 =>
  o_pI σ12 a0 5 24 0 fun σ13 =>
  o_gI σ13 a0 5 20 fun x14 =>
  o_gI σ13 a0 5 18 fun x15 =>
  if x14 = x15 then
    o_pL σ13 a0 5 22 ((-2)) fun σ78 =>
    some σ78
  else
  o_gR σ13 a0 5 19 fun r16 =>
  o_gI σ13 a0 5 20 fun x17 =>
  o_aI σ13 r16 0 x17 fun x18 =>
  (fX7_in σ13 x18 97 122).bind fun x19 =>
  if x19 = 0 then
    o_gR σ13 a0 5 19 fun r20 =>
    o_gI σ13 a0 5 20 fun x21 =>
    o_aI σ13 r20 0 x21 fun x22 =>
    (fX7_in σ13 x22 48 57).bind fun x23 =>
    if x23 = 0 then
      o_gR σ13 a0 5 19 fun r24 =>
      o_gI σ13 a0 5 20 fun x25 =>
      o_aI σ13 r24 0 x25 fun x26 =>
      jn (fun (y27 : Int64) =>
        o_pL σ13 a0 5 22 y27 fun σ28 =>
        o_gI σ28 a0 5 20 fun x29 =>
        o_pI σ28 a0 5 20 (x29 + 1) fun σ30 =>
        some σ30) fun j381 =>
      if x26 = 59 then
        j381 ((-3))
      else
      j381 ((-4))
    else
    (loopF fuel (fun z => lX7_nextToken_241 a0 z) σ13).bind <| fun σ50 =>
    o_gI σ50 a0 5 23 fun x51 =>
    jn (fun (y52 : Int64) =>
      o_pL σ50 a0 5 22 y52 fun σ53 =>
      some σ53) fun j351 =>
    if x51 ≤ 2 then
      j351 ((-1))
    else
    j351 ((-4))
  else
  o_pL σ13 a0 5 22 0 fun σ54 =>
  (loopF fuel (fun z => lX7_nextToken_101 a0 z) σ54).bind <| fun σ72 =>
  o_gI σ72 a0 5 20 fun x73 =>
  o_gI σ72 a0 5 21 fun x74 =>
  jn (fun (y76 : Int64) =>
    o_pL σ72 a0 5 22 y76 fun σ77 =>
    some σ77) fun j216 =>
  if (x73 - x74) ≤ 9 then
    o_gL σ72 a0 5 22 fun y75 =>
    j216 y75
  else
  j216 ((-4))

set_option maxHeartbeats 4000000 in
theorem wX7_nextToken {l : Launch} {s0 : State} {A0 : Array Value} {D : va_G} {ac : Nat → ClassId} (G : Gl s0 A0 D ac) {σ : St} {a0 : Nat} {σ' : St} (hf : fX7_nextToken σ a0 = some (σ')) : Met l yX7_nextToken (ws_ yX7_nextToken cX7_nextToken 1 none) ({ frames := 1, cells := 0, slots := 0, locals := 22 } : Room) (Pn s0 D ac [.ref a0] σ) (Qn s0 D ac none σ') 0 0 (fr s0) := by
  refine x_met (by decide) (Nat.le_of_ble_eq_true rfl) ?_
  intro p e s m args below meth c ls C hnm h hl
  have C : Cx s0 p s m args meth c cX7_nextToken 1 "HutForShowModel" none := C
  have hx := C.1
  have hb := C.2.1
  have hl : lv_has ls 1 [(0, .ref a0)] := hl
  unfold fX7_nextToken at hf
  obtain ⟨e0, hL, hK⟩ := hf_b hf
  have hE0_0 : ∀ (σ9 : St), σ9 = e0 → ∀  (H : Heap) (locs : List Loc) (ls : Array Slot), Hs s0 D ac σ9 H locs → lv_has ls 1 [(0, .ref a0)] → W p l e ({ frames := 1, cells := 0, slots := 0, locals := 22 } : Room) s m args below meth c H locs 0 0 (MQ below (Qn s0 D ac none σ') args s 0 0 (fr s0)) (F0 m 38 ls []) := by
    intro σ9 he H locs ls h hl
    subst he
    have hf := hK
    refine lv_aload_n hx hb dX7_nextToken_38 rfl (lv_at hl 0 rfl) ?_
    refine lv_aload_n hx hb dX7_nextToken_39 rfl (lv_at hl 0 rfl) ?_
    refine x_gI (q := (RX7, TX7, 50)) (j := 20) G C h rfl (by decide) (fun _ _ _ => rfl) (lk C q1076) (fun _ z => z) dX7_nextToken_40 hf (fun x10 hf => ?_)
    refine x_pI (q := (RX7, TX7, 50)) (j := 21) G C h rfl (by decide) rfl (lk C q1077) (fun _ z => z) (Or.inl rfl) dX7_nextToken_43 hf (fun σ11 H locs h hf => ?_)
    refine lv_aload_n hx hb dX7_nextToken_46 rfl (lv_at hl 0 rfl) ?_
    refine lv_iconst (v := 0) hx hb dX7_nextToken_47 (by decide) ?_
    refine x_pI (q := (RX7, TX7, 50)) (j := 23) G C h rfl (by decide) rfl (lk C q1079) (fun _ z => z) (Or.inl rfl) dX7_nextToken_48 hf (fun σ12 H locs h hf => ?_)
    refine lv_aload_n hx hb dX7_nextToken_51 rfl (lv_at hl 0 rfl) ?_
    refine lv_iconst (v := 0) hx hb dX7_nextToken_52 (by decide) ?_
    refine x_pI (q := (RX7, TX7, 50)) (j := 24) G C h rfl (by decide) rfl (lk C q1080) (fun _ z => z) (Or.inl rfl) dX7_nextToken_53 hf (fun σ13 H locs h hf => ?_)
    refine lv_aload_n hx hb dX7_nextToken_56 rfl (lv_at hl 0 rfl) ?_
    refine x_gI (q := (RX7, TX7, 50)) (j := 20) G C h rfl (by decide) (fun _ _ _ => rfl) (lk C q1076) (fun _ z => z) dX7_nextToken_57 hf (fun x14 hf => ?_)
    refine lv_aload_n hx hb dX7_nextToken_60 rfl (lv_at hl 0 rfl) ?_
    refine x_gI (q := (RX7, TX7, 50)) (j := 18) G C h rfl (by decide) (fun _ _ _ => rfl) (lk C q1074) (fun _ z => z) dX7_nextToken_61 hf (fun x15 hf => ?_)
    refine lv_icmp_ne (tgt := 77) hx hb dX7_nextToken_64 (by decide) (fun hc => ?_) (fun hc => ?_)
    · have hf := hf_f hc hf
      refine lv_aload_n hx hb dX7_nextToken_77 rfl (lv_at hl 0 rfl) ?_
      refine x_gR (q := (RX7, TX7, 50)) (j := 19) G C h rfl (by decide) (fun _ _ _ => rfl) (lk C q1075) (fun _ z => z) dX7_nextToken_78 hf (fun r16 hf => ?_)
      refine lv_aload_n hx hb dX7_nextToken_81 rfl (lv_at hl 0 rfl) ?_
      refine x_gI (q := (RX7, TX7, 50)) (j := 20) G C h rfl (by decide) (fun _ _ _ => rfl) (lk C q1076) (fun _ z => z) dX7_nextToken_82 hf (fun x17 hf => ?_)
      refine x_iald G C h dX7_nextToken_85 hf (fun x18 hf => ?_)
      refine lv_bipush (v := 97) hx hb dX7_nextToken_86 (by decide) ?_
      refine lv_bipush (v := 122) hx hb dX7_nextToken_88 (by decide) ?_
      obtain ⟨x19, hc, hf⟩ := hf_b hf
      refine x_cS (rest := []) (As := [.int x18, .int 97, .int 122]) (n := 3) (ov := (some (.int x19))) C h (wX7_in G hc) (lw_S q1211 q1212 q61 q1213) (by decide +kernel) ⟨Nat.le_of_ble_eq_true rfl, Nat.le_of_ble_eq_true rfl⟩ rfl rfl rfl hl.1 rfl (Nat.le_of_ble_eq_true rfl) dX7_nextToken_90 ⟨(Nat.le_of_ble_eq_true rfl), (Nat.le_of_ble_eq_true rfl)⟩ (fun H locs h => ?_)
      refine lv_if_eq (tgt := 222) hx hb dX7_nextToken_93 (by decide) (fun hc => ?_) (fun hc => ?_)
      · have hf := hf_t hc hf
        refine lv_aload_n hx hb dX7_nextToken_222 rfl (lv_at hl 0 rfl) ?_
        refine x_gR (q := (RX7, TX7, 50)) (j := 19) G C h rfl (by decide) (fun _ _ _ => rfl) (lk C q1075) (fun _ z => z) dX7_nextToken_223 hf (fun r20 hf => ?_)
        refine lv_aload_n hx hb dX7_nextToken_226 rfl (lv_at hl 0 rfl) ?_
        refine x_gI (q := (RX7, TX7, 50)) (j := 20) G C h rfl (by decide) (fun _ _ _ => rfl) (lk C q1076) (fun _ z => z) dX7_nextToken_227 hf (fun x21 hf => ?_)
        refine x_iald G C h dX7_nextToken_230 hf (fun x22 hf => ?_)
        refine lv_bipush (v := 48) hx hb dX7_nextToken_231 (by decide) ?_
        refine lv_bipush (v := 57) hx hb dX7_nextToken_233 (by decide) ?_
        obtain ⟨x23, hc, hf⟩ := hf_b hf
        refine x_cS (rest := []) (As := [.int x22, .int 48, .int 57]) (n := 3) (ov := (some (.int x23))) C h (wX7_in G hc) (lw_S q1211 q1212 q61 q1213) (by decide +kernel) ⟨Nat.le_of_ble_eq_true rfl, Nat.le_of_ble_eq_true rfl⟩ rfl rfl rfl hl.1 rfl (Nat.le_of_ble_eq_true rfl) dX7_nextToken_235 ⟨(Nat.le_of_ble_eq_true rfl), (Nat.le_of_ble_eq_true rfl)⟩ (fun H locs h => ?_)
        refine lv_if_eq (tgt := 357) hx hb dX7_nextToken_238 (by decide) (fun hc => ?_) (fun hc => ?_)
        · have hf := hf_t hc hf
          refine lv_aload_n hx hb dX7_nextToken_357 rfl (lv_at hl 0 rfl) ?_
          refine lv_aload_n hx hb dX7_nextToken_358 rfl (lv_at hl 0 rfl) ?_
          refine x_gR (q := (RX7, TX7, 50)) (j := 19) G C h rfl (by decide) (fun _ _ _ => rfl) (lk C q1075) (fun _ z => z) dX7_nextToken_359 hf (fun r24 hf => ?_)
          refine lv_aload_n hx hb dX7_nextToken_362 rfl (lv_at hl 0 rfl) ?_
          refine x_gI (q := (RX7, TX7, 50)) (j := 20) G C h rfl (by decide) (fun _ _ _ => rfl) (lk C q1076) (fun _ z => z) dX7_nextToken_363 hf (fun x25 hf => ?_)
          refine x_iald G C h dX7_nextToken_366 hf (fun x26 hf => ?_)
          refine lv_bipush (v := 59) hx hb dX7_nextToken_367 (by decide) ?_
          refine jn_of (P := fun j => ∀ (y27 : Int64), j y27 = some (σ') → ∀ (H : Heap) (locs : List Loc) (ls : Array Slot), Hs s0 D ac σ13 H locs → lv_has ls 1 [(0, .ref a0)] → W p l e ({ frames := 1, cells := 0, slots := 0, locals := 22 } : Room) s m args below meth c H locs 0 0 (MQ below (Qn s0 D ac none σ') args s 0 0 (fr s0)) (F0 m 381 ls [.long y27, .ref a0])) hf ?_ ?_
          · intro y27 hf H locs ls h hl
            refine x_pL (q := (RX7, TX7, 50)) (j := 22) G C h rfl (by decide) rfl (lk C q1078) (fun _ z => z) (Or.inl rfl) dX7_nextToken_381 hf (fun σ28 H locs h hf => ?_)
            refine lv_aload_n hx hb dX7_nextToken_384 rfl (lv_at hl 0 rfl) ?_
            refine lv_dup hx hb dX7_nextToken_385 rfl ?_
            refine x_gI (q := (RX7, TX7, 50)) (j := 20) G C h rfl (by decide) (fun _ _ _ => rfl) (lk C q1076) (fun _ z => z) dX7_nextToken_386 hf (fun x29 hf => ?_)
            refine lv_iconst (v := 1) hx hb dX7_nextToken_389 (by decide) ?_
            refine lv_iadd hx hb dX7_nextToken_390 ?_
            refine x_pI (q := (RX7, TX7, 50)) (j := 20) G C h rfl (by decide) rfl (lk C q1076) (fun _ z => z) (Or.inl rfl) dX7_nextToken_391 hf (fun σ30 H locs h hf => ?_)
            cases hf
            refine W.widen (k := 0) (n := 0) (Nat.le_of_ble_eq_true rfl) (Nat.le_of_ble_eq_true rfl) ?_
            exact x_vret C h dX7_nextToken_394
          intro j381 hj381 hf
          refine lv_icmp_ne (tgt := 378) hx hb dX7_nextToken_369 (by decide) (fun hc => ?_) (fun hc => ?_)
          · have hf := hf_f hc hf
            refine lv_ldc2 (v := (-4)) hx hb C.2.2.2.1 (C.2.2.2.2.1 _ q1305) dX7_nextToken_378 ?_
            exact hj381 _ hf _ _ _ h (lv_sub hl [0] rfl)
          · have hf := hf_t hc hf
            refine lv_ldc2 (v := (-3)) hx hb C.2.2.2.1 (C.2.2.2.2.1 _ q1307) dX7_nextToken_372 ?_
            refine lv_goto (tgt := 381) hx hb dX7_nextToken_375 (by decide) ?_
            exact hj381 _ hf _ _ _ h (lv_sub hl [0] rfl)
        · have hf := hf_f hc hf
          obtain ⟨e241, hL, hK⟩ := hf_b hf
          have hE241_0 : ∀ (σ50 : St), σ50 = e241 → ∀  (H : Heap) (locs : List Loc) (ls : Array Slot), Hs s0 D ac σ50 H locs → lv_has ls 1 [(0, .ref a0)] → W p l e ({ frames := 1, cells := 0, slots := 0, locals := 22 } : Room) s m args below meth c H locs 0 0 (MQ below (Qn s0 D ac none σ') args s 0 0 (fr s0)) (F0 m 333 ls []) := by
            intro σ50 he H locs ls h hl
            subst he
            have hf := hK
            refine lv_aload_n hx hb dX7_nextToken_333 rfl (lv_at hl 0 rfl) ?_
            refine lv_aload_n hx hb dX7_nextToken_334 rfl (lv_at hl 0 rfl) ?_
            refine x_gI (q := (RX7, TX7, 50)) (j := 23) G C h rfl (by decide) (fun _ _ _ => rfl) (lk C q1079) (fun _ z => z) dX7_nextToken_335 hf (fun x51 hf => ?_)
            refine lv_iconst (v := 2) hx hb dX7_nextToken_338 (by decide) ?_
            refine jn_of (P := fun j => ∀ (y52 : Int64), j y52 = some (σ') → ∀ (H : Heap) (locs : List Loc) (ls : Array Slot), Hs s0 D ac σ50 H locs → lv_has ls 1 [(0, .ref a0)] → W p l e ({ frames := 1, cells := 0, slots := 0, locals := 22 } : Room) s m args below meth c H locs 0 0 (MQ below (Qn s0 D ac none σ') args s 0 0 (fr s0)) (F0 m 351 ls [.long y52, .ref a0])) hf ?_ ?_
            · intro y52 hf H locs ls h hl
              refine x_pL (q := (RX7, TX7, 50)) (j := 22) G C h rfl (by decide) rfl (lk C q1078) (fun _ z => z) (Or.inl rfl) dX7_nextToken_351 hf (fun σ53 H locs h hf => ?_)
              refine lv_goto (tgt := 394) hx hb dX7_nextToken_354 (by decide) ?_
              cases hf
              refine W.widen (k := 0) (n := 0) (Nat.le_of_ble_eq_true rfl) (Nat.le_of_ble_eq_true rfl) ?_
              exact x_vret C h dX7_nextToken_394
            intro j351 hj351 hf
            refine lv_icmp_le (tgt := 348) hx hb dX7_nextToken_339 (by decide) (fun hc => ?_) (fun hc => ?_)
            · have hf := hf_t hc hf
              refine lv_ldc2 (v := (-1)) hx hb C.2.2.2.1 (C.2.2.2.2.1 _ q1306) dX7_nextToken_348 ?_
              exact hj351 _ hf _ _ _ h (lv_sub hl [0] rfl)
            · have hf := hf_f hc hf
              refine lv_ldc2 (v := (-4)) hx hb C.2.2.2.1 (C.2.2.2.2.1 _ q1305) dX7_nextToken_342 ?_
              refine lv_goto (tgt := 351) hx hb dX7_nextToken_345 (by decide) ?_
              exact hj351 _ hf _ _ _ h (lv_sub hl [0] rfl)
          refine loopF_ind (P := fun z => ∀ (H : Heap) (locs : List Loc) (ls : Array Slot), Hs s0 D ac z H locs → lv_has ls 1 [(0, .ref a0)] → W p l e ({ frames := 1, cells := 0, slots := 0, locals := 22 } : Room) s m args below meth c H locs 0 0 (MQ below (Qn s0 D ac none σ') args s 0 0 (fr s0)) (F0 m 241 ls [])) ?_ _ _ hL _ _ _ h (lv_sub hl [0] rfl)
          clear hK hL h hl hf
          intro z o hf ih hX H locs ls h hl
          obtain ⟨σ31, rfl⟩ : ∃ y, y = z := ⟨_, rfl⟩
          have h : Hs s0 D ac σ31 H locs := h
          have hl : lv_has ls 1 [(0, .ref a0)] := hl
          have hf : lX7_nextToken_241 a0 σ31 = some o := hf
          unfold lX7_nextToken_241 at hf
          refine lv_aload_n hx hb dX7_nextToken_241 rfl (lv_at hl 0 rfl) ?_
          refine x_gI (q := (RX7, TX7, 50)) (j := 20) G C h rfl (by decide) (fun _ _ _ => rfl) (lk C q1076) (fun _ z => z) dX7_nextToken_242 hf (fun x32 hf => ?_)
          refine lv_aload_n hx hb dX7_nextToken_245 rfl (lv_at hl 0 rfl) ?_
          refine x_gI (q := (RX7, TX7, 50)) (j := 18) G C h rfl (by decide) (fun _ _ _ => rfl) (lk C q1074) (fun _ z => z) dX7_nextToken_246 hf (fun x33 hf => ?_)
          refine lv_icmp_ge (tgt := 333) hx hb dX7_nextToken_249 (by decide) (fun hc => ?_) (fun hc => ?_)
          · have hf := hf_t hc hf
            cases hf
            exact hE241_0 _ (hX _ rfl) _ _ _ h (lv_sub hl [0] rfl)
          · have hf := hf_f hc hf
            refine lv_aload_n hx hb dX7_nextToken_252 rfl (lv_at hl 0 rfl) ?_
            refine x_gR (q := (RX7, TX7, 50)) (j := 19) G C h rfl (by decide) (fun _ _ _ => rfl) (lk C q1075) (fun _ z => z) dX7_nextToken_253 hf (fun r34 hf => ?_)
            refine lv_aload_n hx hb dX7_nextToken_256 rfl (lv_at hl 0 rfl) ?_
            refine x_gI (q := (RX7, TX7, 50)) (j := 20) G C h rfl (by decide) (fun _ _ _ => rfl) (lk C q1076) (fun _ z => z) dX7_nextToken_257 hf (fun x35 hf => ?_)
            refine x_iald G C h dX7_nextToken_260 hf (fun x36 hf => ?_)
            refine lv_bipush (v := 48) hx hb dX7_nextToken_261 (by decide) ?_
            refine lv_bipush (v := 57) hx hb dX7_nextToken_263 (by decide) ?_
            obtain ⟨x37, hc, hf⟩ := hf_b hf
            refine x_cS (rest := []) (As := [.int x36, .int 48, .int 57]) (n := 3) (ov := (some (.int x37))) C h (wX7_in G hc) (lw_S q1211 q1212 q61 q1213) (by decide +kernel) ⟨Nat.le_of_ble_eq_true rfl, Nat.le_of_ble_eq_true rfl⟩ rfl rfl rfl hl.1 rfl (Nat.le_of_ble_eq_true rfl) dX7_nextToken_265 ⟨(Nat.le_of_ble_eq_true rfl), (Nat.le_of_ble_eq_true rfl)⟩ (fun H locs h => ?_)
            refine lv_if_eq (tgt := 333) hx hb dX7_nextToken_268 (by decide) (fun hc => ?_) (fun hc => ?_)
            · have hf := hf_t hc hf
              cases hf
              exact hE241_0 _ (hX _ rfl) _ _ _ h (lv_sub hl [0] rfl)
            · have hf := hf_f hc hf
              refine lv_aload_n hx hb dX7_nextToken_271 rfl (lv_at hl 0 rfl) ?_
              refine lv_aload_n hx hb dX7_nextToken_272 rfl (lv_at hl 0 rfl) ?_
              refine x_gI (q := (RX7, TX7, 50)) (j := 23) G C h rfl (by decide) (fun _ _ _ => rfl) (lk C q1079) (fun _ z => z) dX7_nextToken_273 hf (fun x38 hf => ?_)
              refine lv_iconst (v := 2) hx hb dX7_nextToken_276 (by decide) ?_
              refine jn_of (P := fun j => ∀ (x44 : Int32), j x44 = some o → ∀ (H : Heap) (locs : List Loc) (ls : Array Slot), Hs s0 D ac σ31 H locs → lv_has ls 1 [(0, .ref a0)] → W p l e ({ frames := 1, cells := 0, slots := 0, locals := 22 } : Room) s m args below meth c H locs 0 0 (MQ below (Qn s0 D ac none σ') args s 0 0 (fr s0)) (F0 m 307 ls [.int x44, .ref a0])) hf ?_ ?_
              · intro x44 hf H locs ls h hl
                refine x_pI (q := (RX7, TX7, 50)) (j := 24) G C h rfl (by decide) rfl (lk C q1080) (fun _ z => z) (Or.inl rfl) dX7_nextToken_307 hf (fun σ45 H locs h hf => ?_)
                refine lv_aload_n hx hb dX7_nextToken_310 rfl (lv_at hl 0 rfl) ?_
                refine lv_dup hx hb dX7_nextToken_311 rfl ?_
                refine x_gI (q := (RX7, TX7, 50)) (j := 23) G C h rfl (by decide) (fun _ _ _ => rfl) (lk C q1079) (fun _ z => z) dX7_nextToken_312 hf (fun x46 hf => ?_)
                refine lv_iconst (v := 1) hx hb dX7_nextToken_315 (by decide) ?_
                refine lv_iadd hx hb dX7_nextToken_316 ?_
                refine x_pI (q := (RX7, TX7, 50)) (j := 23) G C h rfl (by decide) rfl (lk C q1079) (fun _ z => z) (Or.inl rfl) dX7_nextToken_317 hf (fun σ47 H locs h hf => ?_)
                refine lv_aload_n hx hb dX7_nextToken_320 rfl (lv_at hl 0 rfl) ?_
                refine lv_dup hx hb dX7_nextToken_321 rfl ?_
                refine x_gI (q := (RX7, TX7, 50)) (j := 20) G C h rfl (by decide) (fun _ _ _ => rfl) (lk C q1076) (fun _ z => z) dX7_nextToken_322 hf (fun x48 hf => ?_)
                refine lv_iconst (v := 1) hx hb dX7_nextToken_325 (by decide) ?_
                refine lv_iadd hx hb dX7_nextToken_326 ?_
                refine x_pI (q := (RX7, TX7, 50)) (j := 20) G C h rfl (by decide) rfl (lk C q1076) (fun _ z => z) (Or.inl rfl) dX7_nextToken_327 hf (fun σ49 H locs h hf => ?_)
                refine lv_goto (tgt := 241) hx hb dX7_nextToken_330 (by decide) ?_
                cases hf
                exact ih _ rfl _ _ _ h (lv_sub hl [0] rfl)
              intro j307 hj307 hf
              refine lv_icmp_ge (tgt := 303) hx hb dX7_nextToken_277 (by decide) (fun hc => ?_) (fun hc => ?_)
              · have hf := hf_t hc hf
                refine lv_aload_n hx hb dX7_nextToken_303 rfl (lv_at hl 0 rfl) ?_
                refine x_gI (q := (RX7, TX7, 50)) (j := 24) G C h rfl (by decide) (fun _ _ _ => rfl) (lk C q1080) (fun _ z => z) dX7_nextToken_304 hf (fun x39 hf => ?_)
                exact hj307 _ hf _ _ _ h (lv_sub hl [0] rfl)
              · have hf := hf_f hc hf
                refine lv_bipush (v := 10) hx hb dX7_nextToken_280 (by decide) ?_
                refine lv_aload_n hx hb dX7_nextToken_282 rfl (lv_at hl 0 rfl) ?_
                refine x_gI (q := (RX7, TX7, 50)) (j := 24) G C h rfl (by decide) (fun _ _ _ => rfl) (lk C q1080) (fun _ z => z) dX7_nextToken_283 hf (fun x40 hf => ?_)
                refine lv_imul hx hb dX7_nextToken_286 ?_
                refine lv_aload_n hx hb dX7_nextToken_287 rfl (lv_at hl 0 rfl) ?_
                refine x_gR (q := (RX7, TX7, 50)) (j := 19) G C h rfl (by decide) (fun _ _ _ => rfl) (lk C q1075) (fun _ z => z) dX7_nextToken_288 hf (fun r41 hf => ?_)
                refine lv_aload_n hx hb dX7_nextToken_291 rfl (lv_at hl 0 rfl) ?_
                refine x_gI (q := (RX7, TX7, 50)) (j := 20) G C h rfl (by decide) (fun _ _ _ => rfl) (lk C q1076) (fun _ z => z) dX7_nextToken_292 hf (fun x42 hf => ?_)
                refine x_iald G C h dX7_nextToken_295 hf (fun x43 hf => ?_)
                refine lv_iadd hx hb dX7_nextToken_296 ?_
                refine lv_bipush (v := 48) hx hb dX7_nextToken_297 (by decide) ?_
                refine lv_isub hx hb dX7_nextToken_299 ?_
                refine lv_goto (tgt := 307) hx hb dX7_nextToken_300 (by decide) ?_
                exact hj307 _ hf _ _ _ h (lv_sub hl [0] rfl)
      · have hf := hf_f hc hf
        refine lv_aload_n hx hb dX7_nextToken_96 rfl (lv_at hl 0 rfl) ?_
        refine lv_lconst (v := 0) hx hb dX7_nextToken_97 (by decide) ?_
        refine x_pL (q := (RX7, TX7, 50)) (j := 22) G C h rfl (by decide) rfl (lk C q1078) (fun _ z => z) (Or.inl rfl) dX7_nextToken_98 hf (fun σ54 H locs h hf => ?_)
        obtain ⟨e101, hL, hK⟩ := hf_b hf
        have hE101_0 : ∀ (σ72 : St), σ72 = e101 → ∀  (H : Heap) (locs : List Loc) (ls : Array Slot), Hs s0 D ac σ72 H locs → lv_has ls 1 [(0, .ref a0)] → W p l e ({ frames := 1, cells := 0, slots := 0, locals := 22 } : Room) s m args below meth c H locs 0 0 (MQ below (Qn s0 D ac none σ') args s 0 0 (fr s0)) (F0 m 191 ls []) := by
          intro σ72 he H locs ls h hl
          subst he
          have hf := hK
          refine lv_aload_n hx hb dX7_nextToken_191 rfl (lv_at hl 0 rfl) ?_
          refine lv_aload_n hx hb dX7_nextToken_192 rfl (lv_at hl 0 rfl) ?_
          refine x_gI (q := (RX7, TX7, 50)) (j := 20) G C h rfl (by decide) (fun _ _ _ => rfl) (lk C q1076) (fun _ z => z) dX7_nextToken_193 hf (fun x73 hf => ?_)
          refine lv_aload_n hx hb dX7_nextToken_196 rfl (lv_at hl 0 rfl) ?_
          refine x_gI (q := (RX7, TX7, 50)) (j := 21) G C h rfl (by decide) (fun _ _ _ => rfl) (lk C q1077) (fun _ z => z) dX7_nextToken_197 hf (fun x74 hf => ?_)
          refine lv_isub hx hb dX7_nextToken_200 ?_
          refine lv_bipush (v := 9) hx hb dX7_nextToken_201 (by decide) ?_
          refine jn_of (P := fun j => ∀ (y76 : Int64), j y76 = some (σ') → ∀ (H : Heap) (locs : List Loc) (ls : Array Slot), Hs s0 D ac σ72 H locs → lv_has ls 1 [(0, .ref a0)] → W p l e ({ frames := 1, cells := 0, slots := 0, locals := 22 } : Room) s m args below meth c H locs 0 0 (MQ below (Qn s0 D ac none σ') args s 0 0 (fr s0)) (F0 m 216 ls [.long y76, .ref a0])) hf ?_ ?_
          · intro y76 hf H locs ls h hl
            refine x_pL (q := (RX7, TX7, 50)) (j := 22) G C h rfl (by decide) rfl (lk C q1078) (fun _ z => z) (Or.inl rfl) dX7_nextToken_216 hf (fun σ77 H locs h hf => ?_)
            refine lv_goto (tgt := 394) hx hb dX7_nextToken_219 (by decide) ?_
            cases hf
            refine W.widen (k := 0) (n := 0) (Nat.le_of_ble_eq_true rfl) (Nat.le_of_ble_eq_true rfl) ?_
            exact x_vret C h dX7_nextToken_394
          intro j216 hj216 hf
          refine lv_icmp_le (tgt := 212) hx hb dX7_nextToken_203 (by decide) (fun hc => ?_) (fun hc => ?_)
          · have hf := hf_t hc hf
            refine lv_aload_n hx hb dX7_nextToken_212 rfl (lv_at hl 0 rfl) ?_
            refine x_gL (q := (RX7, TX7, 50)) (j := 22) G C h rfl (by decide) (fun _ _ _ => rfl) (lk C q1078) (fun _ z => z) dX7_nextToken_213 hf (fun y75 hf => ?_)
            exact hj216 _ hf _ _ _ h (lv_sub hl [0] rfl)
          · have hf := hf_f hc hf
            refine lv_ldc2 (v := (-4)) hx hb C.2.2.2.1 (C.2.2.2.2.1 _ q1305) dX7_nextToken_206 ?_
            refine lv_goto (tgt := 216) hx hb dX7_nextToken_209 (by decide) ?_
            exact hj216 _ hf _ _ _ h (lv_sub hl [0] rfl)
        refine loopF_ind (P := fun z => ∀ (H : Heap) (locs : List Loc) (ls : Array Slot), Hs s0 D ac z H locs → lv_has ls 1 [(0, .ref a0)] → W p l e ({ frames := 1, cells := 0, slots := 0, locals := 22 } : Room) s m args below meth c H locs 0 0 (MQ below (Qn s0 D ac none σ') args s 0 0 (fr s0)) (F0 m 101 ls [])) ?_ _ _ hL _ _ _ h (lv_sub hl [0] rfl)
        clear hK hL h hl hf
        intro z o hf ih hX H locs ls h hl
        obtain ⟨σ55, rfl⟩ : ∃ y, y = z := ⟨_, rfl⟩
        have h : Hs s0 D ac σ55 H locs := h
        have hl : lv_has ls 1 [(0, .ref a0)] := hl
        have hf : lX7_nextToken_101 a0 σ55 = some o := hf
        unfold lX7_nextToken_101 at hf
        refine lv_aload_n hx hb dX7_nextToken_101 rfl (lv_at hl 0 rfl) ?_
        refine x_gI (q := (RX7, TX7, 50)) (j := 20) G C h rfl (by decide) (fun _ _ _ => rfl) (lk C q1076) (fun _ z => z) dX7_nextToken_102 hf (fun x56 hf => ?_)
        refine lv_aload_n hx hb dX7_nextToken_105 rfl (lv_at hl 0 rfl) ?_
        refine x_gI (q := (RX7, TX7, 50)) (j := 18) G C h rfl (by decide) (fun _ _ _ => rfl) (lk C q1074) (fun _ z => z) dX7_nextToken_106 hf (fun x57 hf => ?_)
        refine lv_icmp_ge (tgt := 191) hx hb dX7_nextToken_109 (by decide) (fun hc => ?_) (fun hc => ?_)
        · have hf := hf_t hc hf
          cases hf
          exact hE101_0 _ (hX _ rfl) _ _ _ h (lv_sub hl [0] rfl)
        · have hf := hf_f hc hf
          refine lv_aload_n hx hb dX7_nextToken_112 rfl (lv_at hl 0 rfl) ?_
          refine x_gR (q := (RX7, TX7, 50)) (j := 19) G C h rfl (by decide) (fun _ _ _ => rfl) (lk C q1075) (fun _ z => z) dX7_nextToken_113 hf (fun r58 hf => ?_)
          refine lv_aload_n hx hb dX7_nextToken_116 rfl (lv_at hl 0 rfl) ?_
          refine x_gI (q := (RX7, TX7, 50)) (j := 20) G C h rfl (by decide) (fun _ _ _ => rfl) (lk C q1076) (fun _ z => z) dX7_nextToken_117 hf (fun x59 hf => ?_)
          refine x_iald G C h dX7_nextToken_120 hf (fun x60 hf => ?_)
          refine lv_bipush (v := 97) hx hb dX7_nextToken_121 (by decide) ?_
          refine lv_bipush (v := 122) hx hb dX7_nextToken_123 (by decide) ?_
          obtain ⟨x61, hc, hf⟩ := hf_b hf
          refine x_cS (rest := []) (As := [.int x60, .int 97, .int 122]) (n := 3) (ov := (some (.int x61))) C h (wX7_in G hc) (lw_S q1211 q1212 q61 q1213) (by decide +kernel) ⟨Nat.le_of_ble_eq_true rfl, Nat.le_of_ble_eq_true rfl⟩ rfl rfl rfl hl.1 rfl (Nat.le_of_ble_eq_true rfl) dX7_nextToken_125 ⟨(Nat.le_of_ble_eq_true rfl), (Nat.le_of_ble_eq_true rfl)⟩ (fun H locs h => ?_)
          refine lv_if_eq (tgt := 191) hx hb dX7_nextToken_128 (by decide) (fun hc => ?_) (fun hc => ?_)
          · have hf := hf_t hc hf
            cases hf
            exact hE101_0 _ (hX _ rfl) _ _ _ h (lv_sub hl [0] rfl)
          · have hf := hf_f hc hf
            refine lv_aload_n hx hb dX7_nextToken_131 rfl (lv_at hl 0 rfl) ?_
            refine lv_aload_n hx hb dX7_nextToken_132 rfl (lv_at hl 0 rfl) ?_
            refine x_gI (q := (RX7, TX7, 50)) (j := 20) G C h rfl (by decide) (fun _ _ _ => rfl) (lk C q1076) (fun _ z => z) dX7_nextToken_133 hf (fun x62 hf => ?_)
            refine lv_aload_n hx hb dX7_nextToken_136 rfl (lv_at hl 0 rfl) ?_
            refine x_gI (q := (RX7, TX7, 50)) (j := 21) G C h rfl (by decide) (fun _ _ _ => rfl) (lk C q1077) (fun _ z => z) dX7_nextToken_137 hf (fun x63 hf => ?_)
            refine lv_isub hx hb dX7_nextToken_140 ?_
            refine lv_bipush (v := 9) hx hb dX7_nextToken_141 (by decide) ?_
            refine jn_of (P := fun j => ∀ (y68 : Int64), j y68 = some o → ∀ (H : Heap) (locs : List Loc) (ls : Array Slot), Hs s0 D ac σ55 H locs → lv_has ls 1 [(0, .ref a0)] → W p l e ({ frames := 1, cells := 0, slots := 0, locals := 22 } : Room) s m args below meth c H locs 0 0 (MQ below (Qn s0 D ac none σ') args s 0 0 (fr s0)) (F0 m 175 ls [.long y68, .ref a0])) hf ?_ ?_
            · intro y68 hf H locs ls h hl
              refine x_pL (q := (RX7, TX7, 50)) (j := 22) G C h rfl (by decide) rfl (lk C q1078) (fun _ z => z) (Or.inl rfl) dX7_nextToken_175 hf (fun σ69 H locs h hf => ?_)
              refine lv_aload_n hx hb dX7_nextToken_178 rfl (lv_at hl 0 rfl) ?_
              refine lv_dup hx hb dX7_nextToken_179 rfl ?_
              refine x_gI (q := (RX7, TX7, 50)) (j := 20) G C h rfl (by decide) (fun _ _ _ => rfl) (lk C q1076) (fun _ z => z) dX7_nextToken_180 hf (fun x70 hf => ?_)
              refine lv_iconst (v := 1) hx hb dX7_nextToken_183 (by decide) ?_
              refine lv_iadd hx hb dX7_nextToken_184 ?_
              refine x_pI (q := (RX7, TX7, 50)) (j := 20) G C h rfl (by decide) rfl (lk C q1076) (fun _ z => z) (Or.inl rfl) dX7_nextToken_185 hf (fun σ71 H locs h hf => ?_)
              refine lv_goto (tgt := 101) hx hb dX7_nextToken_188 (by decide) ?_
              cases hf
              exact ih _ rfl _ _ _ h (lv_sub hl [0] rfl)
            intro j175 hj175 hf
            refine lv_icmp_ge (tgt := 172) hx hb dX7_nextToken_143 (by decide) (fun hc => ?_) (fun hc => ?_)
            · have hf := hf_t hc hf
              refine lv_ldc2 (v := (-4)) hx hb C.2.2.2.1 (C.2.2.2.2.1 _ q1305) dX7_nextToken_172 ?_
              exact hj175 _ hf _ _ _ h (lv_sub hl [0] rfl)
            · have hf := hf_f hc hf
              refine lv_ldc2 (v := 27) hx hb C.2.2.2.1 (C.2.2.2.2.1 _ q1303) dX7_nextToken_146 ?_
              refine lv_aload_n hx hb dX7_nextToken_149 rfl (lv_at hl 0 rfl) ?_
              refine x_gL (q := (RX7, TX7, 50)) (j := 22) G C h rfl (by decide) (fun _ _ _ => rfl) (lk C q1078) (fun _ z => z) dX7_nextToken_150 hf (fun y64 hf => ?_)
              refine lv_lmul hx hb dX7_nextToken_153 ?_
              refine lv_aload_n hx hb dX7_nextToken_154 rfl (lv_at hl 0 rfl) ?_
              refine x_gR (q := (RX7, TX7, 50)) (j := 19) G C h rfl (by decide) (fun _ _ _ => rfl) (lk C q1075) (fun _ z => z) dX7_nextToken_155 hf (fun r65 hf => ?_)
              refine lv_aload_n hx hb dX7_nextToken_158 rfl (lv_at hl 0 rfl) ?_
              refine x_gI (q := (RX7, TX7, 50)) (j := 20) G C h rfl (by decide) (fun _ _ _ => rfl) (lk C q1076) (fun _ z => z) dX7_nextToken_159 hf (fun x66 hf => ?_)
              refine x_iald G C h dX7_nextToken_162 hf (fun x67 hf => ?_)
              refine lv_i2l hx hb dX7_nextToken_163 rfl ?_
              refine lv_ladd hx hb dX7_nextToken_164 ?_
              refine lv_ldc2 (v := 96) hx hb C.2.2.2.1 (C.2.2.2.2.1 _ q1304) dX7_nextToken_165 ?_
              refine lv_lsub hx hb dX7_nextToken_168 ?_
              refine lv_goto (tgt := 175) hx hb dX7_nextToken_169 (by decide) ?_
              exact hj175 _ hf _ _ _ h (lv_sub hl [0] rfl)
    · have hf := hf_t hc hf
      refine lv_aload_n hx hb dX7_nextToken_67 rfl (lv_at hl 0 rfl) ?_
      refine lv_ldc2 (v := (-2)) hx hb C.2.2.2.1 (C.2.2.2.2.1 _ q1302) dX7_nextToken_68 ?_
      refine x_pL (q := (RX7, TX7, 50)) (j := 22) G C h rfl (by decide) rfl (lk C q1078) (fun _ z => z) (Or.inl rfl) dX7_nextToken_71 hf (fun σ78 H locs h hf => ?_)
      refine lv_goto (tgt := 394) hx hb dX7_nextToken_74 (by decide) ?_
      cases hf
      refine W.widen (k := 0) (n := 0) (Nat.le_of_ble_eq_true rfl) (Nat.le_of_ble_eq_true rfl) ?_
      exact x_vret C h dX7_nextToken_394
  refine loopF_ind (P := fun z => ∀ (H : Heap) (locs : List Loc) (ls : Array Slot), Hs s0 D ac z H locs → lv_has ls 1 [(0, .ref a0)] → W p l e ({ frames := 1, cells := 0, slots := 0, locals := 22 } : Room) s m args below meth c H locs 0 0 (MQ below (Qn s0 D ac none σ') args s 0 0 (fr s0)) (F0 m 0 ls [])) ?_ _ _ hL _ _ _ h (lv_sub hl [0] rfl)
  clear hK hL h hl hf
  intro z o hf ih hX H locs ls h hl
  obtain ⟨σ1, rfl⟩ : ∃ y, y = z := ⟨_, rfl⟩
  have h : Hs s0 D ac σ1 H locs := h
  have hl : lv_has ls 1 [(0, .ref a0)] := hl
  have hf : lX7_nextToken_0 a0 σ1 = some o := hf
  unfold lX7_nextToken_0 at hf
  refine lv_aload_n hx hb dX7_nextToken_0 rfl (lv_at hl 0 rfl) ?_
  refine x_gI (q := (RX7, TX7, 50)) (j := 20) G C h rfl (by decide) (fun _ _ _ => rfl) (lk C q1076) (fun _ z => z) dX7_nextToken_1 hf (fun x2 hf => ?_)
  refine lv_aload_n hx hb dX7_nextToken_4 rfl (lv_at hl 0 rfl) ?_
  refine x_gI (q := (RX7, TX7, 50)) (j := 18) G C h rfl (by decide) (fun _ _ _ => rfl) (lk C q1074) (fun _ z => z) dX7_nextToken_5 hf (fun x3 hf => ?_)
  refine lv_icmp_ge (tgt := 38) hx hb dX7_nextToken_8 (by decide) (fun hc => ?_) (fun hc => ?_)
  · have hf := hf_t hc hf
    cases hf
    exact hE0_0 _ (hX _ rfl) _ _ _ h (lv_sub hl [0] rfl)
  · have hf := hf_f hc hf
    refine lv_aload_n hx hb dX7_nextToken_11 rfl (lv_at hl 0 rfl) ?_
    refine x_gR (q := (RX7, TX7, 50)) (j := 19) G C h rfl (by decide) (fun _ _ _ => rfl) (lk C q1075) (fun _ z => z) dX7_nextToken_12 hf (fun r4 hf => ?_)
    refine lv_aload_n hx hb dX7_nextToken_15 rfl (lv_at hl 0 rfl) ?_
    refine x_gI (q := (RX7, TX7, 50)) (j := 20) G C h rfl (by decide) (fun _ _ _ => rfl) (lk C q1076) (fun _ z => z) dX7_nextToken_16 hf (fun x5 hf => ?_)
    refine x_iald G C h dX7_nextToken_19 hf (fun x6 hf => ?_)
    refine lv_bipush (v := 32) hx hb dX7_nextToken_20 (by decide) ?_
    refine lv_icmp_ne (tgt := 38) hx hb dX7_nextToken_22 (by decide) (fun hc => ?_) (fun hc => ?_)
    · have hf := hf_f hc hf
      cases hf
      exact hE0_0 _ (hX _ rfl) _ _ _ h (lv_sub hl [0] rfl)
    · have hf := hf_t hc hf
      refine lv_aload_n hx hb dX7_nextToken_25 rfl (lv_at hl 0 rfl) ?_
      refine lv_dup hx hb dX7_nextToken_26 rfl ?_
      refine x_gI (q := (RX7, TX7, 50)) (j := 20) G C h rfl (by decide) (fun _ _ _ => rfl) (lk C q1076) (fun _ z => z) dX7_nextToken_27 hf (fun x7 hf => ?_)
      refine lv_iconst (v := 1) hx hb dX7_nextToken_30 (by decide) ?_
      refine lv_iadd hx hb dX7_nextToken_31 ?_
      refine x_pI (q := (RX7, TX7, 50)) (j := 20) G C h rfl (by decide) rfl (lk C q1076) (fun _ z => z) (Or.inl rfl) dX7_nextToken_32 hf (fun σ8 H locs h hf => ?_)
      refine lv_goto (tgt := 0) hx hb dX7_nextToken_35 (by decide) ?_
      cases hf
      exact ih _ rfl _ _ _ h (lv_sub hl [0] rfl)

theorem dX7_fails_0 : decode cX7_fails 0 = .ok (.aload_n 0, 1) := by decide +kernel
theorem dX7_fails_1 : decode cX7_fails 1 = .ok (.aload_n 0, 1) := by decide +kernel
theorem dX7_fails_2 : decode cX7_fails 2 = .ok (.getfield 170, 3) := by decide +kernel
theorem dX7_fails_5 : decode cX7_fails 5 = .ok (.putfield 195, 3) := by decide +kernel
theorem dX7_fails_8 : decode cX7_fails 8 = .ok (.iconst 0, 1) := by decide +kernel
theorem dX7_fails_9 : decode cX7_fails 9 = .ok (.ireturn, 1) := by decide +kernel
def fX7_fails (σ : St) (a0 : Nat) : Option (Int32 × St) :=
  o_gI σ a0 5 21 fun x1 =>
  o_pI σ a0 5 25 x1 fun σ2 =>
  some (0, σ2)

set_option maxHeartbeats 4000000 in
theorem wX7_fails {l : Launch} {s0 : State} {A0 : Array Value} {D : va_G} {ac : Nat → ClassId} (G : Gl s0 A0 D ac) {σ : St} {a0 : Nat} {v : Int32} {σ' : St} (hf : fX7_fails σ a0 = some (v, σ')) : Met l yX7_fails (ws_ yX7_fails cX7_fails 1 (some (.boolean))) ({ frames := 0, cells := 0, slots := 0, locals := 0 } : Room) (Pn s0 D ac [.ref a0] σ) (Qn s0 D ac (some (.int v)) σ') 0 0 (fr s0) := by
  refine x_met (by decide) (Nat.le_of_ble_eq_true rfl) ?_
  intro p e s m args below meth c ls C hnm h hl
  have C : Cx s0 p s m args meth c cX7_fails 1 "HutForShowModel" (some (.boolean)) := C
  have hx := C.1
  have hb := C.2.1
  have hl : lv_has ls 1 [(0, .ref a0)] := hl
  unfold fX7_fails at hf
  refine lv_aload_n hx hb dX7_fails_0 rfl (lv_at hl 0 rfl) ?_
  refine lv_aload_n hx hb dX7_fails_1 rfl (lv_at hl 0 rfl) ?_
  refine x_gI (q := (RX7, TX7, 50)) (j := 21) G C h rfl (by decide) (fun _ _ _ => rfl) (lk C q1077) (fun _ z => z) dX7_fails_2 hf (fun x1 hf => ?_)
  refine x_pI (q := (RX7, TX7, 50)) (j := 25) G C h rfl (by decide) rfl (lk C q1081) (fun _ z => z) (Or.inl rfl) dX7_fails_5 hf (fun σ2 H locs h hf => ?_)
  refine lv_iconst (v := 0) hx hb dX7_fails_8 (by decide) ?_
  cases hf
  refine W.widen (k := 0) (n := 0) (Nat.le_of_ble_eq_true rfl) (Nat.le_of_ble_eq_true rfl) ?_
  exact x_zret C h (by decide) dX7_fails_9
