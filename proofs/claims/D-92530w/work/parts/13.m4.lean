set_option maxRecDepth 100000
theorem dX7_choose_0 : decode cX7_choose 0 = .ok (.iload_n 1, 1) := by decide +kernel
theorem dX7_choose_1 : decode cX7_choose 1 = .ok (.invokestatic 264, 3) := by decide +kernel
theorem dX7_choose_4 : decode cX7_choose 4 = .ok (.ifCond .ne 6, 3) := by decide +kernel
theorem dX7_choose_7 : decode cX7_choose 7 = .ok (.bipush (-2), 2) := by decide +kernel
theorem dX7_choose_9 : decode cX7_choose 9 = .ok (.ireturn, 1) := by decide +kernel
theorem dX7_choose_10 : decode cX7_choose 10 = .ok (.iconst (-1), 1) := by decide +kernel
theorem dX7_choose_11 : decode cX7_choose 11 = .ok (.istore_n 2, 1) := by decide +kernel
theorem dX7_choose_12 : decode cX7_choose 12 = .ok (.iconst 0, 1) := by decide +kernel
theorem dX7_choose_13 : decode cX7_choose 13 = .ok (.istore_n 3, 1) := by decide +kernel
theorem dX7_choose_14 : decode cX7_choose 14 = .ok (.iconst 0, 1) := by decide +kernel
theorem dX7_choose_15 : decode cX7_choose 15 = .ok (.istore 4, 2) := by decide +kernel
theorem dX7_choose_17 : decode cX7_choose 17 = .ok (.iload 4, 2) := by decide +kernel
theorem dX7_choose_19 : decode cX7_choose 19 = .ok (.aload_n 0, 1) := by decide +kernel
theorem dX7_choose_20 : decode cX7_choose 20 = .ok (.getfield 110, 3) := by decide +kernel
theorem dX7_choose_23 : decode cX7_choose 23 = .ok (.if_icmp .ge 44, 3) := by decide +kernel
theorem dX7_choose_26 : decode cX7_choose 26 = .ok (.aload_n 0, 1) := by decide +kernel
theorem dX7_choose_27 : decode cX7_choose 27 = .ok (.iload_n 1, 1) := by decide +kernel
theorem dX7_choose_28 : decode cX7_choose 28 = .ok (.iload 4, 2) := by decide +kernel
theorem dX7_choose_30 : decode cX7_choose 30 = .ok (.invokevirtual 270, 3) := by decide +kernel
theorem dX7_choose_33 : decode cX7_choose 33 = .ok (.istore 5, 2) := by decide +kernel
theorem dX7_choose_35 : decode cX7_choose 35 = .ok (.iload 5, 2) := by decide +kernel
theorem dX7_choose_37 : decode cX7_choose 37 = .ok (.iload_n 3, 1) := by decide +kernel
theorem dX7_choose_38 : decode cX7_choose 38 = .ok (.if_icmp .le 8, 3) := by decide +kernel
theorem dX7_choose_41 : decode cX7_choose 41 = .ok (.iload 4, 2) := by decide +kernel
theorem dX7_choose_43 : decode cX7_choose 43 = .ok (.goto 4, 3) := by decide +kernel
theorem dX7_choose_46 : decode cX7_choose 46 = .ok (.iload_n 2, 1) := by decide +kernel
theorem dX7_choose_47 : decode cX7_choose 47 = .ok (.istore_n 2, 1) := by decide +kernel
theorem dX7_choose_48 : decode cX7_choose 48 = .ok (.iload 5, 2) := by decide +kernel
theorem dX7_choose_50 : decode cX7_choose 50 = .ok (.iload_n 3, 1) := by decide +kernel
theorem dX7_choose_51 : decode cX7_choose 51 = .ok (.if_icmp .le 8, 3) := by decide +kernel
theorem dX7_choose_54 : decode cX7_choose 54 = .ok (.iload 5, 2) := by decide +kernel
theorem dX7_choose_56 : decode cX7_choose 56 = .ok (.goto 4, 3) := by decide +kernel
theorem dX7_choose_59 : decode cX7_choose 59 = .ok (.iload_n 3, 1) := by decide +kernel
theorem dX7_choose_60 : decode cX7_choose 60 = .ok (.istore_n 3, 1) := by decide +kernel
theorem dX7_choose_61 : decode cX7_choose 61 = .ok (.iinc 4 1, 3) := by decide +kernel
theorem dX7_choose_64 : decode cX7_choose 64 = .ok (.goto (-47), 3) := by decide +kernel
theorem dX7_choose_67 : decode cX7_choose 67 = .ok (.iload_n 2, 1) := by decide +kernel
theorem dX7_choose_68 : decode cX7_choose 68 = .ok (.ireturn, 1) := by decide +kernel
def lX7_choose_17 (σ : St) (a0 : Nat) (a1 : Int32) (x2 : Int32) (x3 : Int32) (x4 : Int32) : Option ((Int32 × Int32 × Int32) ⊕ (Int32)) :=
  o_gI σ a0 5 1 fun x5 =>
  if x5 ≤ x4 then
    some (.inr x2)
  else
  o_k σ a0 5 <|
  (fX7_worthOf σ a0 a1 x4).bind fun x6 =>
  jn (fun (x7 : Int32) =>
    jn (fun (x8 : Int32) =>
      some (.inl (x7, x8, x4 + 1))) fun j60 =>
    if x6 ≤ x3 then
      j60 x3
    else
    j60 x6) fun j47 =>
  if x6 ≤ x3 then
    j47 x2
  else
  j47 x4

def fX7_choose (σ : St) (a0 : Nat) (a1 : Int32) : Option (Int32) :=
  (fX7_isVisitor σ a1).bind fun x1 =>
  if x1 = 0 then
    some ((-2))
  else
  (loopF fuel (fun z => lX7_choose_17 σ a0 a1 z.1 z.2.1 z.2.2) ((-1), 0, 0)).bind <| fun x9 =>
  some x9

set_option maxHeartbeats 4000000 in
theorem wX7_choose {l : Launch} {s0 : State} {A0 : Array Value} {D : va_G} {ac : Nat → ClassId} (G : Gl s0 A0 D ac) {σ : St} {a0 : Nat} {a1 : Int32} {v : Int32} (hf : fX7_choose σ a0 a1 = some (v)) : Met l yX7_choose (ws_ yX7_choose cX7_choose 6 (some (.int))) ({ frames := 2, cells := 0, slots := 0, locals := 52 } : Room) (Pn s0 D ac [.ref a0, .int a1] σ) (Qn s0 D ac (some (.int v)) σ) 0 0 (fr s0) := by
  refine x_met (by decide) (Nat.le_of_ble_eq_true rfl) ?_
  intro p e s m args below meth c ls C hnm h hl
  have C : Cx s0 p s m args meth c cX7_choose 6 "HutForShowModel" (some (.int)) := C
  have hx := C.1
  have hb := C.2.1
  have hl : lv_has ls 6 [(0, .ref a0), (1, .int a1)] := hl
  unfold fX7_choose at hf
  refine lv_iload_n hx hb dX7_choose_0 rfl (lv_at hl 1 rfl) ?_
  obtain ⟨x1, hc, hf⟩ := hf_b hf
  refine x_cS (rest := []) (As := [.int a1]) (n := 1) (ov := (some (.int x1))) C h (wX7_isVisitor G hc) (lw_S q1352 q1353 q61 q1354) (by decide +kernel) ⟨Nat.le_of_ble_eq_true rfl, Nat.le_of_ble_eq_true rfl⟩ rfl rfl rfl hl.1 rfl (Nat.le_of_ble_eq_true rfl) dX7_choose_1 ⟨(Nat.le_of_ble_eq_true rfl), (Nat.le_of_ble_eq_true rfl)⟩ (fun H locs h => ?_)
  refine lv_if_ne (tgt := 10) hx hb dX7_choose_4 (by decide) (fun hc => ?_) (fun hc => ?_)
  · have hf := hf_f hc hf
    refine lv_iconst (v := (-1)) hx hb dX7_choose_10 (by decide) ?_
    refine lv_istore_n (lv' := [(2, .int ((-1))), (0, .ref a0), (1, .int a1)]) hx hb dX7_choose_11 rfl hl (by decide) rfl (fun ls hl => ?_)
    refine lv_iconst (v := 0) hx hb dX7_choose_12 (by decide) ?_
    refine lv_istore_n (lv' := [(3, .int 0), (2, .int ((-1))), (0, .ref a0), (1, .int a1)]) hx hb dX7_choose_13 rfl hl (by decide) rfl (fun ls hl => ?_)
    refine lv_iconst (v := 0) hx hb dX7_choose_14 (by decide) ?_
    refine lv_istore (lv' := [(4, .int 0), (3, .int 0), (2, .int ((-1))), (0, .ref a0), (1, .int a1)]) hx hb dX7_choose_15 hl (by decide) rfl (fun ls hl => ?_)
    obtain ⟨e17, hL, hK⟩ := hf_b hf
    have hE17_0 : ∀ (x9 : Int32), x9 = e17 → ∀  (H : Heap) (locs : List Loc) (ls : Array Slot), Hs s0 D ac σ H locs → lv_has ls 6 [(0, .ref a0), (1, .int a1), (2, .int x9)] → W p l e ({ frames := 2, cells := 0, slots := 0, locals := 52 } : Room) s m args below meth c H locs 0 0 (MQ below (Qn s0 D ac (some (.int v)) σ) args s 0 0 (fr s0)) (F0 m 67 ls []) := by
      intro x9 he H locs ls h hl
      subst he
      have hf := hK
      refine lv_iload_n hx hb dX7_choose_67 rfl (lv_at hl 2 rfl) ?_
      cases hf
      refine W.widen (k := 0) (n := 0) (Nat.le_of_ble_eq_true rfl) (Nat.le_of_ble_eq_true rfl) ?_
      exact x_iret C h dX7_choose_68
    refine loopF_ind (P := fun z => ∀ (H : Heap) (locs : List Loc) (ls : Array Slot), Hs s0 D ac σ H locs → lv_has ls 6 [(0, .ref a0), (1, .int a1), (2, .int z.1), (3, .int z.2.1), (4, .int z.2.2)] → W p l e ({ frames := 2, cells := 0, slots := 0, locals := 52 } : Room) s m args below meth c H locs 0 0 (MQ below (Qn s0 D ac (some (.int v)) σ) args s 0 0 (fr s0)) (F0 m 17 ls [])) ?_ _ _ hL _ _ _ h (lv_sub hl [3, 4, 2, 1, 0] rfl)
    clear hK hL h hl hf
    intro z o hf ih hX H locs ls h hl
    obtain ⟨x2, x3, x4⟩ := z
    have h : Hs s0 D ac σ H locs := h
    have hl : lv_has ls 6 [(0, .ref a0), (1, .int a1), (2, .int x2), (3, .int x3), (4, .int x4)] := hl
    have hf : lX7_choose_17 σ a0 a1 x2 x3 x4 = some o := hf
    unfold lX7_choose_17 at hf
    refine lv_iload hx hb dX7_choose_17 (lv_at hl 4 rfl) ?_
    refine lv_aload_n hx hb dX7_choose_19 rfl (lv_at hl 0 rfl) ?_
    refine x_gI (q := (RX7, TX7, 50)) (j := 1) G C h rfl (by decide) (fun _ _ _ => rfl) (lk C q1057) (fun _ z => z) dX7_choose_20 hf (fun x5 hf => ?_)
    refine lv_icmp_ge (tgt := 67) hx hb dX7_choose_23 (by decide) (fun hc => ?_) (fun hc => ?_)
    · have hf := hf_t hc hf
      cases hf
      exact hE17_0 _ (hX _ rfl) _ _ _ h (lv_sub hl [0, 1, 2] rfl)
    · have hf := hf_f hc hf
      refine lv_aload_n hx hb dX7_choose_26 rfl (lv_at hl 0 rfl) ?_
      refine lv_iload_n hx hb dX7_choose_27 rfl (lv_at hl 1 rfl) ?_
      refine lv_iload hx hb dX7_choose_28 (lv_at hl 4 rfl) ?_
      obtain ⟨hk, hf⟩ := k_of hf
      obtain ⟨x6, hc, hf⟩ := hf_b hf
      refine x_cV (q := (RX7, TX7, 50)) (rest := []) (As := [.int a1, .int x4]) (n := 2) (ov := (some (.int x6))) G C h (wX7_worthOf G hc) hk rfl (lw_V q1363 q1365 qs38 q61 q1366) (by decide +kernel) ⟨Nat.le_of_ble_eq_true rfl, Nat.le_of_ble_eq_true rfl⟩ rfl rfl rfl hl.1 rfl (Nat.le_of_ble_eq_true rfl) dX7_choose_30 ⟨(Nat.le_of_ble_eq_true rfl), (Nat.le_of_ble_eq_true rfl)⟩ (fun H locs h => ?_)
      refine lv_istore (lv' := [(5, .int x6), (0, .ref a0), (1, .int a1), (2, .int x2), (3, .int x3), (4, .int x4)]) hx hb dX7_choose_33 hl (by decide) rfl (fun ls hl => ?_)
      refine lv_iload hx hb dX7_choose_35 (lv_at hl 0 rfl) ?_
      refine lv_iload_n hx hb dX7_choose_37 rfl (lv_at hl 4 rfl) ?_
      refine jn_of (P := fun j => ∀ (x7 : Int32), j x7 = some o → ∀ (H : Heap) (locs : List Loc) (ls : Array Slot), Hs s0 D ac σ H locs → lv_has ls 6 [(0, .ref a0), (1, .int a1), (2, .int x2), (3, .int x3), (4, .int x4), (5, .int x6)] → W p l e ({ frames := 2, cells := 0, slots := 0, locals := 52 } : Room) s m args below meth c H locs 0 0 (MQ below (Qn s0 D ac (some (.int v)) σ) args s 0 0 (fr s0)) (F0 m 47 ls [.int x7])) hf ?_ ?_
      · intro x7 hf H locs ls h hl
        refine lv_istore_n (lv' := [(2, .int x7), (0, .ref a0), (1, .int a1), (3, .int x3), (4, .int x4), (5, .int x6)]) hx hb dX7_choose_47 rfl hl (by decide) rfl (fun ls hl => ?_)
        refine lv_iload hx hb dX7_choose_48 (lv_at hl 5 rfl) ?_
        refine lv_iload_n hx hb dX7_choose_50 rfl (lv_at hl 3 rfl) ?_
        refine jn_of (P := fun j => ∀ (x8 : Int32), j x8 = some o → ∀ (H : Heap) (locs : List Loc) (ls : Array Slot), Hs s0 D ac σ H locs → lv_has ls 6 [(0, .ref a0), (1, .int a1), (2, .int x7), (3, .int x3), (4, .int x4), (5, .int x6)] → W p l e ({ frames := 2, cells := 0, slots := 0, locals := 52 } : Room) s m args below meth c H locs 0 0 (MQ below (Qn s0 D ac (some (.int v)) σ) args s 0 0 (fr s0)) (F0 m 60 ls [.int x8])) hf ?_ ?_
        · intro x8 hf H locs ls h hl
          refine lv_istore_n (lv' := [(3, .int x8), (0, .ref a0), (1, .int a1), (2, .int x7), (4, .int x4), (5, .int x6)]) hx hb dX7_choose_60 rfl hl (by decide) rfl (fun ls hl => ?_)
          refine lv_iinc (v := x4 + 1) (lv' := [(4, .int (x4 + 1)), (3, .int x8), (0, .ref a0), (1, .int a1), (2, .int x7), (5, .int x6)]) hx hb dX7_choose_61 hl (k := 4) rfl rfl (by decide) rfl (fun ls hl => ?_)
          refine lv_goto (tgt := 17) hx hb dX7_choose_64 (by decide) ?_
          cases hf
          exact ih _ rfl _ _ _ h (lv_sub hl [2, 3, 4, 1, 0] rfl)
        intro j60 hj60 hf
        refine lv_icmp_le (tgt := 59) hx hb dX7_choose_51 (by decide) (fun hc => ?_) (fun hc => ?_)
        · have hf := hf_t hc hf
          refine lv_iload_n hx hb dX7_choose_59 rfl (lv_at hl 3 rfl) ?_
          exact hj60 _ hf _ _ _ h (lv_sub hl [1, 2, 0, 3, 4, 5] rfl)
        · have hf := hf_f hc hf
          refine lv_iload hx hb dX7_choose_54 (lv_at hl 5 rfl) ?_
          refine lv_goto (tgt := 60) hx hb dX7_choose_56 (by decide) ?_
          exact hj60 _ hf _ _ _ h (lv_sub hl [1, 2, 0, 3, 4, 5] rfl)
      intro j47 hj47 hf
      refine lv_icmp_le (tgt := 46) hx hb dX7_choose_38 (by decide) (fun hc => ?_) (fun hc => ?_)
      · have hf := hf_t hc hf
        refine lv_iload_n hx hb dX7_choose_46 rfl (lv_at hl 3 rfl) ?_
        exact hj47 _ hf _ _ _ h (lv_sub hl [1, 2, 3, 4, 5, 0] rfl)
      · have hf := hf_f hc hf
        refine lv_iload hx hb dX7_choose_41 (lv_at hl 5 rfl) ?_
        refine lv_goto (tgt := 47) hx hb dX7_choose_43 (by decide) ?_
        exact hj47 _ hf _ _ _ h (lv_sub hl [1, 2, 3, 4, 5, 0] rfl)
  · have hf := hf_t hc hf
    refine lv_bipush (v := (-2)) hx hb dX7_choose_7 (by decide) ?_
    cases hf
    refine W.widen (k := 0) (n := 0) (Nat.le_of_ble_eq_true rfl) (Nat.le_of_ble_eq_true rfl) ?_
    exact x_iret C h dX7_choose_9

theorem dX7_keep_0 : decode cX7_keep 0 = .ok (.iconst 0, 1) := by decide +kernel
theorem dX7_keep_1 : decode cX7_keep 1 = .ok (.istore_n 1, 1) := by decide +kernel
theorem dX7_keep_2 : decode cX7_keep 2 = .ok (.iload_n 1, 1) := by decide +kernel
theorem dX7_keep_3 : decode cX7_keep 3 = .ok (.bipush 24, 2) := by decide +kernel
theorem dX7_keep_5 : decode cX7_keep 5 = .ok (.if_icmp .ge 21, 3) := by decide +kernel
theorem dX7_keep_8 : decode cX7_keep 8 = .ok (.aload_n 0, 1) := by decide +kernel
theorem dX7_keep_9 : decode cX7_keep 9 = .ok (.getfield 19, 3) := by decide +kernel
theorem dX7_keep_12 : decode cX7_keep 12 = .ok (.iload_n 1, 1) := by decide +kernel
theorem dX7_keep_13 : decode cX7_keep 13 = .ok (.aload_n 0, 1) := by decide +kernel
theorem dX7_keep_14 : decode cX7_keep 14 = .ok (.getfield 16, 3) := by decide +kernel
theorem dX7_keep_17 : decode cX7_keep 17 = .ok (.iload_n 1, 1) := by decide +kernel
theorem dX7_keep_18 : decode cX7_keep 18 = .ok (.iaload, 1) := by decide +kernel
theorem dX7_keep_19 : decode cX7_keep 19 = .ok (.iastore, 1) := by decide +kernel
theorem dX7_keep_20 : decode cX7_keep 20 = .ok (.iinc 1 1, 3) := by decide +kernel
theorem dX7_keep_23 : decode cX7_keep 23 = .ok (.goto (-21), 3) := by decide +kernel
theorem dX7_keep_26 : decode cX7_keep 26 = .ok (.iconst 0, 1) := by decide +kernel
theorem dX7_keep_27 : decode cX7_keep 27 = .ok (.istore_n 1, 1) := by decide +kernel
theorem dX7_keep_28 : decode cX7_keep 28 = .ok (.iload_n 1, 1) := by decide +kernel
theorem dX7_keep_29 : decode cX7_keep 29 = .ok (.aload_n 0, 1) := by decide +kernel
theorem dX7_keep_30 : decode cX7_keep 30 = .ok (.getfield 129, 3) := by decide +kernel
theorem dX7_keep_33 : decode cX7_keep 33 = .ok (.if_icmp .ge 21, 3) := by decide +kernel
theorem dX7_keep_36 : decode cX7_keep 36 = .ok (.aload_n 0, 1) := by decide +kernel
theorem dX7_keep_37 : decode cX7_keep 37 = .ok (.getfield 28, 3) := by decide +kernel
theorem dX7_keep_40 : decode cX7_keep 40 = .ok (.iload_n 1, 1) := by decide +kernel
theorem dX7_keep_41 : decode cX7_keep 41 = .ok (.aload_n 0, 1) := by decide +kernel
theorem dX7_keep_42 : decode cX7_keep 42 = .ok (.getfield 25, 3) := by decide +kernel
theorem dX7_keep_45 : decode cX7_keep 45 = .ok (.iload_n 1, 1) := by decide +kernel
theorem dX7_keep_46 : decode cX7_keep 46 = .ok (.iaload, 1) := by decide +kernel
theorem dX7_keep_47 : decode cX7_keep 47 = .ok (.iastore, 1) := by decide +kernel
theorem dX7_keep_48 : decode cX7_keep 48 = .ok (.iinc 1 1, 3) := by decide +kernel
theorem dX7_keep_51 : decode cX7_keep 51 = .ok (.goto (-23), 3) := by decide +kernel
theorem dX7_keep_54 : decode cX7_keep 54 = .ok (.return_, 1) := by decide +kernel
def lX7_keep_2 (a0 : Nat) (σ1 : St) (x2 : Int32) : Option ((St × Int32) ⊕ (St)) :=
  if 24 ≤ x2 then
    some (.inr σ1)
  else
  o_gR σ1 a0 5 5 fun r3 =>
  o_gR σ1 a0 5 4 fun r4 =>
  o_aI σ1 r4 0 x2 fun x5 =>
  o_sI σ1 r3 0 x2 x5 fun σ6 =>
  some (.inl (σ6, x2 + 1))

def lX7_keep_28 (a0 : Nat) (σ8 : St) (x9 : Int32) : Option ((St × Int32) ⊕ (St)) :=
  o_gI σ8 a0 5 7 fun x10 =>
  if x10 ≤ x9 then
    some (.inr σ8)
  else
  o_gR σ8 a0 5 9 fun r11 =>
  o_gR σ8 a0 5 8 fun r12 =>
  o_aI σ8 r12 0 x9 fun x13 =>
  o_sI σ8 r11 0 x9 x13 fun σ14 =>
  some (.inl (σ14, x9 + 1))

def fX7_keep (σ : St) (a0 : Nat) : Option (St) :=
  (loopF fuel (fun z => lX7_keep_2 a0 z.1 z.2) (σ, 0)).bind <| fun σ7 =>
  (loopF fuel (fun z => lX7_keep_28 a0 z.1 z.2) (σ7, 0)).bind <| fun σ15 =>
  some σ15

set_option maxHeartbeats 4000000 in
theorem wX7_keep {l : Launch} {s0 : State} {A0 : Array Value} {D : va_G} {ac : Nat → ClassId} (G : Gl s0 A0 D ac) {σ : St} {a0 : Nat} {σ' : St} (hf : fX7_keep σ a0 = some (σ')) : Met l yX7_keep (ws_ yX7_keep cX7_keep 2 none) ({ frames := 0, cells := 0, slots := 0, locals := 0 } : Room) (Pn s0 D ac [.ref a0] σ) (Qn s0 D ac none σ') 0 0 (fr s0) := by
  refine x_met (by decide) (Nat.le_of_ble_eq_true rfl) ?_
  intro p e s m args below meth c ls C hnm h hl
  have C : Cx s0 p s m args meth c cX7_keep 2 "HutForShowModel" none := C
  have hx := C.1
  have hb := C.2.1
  have hl : lv_has ls 2 [(0, .ref a0)] := hl
  unfold fX7_keep at hf
  refine lv_iconst (v := 0) hx hb dX7_keep_0 (by decide) ?_
  refine lv_istore_n (lv' := [(1, .int 0), (0, .ref a0)]) hx hb dX7_keep_1 rfl hl (by decide) rfl (fun ls hl => ?_)
  obtain ⟨e2, hL, hK⟩ := hf_b hf
  have hE2_0 : ∀ (σ7 : St), σ7 = e2 → ∀  (H : Heap) (locs : List Loc) (ls : Array Slot), Hs s0 D ac σ7 H locs → lv_has ls 2 [(0, .ref a0)] → W p l e ({ frames := 0, cells := 0, slots := 0, locals := 0 } : Room) s m args below meth c H locs 0 0 (MQ below (Qn s0 D ac none σ') args s 0 0 (fr s0)) (F0 m 26 ls []) := by
    intro σ7 he H locs ls h hl
    subst he
    have hf := hK
    refine lv_iconst (v := 0) hx hb dX7_keep_26 (by decide) ?_
    refine lv_istore_n (lv' := [(1, .int 0), (0, .ref a0)]) hx hb dX7_keep_27 rfl hl (by decide) rfl (fun ls hl => ?_)
    obtain ⟨e28, hL, hK⟩ := hf_b hf
    have hE28_0 : ∀ (σ15 : St), σ15 = e28 → ∀  (H : Heap) (locs : List Loc) (ls : Array Slot), Hs s0 D ac σ15 H locs → lv_has ls 2 [(0, .ref a0)] → W p l e ({ frames := 0, cells := 0, slots := 0, locals := 0 } : Room) s m args below meth c H locs 0 0 (MQ below (Qn s0 D ac none σ') args s 0 0 (fr s0)) (F0 m 54 ls []) := by
      intro σ15 he H locs ls h hl
      subst he
      have hf := hK
      cases hf
      refine W.widen (k := 0) (n := 0) (Nat.le_of_ble_eq_true rfl) (Nat.le_of_ble_eq_true rfl) ?_
      exact x_vret C h dX7_keep_54
    refine loopF_ind (P := fun z => ∀ (H : Heap) (locs : List Loc) (ls : Array Slot), Hs s0 D ac (z.1) H locs → lv_has ls 2 [(0, .ref a0), (1, .int z.2)] → W p l e ({ frames := 0, cells := 0, slots := 0, locals := 0 } : Room) s m args below meth c H locs 0 0 (MQ below (Qn s0 D ac none σ') args s 0 0 (fr s0)) (F0 m 28 ls [])) ?_ _ _ hL _ _ _ h (lv_sub hl [1, 0] rfl)
    clear hK hL h hl hf
    intro z o hf ih hX H locs ls h hl
    obtain ⟨σ8, x9⟩ := z
    have h : Hs s0 D ac σ8 H locs := h
    have hl : lv_has ls 2 [(0, .ref a0), (1, .int x9)] := hl
    have hf : lX7_keep_28 a0 σ8 x9 = some o := hf
    unfold lX7_keep_28 at hf
    refine lv_iload_n hx hb dX7_keep_28 rfl (lv_at hl 1 rfl) ?_
    refine lv_aload_n hx hb dX7_keep_29 rfl (lv_at hl 0 rfl) ?_
    refine x_gI (q := (RX7, TX7, 50)) (j := 7) G C h rfl (by decide) (fun _ _ _ => rfl) (lk C q1063) (fun _ z => z) dX7_keep_30 hf (fun x10 hf => ?_)
    refine lv_icmp_ge (tgt := 54) hx hb dX7_keep_33 (by decide) (fun hc => ?_) (fun hc => ?_)
    · have hf := hf_t hc hf
      cases hf
      exact hE28_0 _ (hX _ rfl) _ _ _ h (lv_sub hl [0] rfl)
    · have hf := hf_f hc hf
      refine lv_aload_n hx hb dX7_keep_36 rfl (lv_at hl 0 rfl) ?_
      refine x_gR (q := (RX7, TX7, 50)) (j := 9) G C h rfl (by decide) (fun _ _ _ => rfl) (lk C q1065) (fun _ z => z) dX7_keep_37 hf (fun r11 hf => ?_)
      refine lv_iload_n hx hb dX7_keep_40 rfl (lv_at hl 1 rfl) ?_
      refine lv_aload_n hx hb dX7_keep_41 rfl (lv_at hl 0 rfl) ?_
      refine x_gR (q := (RX7, TX7, 50)) (j := 8) G C h rfl (by decide) (fun _ _ _ => rfl) (lk C q1064) (fun _ z => z) dX7_keep_42 hf (fun r12 hf => ?_)
      refine lv_iload_n hx hb dX7_keep_45 rfl (lv_at hl 1 rfl) ?_
      refine x_iald G C h dX7_keep_46 hf (fun x13 hf => ?_)
      refine x_iast G C h dX7_keep_47 hf (fun σ14 H locs h hf => ?_)
      refine lv_iinc (v := x9 + 1) (lv' := [(1, .int (x9 + 1)), (0, .ref a0)]) hx hb dX7_keep_48 hl (k := 1) rfl rfl (by decide) rfl (fun ls hl => ?_)
      refine lv_goto (tgt := 28) hx hb dX7_keep_51 (by decide) ?_
      cases hf
      exact ih _ rfl _ _ _ h (lv_sub hl [1, 0] rfl)
  refine loopF_ind (P := fun z => ∀ (H : Heap) (locs : List Loc) (ls : Array Slot), Hs s0 D ac (z.1) H locs → lv_has ls 2 [(0, .ref a0), (1, .int z.2)] → W p l e ({ frames := 0, cells := 0, slots := 0, locals := 0 } : Room) s m args below meth c H locs 0 0 (MQ below (Qn s0 D ac none σ') args s 0 0 (fr s0)) (F0 m 2 ls [])) ?_ _ _ hL _ _ _ h (lv_sub hl [1, 0] rfl)
  clear hK hL h hl hf
  intro z o hf ih hX H locs ls h hl
  obtain ⟨σ1, x2⟩ := z
  have h : Hs s0 D ac σ1 H locs := h
  have hl : lv_has ls 2 [(0, .ref a0), (1, .int x2)] := hl
  have hf : lX7_keep_2 a0 σ1 x2 = some o := hf
  unfold lX7_keep_2 at hf
  refine lv_iload_n hx hb dX7_keep_2 rfl (lv_at hl 1 rfl) ?_
  refine lv_bipush (v := 24) hx hb dX7_keep_3 (by decide) ?_
  refine lv_icmp_ge (tgt := 26) hx hb dX7_keep_5 (by decide) (fun hc => ?_) (fun hc => ?_)
  · have hf := hf_t hc hf
    cases hf
    exact hE2_0 _ (hX _ rfl) _ _ _ h (lv_sub hl [0] rfl)
  · have hf := hf_f hc hf
    refine lv_aload_n hx hb dX7_keep_8 rfl (lv_at hl 0 rfl) ?_
    refine x_gR (q := (RX7, TX7, 50)) (j := 5) G C h rfl (by decide) (fun _ _ _ => rfl) (lk C q1061) (fun _ z => z) dX7_keep_9 hf (fun r3 hf => ?_)
    refine lv_iload_n hx hb dX7_keep_12 rfl (lv_at hl 1 rfl) ?_
    refine lv_aload_n hx hb dX7_keep_13 rfl (lv_at hl 0 rfl) ?_
    refine x_gR (q := (RX7, TX7, 50)) (j := 4) G C h rfl (by decide) (fun _ _ _ => rfl) (lk C q1060) (fun _ z => z) dX7_keep_14 hf (fun r4 hf => ?_)
    refine lv_iload_n hx hb dX7_keep_17 rfl (lv_at hl 1 rfl) ?_
    refine x_iald G C h dX7_keep_18 hf (fun x5 hf => ?_)
    refine x_iast G C h dX7_keep_19 hf (fun σ6 H locs h hf => ?_)
    refine lv_iinc (v := x2 + 1) (lv' := [(1, .int (x2 + 1)), (0, .ref a0)]) hx hb dX7_keep_20 hl (k := 1) rfl rfl (by decide) rfl (fun ls hl => ?_)
    refine lv_goto (tgt := 2) hx hb dX7_keep_23 (by decide) ?_
    cases hf
    exact ih _ rfl _ _ _ h (lv_sub hl [1, 0] rfl)

theorem dX7_layBack_0 : decode cX7_layBack 0 = .ok (.iconst 0, 1) := by decide +kernel
theorem dX7_layBack_1 : decode cX7_layBack 1 = .ok (.istore_n 1, 1) := by decide +kernel
theorem dX7_layBack_2 : decode cX7_layBack 2 = .ok (.iload_n 1, 1) := by decide +kernel
theorem dX7_layBack_3 : decode cX7_layBack 3 = .ok (.bipush 24, 2) := by decide +kernel
theorem dX7_layBack_5 : decode cX7_layBack 5 = .ok (.if_icmp .ge 21, 3) := by decide +kernel
theorem dX7_layBack_8 : decode cX7_layBack 8 = .ok (.aload_n 0, 1) := by decide +kernel
theorem dX7_layBack_9 : decode cX7_layBack 9 = .ok (.getfield 16, 3) := by decide +kernel
theorem dX7_layBack_12 : decode cX7_layBack 12 = .ok (.iload_n 1, 1) := by decide +kernel
theorem dX7_layBack_13 : decode cX7_layBack 13 = .ok (.aload_n 0, 1) := by decide +kernel
theorem dX7_layBack_14 : decode cX7_layBack 14 = .ok (.getfield 19, 3) := by decide +kernel
theorem dX7_layBack_17 : decode cX7_layBack 17 = .ok (.iload_n 1, 1) := by decide +kernel
theorem dX7_layBack_18 : decode cX7_layBack 18 = .ok (.iaload, 1) := by decide +kernel
theorem dX7_layBack_19 : decode cX7_layBack 19 = .ok (.iastore, 1) := by decide +kernel
theorem dX7_layBack_20 : decode cX7_layBack 20 = .ok (.iinc 1 1, 3) := by decide +kernel
theorem dX7_layBack_23 : decode cX7_layBack 23 = .ok (.goto (-21), 3) := by decide +kernel
theorem dX7_layBack_26 : decode cX7_layBack 26 = .ok (.iconst 0, 1) := by decide +kernel
theorem dX7_layBack_27 : decode cX7_layBack 27 = .ok (.istore_n 1, 1) := by decide +kernel
theorem dX7_layBack_28 : decode cX7_layBack 28 = .ok (.iload_n 1, 1) := by decide +kernel
theorem dX7_layBack_29 : decode cX7_layBack 29 = .ok (.aload_n 0, 1) := by decide +kernel
theorem dX7_layBack_30 : decode cX7_layBack 30 = .ok (.getfield 129, 3) := by decide +kernel
theorem dX7_layBack_33 : decode cX7_layBack 33 = .ok (.if_icmp .ge 21, 3) := by decide +kernel
theorem dX7_layBack_36 : decode cX7_layBack 36 = .ok (.aload_n 0, 1) := by decide +kernel
theorem dX7_layBack_37 : decode cX7_layBack 37 = .ok (.getfield 25, 3) := by decide +kernel
theorem dX7_layBack_40 : decode cX7_layBack 40 = .ok (.iload_n 1, 1) := by decide +kernel
theorem dX7_layBack_41 : decode cX7_layBack 41 = .ok (.aload_n 0, 1) := by decide +kernel
theorem dX7_layBack_42 : decode cX7_layBack 42 = .ok (.getfield 28, 3) := by decide +kernel
theorem dX7_layBack_45 : decode cX7_layBack 45 = .ok (.iload_n 1, 1) := by decide +kernel
theorem dX7_layBack_46 : decode cX7_layBack 46 = .ok (.iaload, 1) := by decide +kernel
theorem dX7_layBack_47 : decode cX7_layBack 47 = .ok (.iastore, 1) := by decide +kernel
theorem dX7_layBack_48 : decode cX7_layBack 48 = .ok (.iinc 1 1, 3) := by decide +kernel
theorem dX7_layBack_51 : decode cX7_layBack 51 = .ok (.goto (-23), 3) := by decide +kernel
theorem dX7_layBack_54 : decode cX7_layBack 54 = .ok (.return_, 1) := by decide +kernel
def lX7_layBack_2 (a0 : Nat) (σ1 : St) (x2 : Int32) : Option ((St × Int32) ⊕ (St)) :=
  if 24 ≤ x2 then
    some (.inr σ1)
  else
  o_gR σ1 a0 5 4 fun r3 =>
  o_gR σ1 a0 5 5 fun r4 =>
  o_aI σ1 r4 0 x2 fun x5 =>
  o_sI σ1 r3 0 x2 x5 fun σ6 =>
  some (.inl (σ6, x2 + 1))

def lX7_layBack_28 (a0 : Nat) (σ8 : St) (x9 : Int32) : Option ((St × Int32) ⊕ (St)) :=
  o_gI σ8 a0 5 7 fun x10 =>
  if x10 ≤ x9 then
    some (.inr σ8)
  else
  o_gR σ8 a0 5 8 fun r11 =>
  o_gR σ8 a0 5 9 fun r12 =>
  o_aI σ8 r12 0 x9 fun x13 =>
  o_sI σ8 r11 0 x9 x13 fun σ14 =>
  some (.inl (σ14, x9 + 1))

def fX7_layBack (σ : St) (a0 : Nat) : Option (St) :=
  (loopF fuel (fun z => lX7_layBack_2 a0 z.1 z.2) (σ, 0)).bind <| fun σ7 =>
  (loopF fuel (fun z => lX7_layBack_28 a0 z.1 z.2) (σ7, 0)).bind <| fun σ15 =>
  some σ15

set_option maxHeartbeats 4000000 in
theorem wX7_layBack {l : Launch} {s0 : State} {A0 : Array Value} {D : va_G} {ac : Nat → ClassId} (G : Gl s0 A0 D ac) {σ : St} {a0 : Nat} {σ' : St} (hf : fX7_layBack σ a0 = some (σ')) : Met l yX7_layBack (ws_ yX7_layBack cX7_layBack 2 none) ({ frames := 0, cells := 0, slots := 0, locals := 0 } : Room) (Pn s0 D ac [.ref a0] σ) (Qn s0 D ac none σ') 0 0 (fr s0) := by
  refine x_met (by decide) (Nat.le_of_ble_eq_true rfl) ?_
  intro p e s m args below meth c ls C hnm h hl
  have C : Cx s0 p s m args meth c cX7_layBack 2 "HutForShowModel" none := C
  have hx := C.1
  have hb := C.2.1
  have hl : lv_has ls 2 [(0, .ref a0)] := hl
  unfold fX7_layBack at hf
  refine lv_iconst (v := 0) hx hb dX7_layBack_0 (by decide) ?_
  refine lv_istore_n (lv' := [(1, .int 0), (0, .ref a0)]) hx hb dX7_layBack_1 rfl hl (by decide) rfl (fun ls hl => ?_)
  obtain ⟨e2, hL, hK⟩ := hf_b hf
  have hE2_0 : ∀ (σ7 : St), σ7 = e2 → ∀  (H : Heap) (locs : List Loc) (ls : Array Slot), Hs s0 D ac σ7 H locs → lv_has ls 2 [(0, .ref a0)] → W p l e ({ frames := 0, cells := 0, slots := 0, locals := 0 } : Room) s m args below meth c H locs 0 0 (MQ below (Qn s0 D ac none σ') args s 0 0 (fr s0)) (F0 m 26 ls []) := by
    intro σ7 he H locs ls h hl
    subst he
    have hf := hK
    refine lv_iconst (v := 0) hx hb dX7_layBack_26 (by decide) ?_
    refine lv_istore_n (lv' := [(1, .int 0), (0, .ref a0)]) hx hb dX7_layBack_27 rfl hl (by decide) rfl (fun ls hl => ?_)
    obtain ⟨e28, hL, hK⟩ := hf_b hf
    have hE28_0 : ∀ (σ15 : St), σ15 = e28 → ∀  (H : Heap) (locs : List Loc) (ls : Array Slot), Hs s0 D ac σ15 H locs → lv_has ls 2 [(0, .ref a0)] → W p l e ({ frames := 0, cells := 0, slots := 0, locals := 0 } : Room) s m args below meth c H locs 0 0 (MQ below (Qn s0 D ac none σ') args s 0 0 (fr s0)) (F0 m 54 ls []) := by
      intro σ15 he H locs ls h hl
      subst he
      have hf := hK
      cases hf
      refine W.widen (k := 0) (n := 0) (Nat.le_of_ble_eq_true rfl) (Nat.le_of_ble_eq_true rfl) ?_
      exact x_vret C h dX7_layBack_54
    refine loopF_ind (P := fun z => ∀ (H : Heap) (locs : List Loc) (ls : Array Slot), Hs s0 D ac (z.1) H locs → lv_has ls 2 [(0, .ref a0), (1, .int z.2)] → W p l e ({ frames := 0, cells := 0, slots := 0, locals := 0 } : Room) s m args below meth c H locs 0 0 (MQ below (Qn s0 D ac none σ') args s 0 0 (fr s0)) (F0 m 28 ls [])) ?_ _ _ hL _ _ _ h (lv_sub hl [1, 0] rfl)
    clear hK hL h hl hf
    intro z o hf ih hX H locs ls h hl
    obtain ⟨σ8, x9⟩ := z
    have h : Hs s0 D ac σ8 H locs := h
    have hl : lv_has ls 2 [(0, .ref a0), (1, .int x9)] := hl
    have hf : lX7_layBack_28 a0 σ8 x9 = some o := hf
    unfold lX7_layBack_28 at hf
    refine lv_iload_n hx hb dX7_layBack_28 rfl (lv_at hl 1 rfl) ?_
    refine lv_aload_n hx hb dX7_layBack_29 rfl (lv_at hl 0 rfl) ?_
    refine x_gI (q := (RX7, TX7, 50)) (j := 7) G C h rfl (by decide) (fun _ _ _ => rfl) (lk C q1063) (fun _ z => z) dX7_layBack_30 hf (fun x10 hf => ?_)
    refine lv_icmp_ge (tgt := 54) hx hb dX7_layBack_33 (by decide) (fun hc => ?_) (fun hc => ?_)
    · have hf := hf_t hc hf
      cases hf
      exact hE28_0 _ (hX _ rfl) _ _ _ h (lv_sub hl [0] rfl)
    · have hf := hf_f hc hf
      refine lv_aload_n hx hb dX7_layBack_36 rfl (lv_at hl 0 rfl) ?_
      refine x_gR (q := (RX7, TX7, 50)) (j := 8) G C h rfl (by decide) (fun _ _ _ => rfl) (lk C q1064) (fun _ z => z) dX7_layBack_37 hf (fun r11 hf => ?_)
      refine lv_iload_n hx hb dX7_layBack_40 rfl (lv_at hl 1 rfl) ?_
      refine lv_aload_n hx hb dX7_layBack_41 rfl (lv_at hl 0 rfl) ?_
      refine x_gR (q := (RX7, TX7, 50)) (j := 9) G C h rfl (by decide) (fun _ _ _ => rfl) (lk C q1065) (fun _ z => z) dX7_layBack_42 hf (fun r12 hf => ?_)
      refine lv_iload_n hx hb dX7_layBack_45 rfl (lv_at hl 1 rfl) ?_
      refine x_iald G C h dX7_layBack_46 hf (fun x13 hf => ?_)
      refine x_iast G C h dX7_layBack_47 hf (fun σ14 H locs h hf => ?_)
      refine lv_iinc (v := x9 + 1) (lv' := [(1, .int (x9 + 1)), (0, .ref a0)]) hx hb dX7_layBack_48 hl (k := 1) rfl rfl (by decide) rfl (fun ls hl => ?_)
      refine lv_goto (tgt := 28) hx hb dX7_layBack_51 (by decide) ?_
      cases hf
      exact ih _ rfl _ _ _ h (lv_sub hl [1, 0] rfl)
  refine loopF_ind (P := fun z => ∀ (H : Heap) (locs : List Loc) (ls : Array Slot), Hs s0 D ac (z.1) H locs → lv_has ls 2 [(0, .ref a0), (1, .int z.2)] → W p l e ({ frames := 0, cells := 0, slots := 0, locals := 0 } : Room) s m args below meth c H locs 0 0 (MQ below (Qn s0 D ac none σ') args s 0 0 (fr s0)) (F0 m 2 ls [])) ?_ _ _ hL _ _ _ h (lv_sub hl [1, 0] rfl)
  clear hK hL h hl hf
  intro z o hf ih hX H locs ls h hl
  obtain ⟨σ1, x2⟩ := z
  have h : Hs s0 D ac σ1 H locs := h
  have hl : lv_has ls 2 [(0, .ref a0), (1, .int x2)] := hl
  have hf : lX7_layBack_2 a0 σ1 x2 = some o := hf
  unfold lX7_layBack_2 at hf
  refine lv_iload_n hx hb dX7_layBack_2 rfl (lv_at hl 1 rfl) ?_
  refine lv_bipush (v := 24) hx hb dX7_layBack_3 (by decide) ?_
  refine lv_icmp_ge (tgt := 26) hx hb dX7_layBack_5 (by decide) (fun hc => ?_) (fun hc => ?_)
  · have hf := hf_t hc hf
    cases hf
    exact hE2_0 _ (hX _ rfl) _ _ _ h (lv_sub hl [0] rfl)
  · have hf := hf_f hc hf
    refine lv_aload_n hx hb dX7_layBack_8 rfl (lv_at hl 0 rfl) ?_
    refine x_gR (q := (RX7, TX7, 50)) (j := 4) G C h rfl (by decide) (fun _ _ _ => rfl) (lk C q1060) (fun _ z => z) dX7_layBack_9 hf (fun r3 hf => ?_)
    refine lv_iload_n hx hb dX7_layBack_12 rfl (lv_at hl 1 rfl) ?_
    refine lv_aload_n hx hb dX7_layBack_13 rfl (lv_at hl 0 rfl) ?_
    refine x_gR (q := (RX7, TX7, 50)) (j := 5) G C h rfl (by decide) (fun _ _ _ => rfl) (lk C q1061) (fun _ z => z) dX7_layBack_14 hf (fun r4 hf => ?_)
    refine lv_iload_n hx hb dX7_layBack_17 rfl (lv_at hl 1 rfl) ?_
    refine x_iald G C h dX7_layBack_18 hf (fun x5 hf => ?_)
    refine x_iast G C h dX7_layBack_19 hf (fun σ6 H locs h hf => ?_)
    refine lv_iinc (v := x2 + 1) (lv' := [(1, .int (x2 + 1)), (0, .ref a0)]) hx hb dX7_layBack_20 hl (k := 1) rfl rfl (by decide) rfl (fun ls hl => ?_)
    refine lv_goto (tgt := 2) hx hb dX7_layBack_23 (by decide) ?_
    cases hf
    exact ih _ rfl _ _ _ h (lv_sub hl [1, 0] rfl)

theorem dX7_would_0 : decode cX7_would 0 = .ok (.iload_n 1, 1) := by decide +kernel
theorem dX7_would_1 : decode cX7_would 1 = .ok (.invokestatic 264, 3) := by decide +kernel
theorem dX7_would_4 : decode cX7_would 4 = .ok (.ifCond .eq 11, 3) := by decide +kernel
theorem dX7_would_7 : decode cX7_would 7 = .ok (.aload_n 0, 1) := by decide +kernel
theorem dX7_would_8 : decode cX7_would 8 = .ok (.iload_n 2, 1) := by decide +kernel
theorem dX7_would_9 : decode cX7_would 9 = .ok (.invokevirtual 121, 3) := by decide +kernel
theorem dX7_would_12 : decode cX7_would 12 = .ok (.ifCond .ne 6, 3) := by decide +kernel
theorem dX7_would_15 : decode cX7_would 15 = .ok (.bipush (-2), 2) := by decide +kernel
theorem dX7_would_17 : decode cX7_would 17 = .ok (.ireturn, 1) := by decide +kernel
theorem dX7_would_18 : decode cX7_would 18 = .ok (.iload_n 3, 1) := by decide +kernel
theorem dX7_would_19 : decode cX7_would 19 = .ok (.iconst 1, 1) := by decide +kernel
theorem dX7_would_20 : decode cX7_would 20 = .ok (.bipush 60, 2) := by decide +kernel
theorem dX7_would_22 : decode cX7_would 22 = .ok (.invokestatic 113, 3) := by decide +kernel
theorem dX7_would_25 : decode cX7_would 25 = .ok (.ifCond .ne 6, 3) := by decide +kernel
theorem dX7_would_28 : decode cX7_would 28 = .ok (.bipush (-3), 2) := by decide +kernel
theorem dX7_would_30 : decode cX7_would 30 = .ok (.ireturn, 1) := by decide +kernel
theorem dX7_would_31 : decode cX7_would 31 = .ok (.aload_n 0, 1) := by decide +kernel
theorem dX7_would_32 : decode cX7_would 32 = .ok (.invokevirtual 273, 3) := by decide +kernel
theorem dX7_would_35 : decode cX7_would 35 = .ok (.iconst 0, 1) := by decide +kernel
theorem dX7_would_36 : decode cX7_would 36 = .ok (.istore 4, 2) := by decide +kernel
theorem dX7_would_38 : decode cX7_would 38 = .ok (.iload 4, 2) := by decide +kernel
theorem dX7_would_40 : decode cX7_would 40 = .ok (.iload_n 3, 1) := by decide +kernel
theorem dX7_would_41 : decode cX7_would 41 = .ok (.if_icmp .ge 21, 3) := by decide +kernel
theorem dX7_would_44 : decode cX7_would 44 = .ok (.aload_n 0, 1) := by decide +kernel
theorem dX7_would_45 : decode cX7_would 45 = .ok (.aload_n 0, 1) := by decide +kernel
theorem dX7_would_46 : decode cX7_would 46 = .ok (.getfield 155, 3) := by decide +kernel
theorem dX7_would_49 : decode cX7_would 49 = .ok (.iload 4, 2) := by decide +kernel
theorem dX7_would_51 : decode cX7_would 51 = .ok (.iadd, 1) := by decide +kernel
theorem dX7_would_52 : decode cX7_would 52 = .ok (.iconst 0, 1) := by decide +kernel
theorem dX7_would_53 : decode cX7_would 53 = .ok (.invokevirtual 158, 3) := by decide +kernel
theorem dX7_would_56 : decode cX7_would 56 = .ok (.iinc 4 1, 3) := by decide +kernel
theorem dX7_would_59 : decode cX7_would 59 = .ok (.goto (-21), 3) := by decide +kernel
theorem dX7_would_62 : decode cX7_would 62 = .ok (.aload_n 0, 1) := by decide +kernel
theorem dX7_would_63 : decode cX7_would 63 = .ok (.iload_n 1, 1) := by decide +kernel
theorem dX7_would_64 : decode cX7_would 64 = .ok (.iload_n 2, 1) := by decide +kernel
theorem dX7_would_65 : decode cX7_would 65 = .ok (.invokevirtual 270, 3) := by decide +kernel
theorem dX7_would_68 : decode cX7_would 68 = .ok (.istore 4, 2) := by decide +kernel
theorem dX7_would_70 : decode cX7_would 70 = .ok (.aload_n 0, 1) := by decide +kernel
theorem dX7_would_71 : decode cX7_would 71 = .ok (.invokevirtual 276, 3) := by decide +kernel
theorem dX7_would_74 : decode cX7_would 74 = .ok (.iload 4, 2) := by decide +kernel
theorem dX7_would_76 : decode cX7_would 76 = .ok (.ireturn, 1) := by decide +kernel
def lX7_would_38 (a3 : Int32) (a0 : Nat) (σ5 : St) (x6 : Int32) : Option ((St × Int32) ⊕ (St)) :=
  if a3 ≤ x6 then
    some (.inr σ5)
  else
  o_gI σ5 a0 5 0 fun x7 =>
  o_k σ5 a0 5 <|
  (fX7_goHour σ5 a0 (x7 + x6) 0).bind fun σ8 =>
  some (.inl (σ8, x6 + 1))

def fX7_would (σ : St) (a0 : Nat) (a1 : Int32) (a2 : Int32) (a3 : Int32) : Option (Int32 × St) :=
  (fX7_isVisitor σ a1).bind fun x1 =>
  if x1 = 0 then
    some ((-2), σ)
  else
  o_k σ a0 5 <|
  (fX7_isHut σ a0 a2).bind fun x2 =>
  if x2 = 0 then
    some ((-2), σ)
  else
  (fX7_in σ a3 1 60).bind fun x3 =>
  if x3 = 0 then
    some ((-3), σ)
  else
  o_k σ a0 5 <|
  (fX7_keep σ a0).bind fun σ4 =>
  (loopF fuel (fun z => lX7_would_38 a3 a0 z.1 z.2) (σ4, 0)).bind <| fun σ9 =>
  o_k σ9 a0 5 <|
  (fX7_worthOf σ9 a0 a1 a2).bind fun x10 =>
  o_k σ9 a0 5 <|
  (fX7_layBack σ9 a0).bind fun σ11 =>
  some (x10, σ11)

set_option maxHeartbeats 4000000 in
theorem wX7_would {l : Launch} {s0 : State} {A0 : Array Value} {D : va_G} {ac : Nat → ClassId} (G : Gl s0 A0 D ac) {σ : St} {a0 : Nat} {a1 : Int32} {a2 : Int32} {a3 : Int32} {v : Int32} {σ' : St} (hf : fX7_would σ a0 a1 a2 a3 = some (v, σ')) : Met l yX7_would (ws_ yX7_would cX7_would 5 (some (.int))) ({ frames := 5, cells := 0, slots := 0, locals := 122 } : Room) (Pn s0 D ac [.ref a0, .int a1, .int a2, .int a3] σ) (Qn s0 D ac (some (.int v)) σ') 0 0 (fr s0) := by
  refine x_met (by decide) (Nat.le_of_ble_eq_true rfl) ?_
  intro p e s m args below meth c ls C hnm h hl
  have C : Cx s0 p s m args meth c cX7_would 5 "HutForShowModel" (some (.int)) := C
  have hx := C.1
  have hb := C.2.1
  have hl : lv_has ls 5 [(0, .ref a0), (1, .int a1), (2, .int a2), (3, .int a3)] := hl
  unfold fX7_would at hf
  refine lv_iload_n hx hb dX7_would_0 rfl (lv_at hl 1 rfl) ?_
  obtain ⟨x1, hc, hf⟩ := hf_b hf
  refine x_cS (rest := []) (As := [.int a1]) (n := 1) (ov := (some (.int x1))) C h (wX7_isVisitor G hc) (lw_S q1352 q1353 q61 q1354) (by decide +kernel) ⟨Nat.le_of_ble_eq_true rfl, Nat.le_of_ble_eq_true rfl⟩ rfl rfl rfl hl.1 rfl (Nat.le_of_ble_eq_true rfl) dX7_would_1 ⟨(Nat.le_of_ble_eq_true rfl), (Nat.le_of_ble_eq_true rfl)⟩ (fun H locs h => ?_)
  refine lv_if_eq (tgt := 15) hx hb dX7_would_4 (by decide) (fun hc => ?_) (fun hc => ?_)
  · have hf := hf_t hc hf
    refine lv_bipush (v := (-2)) hx hb dX7_would_15 (by decide) ?_
    cases hf
    refine W.widen (k := 0) (n := 0) (Nat.le_of_ble_eq_true rfl) (Nat.le_of_ble_eq_true rfl) ?_
    exact x_iret C h dX7_would_17
  · have hf := hf_f hc hf
    refine lv_aload_n hx hb dX7_would_7 rfl (lv_at hl 0 rfl) ?_
    refine lv_iload_n hx hb dX7_would_8 rfl (lv_at hl 2 rfl) ?_
    obtain ⟨hk, hf⟩ := k_of hf
    obtain ⟨x2, hc, hf⟩ := hf_b hf
    refine x_cV (q := (RX7, TX7, 50)) (rest := []) (As := [.int a2]) (n := 1) (ov := (some (.int x2))) G C h (wX7_isHut G hc) hk rfl (lw_V q1218 q1220 qs22 q61 q1221) (by decide +kernel) ⟨Nat.le_of_ble_eq_true rfl, Nat.le_of_ble_eq_true rfl⟩ rfl rfl rfl hl.1 rfl (Nat.le_of_ble_eq_true rfl) dX7_would_9 ⟨(Nat.le_of_ble_eq_true rfl), (Nat.le_of_ble_eq_true rfl)⟩ (fun H locs h => ?_)
    refine lv_if_ne (tgt := 18) hx hb dX7_would_12 (by decide) (fun hc => ?_) (fun hc => ?_)
    · have hf := hf_f hc hf
      refine lv_iload_n hx hb dX7_would_18 rfl (lv_at hl 3 rfl) ?_
      refine lv_iconst (v := 1) hx hb dX7_would_19 (by decide) ?_
      refine lv_bipush (v := 60) hx hb dX7_would_20 (by decide) ?_
      obtain ⟨x3, hc, hf⟩ := hf_b hf
      refine x_cS (rest := []) (As := [.int a3, .int 1, .int 60]) (n := 3) (ov := (some (.int x3))) C h (wX7_in G hc) (lw_S q1211 q1212 q61 q1213) (by decide +kernel) ⟨Nat.le_of_ble_eq_true rfl, Nat.le_of_ble_eq_true rfl⟩ rfl rfl rfl hl.1 rfl (Nat.le_of_ble_eq_true rfl) dX7_would_22 ⟨(Nat.le_of_ble_eq_true rfl), (Nat.le_of_ble_eq_true rfl)⟩ (fun H locs h => ?_)
      refine lv_if_ne (tgt := 31) hx hb dX7_would_25 (by decide) (fun hc => ?_) (fun hc => ?_)
      · have hf := hf_f hc hf
        refine lv_aload_n hx hb dX7_would_31 rfl (lv_at hl 0 rfl) ?_
        obtain ⟨hk, hf⟩ := k_of hf
        obtain ⟨σ4, hc, hf⟩ := hf_b hf
        refine x_cV (q := (RX7, TX7, 50)) (rest := []) (As := []) (n := 0) (ov := none) G C h (wX7_keep G hc) hk rfl (lw_V q1379 q1381 qs40 q61 q1382) (by decide +kernel) ⟨Nat.le_of_ble_eq_true rfl, Nat.le_of_ble_eq_true rfl⟩ rfl rfl rfl hl.1 rfl (Nat.le_of_ble_eq_true rfl) dX7_would_32 ⟨(Nat.le_of_ble_eq_true rfl), (Nat.le_of_ble_eq_true rfl)⟩ (fun H locs h => ?_)
        refine lv_iconst (v := 0) hx hb dX7_would_35 (by decide) ?_
        refine lv_istore (lv' := [(4, .int 0), (0, .ref a0), (1, .int a1), (2, .int a2), (3, .int a3)]) hx hb dX7_would_36 hl (by decide) rfl (fun ls hl => ?_)
        obtain ⟨e38, hL, hK⟩ := hf_b hf
        have hE38_0 : ∀ (σ9 : St), σ9 = e38 → ∀  (H : Heap) (locs : List Loc) (ls : Array Slot), Hs s0 D ac σ9 H locs → lv_has ls 5 [(0, .ref a0), (1, .int a1), (2, .int a2), (3, .int a3)] → W p l e ({ frames := 5, cells := 0, slots := 0, locals := 122 } : Room) s m args below meth c H locs 0 0 (MQ below (Qn s0 D ac (some (.int v)) σ') args s 0 0 (fr s0)) (F0 m 62 ls []) := by
          intro σ9 he H locs ls h hl
          subst he
          have hf := hK
          refine lv_aload_n hx hb dX7_would_62 rfl (lv_at hl 0 rfl) ?_
          refine lv_iload_n hx hb dX7_would_63 rfl (lv_at hl 1 rfl) ?_
          refine lv_iload_n hx hb dX7_would_64 rfl (lv_at hl 2 rfl) ?_
          obtain ⟨hk, hf⟩ := k_of hf
          obtain ⟨x10, hc, hf⟩ := hf_b hf
          refine x_cV (q := (RX7, TX7, 50)) (rest := []) (As := [.int a1, .int a2]) (n := 2) (ov := (some (.int x10))) G C h (wX7_worthOf G hc) hk rfl (lw_V q1363 q1365 qs38 q61 q1366) (by decide +kernel) ⟨Nat.le_of_ble_eq_true rfl, Nat.le_of_ble_eq_true rfl⟩ rfl rfl rfl hl.1 rfl (Nat.le_of_ble_eq_true rfl) dX7_would_65 ⟨(Nat.le_of_ble_eq_true rfl), (Nat.le_of_ble_eq_true rfl)⟩ (fun H locs h => ?_)
          refine lv_istore (lv' := [(4, .int x10), (0, .ref a0), (1, .int a1), (2, .int a2), (3, .int a3)]) hx hb dX7_would_68 hl (by decide) rfl (fun ls hl => ?_)
          refine lv_aload_n hx hb dX7_would_70 rfl (lv_at hl 1 rfl) ?_
          obtain ⟨hk, hf⟩ := k_of hf
          obtain ⟨σ11, hc, hf⟩ := hf_b hf
          refine x_cV (q := (RX7, TX7, 50)) (rest := []) (As := []) (n := 0) (ov := none) G C h (wX7_layBack G hc) hk rfl (lw_V q1383 q1385 qs41 q61 q1386) (by decide +kernel) ⟨Nat.le_of_ble_eq_true rfl, Nat.le_of_ble_eq_true rfl⟩ rfl rfl rfl hl.1 rfl (Nat.le_of_ble_eq_true rfl) dX7_would_71 ⟨(Nat.le_of_ble_eq_true rfl), (Nat.le_of_ble_eq_true rfl)⟩ (fun H locs h => ?_)
          refine lv_iload hx hb dX7_would_74 (lv_at hl 0 rfl) ?_
          cases hf
          refine W.widen (k := 0) (n := 0) (Nat.le_of_ble_eq_true rfl) (Nat.le_of_ble_eq_true rfl) ?_
          exact x_iret C h dX7_would_76
        refine loopF_ind (P := fun z => ∀ (H : Heap) (locs : List Loc) (ls : Array Slot), Hs s0 D ac (z.1) H locs → lv_has ls 5 [(0, .ref a0), (1, .int a1), (2, .int a2), (3, .int a3), (4, .int z.2)] → W p l e ({ frames := 5, cells := 0, slots := 0, locals := 122 } : Room) s m args below meth c H locs 0 0 (MQ below (Qn s0 D ac (some (.int v)) σ') args s 0 0 (fr s0)) (F0 m 38 ls [])) ?_ _ _ hL _ _ _ h (lv_sub hl [1, 2, 3, 4, 0] rfl)
        clear hK hL h hl hf
        intro z o hf ih hX H locs ls h hl
        obtain ⟨σ5, x6⟩ := z
        have h : Hs s0 D ac σ5 H locs := h
        have hl : lv_has ls 5 [(0, .ref a0), (1, .int a1), (2, .int a2), (3, .int a3), (4, .int x6)] := hl
        have hf : lX7_would_38 a3 a0 σ5 x6 = some o := hf
        unfold lX7_would_38 at hf
        refine lv_iload hx hb dX7_would_38 (lv_at hl 4 rfl) ?_
        refine lv_iload_n hx hb dX7_would_40 rfl (lv_at hl 3 rfl) ?_
        refine lv_icmp_ge (tgt := 62) hx hb dX7_would_41 (by decide) (fun hc => ?_) (fun hc => ?_)
        · have hf := hf_t hc hf
          cases hf
          exact hE38_0 _ (hX _ rfl) _ _ _ h (lv_sub hl [0, 1, 2, 3] rfl)
        · have hf := hf_f hc hf
          refine lv_aload_n hx hb dX7_would_44 rfl (lv_at hl 0 rfl) ?_
          refine lv_aload_n hx hb dX7_would_45 rfl (lv_at hl 0 rfl) ?_
          refine x_gI (q := (RX7, TX7, 50)) (j := 0) G C h rfl (by decide) (fun _ _ _ => rfl) (lk C q1056) (fun _ z => z) dX7_would_46 hf (fun x7 hf => ?_)
          refine lv_iload hx hb dX7_would_49 (lv_at hl 4 rfl) ?_
          refine lv_iadd hx hb dX7_would_51 ?_
          refine lv_iconst (v := 0) hx hb dX7_would_52 (by decide) ?_
          obtain ⟨hk, hf⟩ := k_of hf
          obtain ⟨σ8, hc, hf⟩ := hf_b hf
          refine x_cV (q := (RX7, TX7, 50)) (rest := []) (As := [.int (x7 + x6), .int 0]) (n := 2) (ov := none) G C h (wX7_goHour G hc) hk rfl (lw_V q1257 q1259 qs26 q61 q1260) (by decide +kernel) ⟨Nat.le_of_ble_eq_true rfl, Nat.le_of_ble_eq_true rfl⟩ rfl rfl rfl hl.1 rfl (Nat.le_of_ble_eq_true rfl) dX7_would_53 ⟨(Nat.le_of_ble_eq_true rfl), (Nat.le_of_ble_eq_true rfl)⟩ (fun H locs h => ?_)
          refine lv_iinc (v := x6 + 1) (lv' := [(4, .int (x6 + 1)), (0, .ref a0), (1, .int a1), (2, .int a2), (3, .int a3)]) hx hb dX7_would_56 hl (k := 4) rfl rfl (by decide) rfl (fun ls hl => ?_)
          refine lv_goto (tgt := 38) hx hb dX7_would_59 (by decide) ?_
          cases hf
          exact ih _ rfl _ _ _ h (lv_sub hl [1, 2, 3, 4, 0] rfl)
      · have hf := hf_t hc hf
        refine lv_bipush (v := (-3)) hx hb dX7_would_28 (by decide) ?_
        cases hf
        refine W.widen (k := 0) (n := 0) (Nat.le_of_ble_eq_true rfl) (Nat.le_of_ble_eq_true rfl) ?_
        exact x_iret C h dX7_would_30
    · have hf := hf_t hc hf
      refine lv_bipush (v := (-2)) hx hb dX7_would_15 (by decide) ?_
      cases hf
      refine W.widen (k := 0) (n := 0) (Nat.le_of_ble_eq_true rfl) (Nat.le_of_ble_eq_true rfl) ?_
      exact x_iret C h dX7_would_17

theorem dX7_sticksBehind_0 : decode cX7_sticksBehind 0 = .ok (.aload_n 0, 1) := by decide +kernel
theorem dX7_sticksBehind_1 : decode cX7_sticksBehind 1 = .ok (.invokevirtual 273, 3) := by decide +kernel
theorem dX7_sticksBehind_4 : decode cX7_sticksBehind 4 = .ok (.iconst 0, 1) := by decide +kernel
theorem dX7_sticksBehind_5 : decode cX7_sticksBehind 5 = .ok (.istore_n 3, 1) := by decide +kernel
theorem dX7_sticksBehind_6 : decode cX7_sticksBehind 6 = .ok (.iload_n 3, 1) := by decide +kernel
theorem dX7_sticksBehind_7 : decode cX7_sticksBehind 7 = .ok (.iload_n 1, 1) := by decide +kernel
theorem dX7_sticksBehind_8 : decode cX7_sticksBehind 8 = .ok (.if_icmp .ge 20, 3) := by decide +kernel
theorem dX7_sticksBehind_11 : decode cX7_sticksBehind 11 = .ok (.aload_n 0, 1) := by decide +kernel
theorem dX7_sticksBehind_12 : decode cX7_sticksBehind 12 = .ok (.aload_n 0, 1) := by decide +kernel
theorem dX7_sticksBehind_13 : decode cX7_sticksBehind 13 = .ok (.getfield 155, 3) := by decide +kernel
theorem dX7_sticksBehind_16 : decode cX7_sticksBehind 16 = .ok (.iload_n 3, 1) := by decide +kernel
theorem dX7_sticksBehind_17 : decode cX7_sticksBehind 17 = .ok (.iadd, 1) := by decide +kernel
theorem dX7_sticksBehind_18 : decode cX7_sticksBehind 18 = .ok (.iload_n 2, 1) := by decide +kernel
theorem dX7_sticksBehind_19 : decode cX7_sticksBehind 19 = .ok (.invokevirtual 158, 3) := by decide +kernel
theorem dX7_sticksBehind_22 : decode cX7_sticksBehind 22 = .ok (.iinc 3 1, 3) := by decide +kernel
theorem dX7_sticksBehind_25 : decode cX7_sticksBehind 25 = .ok (.goto (-19), 3) := by decide +kernel
theorem dX7_sticksBehind_28 : decode cX7_sticksBehind 28 = .ok (.iconst 0, 1) := by decide +kernel
theorem dX7_sticksBehind_29 : decode cX7_sticksBehind 29 = .ok (.istore_n 3, 1) := by decide +kernel
theorem dX7_sticksBehind_30 : decode cX7_sticksBehind 30 = .ok (.iconst 0, 1) := by decide +kernel
theorem dX7_sticksBehind_31 : decode cX7_sticksBehind 31 = .ok (.istore 4, 2) := by decide +kernel
theorem dX7_sticksBehind_33 : decode cX7_sticksBehind 33 = .ok (.iload 4, 2) := by decide +kernel
theorem dX7_sticksBehind_35 : decode cX7_sticksBehind 35 = .ok (.aload_n 0, 1) := by decide +kernel
theorem dX7_sticksBehind_36 : decode cX7_sticksBehind 36 = .ok (.getfield 110, 3) := by decide +kernel
theorem dX7_sticksBehind_39 : decode cX7_sticksBehind 39 = .ok (.if_icmp .ge 19, 3) := by decide +kernel
theorem dX7_sticksBehind_42 : decode cX7_sticksBehind 42 = .ok (.iload_n 3, 1) := by decide +kernel
theorem dX7_sticksBehind_43 : decode cX7_sticksBehind 43 = .ok (.aload_n 0, 1) := by decide +kernel
theorem dX7_sticksBehind_44 : decode cX7_sticksBehind 44 = .ok (.getfield 16, 3) := by decide +kernel
theorem dX7_sticksBehind_47 : decode cX7_sticksBehind 47 = .ok (.iload 4, 2) := by decide +kernel
theorem dX7_sticksBehind_49 : decode cX7_sticksBehind 49 = .ok (.iaload, 1) := by decide +kernel
theorem dX7_sticksBehind_50 : decode cX7_sticksBehind 50 = .ok (.iadd, 1) := by decide +kernel
theorem dX7_sticksBehind_51 : decode cX7_sticksBehind 51 = .ok (.istore_n 3, 1) := by decide +kernel
theorem dX7_sticksBehind_52 : decode cX7_sticksBehind 52 = .ok (.iinc 4 1, 3) := by decide +kernel
theorem dX7_sticksBehind_55 : decode cX7_sticksBehind 55 = .ok (.goto (-22), 3) := by decide +kernel
theorem dX7_sticksBehind_58 : decode cX7_sticksBehind 58 = .ok (.aload_n 0, 1) := by decide +kernel
theorem dX7_sticksBehind_59 : decode cX7_sticksBehind 59 = .ok (.invokevirtual 276, 3) := by decide +kernel
theorem dX7_sticksBehind_62 : decode cX7_sticksBehind 62 = .ok (.iload_n 3, 1) := by decide +kernel
theorem dX7_sticksBehind_63 : decode cX7_sticksBehind 63 = .ok (.ireturn, 1) := by decide +kernel
def lX7_sticksBehind_6 (a1 : Int32) (a0 : Nat) (a2 : Int32) (σ2 : St) (x3 : Int32) : Option ((St × Int32) ⊕ (St)) :=
  if a1 ≤ x3 then
    some (.inr σ2)
  else
  o_gI σ2 a0 5 0 fun x4 =>
  o_k σ2 a0 5 <|
  (fX7_goHour σ2 a0 (x4 + x3) a2).bind fun σ5 =>
  some (.inl (σ5, x3 + 1))

def lX7_sticksBehind_33 (σ6 : St) (a0 : Nat) (x7 : Int32) (x8 : Int32) : Option ((Int32 × Int32) ⊕ (Int32)) :=
  o_gI σ6 a0 5 1 fun x9 =>
  if x9 ≤ x8 then
    some (.inr x7)
  else
  o_gR σ6 a0 5 4 fun r10 =>
  o_aI σ6 r10 0 x8 fun x11 =>
  some (.inl (x7 + x11, x8 + 1))

def fX7_sticksBehind (σ : St) (a0 : Nat) (a1 : Int32) (a2 : Int32) : Option (Int32 × St) :=
  o_k σ a0 5 <|
  (fX7_keep σ a0).bind fun σ1 =>
  (loopF fuel (fun z => lX7_sticksBehind_6 a1 a0 a2 z.1 z.2) (σ1, 0)).bind <| fun σ6 =>
  (loopF fuel (fun z => lX7_sticksBehind_33 σ6 a0 z.1 z.2) (0, 0)).bind <| fun x12 =>
  o_k σ6 a0 5 <|
  (fX7_layBack σ6 a0).bind fun σ13 =>
  some (x12, σ13)

set_option maxHeartbeats 4000000 in
theorem wX7_sticksBehind {l : Launch} {s0 : State} {A0 : Array Value} {D : va_G} {ac : Nat → ClassId} (G : Gl s0 A0 D ac) {σ : St} {a0 : Nat} {a1 : Int32} {a2 : Int32} {v : Int32} {σ' : St} (hf : fX7_sticksBehind σ a0 a1 a2 = some (v, σ')) : Met l yX7_sticksBehind (ws_ yX7_sticksBehind cX7_sticksBehind 5 (some (.int))) ({ frames := 5, cells := 0, slots := 0, locals := 122 } : Room) (Pn s0 D ac [.ref a0, .int a1, .int a2] σ) (Qn s0 D ac (some (.int v)) σ') 0 0 (fr s0) := by
  refine x_met (by decide) (Nat.le_of_ble_eq_true rfl) ?_
  intro p e s m args below meth c ls C hnm h hl
  have C : Cx s0 p s m args meth c cX7_sticksBehind 5 "HutForShowModel" (some (.int)) := C
  have hx := C.1
  have hb := C.2.1
  have hl : lv_has ls 5 [(0, .ref a0), (1, .int a1), (2, .int a2)] := hl
  unfold fX7_sticksBehind at hf
  refine lv_aload_n hx hb dX7_sticksBehind_0 rfl (lv_at hl 0 rfl) ?_
  obtain ⟨hk, hf⟩ := k_of hf
  obtain ⟨σ1, hc, hf⟩ := hf_b hf
  refine x_cV (q := (RX7, TX7, 50)) (rest := []) (As := []) (n := 0) (ov := none) G C h (wX7_keep G hc) hk rfl (lw_V q1379 q1381 qs40 q61 q1382) (by decide +kernel) ⟨Nat.le_of_ble_eq_true rfl, Nat.le_of_ble_eq_true rfl⟩ rfl rfl rfl hl.1 rfl (Nat.le_of_ble_eq_true rfl) dX7_sticksBehind_1 ⟨(Nat.le_of_ble_eq_true rfl), (Nat.le_of_ble_eq_true rfl)⟩ (fun H locs h => ?_)
  refine lv_iconst (v := 0) hx hb dX7_sticksBehind_4 (by decide) ?_
  refine lv_istore_n (lv' := [(3, .int 0), (0, .ref a0), (1, .int a1), (2, .int a2)]) hx hb dX7_sticksBehind_5 rfl hl (by decide) rfl (fun ls hl => ?_)
  obtain ⟨e6, hL, hK⟩ := hf_b hf
  have hE6_0 : ∀ (σ6 : St), σ6 = e6 → ∀  (H : Heap) (locs : List Loc) (ls : Array Slot), Hs s0 D ac σ6 H locs → lv_has ls 5 [(0, .ref a0), (1, .int a1), (2, .int a2)] → W p l e ({ frames := 5, cells := 0, slots := 0, locals := 122 } : Room) s m args below meth c H locs 0 0 (MQ below (Qn s0 D ac (some (.int v)) σ') args s 0 0 (fr s0)) (F0 m 28 ls []) := by
    intro σ6 he H locs ls h hl
    subst he
    have hf := hK
    refine lv_iconst (v := 0) hx hb dX7_sticksBehind_28 (by decide) ?_
    refine lv_istore_n (lv' := [(3, .int 0), (0, .ref a0), (1, .int a1), (2, .int a2)]) hx hb dX7_sticksBehind_29 rfl hl (by decide) rfl (fun ls hl => ?_)
    refine lv_iconst (v := 0) hx hb dX7_sticksBehind_30 (by decide) ?_
    refine lv_istore (lv' := [(4, .int 0), (3, .int 0), (0, .ref a0), (1, .int a1), (2, .int a2)]) hx hb dX7_sticksBehind_31 hl (by decide) rfl (fun ls hl => ?_)
    obtain ⟨e33, hL, hK⟩ := hf_b hf
    have hE33_0 : ∀ (x12 : Int32), x12 = e33 → ∀  (H : Heap) (locs : List Loc) (ls : Array Slot), Hs s0 D ac σ6 H locs → lv_has ls 5 [(0, .ref a0), (1, .int a1), (2, .int a2), (3, .int x12)] → W p l e ({ frames := 5, cells := 0, slots := 0, locals := 122 } : Room) s m args below meth c H locs 0 0 (MQ below (Qn s0 D ac (some (.int v)) σ') args s 0 0 (fr s0)) (F0 m 58 ls []) := by
      intro x12 he H locs ls h hl
      subst he
      have hf := hK
      refine lv_aload_n hx hb dX7_sticksBehind_58 rfl (lv_at hl 0 rfl) ?_
      obtain ⟨hk, hf⟩ := k_of hf
      obtain ⟨σ13, hc, hf⟩ := hf_b hf
      refine x_cV (q := (RX7, TX7, 50)) (rest := []) (As := []) (n := 0) (ov := none) G C h (wX7_layBack G hc) hk rfl (lw_V q1383 q1385 qs41 q61 q1386) (by decide +kernel) ⟨Nat.le_of_ble_eq_true rfl, Nat.le_of_ble_eq_true rfl⟩ rfl rfl rfl hl.1 rfl (Nat.le_of_ble_eq_true rfl) dX7_sticksBehind_59 ⟨(Nat.le_of_ble_eq_true rfl), (Nat.le_of_ble_eq_true rfl)⟩ (fun H locs h => ?_)
      refine lv_iload_n hx hb dX7_sticksBehind_62 rfl (lv_at hl 3 rfl) ?_
      cases hf
      refine W.widen (k := 0) (n := 0) (Nat.le_of_ble_eq_true rfl) (Nat.le_of_ble_eq_true rfl) ?_
      exact x_iret C h dX7_sticksBehind_63
    refine loopF_ind (P := fun z => ∀ (H : Heap) (locs : List Loc) (ls : Array Slot), Hs s0 D ac σ6 H locs → lv_has ls 5 [(0, .ref a0), (1, .int a1), (2, .int a2), (3, .int z.1), (4, .int z.2)] → W p l e ({ frames := 5, cells := 0, slots := 0, locals := 122 } : Room) s m args below meth c H locs 0 0 (MQ below (Qn s0 D ac (some (.int v)) σ') args s 0 0 (fr s0)) (F0 m 33 ls [])) ?_ _ _ hL _ _ _ h (lv_sub hl [2, 3, 4, 1, 0] rfl)
    clear hK hL h hl hf
    intro z o hf ih hX H locs ls h hl
    obtain ⟨x7, x8⟩ := z
    have h : Hs s0 D ac σ6 H locs := h
    have hl : lv_has ls 5 [(0, .ref a0), (1, .int a1), (2, .int a2), (3, .int x7), (4, .int x8)] := hl
    have hf : lX7_sticksBehind_33 σ6 a0 x7 x8 = some o := hf
    unfold lX7_sticksBehind_33 at hf
    refine lv_iload hx hb dX7_sticksBehind_33 (lv_at hl 4 rfl) ?_
    refine lv_aload_n hx hb dX7_sticksBehind_35 rfl (lv_at hl 0 rfl) ?_
    refine x_gI (q := (RX7, TX7, 50)) (j := 1) G C h rfl (by decide) (fun _ _ _ => rfl) (lk C q1057) (fun _ z => z) dX7_sticksBehind_36 hf (fun x9 hf => ?_)
    refine lv_icmp_ge (tgt := 58) hx hb dX7_sticksBehind_39 (by decide) (fun hc => ?_) (fun hc => ?_)
    · have hf := hf_t hc hf
      cases hf
      exact hE33_0 _ (hX _ rfl) _ _ _ h (lv_sub hl [0, 1, 2, 3] rfl)
    · have hf := hf_f hc hf
      refine lv_iload_n hx hb dX7_sticksBehind_42 rfl (lv_at hl 3 rfl) ?_
      refine lv_aload_n hx hb dX7_sticksBehind_43 rfl (lv_at hl 0 rfl) ?_
      refine x_gR (q := (RX7, TX7, 50)) (j := 4) G C h rfl (by decide) (fun _ _ _ => rfl) (lk C q1060) (fun _ z => z) dX7_sticksBehind_44 hf (fun r10 hf => ?_)
      refine lv_iload hx hb dX7_sticksBehind_47 (lv_at hl 4 rfl) ?_
      refine x_iald G C h dX7_sticksBehind_49 hf (fun x11 hf => ?_)
      refine lv_iadd hx hb dX7_sticksBehind_50 ?_
      refine lv_istore_n (lv' := [(3, .int (x7 + x11)), (0, .ref a0), (1, .int a1), (2, .int a2), (4, .int x8)]) hx hb dX7_sticksBehind_51 rfl hl (by decide) rfl (fun ls hl => ?_)
      refine lv_iinc (v := x8 + 1) (lv' := [(4, .int (x8 + 1)), (3, .int (x7 + x11)), (0, .ref a0), (1, .int a1), (2, .int a2)]) hx hb dX7_sticksBehind_52 hl (k := 4) rfl rfl (by decide) rfl (fun ls hl => ?_)
      refine lv_goto (tgt := 33) hx hb dX7_sticksBehind_55 (by decide) ?_
      cases hf
      exact ih _ rfl _ _ _ h (lv_sub hl [2, 3, 4, 1, 0] rfl)
  refine loopF_ind (P := fun z => ∀ (H : Heap) (locs : List Loc) (ls : Array Slot), Hs s0 D ac (z.1) H locs → lv_has ls 5 [(0, .ref a0), (1, .int a1), (2, .int a2), (3, .int z.2)] → W p l e ({ frames := 5, cells := 0, slots := 0, locals := 122 } : Room) s m args below meth c H locs 0 0 (MQ below (Qn s0 D ac (some (.int v)) σ') args s 0 0 (fr s0)) (F0 m 6 ls [])) ?_ _ _ hL _ _ _ h (lv_sub hl [1, 2, 3, 0] rfl)
  clear hK hL h hl hf
  intro z o hf ih hX H locs ls h hl
  obtain ⟨σ2, x3⟩ := z
  have h : Hs s0 D ac σ2 H locs := h
  have hl : lv_has ls 5 [(0, .ref a0), (1, .int a1), (2, .int a2), (3, .int x3)] := hl
  have hf : lX7_sticksBehind_6 a1 a0 a2 σ2 x3 = some o := hf
  unfold lX7_sticksBehind_6 at hf
  refine lv_iload_n hx hb dX7_sticksBehind_6 rfl (lv_at hl 3 rfl) ?_
  refine lv_iload_n hx hb dX7_sticksBehind_7 rfl (lv_at hl 1 rfl) ?_
  refine lv_icmp_ge (tgt := 28) hx hb dX7_sticksBehind_8 (by decide) (fun hc => ?_) (fun hc => ?_)
  · have hf := hf_t hc hf
    cases hf
    exact hE6_0 _ (hX _ rfl) _ _ _ h (lv_sub hl [0, 1, 2] rfl)
  · have hf := hf_f hc hf
    refine lv_aload_n hx hb dX7_sticksBehind_11 rfl (lv_at hl 0 rfl) ?_
    refine lv_aload_n hx hb dX7_sticksBehind_12 rfl (lv_at hl 0 rfl) ?_
    refine x_gI (q := (RX7, TX7, 50)) (j := 0) G C h rfl (by decide) (fun _ _ _ => rfl) (lk C q1056) (fun _ z => z) dX7_sticksBehind_13 hf (fun x4 hf => ?_)
    refine lv_iload_n hx hb dX7_sticksBehind_16 rfl (lv_at hl 3 rfl) ?_
    refine lv_iadd hx hb dX7_sticksBehind_17 ?_
    refine lv_iload_n hx hb dX7_sticksBehind_18 rfl (lv_at hl 2 rfl) ?_
    obtain ⟨hk, hf⟩ := k_of hf
    obtain ⟨σ5, hc, hf⟩ := hf_b hf
    refine x_cV (q := (RX7, TX7, 50)) (rest := []) (As := [.int (x4 + x3), .int a2]) (n := 2) (ov := none) G C h (wX7_goHour G hc) hk rfl (lw_V q1257 q1259 qs26 q61 q1260) (by decide +kernel) ⟨Nat.le_of_ble_eq_true rfl, Nat.le_of_ble_eq_true rfl⟩ rfl rfl rfl hl.1 rfl (Nat.le_of_ble_eq_true rfl) dX7_sticksBehind_19 ⟨(Nat.le_of_ble_eq_true rfl), (Nat.le_of_ble_eq_true rfl)⟩ (fun H locs h => ?_)
    refine lv_iinc (v := x3 + 1) (lv' := [(3, .int (x3 + 1)), (0, .ref a0), (1, .int a1), (2, .int a2)]) hx hb dX7_sticksBehind_22 hl (k := 3) rfl rfl (by decide) rfl (fun ls hl => ?_)
    refine lv_goto (tgt := 6) hx hb dX7_sticksBehind_25 (by decide) ?_
    cases hf
    exact ih _ rfl _ _ _ h (lv_sub hl [1, 2, 3, 0] rfl)

theorem dX7_lost_0 : decode cX7_lost 0 = .ok (.iload_n 1, 1) := by decide +kernel
theorem dX7_lost_1 : decode cX7_lost 1 = .ok (.iconst 1, 1) := by decide +kernel
theorem dX7_lost_2 : decode cX7_lost 2 = .ok (.bipush 60, 2) := by decide +kernel
theorem dX7_lost_4 : decode cX7_lost 4 = .ok (.invokestatic 113, 3) := by decide +kernel
theorem dX7_lost_7 : decode cX7_lost 7 = .ok (.ifCond .eq 19, 3) := by decide +kernel
theorem dX7_lost_10 : decode cX7_lost 10 = .ok (.aload_n 0, 1) := by decide +kernel
theorem dX7_lost_11 : decode cX7_lost 11 = .ok (.iload_n 1, 1) := by decide +kernel
theorem dX7_lost_12 : decode cX7_lost 12 = .ok (.iconst 1, 1) := by decide +kernel
theorem dX7_lost_13 : decode cX7_lost 13 = .ok (.invokevirtual 279, 3) := by decide +kernel
theorem dX7_lost_16 : decode cX7_lost 16 = .ok (.aload_n 0, 1) := by decide +kernel
theorem dX7_lost_17 : decode cX7_lost 17 = .ok (.iload_n 1, 1) := by decide +kernel
theorem dX7_lost_18 : decode cX7_lost 18 = .ok (.iconst 0, 1) := by decide +kernel
theorem dX7_lost_19 : decode cX7_lost 19 = .ok (.invokevirtual 279, 3) := by decide +kernel
theorem dX7_lost_22 : decode cX7_lost 22 = .ok (.isub, 1) := by decide +kernel
theorem dX7_lost_23 : decode cX7_lost 23 = .ok (.goto 5, 3) := by decide +kernel
theorem dX7_lost_26 : decode cX7_lost 26 = .ok (.bipush (-3), 2) := by decide +kernel
theorem dX7_lost_28 : decode cX7_lost 28 = .ok (.ireturn, 1) := by decide +kernel
def fX7_lost (σ : St) (a0 : Nat) (a1 : Int32) : Option (Int32 × St) :=
  (fX7_in σ a1 1 60).bind fun x1 =>
  if x1 = 0 then
    some ((-3), σ)
  else
  o_k σ a0 5 <|
  (fX7_sticksBehind σ a0 a1 1).bind <| un2 fun x2 σ3 =>
  o_k σ3 a0 5 <|
  (fX7_sticksBehind σ3 a0 a1 0).bind <| un2 fun x4 σ5 =>
  some (x2 - x4, σ5)

set_option maxHeartbeats 4000000 in
theorem wX7_lost {l : Launch} {s0 : State} {A0 : Array Value} {D : va_G} {ac : Nat → ClassId} (G : Gl s0 A0 D ac) {σ : St} {a0 : Nat} {a1 : Int32} {v : Int32} {σ' : St} (hf : fX7_lost σ a0 a1 = some (v, σ')) : Met l yX7_lost (ws_ yX7_lost cX7_lost 2 (some (.int))) ({ frames := 6, cells := 0, slots := 0, locals := 146 } : Room) (Pn s0 D ac [.ref a0, .int a1] σ) (Qn s0 D ac (some (.int v)) σ') 0 0 (fr s0) := by
  refine x_met (by decide) (Nat.le_of_ble_eq_true rfl) ?_
  intro p e s m args below meth c ls C hnm h hl
  have C : Cx s0 p s m args meth c cX7_lost 2 "HutForShowModel" (some (.int)) := C
  have hx := C.1
  have hb := C.2.1
  have hl : lv_has ls 2 [(0, .ref a0), (1, .int a1)] := hl
  unfold fX7_lost at hf
  refine lv_iload_n hx hb dX7_lost_0 rfl (lv_at hl 1 rfl) ?_
  refine lv_iconst (v := 1) hx hb dX7_lost_1 (by decide) ?_
  refine lv_bipush (v := 60) hx hb dX7_lost_2 (by decide) ?_
  obtain ⟨x1, hc, hf⟩ := hf_b hf
  refine x_cS (rest := []) (As := [.int a1, .int 1, .int 60]) (n := 3) (ov := (some (.int x1))) C h (wX7_in G hc) (lw_S q1211 q1212 q61 q1213) (by decide +kernel) ⟨Nat.le_of_ble_eq_true rfl, Nat.le_of_ble_eq_true rfl⟩ rfl rfl rfl hl.1 rfl (Nat.le_of_ble_eq_true rfl) dX7_lost_4 ⟨(Nat.le_of_ble_eq_true rfl), (Nat.le_of_ble_eq_true rfl)⟩ (fun H locs h => ?_)
  refine lv_if_eq (tgt := 26) hx hb dX7_lost_7 (by decide) (fun hc => ?_) (fun hc => ?_)
  · have hf := hf_t hc hf
    refine lv_bipush (v := (-3)) hx hb dX7_lost_26 (by decide) ?_
    cases hf
    refine W.widen (k := 0) (n := 0) (Nat.le_of_ble_eq_true rfl) (Nat.le_of_ble_eq_true rfl) ?_
    exact x_iret C h dX7_lost_28
  · have hf := hf_f hc hf
    refine lv_aload_n hx hb dX7_lost_10 rfl (lv_at hl 0 rfl) ?_
    refine lv_iload_n hx hb dX7_lost_11 rfl (lv_at hl 1 rfl) ?_
    refine lv_iconst (v := 1) hx hb dX7_lost_12 (by decide) ?_
    obtain ⟨hk, hf⟩ := k_of hf
    obtain ⟨⟨x2, σ3⟩, hc, hf⟩ := hf_b hf
    have hf := hf_u2 hf
    refine x_cV (q := (RX7, TX7, 50)) (rest := []) (As := [.int a1, .int 1]) (n := 2) (ov := (some (.int x2))) G C h (wX7_sticksBehind G hc) hk rfl (lw_V q1391 q1393 qs42 q61 q1394) (by decide +kernel) ⟨Nat.le_of_ble_eq_true rfl, Nat.le_of_ble_eq_true rfl⟩ rfl rfl rfl hl.1 rfl (Nat.le_of_ble_eq_true rfl) dX7_lost_13 ⟨(Nat.le_of_ble_eq_true rfl), (Nat.le_of_ble_eq_true rfl)⟩ (fun H locs h => ?_)
    refine lv_aload_n hx hb dX7_lost_16 rfl (lv_at hl 0 rfl) ?_
    refine lv_iload_n hx hb dX7_lost_17 rfl (lv_at hl 1 rfl) ?_
    refine lv_iconst (v := 0) hx hb dX7_lost_18 (by decide) ?_
    obtain ⟨hk, hf⟩ := k_of hf
    obtain ⟨⟨x4, σ5⟩, hc, hf⟩ := hf_b hf
    have hf := hf_u2 hf
    refine x_cV (q := (RX7, TX7, 50)) (rest := [.int x2]) (As := [.int a1, .int 0]) (n := 2) (ov := (some (.int x4))) G C h (wX7_sticksBehind G hc) hk rfl (lw_V q1391 q1393 qs42 q61 q1394) (by decide +kernel) ⟨Nat.le_of_ble_eq_true rfl, Nat.le_of_ble_eq_true rfl⟩ rfl rfl rfl hl.1 rfl (Nat.le_of_ble_eq_true rfl) dX7_lost_19 ⟨(Nat.le_of_ble_eq_true rfl), (Nat.le_of_ble_eq_true rfl)⟩ (fun H locs h => ?_)
    refine lv_isub hx hb dX7_lost_22 ?_
    refine lv_goto (tgt := 28) hx hb dX7_lost_23 (by decide) ?_
    cases hf
    refine W.widen (k := 0) (n := 0) (Nat.le_of_ble_eq_true rfl) (Nat.le_of_ble_eq_true rfl) ?_
    exact x_iret C h dX7_lost_28

theorem dX7_take_0 : decode cX7_take 0 = .ok (.iconst 0, 1) := by decide +kernel
theorem dX7_take_1 : decode cX7_take 1 = .ok (.istore 4, 2) := by decide +kernel
theorem dX7_take_3 : decode cX7_take 3 = .ok (.iconst 0, 1) := by decide +kernel
theorem dX7_take_4 : decode cX7_take 4 = .ok (.istore 5, 2) := by decide +kernel
theorem dX7_take_6 : decode cX7_take 6 = .ok (.iload 5, 2) := by decide +kernel
theorem dX7_take_8 : decode cX7_take 8 = .ok (.iload_n 3, 1) := by decide +kernel
theorem dX7_take_9 : decode cX7_take 9 = .ok (.if_icmp .ge 90, 3) := by decide +kernel
theorem dX7_take_12 : decode cX7_take 12 = .ok (.aload_n 0, 1) := by decide +kernel
theorem dX7_take_13 : decode cX7_take 13 = .ok (.getfield 71, 3) := by decide +kernel
theorem dX7_take_16 : decode cX7_take 16 = .ok (.iload 5, 2) := by decide +kernel
theorem dX7_take_18 : decode cX7_take 18 = .ok (.lload_n 1, 1) := by decide +kernel
theorem dX7_take_19 : decode cX7_take 19 = .ok (.bipush 6, 2) := by decide +kernel
theorem dX7_take_21 : decode cX7_take 21 = .ok (.iload 5, 2) := by decide +kernel
theorem dX7_take_23 : decode cX7_take 23 = .ok (.imul, 1) := by decide +kernel
theorem dX7_take_24 : decode cX7_take 24 = .ok (.lshr, 1) := by decide +kernel
theorem dX7_take_25 : decode cX7_take 25 = .ok (.ldc2_w 283, 3) := by decide +kernel
theorem dX7_take_28 : decode cX7_take 28 = .ok (.land, 1) := by decide +kernel
theorem dX7_take_29 : decode cX7_take 29 = .ok (.l2i, 1) := by decide +kernel
theorem dX7_take_30 : decode cX7_take 30 = .ok (.iastore, 1) := by decide +kernel
theorem dX7_take_31 : decode cX7_take 31 = .ok (.aload_n 0, 1) := by decide +kernel
theorem dX7_take_32 : decode cX7_take 32 = .ok (.getfield 71, 3) := by decide +kernel
theorem dX7_take_35 : decode cX7_take 35 = .ok (.iload 5, 2) := by decide +kernel
theorem dX7_take_37 : decode cX7_take 37 = .ok (.iaload, 1) := by decide +kernel
theorem dX7_take_38 : decode cX7_take 38 = .ok (.aload_n 0, 1) := by decide +kernel
theorem dX7_take_39 : decode cX7_take 39 = .ok (.getfield 129, 3) := by decide +kernel
theorem dX7_take_42 : decode cX7_take 42 = .ok (.if_icmp .lt 6, 3) := by decide +kernel
theorem dX7_take_45 : decode cX7_take 45 = .ok (.bipush (-2), 2) := by decide +kernel
theorem dX7_take_47 : decode cX7_take 47 = .ok (.ireturn, 1) := by decide +kernel
theorem dX7_take_48 : decode cX7_take 48 = .ok (.iconst 0, 1) := by decide +kernel
theorem dX7_take_49 : decode cX7_take 49 = .ok (.istore 6, 2) := by decide +kernel
theorem dX7_take_51 : decode cX7_take 51 = .ok (.iload 6, 2) := by decide +kernel
theorem dX7_take_53 : decode cX7_take 53 = .ok (.iload 5, 2) := by decide +kernel
theorem dX7_take_55 : decode cX7_take 55 = .ok (.if_icmp .ge 38, 3) := by decide +kernel
theorem dX7_take_58 : decode cX7_take 58 = .ok (.iload 4, 2) := by decide +kernel
theorem dX7_take_60 : decode cX7_take 60 = .ok (.ifCond .ne 20, 3) := by decide +kernel
theorem dX7_take_63 : decode cX7_take 63 = .ok (.aload_n 0, 1) := by decide +kernel
theorem dX7_take_64 : decode cX7_take 64 = .ok (.getfield 71, 3) := by decide +kernel
theorem dX7_take_67 : decode cX7_take 67 = .ok (.iload 6, 2) := by decide +kernel
theorem dX7_take_69 : decode cX7_take 69 = .ok (.iaload, 1) := by decide +kernel
theorem dX7_take_70 : decode cX7_take 70 = .ok (.aload_n 0, 1) := by decide +kernel
theorem dX7_take_71 : decode cX7_take 71 = .ok (.getfield 71, 3) := by decide +kernel
theorem dX7_take_74 : decode cX7_take 74 = .ok (.iload 5, 2) := by decide +kernel
theorem dX7_take_76 : decode cX7_take 76 = .ok (.iaload, 1) := by decide +kernel
theorem dX7_take_77 : decode cX7_take 77 = .ok (.if_icmp .ne 7, 3) := by decide +kernel
theorem dX7_take_80 : decode cX7_take 80 = .ok (.iconst 1, 1) := by decide +kernel
theorem dX7_take_81 : decode cX7_take 81 = .ok (.goto 4, 3) := by decide +kernel
theorem dX7_take_84 : decode cX7_take 84 = .ok (.iconst 0, 1) := by decide +kernel
theorem dX7_take_85 : decode cX7_take 85 = .ok (.istore 4, 2) := by decide +kernel
theorem dX7_take_87 : decode cX7_take 87 = .ok (.iinc 6 1, 3) := by decide +kernel
theorem dX7_take_90 : decode cX7_take 90 = .ok (.goto (-39), 3) := by decide +kernel
theorem dX7_take_93 : decode cX7_take 93 = .ok (.iinc 5 1, 3) := by decide +kernel
theorem dX7_take_96 : decode cX7_take 96 = .ok (.goto (-90), 3) := by decide +kernel
theorem dX7_take_99 : decode cX7_take 99 = .ok (.iload 4, 2) := by decide +kernel
theorem dX7_take_101 : decode cX7_take 101 = .ok (.ifCond .eq 8, 3) := by decide +kernel
theorem dX7_take_104 : decode cX7_take 104 = .ok (.bipush (-3), 2) := by decide +kernel
theorem dX7_take_106 : decode cX7_take 106 = .ok (.goto 4, 3) := by decide +kernel
theorem dX7_take_109 : decode cX7_take 109 = .ok (.iconst 1, 1) := by decide +kernel
theorem dX7_take_110 : decode cX7_take 110 = .ok (.ireturn, 1) := by decide +kernel
def lX7_take_51 (x3 : Int32) (σ5 : St) (a0 : Nat) (x9 : Int32) (x10 : Int32) : Option ((Int32 × Int32) ⊕ (Int32)) :=
  if x3 ≤ x10 then
    some (.inr x9)
  else
  jn (fun (x15 : Int32) =>
    some (.inl (x15, x10 + 1))) fun j85 =>
  jn (fun (_ : Unit) =>
    j85 1) fun j80 =>
  if x9 = 0 then
    o_gR σ5 a0 5 32 fun r11 =>
    o_aI σ5 r11 0 x10 fun x12 =>
    o_gR σ5 a0 5 32 fun r13 =>
    o_aI σ5 r13 0 x3 fun x14 =>
    if x12 = x14 then
      j80 ()
    else
    j85 0
  else
  j80 ()

def lX7_take_6 (a2 : Int32) (a0 : Nat) (a1 : Int64) (σ1 : St) (x2 : Int32) (x3 : Int32) : Option ((St × Int32 × Int32) ⊕ ((St) ⊕ (St × Int32))) :=
  if a2 ≤ x3 then
    some (.inr (.inr (σ1, x2)))
  else
  o_gR σ1 a0 5 32 fun r4 =>
  o_sI σ1 r4 0 x3 (((a1 >>> ((6 * x3).toInt64 &&& 63)) &&& 63).toInt32) fun σ5 =>
  o_gR σ5 a0 5 32 fun r6 =>
  o_aI σ5 r6 0 x3 fun x7 =>
  o_gI σ5 a0 5 7 fun x8 =>
  if x7 < x8 then
    (loopF fuel (fun z => lX7_take_51 x3 σ5 a0 z.1 z.2) (x2, 0)).bind <| fun x16 =>
    some (.inl (σ5, x16, x3 + 1))
  else
  some (.inr (.inl σ5))

def fX7_take (σ : St) (a0 : Nat) (a1 : Int64) (a2 : Int32) : Option (Int32 × St) :=
  (loopF fuel (fun z => lX7_take_6 a2 a0 a1 z.1 z.2.1 z.2.2) (σ, 0, 0)).bind <| sm (  fun σ17 =>
    some ((-2), σ17)) <| un2 fun σ18 x19 =>
  if x19 = 0 then
    some (1, σ18)
  else
  some ((-3), σ18)

set_option maxHeartbeats 4000000 in
theorem wX7_take {l : Launch} {s0 : State} {A0 : Array Value} {D : va_G} {ac : Nat → ClassId} (G : Gl s0 A0 D ac) {σ : St} {a0 : Nat} {a1 : Int64} {a2 : Int32} {v : Int32} {σ' : St} (hf : fX7_take σ a0 a1 a2 = some (v, σ')) : Met l yX7_take (ws_ yX7_take cX7_take 7 (some (.int))) ({ frames := 0, cells := 0, slots := 0, locals := 0 } : Room) (Pn s0 D ac [.ref a0, .long a1, .int a2] σ) (Qn s0 D ac (some (.int v)) σ') 0 0 (fr s0) := by
  refine x_met (by decide) (Nat.le_of_ble_eq_true rfl) ?_
  intro p e s m args below meth c ls C hnm h hl
  have C : Cx s0 p s m args meth c cX7_take 7 "HutForShowModel" (some (.int)) := C
  have hx := C.1
  have hb := C.2.1
  have hl : lv_has ls 7 [(0, .ref a0), (1, .long a1), (3, .int a2)] := hl
  unfold fX7_take at hf
  refine lv_iconst (v := 0) hx hb dX7_take_0 (by decide) ?_
  refine lv_istore (lv' := [(4, .int 0), (0, .ref a0), (1, .long a1), (3, .int a2)]) hx hb dX7_take_1 hl (by decide) rfl (fun ls hl => ?_)
  refine lv_iconst (v := 0) hx hb dX7_take_3 (by decide) ?_
  refine lv_istore (lv' := [(5, .int 0), (4, .int 0), (0, .ref a0), (1, .long a1), (3, .int a2)]) hx hb dX7_take_4 hl (by decide) rfl (fun ls hl => ?_)
  obtain ⟨e6, hL, hK⟩ := hf_b hf
  have hE6_0 : ∀ (σ17 : St), (.inl σ17) = e6 → ∀  (H : Heap) (locs : List Loc) (ls : Array Slot), Hs s0 D ac σ17 H locs → lv_has ls 7 [(0, .ref a0), (1, .long a1), (3, .int a2)] → W p l e ({ frames := 0, cells := 0, slots := 0, locals := 0 } : Room) s m args below meth c H locs 0 0 (MQ below (Qn s0 D ac (some (.int v)) σ') args s 0 0 (fr s0)) (F0 m 45 ls []) := by
    intro σ17 he H locs ls h hl
    subst he
    have hf := hK
    have hf := hf_sl hf
    refine lv_bipush (v := (-2)) hx hb dX7_take_45 (by decide) ?_
    cases hf
    refine W.widen (k := 0) (n := 0) (Nat.le_of_ble_eq_true rfl) (Nat.le_of_ble_eq_true rfl) ?_
    exact x_iret C h dX7_take_47
  have hE6_1 : ∀ (σ18 : St) (x19 : Int32), (.inr (σ18, x19)) = e6 → ∀  (H : Heap) (locs : List Loc) (ls : Array Slot), Hs s0 D ac σ18 H locs → lv_has ls 7 [(0, .ref a0), (1, .long a1), (3, .int a2), (4, .int x19)] → W p l e ({ frames := 0, cells := 0, slots := 0, locals := 0 } : Room) s m args below meth c H locs 0 0 (MQ below (Qn s0 D ac (some (.int v)) σ') args s 0 0 (fr s0)) (F0 m 99 ls []) := by
    intro σ18 x19 he H locs ls h hl
    subst he
    have hf := hK
    have hf := hf_sr hf
    have hf := hf_u2 hf
    refine lv_iload hx hb dX7_take_99 (lv_at hl 3 rfl) ?_
    refine lv_if_eq (tgt := 109) hx hb dX7_take_101 (by decide) (fun hc => ?_) (fun hc => ?_)
    · have hf := hf_t hc hf
      refine lv_iconst (v := 1) hx hb dX7_take_109 (by decide) ?_
      cases hf
      refine W.widen (k := 0) (n := 0) (Nat.le_of_ble_eq_true rfl) (Nat.le_of_ble_eq_true rfl) ?_
      exact x_iret C h dX7_take_110
    · have hf := hf_f hc hf
      refine lv_bipush (v := (-3)) hx hb dX7_take_104 (by decide) ?_
      refine lv_goto (tgt := 110) hx hb dX7_take_106 (by decide) ?_
      cases hf
      refine W.widen (k := 0) (n := 0) (Nat.le_of_ble_eq_true rfl) (Nat.le_of_ble_eq_true rfl) ?_
      exact x_iret C h dX7_take_110
  refine loopF_ind (P := fun z => ∀ (H : Heap) (locs : List Loc) (ls : Array Slot), Hs s0 D ac (z.1) H locs → lv_has ls 7 [(0, .ref a0), (1, .long a1), (3, .int a2), (4, .int z.2.1), (5, .int z.2.2)] → W p l e ({ frames := 0, cells := 0, slots := 0, locals := 0 } : Room) s m args below meth c H locs 0 0 (MQ below (Qn s0 D ac (some (.int v)) σ') args s 0 0 (fr s0)) (F0 m 6 ls [])) ?_ _ _ hL _ _ _ h (lv_sub hl [2, 3, 4, 1, 0] rfl)
  clear hK hL h hl hf
  intro z o hf ih hX H locs ls h hl
  obtain ⟨σ1, x2, x3⟩ := z
  have h : Hs s0 D ac σ1 H locs := h
  have hl : lv_has ls 7 [(0, .ref a0), (1, .long a1), (3, .int a2), (4, .int x2), (5, .int x3)] := hl
  have hf : lX7_take_6 a2 a0 a1 σ1 x2 x3 = some o := hf
  unfold lX7_take_6 at hf
  refine lv_iload hx hb dX7_take_6 (lv_at hl 4 rfl) ?_
  refine lv_iload_n hx hb dX7_take_8 rfl (lv_at hl 2 rfl) ?_
  refine lv_icmp_ge (tgt := 99) hx hb dX7_take_9 (by decide) (fun hc => ?_) (fun hc => ?_)
  · have hf := hf_t hc hf
    cases hf
    exact hE6_1 _ _ (hX _ rfl) _ _ _ h (lv_sub hl [0, 1, 2, 3] rfl)
  · have hf := hf_f hc hf
    refine lv_aload_n hx hb dX7_take_12 rfl (lv_at hl 0 rfl) ?_
    refine x_gR (q := (RX7, TX7, 50)) (j := 32) G C h rfl (by decide) (fun _ _ _ => rfl) (lk C q1088) (fun _ z => z) dX7_take_13 hf (fun r4 hf => ?_)
    refine lv_iload hx hb dX7_take_16 (lv_at hl 4 rfl) ?_
    refine lv_lload_n hx hb dX7_take_18 rfl (lv_at hl 1 rfl) ?_
    refine lv_bipush (v := 6) hx hb dX7_take_19 (by decide) ?_
    refine lv_iload hx hb dX7_take_21 (lv_at hl 4 rfl) ?_
    refine lv_imul hx hb dX7_take_23 ?_
    refine lv_lshr hx hb dX7_take_24 rfl ?_
    refine lv_ldc2 (v := 63) hx hb C.2.2.2.1 (C.2.2.2.2.1 _ q1403) dX7_take_25 ?_
    refine lv_land hx hb dX7_take_28 ?_
    refine lv_l2i hx hb dX7_take_29 rfl ?_
    refine x_iast G C h dX7_take_30 hf (fun σ5 H locs h hf => ?_)
    refine lv_aload_n hx hb dX7_take_31 rfl (lv_at hl 0 rfl) ?_
    refine x_gR (q := (RX7, TX7, 50)) (j := 32) G C h rfl (by decide) (fun _ _ _ => rfl) (lk C q1088) (fun _ z => z) dX7_take_32 hf (fun r6 hf => ?_)
    refine lv_iload hx hb dX7_take_35 (lv_at hl 4 rfl) ?_
    refine x_iald G C h dX7_take_37 hf (fun x7 hf => ?_)
    refine lv_aload_n hx hb dX7_take_38 rfl (lv_at hl 0 rfl) ?_
    refine x_gI (q := (RX7, TX7, 50)) (j := 7) G C h rfl (by decide) (fun _ _ _ => rfl) (lk C q1063) (fun _ z => z) dX7_take_39 hf (fun x8 hf => ?_)
    refine lv_icmp_lt (tgt := 48) hx hb dX7_take_42 (by decide) (fun hc => ?_) (fun hc => ?_)
    · have hf := hf_t hc hf
      refine lv_iconst (v := 0) hx hb dX7_take_48 (by decide) ?_
      refine lv_istore (lv' := [(6, .int 0), (0, .ref a0), (1, .long a1), (3, .int a2), (4, .int x2), (5, .int x3)]) hx hb dX7_take_49 hl (by decide) rfl (fun ls hl => ?_)
      obtain ⟨e51, hL, hK⟩ := hf_b hf
      have hE51_0 : ∀ (x16 : Int32), x16 = e51 → ∀  (H : Heap) (locs : List Loc) (ls : Array Slot), Hs s0 D ac σ5 H locs → lv_has ls 7 [(0, .ref a0), (1, .long a1), (3, .int a2), (4, .int x16), (5, .int x3)] → W p l e ({ frames := 0, cells := 0, slots := 0, locals := 0 } : Room) s m args below meth c H locs 0 0 (MQ below (Qn s0 D ac (some (.int v)) σ') args s 0 0 (fr s0)) (F0 m 93 ls []) := by
        intro x16 he H locs ls h hl
        subst he
        have hf := hK
        refine lv_iinc (v := x3 + 1) (lv' := [(5, .int (x3 + 1)), (0, .ref a0), (1, .long a1), (3, .int a2), (4, .int x16)]) hx hb dX7_take_93 hl (k := 4) rfl rfl (by decide) rfl (fun ls hl => ?_)
        refine lv_goto (tgt := 6) hx hb dX7_take_96 (by decide) ?_
        cases hf
        exact ih _ rfl _ _ _ h (lv_sub hl [1, 2, 3, 4, 0] rfl)
      refine loopF_ind (P := fun z => ∀ (H : Heap) (locs : List Loc) (ls : Array Slot), Hs s0 D ac σ5 H locs → lv_has ls 7 [(0, .ref a0), (1, .long a1), (3, .int a2), (4, .int z.1), (5, .int x3), (6, .int z.2)] → W p l e ({ frames := 0, cells := 0, slots := 0, locals := 0 } : Room) s m args below meth c H locs 0 0 (MQ below (Qn s0 D ac (some (.int v)) σ') args s 0 0 (fr s0)) (F0 m 51 ls [])) ?_ _ _ hL _ _ _ h (lv_sub hl [1, 2, 3, 4, 5, 0] rfl)
      clear hK hL h hl hf
      intro z o hf ih hX H locs ls h hl
      obtain ⟨x9, x10⟩ := z
      have h : Hs s0 D ac σ5 H locs := h
      have hl : lv_has ls 7 [(0, .ref a0), (1, .long a1), (3, .int a2), (4, .int x9), (5, .int x3), (6, .int x10)] := hl
      have hf : lX7_take_51 x3 σ5 a0 x9 x10 = some o := hf
      unfold lX7_take_51 at hf
      refine lv_iload hx hb dX7_take_51 (lv_at hl 5 rfl) ?_
      refine lv_iload hx hb dX7_take_53 (lv_at hl 4 rfl) ?_
      refine lv_icmp_ge (tgt := 93) hx hb dX7_take_55 (by decide) (fun hc => ?_) (fun hc => ?_)
      · have hf := hf_t hc hf
        cases hf
        exact hE51_0 _ (hX _ rfl) _ _ _ h (lv_sub hl [0, 1, 2, 3, 4] rfl)
      · have hf := hf_f hc hf
        refine lv_iload hx hb dX7_take_58 (lv_at hl 3 rfl) ?_
        refine jn_of (P := fun j => ∀ (x15 : Int32), j x15 = some o → ∀ (H : Heap) (locs : List Loc) (ls : Array Slot), Hs s0 D ac σ5 H locs → lv_has ls 7 [(0, .ref a0), (1, .long a1), (3, .int a2), (4, .int x9), (5, .int x3), (6, .int x10)] → W p l e ({ frames := 0, cells := 0, slots := 0, locals := 0 } : Room) s m args below meth c H locs 0 0 (MQ below (Qn s0 D ac (some (.int v)) σ') args s 0 0 (fr s0)) (F0 m 85 ls [.int x15])) hf ?_ ?_
        · intro x15 hf H locs ls h hl
          refine lv_istore (lv' := [(4, .int x15), (0, .ref a0), (1, .long a1), (3, .int a2), (5, .int x3), (6, .int x10)]) hx hb dX7_take_85 hl (by decide) rfl (fun ls hl => ?_)
          refine lv_iinc (v := x10 + 1) (lv' := [(6, .int (x10 + 1)), (4, .int x15), (0, .ref a0), (1, .long a1), (3, .int a2), (5, .int x3)]) hx hb dX7_take_87 hl (k := 5) rfl rfl (by decide) rfl (fun ls hl => ?_)
          refine lv_goto (tgt := 51) hx hb dX7_take_90 (by decide) ?_
          cases hf
          exact ih _ rfl _ _ _ h (lv_sub hl [2, 3, 4, 1, 5, 0] rfl)
        intro j85 hj85 hf
        refine jn_of (P := fun j => ∀ (u0 : Unit), j u0 = some o → ∀ (H : Heap) (locs : List Loc) (ls : Array Slot), Hs s0 D ac σ5 H locs → lv_has ls 7 [(0, .ref a0), (1, .long a1), (3, .int a2), (4, .int x9), (5, .int x3), (6, .int x10)] → W p l e ({ frames := 0, cells := 0, slots := 0, locals := 0 } : Room) s m args below meth c H locs 0 0 (MQ below (Qn s0 D ac (some (.int v)) σ') args s 0 0 (fr s0)) (F0 m 80 ls [])) hf ?_ ?_
        · intro u0 hf H locs ls h hl
          refine lv_iconst (v := 1) hx hb dX7_take_80 (by decide) ?_
          refine lv_goto (tgt := 85) hx hb dX7_take_81 (by decide) ?_
          exact hj85 _ hf _ _ _ h (lv_sub hl [0, 1, 2, 3, 4, 5] rfl)
        intro j80 hj80 hf
        refine lv_if_ne (tgt := 80) hx hb dX7_take_60 (by decide) (fun hc => ?_) (fun hc => ?_)
        · have hf := hf_f hc hf
          exact hj80 () hf _ _ _ h (lv_sub hl [0, 1, 2, 3, 4, 5] rfl)
        · have hf := hf_t hc hf
          refine lv_aload_n hx hb dX7_take_63 rfl (lv_at hl 0 rfl) ?_
          refine x_gR (q := (RX7, TX7, 50)) (j := 32) G C h rfl (by decide) (fun _ _ _ => rfl) (lk C q1088) (fun _ z => z) dX7_take_64 hf (fun r11 hf => ?_)
          refine lv_iload hx hb dX7_take_67 (lv_at hl 5 rfl) ?_
          refine x_iald G C h dX7_take_69 hf (fun x12 hf => ?_)
          refine lv_aload_n hx hb dX7_take_70 rfl (lv_at hl 0 rfl) ?_
          refine x_gR (q := (RX7, TX7, 50)) (j := 32) G C h rfl (by decide) (fun _ _ _ => rfl) (lk C q1088) (fun _ z => z) dX7_take_71 hf (fun r13 hf => ?_)
          refine lv_iload hx hb dX7_take_74 (lv_at hl 4 rfl) ?_
          refine x_iald G C h dX7_take_76 hf (fun x14 hf => ?_)
          refine lv_icmp_ne (tgt := 84) hx hb dX7_take_77 (by decide) (fun hc => ?_) (fun hc => ?_)
          · have hf := hf_f hc hf
            refine lv_iconst (v := 0) hx hb dX7_take_84 (by decide) ?_
            exact hj85 _ hf _ _ _ h (lv_sub hl [0, 1, 2, 3, 4, 5] rfl)
          · have hf := hf_t hc hf
            exact hj80 () hf _ _ _ h (lv_sub hl [0, 1, 2, 3, 4, 5] rfl)
    · have hf := hf_f hc hf
      cases hf
      exact hE6_0 _ (hX _ rfl) _ _ _ h (lv_sub hl [0, 1, 2] rfl)

theorem dX7_unevenOf_0 : decode cX7_unevenOf 0 = .ok (.iconst 0, 1) := by decide +kernel
theorem dX7_unevenOf_1 : decode cX7_unevenOf 1 = .ok (.istore_n 2, 1) := by decide +kernel
theorem dX7_unevenOf_2 : decode cX7_unevenOf 2 = .ok (.iconst 1, 1) := by decide +kernel
theorem dX7_unevenOf_3 : decode cX7_unevenOf 3 = .ok (.istore_n 3, 1) := by decide +kernel
theorem dX7_unevenOf_4 : decode cX7_unevenOf 4 = .ok (.iload_n 3, 1) := by decide +kernel
theorem dX7_unevenOf_5 : decode cX7_unevenOf 5 = .ok (.iload_n 1, 1) := by decide +kernel
theorem dX7_unevenOf_6 : decode cX7_unevenOf 6 = .ok (.if_icmp .ge 64, 3) := by decide +kernel
theorem dX7_unevenOf_9 : decode cX7_unevenOf 9 = .ok (.iload_n 2, 1) := by decide +kernel
theorem dX7_unevenOf_10 : decode cX7_unevenOf 10 = .ok (.aload_n 0, 1) := by decide +kernel
theorem dX7_unevenOf_11 : decode cX7_unevenOf 11 = .ok (.getfield 34, 3) := by decide +kernel
theorem dX7_unevenOf_14 : decode cX7_unevenOf 14 = .ok (.aload_n 0, 1) := by decide +kernel
theorem dX7_unevenOf_15 : decode cX7_unevenOf 15 = .ok (.getfield 71, 3) := by decide +kernel
theorem dX7_unevenOf_18 : decode cX7_unevenOf 18 = .ok (.aload_n 0, 1) := by decide +kernel
theorem dX7_unevenOf_19 : decode cX7_unevenOf 19 = .ok (.getfield 74, 3) := by decide +kernel
theorem dX7_unevenOf_22 : decode cX7_unevenOf 22 = .ok (.iload_n 3, 1) := by decide +kernel
theorem dX7_unevenOf_23 : decode cX7_unevenOf 23 = .ok (.iaload, 1) := by decide +kernel
theorem dX7_unevenOf_24 : decode cX7_unevenOf 24 = .ok (.iaload, 1) := by decide +kernel
theorem dX7_unevenOf_25 : decode cX7_unevenOf 25 = .ok (.iaload, 1) := by decide +kernel
theorem dX7_unevenOf_26 : decode cX7_unevenOf 26 = .ok (.sipush 420, 3) := by decide +kernel
theorem dX7_unevenOf_29 : decode cX7_unevenOf 29 = .ok (.iload_n 3, 1) := by decide +kernel
theorem dX7_unevenOf_30 : decode cX7_unevenOf 30 = .ok (.iconst 1, 1) := by decide +kernel
theorem dX7_unevenOf_31 : decode cX7_unevenOf 31 = .ok (.iadd, 1) := by decide +kernel
theorem dX7_unevenOf_32 : decode cX7_unevenOf 32 = .ok (.idiv, 1) := by decide +kernel
theorem dX7_unevenOf_33 : decode cX7_unevenOf 33 = .ok (.imul, 1) := by decide +kernel
theorem dX7_unevenOf_34 : decode cX7_unevenOf 34 = .ok (.aload_n 0, 1) := by decide +kernel
theorem dX7_unevenOf_35 : decode cX7_unevenOf 35 = .ok (.getfield 34, 3) := by decide +kernel
theorem dX7_unevenOf_38 : decode cX7_unevenOf 38 = .ok (.aload_n 0, 1) := by decide +kernel
theorem dX7_unevenOf_39 : decode cX7_unevenOf 39 = .ok (.getfield 71, 3) := by decide +kernel
theorem dX7_unevenOf_42 : decode cX7_unevenOf 42 = .ok (.aload_n 0, 1) := by decide +kernel
theorem dX7_unevenOf_43 : decode cX7_unevenOf 43 = .ok (.getfield 74, 3) := by decide +kernel
theorem dX7_unevenOf_46 : decode cX7_unevenOf 46 = .ok (.iload_n 3, 1) := by decide +kernel
theorem dX7_unevenOf_47 : decode cX7_unevenOf 47 = .ok (.iconst 1, 1) := by decide +kernel
theorem dX7_unevenOf_48 : decode cX7_unevenOf 48 = .ok (.isub, 1) := by decide +kernel
theorem dX7_unevenOf_49 : decode cX7_unevenOf 49 = .ok (.iaload, 1) := by decide +kernel
theorem dX7_unevenOf_50 : decode cX7_unevenOf 50 = .ok (.iaload, 1) := by decide +kernel
theorem dX7_unevenOf_51 : decode cX7_unevenOf 51 = .ok (.iaload, 1) := by decide +kernel
theorem dX7_unevenOf_52 : decode cX7_unevenOf 52 = .ok (.sipush 420, 3) := by decide +kernel
theorem dX7_unevenOf_55 : decode cX7_unevenOf 55 = .ok (.iload_n 3, 1) := by decide +kernel
theorem dX7_unevenOf_56 : decode cX7_unevenOf 56 = .ok (.idiv, 1) := by decide +kernel
theorem dX7_unevenOf_57 : decode cX7_unevenOf 57 = .ok (.imul, 1) := by decide +kernel
theorem dX7_unevenOf_58 : decode cX7_unevenOf 58 = .ok (.isub, 1) := by decide +kernel
theorem dX7_unevenOf_59 : decode cX7_unevenOf 59 = .ok (.invokestatic 117, 3) := by decide +kernel
theorem dX7_unevenOf_62 : decode cX7_unevenOf 62 = .ok (.iadd, 1) := by decide +kernel
theorem dX7_unevenOf_63 : decode cX7_unevenOf 63 = .ok (.istore_n 2, 1) := by decide +kernel
theorem dX7_unevenOf_64 : decode cX7_unevenOf 64 = .ok (.iinc 3 1, 3) := by decide +kernel
theorem dX7_unevenOf_67 : decode cX7_unevenOf 67 = .ok (.goto (-63), 3) := by decide +kernel
theorem dX7_unevenOf_70 : decode cX7_unevenOf 70 = .ok (.iload_n 2, 1) := by decide +kernel
theorem dX7_unevenOf_71 : decode cX7_unevenOf 71 = .ok (.ireturn, 1) := by decide +kernel
def lX7_unevenOf_4 (a1 : Int32) (σ : St) (a0 : Nat) (x1 : Int32) (x2 : Int32) : Option ((Int32 × Int32) ⊕ (Int32)) :=
  if a1 ≤ x2 then
    some (.inr x1)
  else
  o_gR σ a0 5 11 fun r3 =>
  o_gR σ a0 5 32 fun r4 =>
  o_gR σ a0 5 33 fun r5 =>
  o_aI σ r5 0 x2 fun x6 =>
  o_aI σ r4 0 x6 fun x7 =>
  o_aI σ r3 0 x7 fun x8 =>
  o_nz (x2 + 1) <|
  o_gR σ a0 5 11 fun r9 =>
  o_gR σ a0 5 32 fun r10 =>
  o_gR σ a0 5 33 fun r11 =>
  o_aI σ r11 0 (x2 - 1) fun x12 =>
  o_aI σ r10 0 x12 fun x13 =>
  o_aI σ r9 0 x13 fun x14 =>
  o_nz x2 <|
  (fX7_much σ ((x8 * (420 / (x2 + 1))) - (x14 * (420 / x2)))).bind fun x15 =>
  some (.inl (x1 + x15, x2 + 1))

def fX7_unevenOf (σ : St) (a0 : Nat) (a1 : Int32) : Option (Int32) :=
  (loopF fuel (fun z => lX7_unevenOf_4 a1 σ a0 z.1 z.2) (0, 1)).bind <| fun x16 =>
  some x16

set_option maxHeartbeats 4000000 in
theorem wX7_unevenOf {l : Launch} {s0 : State} {A0 : Array Value} {D : va_G} {ac : Nat → ClassId} (G : Gl s0 A0 D ac) {σ : St} {a0 : Nat} {a1 : Int32} {v : Int32} (hf : fX7_unevenOf σ a0 a1 = some (v)) : Met l yX7_unevenOf (ws_ yX7_unevenOf cX7_unevenOf 4 (some (.int))) ({ frames := 1, cells := 0, slots := 0, locals := 20 } : Room) (Pn s0 D ac [.ref a0, .int a1] σ) (Qn s0 D ac (some (.int v)) σ) 0 0 (fr s0) := by
  refine x_met (by decide) (Nat.le_of_ble_eq_true rfl) ?_
  intro p e s m args below meth c ls C hnm h hl
  have C : Cx s0 p s m args meth c cX7_unevenOf 4 "HutForShowModel" (some (.int)) := C
  have hx := C.1
  have hb := C.2.1
  have hl : lv_has ls 4 [(0, .ref a0), (1, .int a1)] := hl
  unfold fX7_unevenOf at hf
  refine lv_iconst (v := 0) hx hb dX7_unevenOf_0 (by decide) ?_
  refine lv_istore_n (lv' := [(2, .int 0), (0, .ref a0), (1, .int a1)]) hx hb dX7_unevenOf_1 rfl hl (by decide) rfl (fun ls hl => ?_)
  refine lv_iconst (v := 1) hx hb dX7_unevenOf_2 (by decide) ?_
  refine lv_istore_n (lv' := [(3, .int 1), (2, .int 0), (0, .ref a0), (1, .int a1)]) hx hb dX7_unevenOf_3 rfl hl (by decide) rfl (fun ls hl => ?_)
  obtain ⟨e4, hL, hK⟩ := hf_b hf
  have hE4_0 : ∀ (x16 : Int32), x16 = e4 → ∀  (H : Heap) (locs : List Loc) (ls : Array Slot), Hs s0 D ac σ H locs → lv_has ls 4 [(0, .ref a0), (1, .int a1), (2, .int x16)] → W p l e ({ frames := 1, cells := 0, slots := 0, locals := 20 } : Room) s m args below meth c H locs 0 0 (MQ below (Qn s0 D ac (some (.int v)) σ) args s 0 0 (fr s0)) (F0 m 70 ls []) := by
    intro x16 he H locs ls h hl
    subst he
    have hf := hK
    refine lv_iload_n hx hb dX7_unevenOf_70 rfl (lv_at hl 2 rfl) ?_
    cases hf
    refine W.widen (k := 0) (n := 0) (Nat.le_of_ble_eq_true rfl) (Nat.le_of_ble_eq_true rfl) ?_
    exact x_iret C h dX7_unevenOf_71
  refine loopF_ind (P := fun z => ∀ (H : Heap) (locs : List Loc) (ls : Array Slot), Hs s0 D ac σ H locs → lv_has ls 4 [(0, .ref a0), (1, .int a1), (2, .int z.1), (3, .int z.2)] → W p l e ({ frames := 1, cells := 0, slots := 0, locals := 20 } : Room) s m args below meth c H locs 0 0 (MQ below (Qn s0 D ac (some (.int v)) σ) args s 0 0 (fr s0)) (F0 m 4 ls [])) ?_ _ _ hL _ _ _ h (lv_sub hl [2, 3, 1, 0] rfl)
  clear hK hL h hl hf
  intro z o hf ih hX H locs ls h hl
  obtain ⟨x1, x2⟩ := z
  have h : Hs s0 D ac σ H locs := h
  have hl : lv_has ls 4 [(0, .ref a0), (1, .int a1), (2, .int x1), (3, .int x2)] := hl
  have hf : lX7_unevenOf_4 a1 σ a0 x1 x2 = some o := hf
  unfold lX7_unevenOf_4 at hf
  refine lv_iload_n hx hb dX7_unevenOf_4 rfl (lv_at hl 3 rfl) ?_
  refine lv_iload_n hx hb dX7_unevenOf_5 rfl (lv_at hl 1 rfl) ?_
  refine lv_icmp_ge (tgt := 70) hx hb dX7_unevenOf_6 (by decide) (fun hc => ?_) (fun hc => ?_)
  · have hf := hf_t hc hf
    cases hf
    exact hE4_0 _ (hX _ rfl) _ _ _ h (lv_sub hl [0, 1, 2] rfl)
  · have hf := hf_f hc hf
    refine lv_iload_n hx hb dX7_unevenOf_9 rfl (lv_at hl 2 rfl) ?_
    refine lv_aload_n hx hb dX7_unevenOf_10 rfl (lv_at hl 0 rfl) ?_
    refine x_gR (q := (RX7, TX7, 50)) (j := 11) G C h rfl (by decide) (fun _ _ _ => rfl) (lk C q1067) (fun _ z => z) dX7_unevenOf_11 hf (fun r3 hf => ?_)
    refine lv_aload_n hx hb dX7_unevenOf_14 rfl (lv_at hl 0 rfl) ?_
    refine x_gR (q := (RX7, TX7, 50)) (j := 32) G C h rfl (by decide) (fun _ _ _ => rfl) (lk C q1088) (fun _ z => z) dX7_unevenOf_15 hf (fun r4 hf => ?_)
    refine lv_aload_n hx hb dX7_unevenOf_18 rfl (lv_at hl 0 rfl) ?_
    refine x_gR (q := (RX7, TX7, 50)) (j := 33) G C h rfl (by decide) (fun _ _ _ => rfl) (lk C q1089) (fun _ z => z) dX7_unevenOf_19 hf (fun r5 hf => ?_)
    refine lv_iload_n hx hb dX7_unevenOf_22 rfl (lv_at hl 3 rfl) ?_
    refine x_iald G C h dX7_unevenOf_23 hf (fun x6 hf => ?_)
    refine x_iald G C h dX7_unevenOf_24 hf (fun x7 hf => ?_)
    refine x_iald G C h dX7_unevenOf_25 hf (fun x8 hf => ?_)
    refine lv_sipush (v := 420) hx hb dX7_unevenOf_26 (by decide) ?_
    refine lv_iload_n hx hb dX7_unevenOf_29 rfl (lv_at hl 3 rfl) ?_
    refine lv_iconst (v := 1) hx hb dX7_unevenOf_30 (by decide) ?_
    refine lv_iadd hx hb dX7_unevenOf_31 ?_
    obtain ⟨hnz, hf⟩ := nz_of hf
    refine lv_idiv hx hb dX7_unevenOf_32 hnz ?_
    refine lv_imul hx hb dX7_unevenOf_33 ?_
    refine lv_aload_n hx hb dX7_unevenOf_34 rfl (lv_at hl 0 rfl) ?_
    refine x_gR (q := (RX7, TX7, 50)) (j := 11) G C h rfl (by decide) (fun _ _ _ => rfl) (lk C q1067) (fun _ z => z) dX7_unevenOf_35 hf (fun r9 hf => ?_)
    refine lv_aload_n hx hb dX7_unevenOf_38 rfl (lv_at hl 0 rfl) ?_
    refine x_gR (q := (RX7, TX7, 50)) (j := 32) G C h rfl (by decide) (fun _ _ _ => rfl) (lk C q1088) (fun _ z => z) dX7_unevenOf_39 hf (fun r10 hf => ?_)
    refine lv_aload_n hx hb dX7_unevenOf_42 rfl (lv_at hl 0 rfl) ?_
    refine x_gR (q := (RX7, TX7, 50)) (j := 33) G C h rfl (by decide) (fun _ _ _ => rfl) (lk C q1089) (fun _ z => z) dX7_unevenOf_43 hf (fun r11 hf => ?_)
    refine lv_iload_n hx hb dX7_unevenOf_46 rfl (lv_at hl 3 rfl) ?_
    refine lv_iconst (v := 1) hx hb dX7_unevenOf_47 (by decide) ?_
    refine lv_isub hx hb dX7_unevenOf_48 ?_
    refine x_iald G C h dX7_unevenOf_49 hf (fun x12 hf => ?_)
    refine x_iald G C h dX7_unevenOf_50 hf (fun x13 hf => ?_)
    refine x_iald G C h dX7_unevenOf_51 hf (fun x14 hf => ?_)
    refine lv_sipush (v := 420) hx hb dX7_unevenOf_52 (by decide) ?_
    refine lv_iload_n hx hb dX7_unevenOf_55 rfl (lv_at hl 3 rfl) ?_
    obtain ⟨hnz, hf⟩ := nz_of hf
    refine lv_idiv hx hb dX7_unevenOf_56 hnz ?_
    refine lv_imul hx hb dX7_unevenOf_57 ?_
    refine lv_isub hx hb dX7_unevenOf_58 ?_
    obtain ⟨x15, hc, hf⟩ := hf_b hf
    refine x_cS (rest := [.int x1]) (As := [.int ((x8 * (420 / (x2 + 1))) - (x14 * (420 / x2)))]) (n := 1) (ov := (some (.int x15))) C h (wX7_much G hc) (lw_S q1226 q1227 q61 q1228) (by decide +kernel) ⟨Nat.le_of_ble_eq_true rfl, Nat.le_of_ble_eq_true rfl⟩ rfl rfl rfl hl.1 rfl (Nat.le_of_ble_eq_true rfl) dX7_unevenOf_59 ⟨(Nat.le_of_ble_eq_true rfl), (Nat.le_of_ble_eq_true rfl)⟩ (fun H locs h => ?_)
    refine lv_iadd hx hb dX7_unevenOf_62 ?_
    refine lv_istore_n (lv' := [(2, .int (x1 + x15)), (0, .ref a0), (1, .int a1), (3, .int x2)]) hx hb dX7_unevenOf_63 rfl hl (by decide) rfl (fun ls hl => ?_)
    refine lv_iinc (v := x2 + 1) (lv' := [(3, .int (x2 + 1)), (2, .int (x1 + x15)), (0, .ref a0), (1, .int a1)]) hx hb dX7_unevenOf_64 hl (k := 3) rfl rfl (by decide) rfl (fun ls hl => ?_)
    refine lv_goto (tgt := 4) hx hb dX7_unevenOf_67 (by decide) ?_
    cases hf
    exact ih _ rfl _ _ _ h (lv_sub hl [2, 3, 1, 0] rfl)

theorem dX7_uneven_0 : decode cX7_uneven 0 = .ok (.iload_n 3, 1) := by decide +kernel
theorem dX7_uneven_1 : decode cX7_uneven 1 = .ok (.iconst 1, 1) := by decide +kernel
theorem dX7_uneven_2 : decode cX7_uneven 2 = .ok (.bipush 7, 2) := by decide +kernel
theorem dX7_uneven_4 : decode cX7_uneven 4 = .ok (.invokestatic 113, 3) := by decide +kernel
theorem dX7_uneven_7 : decode cX7_uneven 7 = .ok (.ifCond .ne 6, 3) := by decide +kernel
theorem dX7_uneven_10 : decode cX7_uneven 10 = .ok (.bipush (-3), 2) := by decide +kernel
theorem dX7_uneven_12 : decode cX7_uneven 12 = .ok (.ireturn, 1) := by decide +kernel
theorem dX7_uneven_13 : decode cX7_uneven 13 = .ok (.aload_n 0, 1) := by decide +kernel
theorem dX7_uneven_14 : decode cX7_uneven 14 = .ok (.lload_n 1, 1) := by decide +kernel
theorem dX7_uneven_15 : decode cX7_uneven 15 = .ok (.iload_n 3, 1) := by decide +kernel
theorem dX7_uneven_16 : decode cX7_uneven 16 = .ok (.invokevirtual 285, 3) := by decide +kernel
theorem dX7_uneven_19 : decode cX7_uneven 19 = .ok (.istore 4, 2) := by decide +kernel
theorem dX7_uneven_21 : decode cX7_uneven 21 = .ok (.iload 4, 2) := by decide +kernel
theorem dX7_uneven_23 : decode cX7_uneven 23 = .ok (.iconst 1, 1) := by decide +kernel
theorem dX7_uneven_24 : decode cX7_uneven 24 = .ok (.if_icmp .eq 6, 3) := by decide +kernel
theorem dX7_uneven_27 : decode cX7_uneven 27 = .ok (.iload 4, 2) := by decide +kernel
theorem dX7_uneven_29 : decode cX7_uneven 29 = .ok (.ireturn, 1) := by decide +kernel
theorem dX7_uneven_30 : decode cX7_uneven 30 = .ok (.iconst 0, 1) := by decide +kernel
theorem dX7_uneven_31 : decode cX7_uneven 31 = .ok (.istore 5, 2) := by decide +kernel
theorem dX7_uneven_33 : decode cX7_uneven 33 = .ok (.iload 5, 2) := by decide +kernel
theorem dX7_uneven_35 : decode cX7_uneven 35 = .ok (.iload_n 3, 1) := by decide +kernel
theorem dX7_uneven_36 : decode cX7_uneven 36 = .ok (.if_icmp .ge 18, 3) := by decide +kernel
theorem dX7_uneven_39 : decode cX7_uneven 39 = .ok (.aload_n 0, 1) := by decide +kernel
theorem dX7_uneven_40 : decode cX7_uneven 40 = .ok (.getfield 74, 3) := by decide +kernel
theorem dX7_uneven_43 : decode cX7_uneven 43 = .ok (.iload 5, 2) := by decide +kernel
theorem dX7_uneven_45 : decode cX7_uneven 45 = .ok (.iload 5, 2) := by decide +kernel
theorem dX7_uneven_47 : decode cX7_uneven 47 = .ok (.iastore, 1) := by decide +kernel
theorem dX7_uneven_48 : decode cX7_uneven 48 = .ok (.iinc 5 1, 3) := by decide +kernel
theorem dX7_uneven_51 : decode cX7_uneven 51 = .ok (.goto (-18), 3) := by decide +kernel
theorem dX7_uneven_54 : decode cX7_uneven 54 = .ok (.aload_n 0, 1) := by decide +kernel
theorem dX7_uneven_55 : decode cX7_uneven 55 = .ok (.iload_n 3, 1) := by decide +kernel
theorem dX7_uneven_56 : decode cX7_uneven 56 = .ok (.invokevirtual 289, 3) := by decide +kernel
theorem dX7_uneven_59 : decode cX7_uneven 59 = .ok (.ireturn, 1) := by decide +kernel
def lX7_uneven_33 (a2 : Int32) (a0 : Nat) (σ4 : St) (x5 : Int32) : Option ((St × Int32) ⊕ (St)) :=
  if a2 ≤ x5 then
    some (.inr σ4)
  else
  o_gR σ4 a0 5 33 fun r6 =>
  o_sI σ4 r6 0 x5 x5 fun σ7 =>
  some (.inl (σ7, x5 + 1))

def fX7_uneven (σ : St) (a0 : Nat) (a1 : Int64) (a2 : Int32) : Option (Int32 × St) :=
  (fX7_in σ a2 1 7).bind fun x1 =>
  if x1 = 0 then
    some ((-3), σ)
  else
  o_k σ a0 5 <|
  (fX7_take σ a0 a1 a2).bind <| un2 fun x2 σ3 =>
  if x2 = 1 then
    (loopF fuel (fun z => lX7_uneven_33 a2 a0 z.1 z.2) (σ3, 0)).bind <| fun σ8 =>
    o_k σ8 a0 5 <|
    (fX7_unevenOf σ8 a0 a2).bind fun x9 =>
    some (x9, σ8)
  else
  some (x2, σ3)

set_option maxHeartbeats 4000000 in
theorem wX7_uneven {l : Launch} {s0 : State} {A0 : Array Value} {D : va_G} {ac : Nat → ClassId} (G : Gl s0 A0 D ac) {σ : St} {a0 : Nat} {a1 : Int64} {a2 : Int32} {v : Int32} {σ' : St} (hf : fX7_uneven σ a0 a1 a2 = some (v, σ')) : Met l yX7_uneven (ws_ yX7_uneven cX7_uneven 6 (some (.int))) ({ frames := 2, cells := 0, slots := 0, locals := 43 } : Room) (Pn s0 D ac [.ref a0, .long a1, .int a2] σ) (Qn s0 D ac (some (.int v)) σ') 0 0 (fr s0) := by
  refine x_met (by decide) (Nat.le_of_ble_eq_true rfl) ?_
  intro p e s m args below meth c ls C hnm h hl
  have C : Cx s0 p s m args meth c cX7_uneven 6 "HutForShowModel" (some (.int)) := C
  have hx := C.1
  have hb := C.2.1
  have hl : lv_has ls 6 [(0, .ref a0), (1, .long a1), (3, .int a2)] := hl
  unfold fX7_uneven at hf
  refine lv_iload_n hx hb dX7_uneven_0 rfl (lv_at hl 2 rfl) ?_
  refine lv_iconst (v := 1) hx hb dX7_uneven_1 (by decide) ?_
  refine lv_bipush (v := 7) hx hb dX7_uneven_2 (by decide) ?_
  obtain ⟨x1, hc, hf⟩ := hf_b hf
  refine x_cS (rest := []) (As := [.int a2, .int 1, .int 7]) (n := 3) (ov := (some (.int x1))) C h (wX7_in G hc) (lw_S q1211 q1212 q61 q1213) (by decide +kernel) ⟨Nat.le_of_ble_eq_true rfl, Nat.le_of_ble_eq_true rfl⟩ rfl rfl rfl hl.1 rfl (Nat.le_of_ble_eq_true rfl) dX7_uneven_4 ⟨(Nat.le_of_ble_eq_true rfl), (Nat.le_of_ble_eq_true rfl)⟩ (fun H locs h => ?_)
  refine lv_if_ne (tgt := 13) hx hb dX7_uneven_7 (by decide) (fun hc => ?_) (fun hc => ?_)
  · have hf := hf_f hc hf
    refine lv_aload_n hx hb dX7_uneven_13 rfl (lv_at hl 0 rfl) ?_
    refine lv_lload_n hx hb dX7_uneven_14 rfl (lv_at hl 1 rfl) ?_
    refine lv_iload_n hx hb dX7_uneven_15 rfl (lv_at hl 2 rfl) ?_
    obtain ⟨hk, hf⟩ := k_of hf
    obtain ⟨⟨x2, σ3⟩, hc, hf⟩ := hf_b hf
    have hf := hf_u2 hf
    refine x_cV (q := (RX7, TX7, 50)) (rest := []) (As := [.long a1, .int a2]) (n := 2) (ov := (some (.int x2))) G C h (wX7_take G hc) hk rfl (lw_V q1399 q1401 qs43 q61 q1402) (by decide +kernel) ⟨Nat.le_of_ble_eq_true rfl, Nat.le_of_ble_eq_true rfl⟩ rfl rfl rfl hl.1 rfl (Nat.le_of_ble_eq_true rfl) dX7_uneven_16 ⟨(Nat.le_of_ble_eq_true rfl), (Nat.le_of_ble_eq_true rfl)⟩ (fun H locs h => ?_)
    refine lv_istore (lv' := [(4, .int x2), (0, .ref a0), (1, .long a1), (3, .int a2)]) hx hb dX7_uneven_19 hl (by decide) rfl (fun ls hl => ?_)
    refine lv_iload hx hb dX7_uneven_21 (lv_at hl 0 rfl) ?_
    refine lv_iconst (v := 1) hx hb dX7_uneven_23 (by decide) ?_
    refine lv_icmp_eq (tgt := 30) hx hb dX7_uneven_24 (by decide) (fun hc => ?_) (fun hc => ?_)
    · have hf := hf_t hc hf
      refine lv_iconst (v := 0) hx hb dX7_uneven_30 (by decide) ?_
      refine lv_istore (lv' := [(5, .int 0), (4, .int x2), (0, .ref a0), (1, .long a1), (3, .int a2)]) hx hb dX7_uneven_31 hl (by decide) rfl (fun ls hl => ?_)
      obtain ⟨e33, hL, hK⟩ := hf_b hf
      have hE33_0 : ∀ (σ8 : St), σ8 = e33 → ∀  (H : Heap) (locs : List Loc) (ls : Array Slot), Hs s0 D ac σ8 H locs → lv_has ls 6 [(0, .ref a0), (1, .long a1), (3, .int a2), (4, .int x2)] → W p l e ({ frames := 2, cells := 0, slots := 0, locals := 43 } : Room) s m args below meth c H locs 0 0 (MQ below (Qn s0 D ac (some (.int v)) σ') args s 0 0 (fr s0)) (F0 m 54 ls []) := by
        intro σ8 he H locs ls h hl
        subst he
        have hf := hK
        refine lv_aload_n hx hb dX7_uneven_54 rfl (lv_at hl 0 rfl) ?_
        refine lv_iload_n hx hb dX7_uneven_55 rfl (lv_at hl 2 rfl) ?_
        obtain ⟨hk, hf⟩ := k_of hf
        obtain ⟨x9, hc, hf⟩ := hf_b hf
        refine x_cV (q := (RX7, TX7, 50)) (rest := []) (As := [.int a2]) (n := 1) (ov := (some (.int x9))) G C h (wX7_unevenOf G hc) hk rfl (lw_V q1404 q1406 qs44 q61 q1407) (by decide +kernel) ⟨Nat.le_of_ble_eq_true rfl, Nat.le_of_ble_eq_true rfl⟩ rfl rfl rfl hl.1 rfl (Nat.le_of_ble_eq_true rfl) dX7_uneven_56 ⟨(Nat.le_of_ble_eq_true rfl), (Nat.le_of_ble_eq_true rfl)⟩ (fun H locs h => ?_)
        cases hf
        refine W.widen (k := 0) (n := 0) (Nat.le_of_ble_eq_true rfl) (Nat.le_of_ble_eq_true rfl) ?_
        exact x_iret C h dX7_uneven_59
      refine loopF_ind (P := fun z => ∀ (H : Heap) (locs : List Loc) (ls : Array Slot), Hs s0 D ac (z.1) H locs → lv_has ls 6 [(0, .ref a0), (1, .long a1), (3, .int a2), (4, .int x2), (5, .int z.2)] → W p l e ({ frames := 2, cells := 0, slots := 0, locals := 43 } : Room) s m args below meth c H locs 0 0 (MQ below (Qn s0 D ac (some (.int v)) σ') args s 0 0 (fr s0)) (F0 m 33 ls [])) ?_ _ _ hL _ _ _ h (lv_sub hl [2, 3, 4, 1, 0] rfl)
      clear hK hL h hl hf
      intro z o hf ih hX H locs ls h hl
      obtain ⟨σ4, x5⟩ := z
      have h : Hs s0 D ac σ4 H locs := h
      have hl : lv_has ls 6 [(0, .ref a0), (1, .long a1), (3, .int a2), (4, .int x2), (5, .int x5)] := hl
      have hf : lX7_uneven_33 a2 a0 σ4 x5 = some o := hf
      unfold lX7_uneven_33 at hf
      refine lv_iload hx hb dX7_uneven_33 (lv_at hl 4 rfl) ?_
      refine lv_iload_n hx hb dX7_uneven_35 rfl (lv_at hl 2 rfl) ?_
      refine lv_icmp_ge (tgt := 54) hx hb dX7_uneven_36 (by decide) (fun hc => ?_) (fun hc => ?_)
      · have hf := hf_t hc hf
        cases hf
        exact hE33_0 _ (hX _ rfl) _ _ _ h (lv_sub hl [0, 1, 2, 3] rfl)
      · have hf := hf_f hc hf
        refine lv_aload_n hx hb dX7_uneven_39 rfl (lv_at hl 0 rfl) ?_
        refine x_gR (q := (RX7, TX7, 50)) (j := 33) G C h rfl (by decide) (fun _ _ _ => rfl) (lk C q1089) (fun _ z => z) dX7_uneven_40 hf (fun r6 hf => ?_)
        refine lv_iload hx hb dX7_uneven_43 (lv_at hl 4 rfl) ?_
        refine lv_iload hx hb dX7_uneven_45 (lv_at hl 4 rfl) ?_
        refine x_iast G C h dX7_uneven_47 hf (fun σ7 H locs h hf => ?_)
        refine lv_iinc (v := x5 + 1) (lv' := [(5, .int (x5 + 1)), (0, .ref a0), (1, .long a1), (3, .int a2), (4, .int x2)]) hx hb dX7_uneven_48 hl (k := 4) rfl rfl (by decide) rfl (fun ls hl => ?_)
        refine lv_goto (tgt := 33) hx hb dX7_uneven_51 (by decide) ?_
        cases hf
        exact ih _ rfl _ _ _ h (lv_sub hl [1, 2, 3, 4, 0] rfl)
    · have hf := hf_f hc hf
      refine lv_iload hx hb dX7_uneven_27 (lv_at hl 0 rfl) ?_
      cases hf
      refine W.widen (k := 0) (n := 0) (Nat.le_of_ble_eq_true rfl) (Nat.le_of_ble_eq_true rfl) ?_
      exact x_iret C h dX7_uneven_29
  · have hf := hf_t hc hf
    refine lv_bipush (v := (-3)) hx hb dX7_uneven_10 (by decide) ?_
    cases hf
    refine W.widen (k := 0) (n := 0) (Nat.le_of_ble_eq_true rfl) (Nat.le_of_ble_eq_true rfl) ?_
    exact x_iret C h dX7_uneven_12

theorem dX7_evenest_0 : decode cX7_evenest 0 = .ok (.iload_n 3, 1) := by decide +kernel
theorem dX7_evenest_1 : decode cX7_evenest 1 = .ok (.iconst 1, 1) := by decide +kernel
theorem dX7_evenest_2 : decode cX7_evenest 2 = .ok (.bipush 7, 2) := by decide +kernel
theorem dX7_evenest_4 : decode cX7_evenest 4 = .ok (.invokestatic 113, 3) := by decide +kernel
theorem dX7_evenest_7 : decode cX7_evenest 7 = .ok (.ifCond .ne 6, 3) := by decide +kernel
theorem dX7_evenest_10 : decode cX7_evenest 10 = .ok (.bipush (-3), 2) := by decide +kernel
theorem dX7_evenest_12 : decode cX7_evenest 12 = .ok (.ireturn, 1) := by decide +kernel
theorem dX7_evenest_13 : decode cX7_evenest 13 = .ok (.aload_n 0, 1) := by decide +kernel
theorem dX7_evenest_14 : decode cX7_evenest 14 = .ok (.lload_n 1, 1) := by decide +kernel
theorem dX7_evenest_15 : decode cX7_evenest 15 = .ok (.iload_n 3, 1) := by decide +kernel
theorem dX7_evenest_16 : decode cX7_evenest 16 = .ok (.invokevirtual 285, 3) := by decide +kernel
theorem dX7_evenest_19 : decode cX7_evenest 19 = .ok (.istore 5, 2) := by decide +kernel
theorem dX7_evenest_21 : decode cX7_evenest 21 = .ok (.iload 5, 2) := by decide +kernel
theorem dX7_evenest_23 : decode cX7_evenest 23 = .ok (.iconst 1, 1) := by decide +kernel
theorem dX7_evenest_24 : decode cX7_evenest 24 = .ok (.if_icmp .eq 6, 3) := by decide +kernel
theorem dX7_evenest_27 : decode cX7_evenest 27 = .ok (.iload 5, 2) := by decide +kernel
theorem dX7_evenest_29 : decode cX7_evenest 29 = .ok (.ireturn, 1) := by decide +kernel
theorem dX7_evenest_30 : decode cX7_evenest 30 = .ok (.iload 4, 2) := by decide +kernel
theorem dX7_evenest_32 : decode cX7_evenest 32 = .ok (.ifCond .ge 6, 3) := by decide +kernel
theorem dX7_evenest_35 : decode cX7_evenest 35 = .ok (.bipush (-3), 2) := by decide +kernel
theorem dX7_evenest_37 : decode cX7_evenest 37 = .ok (.ireturn, 1) := by decide +kernel
theorem dX7_evenest_38 : decode cX7_evenest 38 = .ok (.iconst 0, 1) := by decide +kernel
theorem dX7_evenest_39 : decode cX7_evenest 39 = .ok (.istore 6, 2) := by decide +kernel
theorem dX7_evenest_41 : decode cX7_evenest 41 = .ok (.iload 6, 2) := by decide +kernel
theorem dX7_evenest_43 : decode cX7_evenest 43 = .ok (.iload_n 3, 1) := by decide +kernel
theorem dX7_evenest_44 : decode cX7_evenest 44 = .ok (.if_icmp .ge 97, 3) := by decide +kernel
theorem dX7_evenest_47 : decode cX7_evenest 47 = .ok (.iload 6, 2) := by decide +kernel
theorem dX7_evenest_49 : decode cX7_evenest 49 = .ok (.iconst 1, 1) := by decide +kernel
theorem dX7_evenest_50 : decode cX7_evenest 50 = .ok (.iadd, 1) := by decide +kernel
theorem dX7_evenest_51 : decode cX7_evenest 51 = .ok (.istore 7, 2) := by decide +kernel
theorem dX7_evenest_53 : decode cX7_evenest 53 = .ok (.iload 7, 2) := by decide +kernel
theorem dX7_evenest_55 : decode cX7_evenest 55 = .ok (.iload_n 3, 1) := by decide +kernel
theorem dX7_evenest_56 : decode cX7_evenest 56 = .ok (.if_icmp .ge 79, 3) := by decide +kernel
theorem dX7_evenest_59 : decode cX7_evenest 59 = .ok (.aload_n 0, 1) := by decide +kernel
theorem dX7_evenest_60 : decode cX7_evenest 60 = .ok (.getfield 71, 3) := by decide +kernel
theorem dX7_evenest_63 : decode cX7_evenest 63 = .ok (.iload 6, 2) := by decide +kernel
theorem dX7_evenest_65 : decode cX7_evenest 65 = .ok (.iaload, 1) := by decide +kernel
theorem dX7_evenest_66 : decode cX7_evenest 66 = .ok (.aload_n 0, 1) := by decide +kernel
theorem dX7_evenest_67 : decode cX7_evenest 67 = .ok (.getfield 71, 3) := by decide +kernel
theorem dX7_evenest_70 : decode cX7_evenest 70 = .ok (.iload 7, 2) := by decide +kernel
theorem dX7_evenest_72 : decode cX7_evenest 72 = .ok (.iaload, 1) := by decide +kernel
theorem dX7_evenest_73 : decode cX7_evenest 73 = .ok (.if_icmp .ge 13, 3) := by decide +kernel
theorem dX7_evenest_76 : decode cX7_evenest 76 = .ok (.aload_n 0, 1) := by decide +kernel
theorem dX7_evenest_77 : decode cX7_evenest 77 = .ok (.getfield 71, 3) := by decide +kernel
theorem dX7_evenest_80 : decode cX7_evenest 80 = .ok (.iload 6, 2) := by decide +kernel
theorem dX7_evenest_82 : decode cX7_evenest 82 = .ok (.iaload, 1) := by decide +kernel
theorem dX7_evenest_83 : decode cX7_evenest 83 = .ok (.goto 10, 3) := by decide +kernel
theorem dX7_evenest_86 : decode cX7_evenest 86 = .ok (.aload_n 0, 1) := by decide +kernel
theorem dX7_evenest_87 : decode cX7_evenest 87 = .ok (.getfield 71, 3) := by decide +kernel
theorem dX7_evenest_90 : decode cX7_evenest 90 = .ok (.iload 7, 2) := by decide +kernel
theorem dX7_evenest_92 : decode cX7_evenest 92 = .ok (.iaload, 1) := by decide +kernel
theorem dX7_evenest_93 : decode cX7_evenest 93 = .ok (.istore 8, 2) := by decide +kernel
theorem dX7_evenest_95 : decode cX7_evenest 95 = .ok (.aload_n 0, 1) := by decide +kernel
theorem dX7_evenest_96 : decode cX7_evenest 96 = .ok (.getfield 71, 3) := by decide +kernel
theorem dX7_evenest_99 : decode cX7_evenest 99 = .ok (.iload 7, 2) := by decide +kernel
theorem dX7_evenest_101 : decode cX7_evenest 101 = .ok (.aload_n 0, 1) := by decide +kernel
theorem dX7_evenest_102 : decode cX7_evenest 102 = .ok (.getfield 71, 3) := by decide +kernel
theorem dX7_evenest_105 : decode cX7_evenest 105 = .ok (.iload 6, 2) := by decide +kernel
theorem dX7_evenest_107 : decode cX7_evenest 107 = .ok (.iaload, 1) := by decide +kernel
theorem dX7_evenest_108 : decode cX7_evenest 108 = .ok (.aload_n 0, 1) := by decide +kernel
theorem dX7_evenest_109 : decode cX7_evenest 109 = .ok (.getfield 71, 3) := by decide +kernel
theorem dX7_evenest_112 : decode cX7_evenest 112 = .ok (.iload 7, 2) := by decide +kernel
theorem dX7_evenest_114 : decode cX7_evenest 114 = .ok (.iaload, 1) := by decide +kernel
theorem dX7_evenest_115 : decode cX7_evenest 115 = .ok (.iadd, 1) := by decide +kernel
theorem dX7_evenest_116 : decode cX7_evenest 116 = .ok (.iload 8, 2) := by decide +kernel
theorem dX7_evenest_118 : decode cX7_evenest 118 = .ok (.isub, 1) := by decide +kernel
theorem dX7_evenest_119 : decode cX7_evenest 119 = .ok (.iastore, 1) := by decide +kernel
theorem dX7_evenest_120 : decode cX7_evenest 120 = .ok (.aload_n 0, 1) := by decide +kernel
theorem dX7_evenest_121 : decode cX7_evenest 121 = .ok (.getfield 71, 3) := by decide +kernel
theorem dX7_evenest_124 : decode cX7_evenest 124 = .ok (.iload 6, 2) := by decide +kernel
theorem dX7_evenest_126 : decode cX7_evenest 126 = .ok (.iload 8, 2) := by decide +kernel
theorem dX7_evenest_128 : decode cX7_evenest 128 = .ok (.iastore, 1) := by decide +kernel
theorem dX7_evenest_129 : decode cX7_evenest 129 = .ok (.iinc 7 1, 3) := by decide +kernel
theorem dX7_evenest_132 : decode cX7_evenest 132 = .ok (.goto (-79), 3) := by decide +kernel
theorem dX7_evenest_135 : decode cX7_evenest 135 = .ok (.iinc 6 1, 3) := by decide +kernel
theorem dX7_evenest_138 : decode cX7_evenest 138 = .ok (.goto (-97), 3) := by decide +kernel
theorem dX7_evenest_141 : decode cX7_evenest 141 = .ok (.iconst (-1), 1) := by decide +kernel
theorem dX7_evenest_142 : decode cX7_evenest 142 = .ok (.istore 6, 2) := by decide +kernel
theorem dX7_evenest_144 : decode cX7_evenest 144 = .ok (.iconst 0, 1) := by decide +kernel
theorem dX7_evenest_145 : decode cX7_evenest 145 = .ok (.istore 7, 2) := by decide +kernel
theorem dX7_evenest_147 : decode cX7_evenest 147 = .ok (.aload_n 0, 1) := by decide +kernel
theorem dX7_evenest_148 : decode cX7_evenest 148 = .ok (.getfield 74, 3) := by decide +kernel
theorem dX7_evenest_151 : decode cX7_evenest 151 = .ok (.iconst 0, 1) := by decide +kernel
theorem dX7_evenest_152 : decode cX7_evenest 152 = .ok (.iconst (-1), 1) := by decide +kernel
theorem dX7_evenest_153 : decode cX7_evenest 153 = .ok (.iastore, 1) := by decide +kernel
theorem dX7_evenest_154 : decode cX7_evenest 154 = .ok (.iload 7, 2) := by decide +kernel
theorem dX7_evenest_156 : decode cX7_evenest 156 = .ok (.ifCond .lt 172, 3) := by decide +kernel
theorem dX7_evenest_159 : decode cX7_evenest 159 = .ok (.aload_n 0, 1) := by decide +kernel
theorem dX7_evenest_160 : decode cX7_evenest 160 = .ok (.getfield 74, 3) := by decide +kernel
theorem dX7_evenest_163 : decode cX7_evenest 163 = .ok (.iload 7, 2) := by decide +kernel
theorem dX7_evenest_165 : decode cX7_evenest 165 = .ok (.dup2, 1) := by decide +kernel
theorem dX7_evenest_166 : decode cX7_evenest 166 = .ok (.iaload, 1) := by decide +kernel
theorem dX7_evenest_167 : decode cX7_evenest 167 = .ok (.iconst 1, 1) := by decide +kernel
theorem dX7_evenest_168 : decode cX7_evenest 168 = .ok (.iadd, 1) := by decide +kernel
theorem dX7_evenest_169 : decode cX7_evenest 169 = .ok (.iastore, 1) := by decide +kernel
theorem dX7_evenest_170 : decode cX7_evenest 170 = .ok (.iconst 1, 1) := by decide +kernel
theorem dX7_evenest_171 : decode cX7_evenest 171 = .ok (.istore 8, 2) := by decide +kernel
theorem dX7_evenest_173 : decode cX7_evenest 173 = .ok (.iconst 0, 1) := by decide +kernel
theorem dX7_evenest_174 : decode cX7_evenest 174 = .ok (.istore 9, 2) := by decide +kernel
theorem dX7_evenest_176 : decode cX7_evenest 176 = .ok (.iload 9, 2) := by decide +kernel
theorem dX7_evenest_178 : decode cX7_evenest 178 = .ok (.iload 7, 2) := by decide +kernel
theorem dX7_evenest_180 : decode cX7_evenest 180 = .ok (.if_icmp .ge 38, 3) := by decide +kernel
theorem dX7_evenest_183 : decode cX7_evenest 183 = .ok (.iload 8, 2) := by decide +kernel
theorem dX7_evenest_185 : decode cX7_evenest 185 = .ok (.ifCond .eq 24, 3) := by decide +kernel
theorem dX7_evenest_188 : decode cX7_evenest 188 = .ok (.aload_n 0, 1) := by decide +kernel
theorem dX7_evenest_189 : decode cX7_evenest 189 = .ok (.getfield 74, 3) := by decide +kernel
theorem dX7_evenest_192 : decode cX7_evenest 192 = .ok (.iload 9, 2) := by decide +kernel
theorem dX7_evenest_194 : decode cX7_evenest 194 = .ok (.iaload, 1) := by decide +kernel
theorem dX7_evenest_195 : decode cX7_evenest 195 = .ok (.aload_n 0, 1) := by decide +kernel
theorem dX7_evenest_196 : decode cX7_evenest 196 = .ok (.getfield 74, 3) := by decide +kernel
theorem dX7_evenest_199 : decode cX7_evenest 199 = .ok (.iload 7, 2) := by decide +kernel
theorem dX7_evenest_201 : decode cX7_evenest 201 = .ok (.iaload, 1) := by decide +kernel
theorem dX7_evenest_202 : decode cX7_evenest 202 = .ok (.if_icmp .eq 7, 3) := by decide +kernel
theorem dX7_evenest_205 : decode cX7_evenest 205 = .ok (.iconst 1, 1) := by decide +kernel
theorem dX7_evenest_206 : decode cX7_evenest 206 = .ok (.goto 4, 3) := by decide +kernel
theorem dX7_evenest_209 : decode cX7_evenest 209 = .ok (.iconst 0, 1) := by decide +kernel
theorem dX7_evenest_210 : decode cX7_evenest 210 = .ok (.istore 8, 2) := by decide +kernel
theorem dX7_evenest_212 : decode cX7_evenest 212 = .ok (.iinc 9 1, 3) := by decide +kernel
theorem dX7_evenest_215 : decode cX7_evenest 215 = .ok (.goto (-39), 3) := by decide +kernel
theorem dX7_evenest_218 : decode cX7_evenest 218 = .ok (.aload_n 0, 1) := by decide +kernel
theorem dX7_evenest_219 : decode cX7_evenest 219 = .ok (.getfield 74, 3) := by decide +kernel
theorem dX7_evenest_222 : decode cX7_evenest 222 = .ok (.iload 7, 2) := by decide +kernel
theorem dX7_evenest_224 : decode cX7_evenest 224 = .ok (.iaload, 1) := by decide +kernel
theorem dX7_evenest_225 : decode cX7_evenest 225 = .ok (.iload_n 3, 1) := by decide +kernel
theorem dX7_evenest_226 : decode cX7_evenest 226 = .ok (.if_icmp .ne 9, 3) := by decide +kernel
theorem dX7_evenest_229 : decode cX7_evenest 229 = .ok (.iinc 7 (-1), 3) := by decide +kernel
theorem dX7_evenest_232 : decode cX7_evenest 232 = .ok (.goto 93, 3) := by decide +kernel
theorem dX7_evenest_235 : decode cX7_evenest 235 = .ok (.iload 8, 2) := by decide +kernel
theorem dX7_evenest_237 : decode cX7_evenest 237 = .ok (.ifCond .eq 72, 3) := by decide +kernel
theorem dX7_evenest_240 : decode cX7_evenest 240 = .ok (.iload 7, 2) := by decide +kernel
theorem dX7_evenest_242 : decode cX7_evenest 242 = .ok (.iload_n 3, 1) := by decide +kernel
theorem dX7_evenest_243 : decode cX7_evenest 243 = .ok (.iconst 1, 1) := by decide +kernel
theorem dX7_evenest_244 : decode cX7_evenest 244 = .ok (.isub, 1) := by decide +kernel
theorem dX7_evenest_245 : decode cX7_evenest 245 = .ok (.if_icmp .ne 64, 3) := by decide +kernel
theorem dX7_evenest_248 : decode cX7_evenest 248 = .ok (.aload_n 0, 1) := by decide +kernel
theorem dX7_evenest_249 : decode cX7_evenest 249 = .ok (.iload_n 3, 1) := by decide +kernel
theorem dX7_evenest_250 : decode cX7_evenest 250 = .ok (.invokevirtual 289, 3) := by decide +kernel
theorem dX7_evenest_253 : decode cX7_evenest 253 = .ok (.istore 9, 2) := by decide +kernel
theorem dX7_evenest_255 : decode cX7_evenest 255 = .ok (.iload 6, 2) := by decide +kernel
theorem dX7_evenest_257 : decode cX7_evenest 257 = .ok (.iconst (-1), 1) := by decide +kernel
theorem dX7_evenest_258 : decode cX7_evenest 258 = .ok (.if_icmp .eq 10, 3) := by decide +kernel
theorem dX7_evenest_261 : decode cX7_evenest 261 = .ok (.iload 9, 2) := by decide +kernel
theorem dX7_evenest_263 : decode cX7_evenest 263 = .ok (.iload 6, 2) := by decide +kernel
theorem dX7_evenest_265 : decode cX7_evenest 265 = .ok (.if_icmp .ge 41, 3) := by decide +kernel
theorem dX7_evenest_268 : decode cX7_evenest 268 = .ok (.iload 9, 2) := by decide +kernel
theorem dX7_evenest_270 : decode cX7_evenest 270 = .ok (.istore 6, 2) := by decide +kernel
theorem dX7_evenest_272 : decode cX7_evenest 272 = .ok (.iconst 0, 1) := by decide +kernel
theorem dX7_evenest_273 : decode cX7_evenest 273 = .ok (.istore 10, 2) := by decide +kernel
theorem dX7_evenest_275 : decode cX7_evenest 275 = .ok (.iload 10, 2) := by decide +kernel
theorem dX7_evenest_277 : decode cX7_evenest 277 = .ok (.iload_n 3, 1) := by decide +kernel
theorem dX7_evenest_278 : decode cX7_evenest 278 = .ok (.if_icmp .ge 28, 3) := by decide +kernel
theorem dX7_evenest_281 : decode cX7_evenest 281 = .ok (.aload_n 0, 1) := by decide +kernel
theorem dX7_evenest_282 : decode cX7_evenest 282 = .ok (.getfield 77, 3) := by decide +kernel
theorem dX7_evenest_285 : decode cX7_evenest 285 = .ok (.iload 10, 2) := by decide +kernel
theorem dX7_evenest_287 : decode cX7_evenest 287 = .ok (.aload_n 0, 1) := by decide +kernel
theorem dX7_evenest_288 : decode cX7_evenest 288 = .ok (.getfield 71, 3) := by decide +kernel
theorem dX7_evenest_291 : decode cX7_evenest 291 = .ok (.aload_n 0, 1) := by decide +kernel
theorem dX7_evenest_292 : decode cX7_evenest 292 = .ok (.getfield 74, 3) := by decide +kernel
theorem dX7_evenest_295 : decode cX7_evenest 295 = .ok (.iload 10, 2) := by decide +kernel
theorem dX7_evenest_297 : decode cX7_evenest 297 = .ok (.iaload, 1) := by decide +kernel
theorem dX7_evenest_298 : decode cX7_evenest 298 = .ok (.iaload, 1) := by decide +kernel
theorem dX7_evenest_299 : decode cX7_evenest 299 = .ok (.iastore, 1) := by decide +kernel
theorem dX7_evenest_300 : decode cX7_evenest 300 = .ok (.iinc 10 1, 3) := by decide +kernel
theorem dX7_evenest_303 : decode cX7_evenest 303 = .ok (.goto (-28), 3) := by decide +kernel
theorem dX7_evenest_306 : decode cX7_evenest 306 = .ok (.goto 19, 3) := by decide +kernel
theorem dX7_evenest_309 : decode cX7_evenest 309 = .ok (.iload 8, 2) := by decide +kernel
theorem dX7_evenest_311 : decode cX7_evenest 311 = .ok (.ifCond .eq 14, 3) := by decide +kernel
theorem dX7_evenest_314 : decode cX7_evenest 314 = .ok (.iinc 7 1, 3) := by decide +kernel
theorem dX7_evenest_317 : decode cX7_evenest 317 = .ok (.aload_n 0, 1) := by decide +kernel
theorem dX7_evenest_318 : decode cX7_evenest 318 = .ok (.getfield 74, 3) := by decide +kernel
theorem dX7_evenest_321 : decode cX7_evenest 321 = .ok (.iload 7, 2) := by decide +kernel
theorem dX7_evenest_323 : decode cX7_evenest 323 = .ok (.iconst (-1), 1) := by decide +kernel
theorem dX7_evenest_324 : decode cX7_evenest 324 = .ok (.iastore, 1) := by decide +kernel
theorem dX7_evenest_325 : decode cX7_evenest 325 = .ok (.goto (-171), 3) := by decide +kernel
theorem dX7_evenest_328 : decode cX7_evenest 328 = .ok (.iload 4, 2) := by decide +kernel
theorem dX7_evenest_330 : decode cX7_evenest 330 = .ok (.iload_n 3, 1) := by decide +kernel
theorem dX7_evenest_331 : decode cX7_evenest 331 = .ok (.if_icmp .ge 13, 3) := by decide +kernel
theorem dX7_evenest_334 : decode cX7_evenest 334 = .ok (.aload_n 0, 1) := by decide +kernel
theorem dX7_evenest_335 : decode cX7_evenest 335 = .ok (.getfield 77, 3) := by decide +kernel
theorem dX7_evenest_338 : decode cX7_evenest 338 = .ok (.iload 4, 2) := by decide +kernel
theorem dX7_evenest_340 : decode cX7_evenest 340 = .ok (.iaload, 1) := by decide +kernel
theorem dX7_evenest_341 : decode cX7_evenest 341 = .ok (.goto 4, 3) := by decide +kernel
theorem dX7_evenest_344 : decode cX7_evenest 344 = .ok (.iconst (-1), 1) := by decide +kernel
theorem dX7_evenest_345 : decode cX7_evenest 345 = .ok (.ireturn, 1) := by decide +kernel
def lX7_evenest_53 (a2 : Int32) (a0 : Nat) (x5 : Int32) (σ6 : St) (x7 : Int32) : Option ((St × Int32) ⊕ (St)) :=
  if a2 ≤ x7 then
    some (.inr σ6)
  else
  o_gR σ6 a0 5 32 fun r8 =>
  o_aI σ6 r8 0 x5 fun x9 =>
  o_gR σ6 a0 5 32 fun r10 =>
  o_aI σ6 r10 0 x7 fun x11 =>
  jn (fun (x16 : Int32) =>
    o_gR σ6 a0 5 32 fun r17 =>
    o_gR σ6 a0 5 32 fun r18 =>
    o_aI σ6 r18 0 x5 fun x19 =>
    o_gR σ6 a0 5 32 fun r20 =>
    o_aI σ6 r20 0 x7 fun x21 =>
    o_sI σ6 r17 0 x7 ((x19 + x21) - x16) fun σ22 =>
    o_gR σ22 a0 5 32 fun r23 =>
    o_sI σ22 r23 0 x5 x16 fun σ24 =>
    some (.inl (σ24, x7 + 1))) fun j93 =>
  if x11 ≤ x9 then
    o_gR σ6 a0 5 32 fun r12 =>
    o_aI σ6 r12 0 x7 fun x13 =>
    j93 x13
  else
  o_gR σ6 a0 5 32 fun r14 =>
  o_aI σ6 r14 0 x5 fun x15 =>
  j93 x15

def lX7_evenest_41 (a2 : Int32) (a0 : Nat) (σ4 : St) (x5 : Int32) : Option ((St × Int32) ⊕ (St)) :=
  if a2 ≤ x5 then
    some (.inr σ4)
  else
  (loopF fuel (fun z => lX7_evenest_53 a2 a0 x5 z.1 z.2) (σ4, x5 + 1)).bind <| fun σ25 =>
  some (.inl (σ25, x5 + 1))

def lX7_evenest_176 (x31 : Int32) (σ34 : St) (a0 : Nat) (x35 : Int32) (x36 : Int32) : Option ((Int32 × Int32) ⊕ (Int32)) :=
  if x31 ≤ x36 then
    some (.inr x35)
  else
  jn (fun (x41 : Int32) =>
    some (.inl (x41, x36 + 1))) fun j210 =>
  jn (fun (_ : Unit) =>
    j210 0) fun j209 =>
  if x35 = 0 then
    j209 ()
  else
  o_gR σ34 a0 5 33 fun r37 =>
  o_aI σ34 r37 0 x36 fun x38 =>
  o_gR σ34 a0 5 33 fun r39 =>
  o_aI σ34 r39 0 x31 fun x40 =>
  if x38 = x40 then
    j209 ()
  else
  j210 1

def lX7_evenest_275 (a2 : Int32) (a0 : Nat) (σ46 : St) (x47 : Int32) : Option ((St × Int32) ⊕ (St)) :=
  if a2 ≤ x47 then
    some (.inr σ46)
  else
  o_gR σ46 a0 5 34 fun r48 =>
  o_gR σ46 a0 5 32 fun r49 =>
  o_gR σ46 a0 5 33 fun r50 =>
  o_aI σ46 r50 0 x47 fun x51 =>
  o_aI σ46 r49 0 x51 fun x52 =>
  o_sI σ46 r48 0 x47 x52 fun σ53 =>
  some (.inl (σ53, x47 + 1))

def lX7_evenest_154 (a0 : Nat) (a2 : Int32) (σ29 : St) (x30 : Int32) (x31 : Int32) : Option ((St × Int32 × Int32) ⊕ (St)) :=
  if x31 < 0 then
    some (.inr σ29)
  else
  o_gR σ29 a0 5 33 fun r32 =>
  o_aI σ29 r32 0 x31 fun x33 =>
  o_sI σ29 r32 0 x31 (x33 + 1) fun σ34 =>
  (loopF fuel (fun z => lX7_evenest_176 x31 σ34 a0 z.1 z.2) (1, 0)).bind <| fun x42 =>
  o_gR σ34 a0 5 33 fun r43 =>
  o_aI σ34 r43 0 x31 fun x44 =>
  jn (fun (σ59 : St) (x60 : Int32) (x61 : Int32) =>
    some (.inl (σ59, x60, x61))) fun j325 =>
  if x44 = a2 then
    j325 σ34 x30 (x31 + (-1))
  else
  jn (fun (_ : Unit) =>
    if x42 = 0 then
      j325 σ34 x30 x31
    else
    o_gR σ34 a0 5 33 fun r57 =>
    o_sI σ34 r57 0 (x31 + 1) ((-1)) fun σ58 =>
    j325 σ58 x30 (x31 + 1)) fun j309 =>
  if x42 = 0 then
    j309 ()
  else
  if x31 = (a2 - 1) then
    o_k σ34 a0 5 <|
    (fX7_unevenOf σ34 a0 a2).bind fun x45 =>
    jn (fun (σ55 : St) (x56 : Int32) =>
      j325 σ55 x56 x31) fun j306 =>
    jn (fun (_ : Unit) =>
      (loopF fuel (fun z => lX7_evenest_275 a2 a0 z.1 z.2) (σ34, 0)).bind <| fun σ54 =>
      j306 σ54 x45) fun j268 =>
    if x30 = ((-1)) then
      j268 ()
    else
    if x30 ≤ x45 then
      j306 σ34 x30
    else
    j268 ()
  else
  j309 ()

def fX7_evenest (σ : St) (a0 : Nat) (a1 : Int64) (a2 : Int32) (a3 : Int32) : Option (Int32 × St) :=
  (fX7_in σ a2 1 7).bind fun x1 =>
  if x1 = 0 then
    some ((-3), σ)
  else
  o_k σ a0 5 <|
  (fX7_take σ a0 a1 a2).bind <| un2 fun x2 σ3 =>
  if x2 = 1 then
    if 0 ≤ a3 then
      (loopF fuel (fun z => lX7_evenest_41 a2 a0 z.1 z.2) (σ3, 0)).bind <| fun σ26 =>
      o_gR σ26 a0 5 33 fun r27 =>
      o_sI σ26 r27 0 0 ((-1)) fun σ28 =>
      (loopF fuel (fun z => lX7_evenest_154 a0 a2 z.1 z.2.1 z.2.2) (σ28, (-1), 0)).bind <| fun σ62 =>
      if a2 ≤ a3 then
        some ((-1), σ62)
      else
      o_gR σ62 a0 5 34 fun r63 =>
      o_aI σ62 r63 0 a3 fun x64 =>
      some (x64, σ62)
    else
    some ((-3), σ3)
  else
  some (x2, σ3)

set_option maxHeartbeats 4000000 in
theorem wX7_evenest {l : Launch} {s0 : State} {A0 : Array Value} {D : va_G} {ac : Nat → ClassId} (G : Gl s0 A0 D ac) {σ : St} {a0 : Nat} {a1 : Int64} {a2 : Int32} {a3 : Int32} {v : Int32} {σ' : St} (hf : fX7_evenest σ a0 a1 a2 a3 = some (v, σ')) : Met l yX7_evenest (ws_ yX7_evenest cX7_evenest 11 (some (.int))) ({ frames := 2, cells := 0, slots := 0, locals := 43 } : Room) (Pn s0 D ac [.ref a0, .long a1, .int a2, .int a3] σ) (Qn s0 D ac (some (.int v)) σ') 0 0 (fr s0) := by
  refine x_met (by decide) (Nat.le_of_ble_eq_true rfl) ?_
  intro p e s m args below meth c ls C hnm h hl
  have C : Cx s0 p s m args meth c cX7_evenest 11 "HutForShowModel" (some (.int)) := C
  have hx := C.1
  have hb := C.2.1
  have hl : lv_has ls 11 [(0, .ref a0), (1, .long a1), (3, .int a2), (4, .int a3)] := hl
  unfold fX7_evenest at hf
  refine lv_iload_n hx hb dX7_evenest_0 rfl (lv_at hl 2 rfl) ?_
  refine lv_iconst (v := 1) hx hb dX7_evenest_1 (by decide) ?_
  refine lv_bipush (v := 7) hx hb dX7_evenest_2 (by decide) ?_
  obtain ⟨x1, hc, hf⟩ := hf_b hf
  refine x_cS (rest := []) (As := [.int a2, .int 1, .int 7]) (n := 3) (ov := (some (.int x1))) C h (wX7_in G hc) (lw_S q1211 q1212 q61 q1213) (by decide +kernel) ⟨Nat.le_of_ble_eq_true rfl, Nat.le_of_ble_eq_true rfl⟩ rfl rfl rfl hl.1 rfl (Nat.le_of_ble_eq_true rfl) dX7_evenest_4 ⟨(Nat.le_of_ble_eq_true rfl), (Nat.le_of_ble_eq_true rfl)⟩ (fun H locs h => ?_)
  refine lv_if_ne (tgt := 13) hx hb dX7_evenest_7 (by decide) (fun hc => ?_) (fun hc => ?_)
  · have hf := hf_f hc hf
    refine lv_aload_n hx hb dX7_evenest_13 rfl (lv_at hl 0 rfl) ?_
    refine lv_lload_n hx hb dX7_evenest_14 rfl (lv_at hl 1 rfl) ?_
    refine lv_iload_n hx hb dX7_evenest_15 rfl (lv_at hl 2 rfl) ?_
    obtain ⟨hk, hf⟩ := k_of hf
    obtain ⟨⟨x2, σ3⟩, hc, hf⟩ := hf_b hf
    have hf := hf_u2 hf
    refine x_cV (q := (RX7, TX7, 50)) (rest := []) (As := [.long a1, .int a2]) (n := 2) (ov := (some (.int x2))) G C h (wX7_take G hc) hk rfl (lw_V q1399 q1401 qs43 q61 q1402) (by decide +kernel) ⟨Nat.le_of_ble_eq_true rfl, Nat.le_of_ble_eq_true rfl⟩ rfl rfl rfl hl.1 rfl (Nat.le_of_ble_eq_true rfl) dX7_evenest_16 ⟨(Nat.le_of_ble_eq_true rfl), (Nat.le_of_ble_eq_true rfl)⟩ (fun H locs h => ?_)
    refine lv_istore (lv' := [(5, .int x2), (0, .ref a0), (1, .long a1), (3, .int a2), (4, .int a3)]) hx hb dX7_evenest_19 hl (by decide) rfl (fun ls hl => ?_)
    refine lv_iload hx hb dX7_evenest_21 (lv_at hl 0 rfl) ?_
    refine lv_iconst (v := 1) hx hb dX7_evenest_23 (by decide) ?_
    refine lv_icmp_eq (tgt := 30) hx hb dX7_evenest_24 (by decide) (fun hc => ?_) (fun hc => ?_)
    · have hf := hf_t hc hf
      refine lv_iload hx hb dX7_evenest_30 (lv_at hl 4 rfl) ?_
      refine lv_if_ge (tgt := 38) hx hb dX7_evenest_32 (by decide) (fun hc => ?_) (fun hc => ?_)
      · have hf := hf_t hc hf
        refine lv_iconst (v := 0) hx hb dX7_evenest_38 (by decide) ?_
        refine lv_istore (lv' := [(6, .int 0), (5, .int x2), (0, .ref a0), (1, .long a1), (3, .int a2), (4, .int a3)]) hx hb dX7_evenest_39 hl (by decide) rfl (fun ls hl => ?_)
        obtain ⟨e41, hL, hK⟩ := hf_b hf
        have hE41_0 : ∀ (σ26 : St), σ26 = e41 → ∀  (H : Heap) (locs : List Loc) (ls : Array Slot), Hs s0 D ac σ26 H locs → lv_has ls 11 [(0, .ref a0), (1, .long a1), (3, .int a2), (4, .int a3), (5, .int x2)] → W p l e ({ frames := 2, cells := 0, slots := 0, locals := 43 } : Room) s m args below meth c H locs 0 0 (MQ below (Qn s0 D ac (some (.int v)) σ') args s 0 0 (fr s0)) (F0 m 141 ls []) := by
          intro σ26 he H locs ls h hl
          subst he
          have hf := hK
          refine lv_iconst (v := (-1)) hx hb dX7_evenest_141 (by decide) ?_
          refine lv_istore (lv' := [(6, .int ((-1))), (0, .ref a0), (1, .long a1), (3, .int a2), (4, .int a3), (5, .int x2)]) hx hb dX7_evenest_142 hl (by decide) rfl (fun ls hl => ?_)
          refine lv_iconst (v := 0) hx hb dX7_evenest_144 (by decide) ?_
          refine lv_istore (lv' := [(7, .int 0), (6, .int ((-1))), (0, .ref a0), (1, .long a1), (3, .int a2), (4, .int a3), (5, .int x2)]) hx hb dX7_evenest_145 hl (by decide) rfl (fun ls hl => ?_)
          refine lv_aload_n hx hb dX7_evenest_147 rfl (lv_at hl 2 rfl) ?_
          refine x_gR (q := (RX7, TX7, 50)) (j := 33) G C h rfl (by decide) (fun _ _ _ => rfl) (lk C q1089) (fun _ z => z) dX7_evenest_148 hf (fun r27 hf => ?_)
          refine lv_iconst (v := 0) hx hb dX7_evenest_151 (by decide) ?_
          refine lv_iconst (v := (-1)) hx hb dX7_evenest_152 (by decide) ?_
          refine x_iast G C h dX7_evenest_153 hf (fun σ28 H locs h hf => ?_)
          obtain ⟨e154, hL, hK⟩ := hf_b hf
          have hE154_0 : ∀ (σ62 : St), σ62 = e154 → ∀  (H : Heap) (locs : List Loc) (ls : Array Slot), Hs s0 D ac σ62 H locs → lv_has ls 11 [(0, .ref a0), (1, .long a1), (3, .int a2), (4, .int a3), (5, .int x2)] → W p l e ({ frames := 2, cells := 0, slots := 0, locals := 43 } : Room) s m args below meth c H locs 0 0 (MQ below (Qn s0 D ac (some (.int v)) σ') args s 0 0 (fr s0)) (F0 m 328 ls []) := by
            intro σ62 he H locs ls h hl
            subst he
            have hf := hK
            refine lv_iload hx hb dX7_evenest_328 (lv_at hl 3 rfl) ?_
            refine lv_iload_n hx hb dX7_evenest_330 rfl (lv_at hl 2 rfl) ?_
            refine lv_icmp_ge (tgt := 344) hx hb dX7_evenest_331 (by decide) (fun hc => ?_) (fun hc => ?_)
            · have hf := hf_t hc hf
              refine lv_iconst (v := (-1)) hx hb dX7_evenest_344 (by decide) ?_
              cases hf
              refine W.widen (k := 0) (n := 0) (Nat.le_of_ble_eq_true rfl) (Nat.le_of_ble_eq_true rfl) ?_
              exact x_iret C h dX7_evenest_345
            · have hf := hf_f hc hf
              refine lv_aload_n hx hb dX7_evenest_334 rfl (lv_at hl 0 rfl) ?_
              refine x_gR (q := (RX7, TX7, 50)) (j := 34) G C h rfl (by decide) (fun _ _ _ => rfl) (lk C q1090) (fun _ z => z) dX7_evenest_335 hf (fun r63 hf => ?_)
              refine lv_iload hx hb dX7_evenest_338 (lv_at hl 3 rfl) ?_
              refine x_iald G C h dX7_evenest_340 hf (fun x64 hf => ?_)
              refine lv_goto (tgt := 345) hx hb dX7_evenest_341 (by decide) ?_
              cases hf
              refine W.widen (k := 0) (n := 0) (Nat.le_of_ble_eq_true rfl) (Nat.le_of_ble_eq_true rfl) ?_
              exact x_iret C h dX7_evenest_345
          refine loopF_ind (P := fun z => ∀ (H : Heap) (locs : List Loc) (ls : Array Slot), Hs s0 D ac (z.1) H locs → lv_has ls 11 [(0, .ref a0), (1, .long a1), (3, .int a2), (4, .int a3), (5, .int x2), (6, .int z.2.1), (7, .int z.2.2)] → W p l e ({ frames := 2, cells := 0, slots := 0, locals := 43 } : Room) s m args below meth c H locs 0 0 (MQ below (Qn s0 D ac (some (.int v)) σ') args s 0 0 (fr s0)) (F0 m 154 ls [])) ?_ _ _ hL _ _ _ h (lv_sub hl [2, 3, 4, 5, 6, 1, 0] rfl)
          clear hK hL h hl hf
          intro z o hf ih hX H locs ls h hl
          obtain ⟨σ29, x30, x31⟩ := z
          have h : Hs s0 D ac σ29 H locs := h
          have hl : lv_has ls 11 [(0, .ref a0), (1, .long a1), (3, .int a2), (4, .int a3), (5, .int x2), (6, .int x30), (7, .int x31)] := hl
          have hf : lX7_evenest_154 a0 a2 σ29 x30 x31 = some o := hf
          unfold lX7_evenest_154 at hf
          refine lv_iload hx hb dX7_evenest_154 (lv_at hl 6 rfl) ?_
          refine lv_if_lt (tgt := 328) hx hb dX7_evenest_156 (by decide) (fun hc => ?_) (fun hc => ?_)
          · have hf := hf_t hc hf
            cases hf
            exact hE154_0 _ (hX _ rfl) _ _ _ h (lv_sub hl [0, 1, 2, 3, 4] rfl)
          · have hf := hf_f hc hf
            refine lv_aload_n hx hb dX7_evenest_159 rfl (lv_at hl 0 rfl) ?_
            refine x_gR (q := (RX7, TX7, 50)) (j := 33) G C h rfl (by decide) (fun _ _ _ => rfl) (lk C q1089) (fun _ z => z) dX7_evenest_160 hf (fun r32 hf => ?_)
            refine lv_iload hx hb dX7_evenest_163 (lv_at hl 6 rfl) ?_
            refine lv_dup2_11 hx hb dX7_evenest_165 rfl rfl ?_
            refine x_iald G C h dX7_evenest_166 hf (fun x33 hf => ?_)
            refine lv_iconst (v := 1) hx hb dX7_evenest_167 (by decide) ?_
            refine lv_iadd hx hb dX7_evenest_168 ?_
            refine x_iast G C h dX7_evenest_169 hf (fun σ34 H locs h hf => ?_)
            refine lv_iconst (v := 1) hx hb dX7_evenest_170 (by decide) ?_
            refine lv_istore (lv' := [(8, .int 1), (0, .ref a0), (1, .long a1), (3, .int a2), (4, .int a3), (5, .int x2), (6, .int x30), (7, .int x31)]) hx hb dX7_evenest_171 hl (by decide) rfl (fun ls hl => ?_)
            refine lv_iconst (v := 0) hx hb dX7_evenest_173 (by decide) ?_
            refine lv_istore (lv' := [(9, .int 0), (8, .int 1), (0, .ref a0), (1, .long a1), (3, .int a2), (4, .int a3), (5, .int x2), (6, .int x30), (7, .int x31)]) hx hb dX7_evenest_174 hl (by decide) rfl (fun ls hl => ?_)
            obtain ⟨e176, hL, hK⟩ := hf_b hf
            have hE176_0 : ∀ (x42 : Int32), x42 = e176 → ∀  (H : Heap) (locs : List Loc) (ls : Array Slot), Hs s0 D ac σ34 H locs → lv_has ls 11 [(0, .ref a0), (1, .long a1), (3, .int a2), (4, .int a3), (5, .int x2), (6, .int x30), (7, .int x31), (8, .int x42)] → W p l e ({ frames := 2, cells := 0, slots := 0, locals := 43 } : Room) s m args below meth c H locs 0 0 (MQ below (Qn s0 D ac (some (.int v)) σ') args s 0 0 (fr s0)) (F0 m 218 ls []) := by
              intro x42 he H locs ls h hl
              subst he
              have hf := hK
              refine lv_aload_n hx hb dX7_evenest_218 rfl (lv_at hl 0 rfl) ?_
              refine x_gR (q := (RX7, TX7, 50)) (j := 33) G C h rfl (by decide) (fun _ _ _ => rfl) (lk C q1089) (fun _ z => z) dX7_evenest_219 hf (fun r43 hf => ?_)
              refine lv_iload hx hb dX7_evenest_222 (lv_at hl 6 rfl) ?_
              refine x_iald G C h dX7_evenest_224 hf (fun x44 hf => ?_)
              refine lv_iload_n hx hb dX7_evenest_225 rfl (lv_at hl 2 rfl) ?_
              refine jn_of (P := fun j => ∀ (σ59 : St) (x60 : Int32) (x61 : Int32), j σ59 x60 x61 = some o → ∀ (H : Heap) (locs : List Loc) (ls : Array Slot), Hs s0 D ac σ59 H locs → lv_has ls 11 [(0, .ref a0), (1, .long a1), (3, .int a2), (4, .int a3), (5, .int x2), (6, .int x60), (7, .int x61), (8, .int x42)] → W p l e ({ frames := 2, cells := 0, slots := 0, locals := 43 } : Room) s m args below meth c H locs 0 0 (MQ below (Qn s0 D ac (some (.int v)) σ') args s 0 0 (fr s0)) (F0 m 325 ls [])) hf ?_ ?_
              · intro σ59 x60 x61 hf H locs ls h hl
                refine lv_goto (tgt := 154) hx hb dX7_evenest_325 (by decide) ?_
                cases hf
                exact ih _ rfl _ _ _ h (lv_sub hl [0, 1, 2, 3, 4, 5, 6] rfl)
              intro j325 hj325 hf
              refine lv_icmp_ne (tgt := 235) hx hb dX7_evenest_226 (by decide) (fun hc => ?_) (fun hc => ?_)
              · have hf := hf_f hc hf
                refine lv_iload hx hb dX7_evenest_235 (lv_at hl 7 rfl) ?_
                refine jn_of (P := fun j => ∀ (u0 : Unit), j u0 = some o → ∀ (H : Heap) (locs : List Loc) (ls : Array Slot), Hs s0 D ac σ34 H locs → lv_has ls 11 [(0, .ref a0), (1, .long a1), (3, .int a2), (4, .int a3), (5, .int x2), (6, .int x30), (7, .int x31), (8, .int x42)] → W p l e ({ frames := 2, cells := 0, slots := 0, locals := 43 } : Room) s m args below meth c H locs 0 0 (MQ below (Qn s0 D ac (some (.int v)) σ') args s 0 0 (fr s0)) (F0 m 309 ls [])) hf ?_ ?_
                · intro u0 hf H locs ls h hl
                  refine lv_iload hx hb dX7_evenest_309 (lv_at hl 7 rfl) ?_
                  refine lv_if_eq (tgt := 325) hx hb dX7_evenest_311 (by decide) (fun hc => ?_) (fun hc => ?_)
                  · have hf := hf_t hc hf
                    exact hj325 _ _ _ hf _ _ _ h (lv_sub hl [0, 1, 2, 3, 4, 5, 6, 7] rfl)
                  · have hf := hf_f hc hf
                    refine lv_iinc (v := x31 + 1) (lv' := [(7, .int (x31 + 1)), (0, .ref a0), (1, .long a1), (3, .int a2), (4, .int a3), (5, .int x2), (6, .int x30), (8, .int x42)]) hx hb dX7_evenest_314 hl (k := 6) rfl rfl (by decide) rfl (fun ls hl => ?_)
                    refine lv_aload_n hx hb dX7_evenest_317 rfl (lv_at hl 1 rfl) ?_
                    refine x_gR (q := (RX7, TX7, 50)) (j := 33) G C h rfl (by decide) (fun _ _ _ => rfl) (lk C q1089) (fun _ z => z) dX7_evenest_318 hf (fun r57 hf => ?_)
                    refine lv_iload hx hb dX7_evenest_321 (lv_at hl 0 rfl) ?_
                    refine lv_iconst (v := (-1)) hx hb dX7_evenest_323 (by decide) ?_
                    refine x_iast G C h dX7_evenest_324 hf (fun σ58 H locs h hf => ?_)
                    exact hj325 _ _ _ hf _ _ _ h (lv_sub hl [1, 2, 3, 4, 5, 6, 0, 7] rfl)
                intro j309 hj309 hf
                refine lv_if_eq (tgt := 309) hx hb dX7_evenest_237 (by decide) (fun hc => ?_) (fun hc => ?_)
                · have hf := hf_t hc hf
                  exact hj309 () hf _ _ _ h (lv_sub hl [0, 1, 2, 3, 4, 5, 6, 7] rfl)
                · have hf := hf_f hc hf
                  refine lv_iload hx hb dX7_evenest_240 (lv_at hl 6 rfl) ?_
                  refine lv_iload_n hx hb dX7_evenest_242 rfl (lv_at hl 2 rfl) ?_
                  refine lv_iconst (v := 1) hx hb dX7_evenest_243 (by decide) ?_
                  refine lv_isub hx hb dX7_evenest_244 ?_
                  refine lv_icmp_ne (tgt := 309) hx hb dX7_evenest_245 (by decide) (fun hc => ?_) (fun hc => ?_)
                  · have hf := hf_f hc hf
                    exact hj309 () hf _ _ _ h (lv_sub hl [0, 1, 2, 3, 4, 5, 6, 7] rfl)
                  · have hf := hf_t hc hf
                    refine lv_aload_n hx hb dX7_evenest_248 rfl (lv_at hl 0 rfl) ?_
                    refine lv_iload_n hx hb dX7_evenest_249 rfl (lv_at hl 2 rfl) ?_
                    obtain ⟨hk, hf⟩ := k_of hf
                    obtain ⟨x45, hc, hf⟩ := hf_b hf
                    refine x_cV (q := (RX7, TX7, 50)) (rest := []) (As := [.int a2]) (n := 1) (ov := (some (.int x45))) G C h (wX7_unevenOf G hc) hk rfl (lw_V q1404 q1406 qs44 q61 q1407) (by decide +kernel) ⟨Nat.le_of_ble_eq_true rfl, Nat.le_of_ble_eq_true rfl⟩ rfl rfl rfl hl.1 rfl (Nat.le_of_ble_eq_true rfl) dX7_evenest_250 ⟨(Nat.le_of_ble_eq_true rfl), (Nat.le_of_ble_eq_true rfl)⟩ (fun H locs h => ?_)
                    refine lv_istore (lv' := [(9, .int x45), (0, .ref a0), (1, .long a1), (3, .int a2), (4, .int a3), (5, .int x2), (6, .int x30), (7, .int x31), (8, .int x42)]) hx hb dX7_evenest_253 hl (by decide) rfl (fun ls hl => ?_)
                    refine lv_iload hx hb dX7_evenest_255 (lv_at hl 6 rfl) ?_
                    refine lv_iconst (v := (-1)) hx hb dX7_evenest_257 (by decide) ?_
                    refine jn_of (P := fun j => ∀ (σ55 : St) (x56 : Int32), j σ55 x56 = some o → ∀ (H : Heap) (locs : List Loc) (ls : Array Slot), Hs s0 D ac σ55 H locs → lv_has ls 11 [(0, .ref a0), (1, .long a1), (3, .int a2), (4, .int a3), (5, .int x2), (6, .int x56), (7, .int x31), (8, .int x42), (9, .int x45)] → W p l e ({ frames := 2, cells := 0, slots := 0, locals := 43 } : Room) s m args below meth c H locs 0 0 (MQ below (Qn s0 D ac (some (.int v)) σ') args s 0 0 (fr s0)) (F0 m 306 ls [])) hf ?_ ?_
                    · intro σ55 x56 hf H locs ls h hl
                      refine lv_goto (tgt := 325) hx hb dX7_evenest_306 (by decide) ?_
                      exact hj325 _ _ _ hf _ _ _ h (lv_sub hl [0, 1, 2, 3, 4, 5, 6, 7] rfl)
                    intro j306 hj306 hf
                    refine jn_of (P := fun j => ∀ (u0 : Unit), j u0 = some o → ∀ (H : Heap) (locs : List Loc) (ls : Array Slot), Hs s0 D ac σ34 H locs → lv_has ls 11 [(0, .ref a0), (1, .long a1), (3, .int a2), (4, .int a3), (5, .int x2), (6, .int x30), (7, .int x31), (8, .int x42), (9, .int x45)] → W p l e ({ frames := 2, cells := 0, slots := 0, locals := 43 } : Room) s m args below meth c H locs 0 0 (MQ below (Qn s0 D ac (some (.int v)) σ') args s 0 0 (fr s0)) (F0 m 268 ls [])) hf ?_ ?_
                    · intro u0 hf H locs ls h hl
                      refine lv_iload hx hb dX7_evenest_268 (lv_at hl 8 rfl) ?_
                      refine lv_istore (lv' := [(6, .int x45), (0, .ref a0), (1, .long a1), (3, .int a2), (4, .int a3), (5, .int x2), (7, .int x31), (8, .int x42), (9, .int x45)]) hx hb dX7_evenest_270 hl (by decide) rfl (fun ls hl => ?_)
                      refine lv_iconst (v := 0) hx hb dX7_evenest_272 (by decide) ?_
                      refine lv_istore (lv' := [(10, .int 0), (6, .int x45), (0, .ref a0), (1, .long a1), (3, .int a2), (4, .int a3), (5, .int x2), (7, .int x31), (8, .int x42), (9, .int x45)]) hx hb dX7_evenest_273 hl (by decide) rfl (fun ls hl => ?_)
                      obtain ⟨e275, hL, hK⟩ := hf_b hf
                      have hE275_0 : ∀ (σ54 : St), σ54 = e275 → ∀  (H : Heap) (locs : List Loc) (ls : Array Slot), Hs s0 D ac σ54 H locs → lv_has ls 11 [(0, .ref a0), (1, .long a1), (3, .int a2), (4, .int a3), (5, .int x2), (6, .int x45), (7, .int x31), (8, .int x42), (9, .int x45)] → W p l e ({ frames := 2, cells := 0, slots := 0, locals := 43 } : Room) s m args below meth c H locs 0 0 (MQ below (Qn s0 D ac (some (.int v)) σ') args s 0 0 (fr s0)) (F0 m 306 ls []) := by
                        intro σ54 he H locs ls h hl
                        subst he
                        have hf := hK
                        exact hj306 _ _ hf _ _ _ h (lv_sub hl [0, 1, 2, 3, 4, 5, 6, 7, 8] rfl)
                      refine loopF_ind (P := fun z => ∀ (H : Heap) (locs : List Loc) (ls : Array Slot), Hs s0 D ac (z.1) H locs → lv_has ls 11 [(0, .ref a0), (1, .long a1), (3, .int a2), (4, .int a3), (5, .int x2), (6, .int x45), (7, .int x31), (8, .int x42), (9, .int x45), (10, .int z.2)] → W p l e ({ frames := 2, cells := 0, slots := 0, locals := 43 } : Room) s m args below meth c H locs 0 0 (MQ below (Qn s0 D ac (some (.int v)) σ') args s 0 0 (fr s0)) (F0 m 275 ls [])) ?_ _ _ hL _ _ _ h (lv_sub hl [2, 3, 4, 5, 6, 1, 7, 8, 9, 0] rfl)
                      clear hK hL h hl hf
                      intro z o hf ih hX H locs ls h hl
                      obtain ⟨σ46, x47⟩ := z
                      have h : Hs s0 D ac σ46 H locs := h
                      have hl : lv_has ls 11 [(0, .ref a0), (1, .long a1), (3, .int a2), (4, .int a3), (5, .int x2), (6, .int x45), (7, .int x31), (8, .int x42), (9, .int x45), (10, .int x47)] := hl
                      have hf : lX7_evenest_275 a2 a0 σ46 x47 = some o := hf
                      unfold lX7_evenest_275 at hf
                      refine lv_iload hx hb dX7_evenest_275 (lv_at hl 9 rfl) ?_
                      refine lv_iload_n hx hb dX7_evenest_277 rfl (lv_at hl 2 rfl) ?_
                      refine lv_icmp_ge (tgt := 306) hx hb dX7_evenest_278 (by decide) (fun hc => ?_) (fun hc => ?_)
                      · have hf := hf_t hc hf
                        cases hf
                        exact hE275_0 _ (hX _ rfl) _ _ _ h (lv_sub hl [0, 1, 2, 3, 4, 5, 6, 7, 8] rfl)
                      · have hf := hf_f hc hf
                        refine lv_aload_n hx hb dX7_evenest_281 rfl (lv_at hl 0 rfl) ?_
                        refine x_gR (q := (RX7, TX7, 50)) (j := 34) G C h rfl (by decide) (fun _ _ _ => rfl) (lk C q1090) (fun _ z => z) dX7_evenest_282 hf (fun r48 hf => ?_)
                        refine lv_iload hx hb dX7_evenest_285 (lv_at hl 9 rfl) ?_
                        refine lv_aload_n hx hb dX7_evenest_287 rfl (lv_at hl 0 rfl) ?_
                        refine x_gR (q := (RX7, TX7, 50)) (j := 32) G C h rfl (by decide) (fun _ _ _ => rfl) (lk C q1088) (fun _ z => z) dX7_evenest_288 hf (fun r49 hf => ?_)
                        refine lv_aload_n hx hb dX7_evenest_291 rfl (lv_at hl 0 rfl) ?_
                        refine x_gR (q := (RX7, TX7, 50)) (j := 33) G C h rfl (by decide) (fun _ _ _ => rfl) (lk C q1089) (fun _ z => z) dX7_evenest_292 hf (fun r50 hf => ?_)
                        refine lv_iload hx hb dX7_evenest_295 (lv_at hl 9 rfl) ?_
                        refine x_iald G C h dX7_evenest_297 hf (fun x51 hf => ?_)
                        refine x_iald G C h dX7_evenest_298 hf (fun x52 hf => ?_)
                        refine x_iast G C h dX7_evenest_299 hf (fun σ53 H locs h hf => ?_)
                        refine lv_iinc (v := x47 + 1) (lv' := [(10, .int (x47 + 1)), (0, .ref a0), (1, .long a1), (3, .int a2), (4, .int a3), (5, .int x2), (6, .int x45), (7, .int x31), (8, .int x42), (9, .int x45)]) hx hb dX7_evenest_300 hl (k := 9) rfl rfl (by decide) rfl (fun ls hl => ?_)
                        refine lv_goto (tgt := 275) hx hb dX7_evenest_303 (by decide) ?_
                        cases hf
                        exact ih _ rfl _ _ _ h (lv_sub hl [1, 2, 3, 4, 5, 6, 7, 8, 9, 0] rfl)
                    intro j268 hj268 hf
                    refine lv_icmp_eq (tgt := 268) hx hb dX7_evenest_258 (by decide) (fun hc => ?_) (fun hc => ?_)
                    · have hf := hf_t hc hf
                      exact hj268 () hf _ _ _ h (lv_sub hl [1, 2, 3, 4, 5, 6, 7, 8, 0] rfl)
                    · have hf := hf_f hc hf
                      refine lv_iload hx hb dX7_evenest_261 (lv_at hl 0 rfl) ?_
                      refine lv_iload hx hb dX7_evenest_263 (lv_at hl 6 rfl) ?_
                      refine lv_icmp_ge (tgt := 306) hx hb dX7_evenest_265 (by decide) (fun hc => ?_) (fun hc => ?_)
                      · have hf := hf_t hc hf
                        exact hj306 _ _ hf _ _ _ h (lv_sub hl [1, 2, 3, 4, 5, 6, 7, 8, 0] rfl)
                      · have hf := hf_f hc hf
                        exact hj268 () hf _ _ _ h (lv_sub hl [1, 2, 3, 4, 5, 6, 7, 8, 0] rfl)
              · have hf := hf_t hc hf
                refine lv_iinc (v := x31 + (-1)) (lv' := [(7, .int (x31 + (-1))), (0, .ref a0), (1, .long a1), (3, .int a2), (4, .int a3), (5, .int x2), (6, .int x30), (8, .int x42)]) hx hb dX7_evenest_229 hl (k := 6) rfl rfl (by decide) rfl (fun ls hl => ?_)
                refine lv_goto (tgt := 325) hx hb dX7_evenest_232 (by decide) ?_
                exact hj325 _ _ _ hf _ _ _ h (lv_sub hl [1, 2, 3, 4, 5, 6, 0, 7] rfl)
            refine loopF_ind (P := fun z => ∀ (H : Heap) (locs : List Loc) (ls : Array Slot), Hs s0 D ac σ34 H locs → lv_has ls 11 [(0, .ref a0), (1, .long a1), (3, .int a2), (4, .int a3), (5, .int x2), (6, .int x30), (7, .int x31), (8, .int z.1), (9, .int z.2)] → W p l e ({ frames := 2, cells := 0, slots := 0, locals := 43 } : Room) s m args below meth c H locs 0 0 (MQ below (Qn s0 D ac (some (.int v)) σ') args s 0 0 (fr s0)) (F0 m 176 ls [])) ?_ _ _ hL _ _ _ h (lv_sub hl [2, 3, 4, 5, 6, 7, 8, 1, 0] rfl)
            clear hK hL h hl hf
            intro z o hf ih hX H locs ls h hl
            obtain ⟨x35, x36⟩ := z
            have h : Hs s0 D ac σ34 H locs := h
            have hl : lv_has ls 11 [(0, .ref a0), (1, .long a1), (3, .int a2), (4, .int a3), (5, .int x2), (6, .int x30), (7, .int x31), (8, .int x35), (9, .int x36)] := hl
            have hf : lX7_evenest_176 x31 σ34 a0 x35 x36 = some o := hf
            unfold lX7_evenest_176 at hf
            refine lv_iload hx hb dX7_evenest_176 (lv_at hl 8 rfl) ?_
            refine lv_iload hx hb dX7_evenest_178 (lv_at hl 6 rfl) ?_
            refine lv_icmp_ge (tgt := 218) hx hb dX7_evenest_180 (by decide) (fun hc => ?_) (fun hc => ?_)
            · have hf := hf_t hc hf
              cases hf
              exact hE176_0 _ (hX _ rfl) _ _ _ h (lv_sub hl [0, 1, 2, 3, 4, 5, 6, 7] rfl)
            · have hf := hf_f hc hf
              refine lv_iload hx hb dX7_evenest_183 (lv_at hl 7 rfl) ?_
              refine jn_of (P := fun j => ∀ (x41 : Int32), j x41 = some o → ∀ (H : Heap) (locs : List Loc) (ls : Array Slot), Hs s0 D ac σ34 H locs → lv_has ls 11 [(0, .ref a0), (1, .long a1), (3, .int a2), (4, .int a3), (5, .int x2), (6, .int x30), (7, .int x31), (8, .int x35), (9, .int x36)] → W p l e ({ frames := 2, cells := 0, slots := 0, locals := 43 } : Room) s m args below meth c H locs 0 0 (MQ below (Qn s0 D ac (some (.int v)) σ') args s 0 0 (fr s0)) (F0 m 210 ls [.int x41])) hf ?_ ?_
              · intro x41 hf H locs ls h hl
                refine lv_istore (lv' := [(8, .int x41), (0, .ref a0), (1, .long a1), (3, .int a2), (4, .int a3), (5, .int x2), (6, .int x30), (7, .int x31), (9, .int x36)]) hx hb dX7_evenest_210 hl (by decide) rfl (fun ls hl => ?_)
                refine lv_iinc (v := x36 + 1) (lv' := [(9, .int (x36 + 1)), (8, .int x41), (0, .ref a0), (1, .long a1), (3, .int a2), (4, .int a3), (5, .int x2), (6, .int x30), (7, .int x31)]) hx hb dX7_evenest_212 hl (k := 8) rfl rfl (by decide) rfl (fun ls hl => ?_)
                refine lv_goto (tgt := 176) hx hb dX7_evenest_215 (by decide) ?_
                cases hf
                exact ih _ rfl _ _ _ h (lv_sub hl [2, 3, 4, 5, 6, 7, 8, 1, 0] rfl)
              intro j210 hj210 hf
              refine jn_of (P := fun j => ∀ (u0 : Unit), j u0 = some o → ∀ (H : Heap) (locs : List Loc) (ls : Array Slot), Hs s0 D ac σ34 H locs → lv_has ls 11 [(0, .ref a0), (1, .long a1), (3, .int a2), (4, .int a3), (5, .int x2), (6, .int x30), (7, .int x31), (8, .int x35), (9, .int x36)] → W p l e ({ frames := 2, cells := 0, slots := 0, locals := 43 } : Room) s m args below meth c H locs 0 0 (MQ below (Qn s0 D ac (some (.int v)) σ') args s 0 0 (fr s0)) (F0 m 209 ls [])) hf ?_ ?_
              · intro u0 hf H locs ls h hl
                refine lv_iconst (v := 0) hx hb dX7_evenest_209 (by decide) ?_
                exact hj210 _ hf _ _ _ h (lv_sub hl [0, 1, 2, 3, 4, 5, 6, 7, 8] rfl)
              intro j209 hj209 hf
              refine lv_if_eq (tgt := 209) hx hb dX7_evenest_185 (by decide) (fun hc => ?_) (fun hc => ?_)
              · have hf := hf_t hc hf
                exact hj209 () hf _ _ _ h (lv_sub hl [0, 1, 2, 3, 4, 5, 6, 7, 8] rfl)
              · have hf := hf_f hc hf
                refine lv_aload_n hx hb dX7_evenest_188 rfl (lv_at hl 0 rfl) ?_
                refine x_gR (q := (RX7, TX7, 50)) (j := 33) G C h rfl (by decide) (fun _ _ _ => rfl) (lk C q1089) (fun _ z => z) dX7_evenest_189 hf (fun r37 hf => ?_)
                refine lv_iload hx hb dX7_evenest_192 (lv_at hl 8 rfl) ?_
                refine x_iald G C h dX7_evenest_194 hf (fun x38 hf => ?_)
                refine lv_aload_n hx hb dX7_evenest_195 rfl (lv_at hl 0 rfl) ?_
                refine x_gR (q := (RX7, TX7, 50)) (j := 33) G C h rfl (by decide) (fun _ _ _ => rfl) (lk C q1089) (fun _ z => z) dX7_evenest_196 hf (fun r39 hf => ?_)
                refine lv_iload hx hb dX7_evenest_199 (lv_at hl 6 rfl) ?_
                refine x_iald G C h dX7_evenest_201 hf (fun x40 hf => ?_)
                refine lv_icmp_eq (tgt := 209) hx hb dX7_evenest_202 (by decide) (fun hc => ?_) (fun hc => ?_)
                · have hf := hf_t hc hf
                  exact hj209 () hf _ _ _ h (lv_sub hl [0, 1, 2, 3, 4, 5, 6, 7, 8] rfl)
                · have hf := hf_f hc hf
                  refine lv_iconst (v := 1) hx hb dX7_evenest_205 (by decide) ?_
                  refine lv_goto (tgt := 210) hx hb dX7_evenest_206 (by decide) ?_
                  exact hj210 _ hf _ _ _ h (lv_sub hl [0, 1, 2, 3, 4, 5, 6, 7, 8] rfl)
        refine loopF_ind (P := fun z => ∀ (H : Heap) (locs : List Loc) (ls : Array Slot), Hs s0 D ac (z.1) H locs → lv_has ls 11 [(0, .ref a0), (1, .long a1), (3, .int a2), (4, .int a3), (5, .int x2), (6, .int z.2)] → W p l e ({ frames := 2, cells := 0, slots := 0, locals := 43 } : Room) s m args below meth c H locs 0 0 (MQ below (Qn s0 D ac (some (.int v)) σ') args s 0 0 (fr s0)) (F0 m 41 ls [])) ?_ _ _ hL _ _ _ h (lv_sub hl [2, 3, 4, 5, 1, 0] rfl)
        clear hK hL h hl hf
        intro z o hf ih hX H locs ls h hl
        obtain ⟨σ4, x5⟩ := z
        have h : Hs s0 D ac σ4 H locs := h
        have hl : lv_has ls 11 [(0, .ref a0), (1, .long a1), (3, .int a2), (4, .int a3), (5, .int x2), (6, .int x5)] := hl
        have hf : lX7_evenest_41 a2 a0 σ4 x5 = some o := hf
        unfold lX7_evenest_41 at hf
        refine lv_iload hx hb dX7_evenest_41 (lv_at hl 5 rfl) ?_
        refine lv_iload_n hx hb dX7_evenest_43 rfl (lv_at hl 2 rfl) ?_
        refine lv_icmp_ge (tgt := 141) hx hb dX7_evenest_44 (by decide) (fun hc => ?_) (fun hc => ?_)
        · have hf := hf_t hc hf
          cases hf
          exact hE41_0 _ (hX _ rfl) _ _ _ h (lv_sub hl [0, 1, 2, 3, 4] rfl)
        · have hf := hf_f hc hf
          refine lv_iload hx hb dX7_evenest_47 (lv_at hl 5 rfl) ?_
          refine lv_iconst (v := 1) hx hb dX7_evenest_49 (by decide) ?_
          refine lv_iadd hx hb dX7_evenest_50 ?_
          refine lv_istore (lv' := [(7, .int (x5 + 1)), (0, .ref a0), (1, .long a1), (3, .int a2), (4, .int a3), (5, .int x2), (6, .int x5)]) hx hb dX7_evenest_51 hl (by decide) rfl (fun ls hl => ?_)
          obtain ⟨e53, hL, hK⟩ := hf_b hf
          have hE53_0 : ∀ (σ25 : St), σ25 = e53 → ∀  (H : Heap) (locs : List Loc) (ls : Array Slot), Hs s0 D ac σ25 H locs → lv_has ls 11 [(0, .ref a0), (1, .long a1), (3, .int a2), (4, .int a3), (5, .int x2), (6, .int x5)] → W p l e ({ frames := 2, cells := 0, slots := 0, locals := 43 } : Room) s m args below meth c H locs 0 0 (MQ below (Qn s0 D ac (some (.int v)) σ') args s 0 0 (fr s0)) (F0 m 135 ls []) := by
            intro σ25 he H locs ls h hl
            subst he
            have hf := hK
            refine lv_iinc (v := x5 + 1) (lv' := [(6, .int (x5 + 1)), (0, .ref a0), (1, .long a1), (3, .int a2), (4, .int a3), (5, .int x2)]) hx hb dX7_evenest_135 hl (k := 5) rfl rfl (by decide) rfl (fun ls hl => ?_)
            refine lv_goto (tgt := 41) hx hb dX7_evenest_138 (by decide) ?_
            cases hf
            exact ih _ rfl _ _ _ h (lv_sub hl [1, 2, 3, 4, 5, 0] rfl)
          refine loopF_ind (P := fun z => ∀ (H : Heap) (locs : List Loc) (ls : Array Slot), Hs s0 D ac (z.1) H locs → lv_has ls 11 [(0, .ref a0), (1, .long a1), (3, .int a2), (4, .int a3), (5, .int x2), (6, .int x5), (7, .int z.2)] → W p l e ({ frames := 2, cells := 0, slots := 0, locals := 43 } : Room) s m args below meth c H locs 0 0 (MQ below (Qn s0 D ac (some (.int v)) σ') args s 0 0 (fr s0)) (F0 m 53 ls [])) ?_ _ _ hL _ _ _ h (lv_sub hl [1, 2, 3, 4, 5, 6, 0] rfl)
          clear hK hL h hl hf
          intro z o hf ih hX H locs ls h hl
          obtain ⟨σ6, x7⟩ := z
          have h : Hs s0 D ac σ6 H locs := h
          have hl : lv_has ls 11 [(0, .ref a0), (1, .long a1), (3, .int a2), (4, .int a3), (5, .int x2), (6, .int x5), (7, .int x7)] := hl
          have hf : lX7_evenest_53 a2 a0 x5 σ6 x7 = some o := hf
          unfold lX7_evenest_53 at hf
          refine lv_iload hx hb dX7_evenest_53 (lv_at hl 6 rfl) ?_
          refine lv_iload_n hx hb dX7_evenest_55 rfl (lv_at hl 2 rfl) ?_
          refine lv_icmp_ge (tgt := 135) hx hb dX7_evenest_56 (by decide) (fun hc => ?_) (fun hc => ?_)
          · have hf := hf_t hc hf
            cases hf
            exact hE53_0 _ (hX _ rfl) _ _ _ h (lv_sub hl [0, 1, 2, 3, 4, 5] rfl)
          · have hf := hf_f hc hf
            refine lv_aload_n hx hb dX7_evenest_59 rfl (lv_at hl 0 rfl) ?_
            refine x_gR (q := (RX7, TX7, 50)) (j := 32) G C h rfl (by decide) (fun _ _ _ => rfl) (lk C q1088) (fun _ z => z) dX7_evenest_60 hf (fun r8 hf => ?_)
            refine lv_iload hx hb dX7_evenest_63 (lv_at hl 5 rfl) ?_
            refine x_iald G C h dX7_evenest_65 hf (fun x9 hf => ?_)
            refine lv_aload_n hx hb dX7_evenest_66 rfl (lv_at hl 0 rfl) ?_
            refine x_gR (q := (RX7, TX7, 50)) (j := 32) G C h rfl (by decide) (fun _ _ _ => rfl) (lk C q1088) (fun _ z => z) dX7_evenest_67 hf (fun r10 hf => ?_)
            refine lv_iload hx hb dX7_evenest_70 (lv_at hl 6 rfl) ?_
            refine x_iald G C h dX7_evenest_72 hf (fun x11 hf => ?_)
            refine jn_of (P := fun j => ∀ (x16 : Int32), j x16 = some o → ∀ (H : Heap) (locs : List Loc) (ls : Array Slot), Hs s0 D ac σ6 H locs → lv_has ls 11 [(0, .ref a0), (1, .long a1), (3, .int a2), (4, .int a3), (5, .int x2), (6, .int x5), (7, .int x7)] → W p l e ({ frames := 2, cells := 0, slots := 0, locals := 43 } : Room) s m args below meth c H locs 0 0 (MQ below (Qn s0 D ac (some (.int v)) σ') args s 0 0 (fr s0)) (F0 m 93 ls [.int x16])) hf ?_ ?_
            · intro x16 hf H locs ls h hl
              refine lv_istore (lv' := [(8, .int x16), (0, .ref a0), (1, .long a1), (3, .int a2), (4, .int a3), (5, .int x2), (6, .int x5), (7, .int x7)]) hx hb dX7_evenest_93 hl (by decide) rfl (fun ls hl => ?_)
              refine lv_aload_n hx hb dX7_evenest_95 rfl (lv_at hl 1 rfl) ?_
              refine x_gR (q := (RX7, TX7, 50)) (j := 32) G C h rfl (by decide) (fun _ _ _ => rfl) (lk C q1088) (fun _ z => z) dX7_evenest_96 hf (fun r17 hf => ?_)
              refine lv_iload hx hb dX7_evenest_99 (lv_at hl 7 rfl) ?_
              refine lv_aload_n hx hb dX7_evenest_101 rfl (lv_at hl 1 rfl) ?_
              refine x_gR (q := (RX7, TX7, 50)) (j := 32) G C h rfl (by decide) (fun _ _ _ => rfl) (lk C q1088) (fun _ z => z) dX7_evenest_102 hf (fun r18 hf => ?_)
              refine lv_iload hx hb dX7_evenest_105 (lv_at hl 6 rfl) ?_
              refine x_iald G C h dX7_evenest_107 hf (fun x19 hf => ?_)
              refine lv_aload_n hx hb dX7_evenest_108 rfl (lv_at hl 1 rfl) ?_
              refine x_gR (q := (RX7, TX7, 50)) (j := 32) G C h rfl (by decide) (fun _ _ _ => rfl) (lk C q1088) (fun _ z => z) dX7_evenest_109 hf (fun r20 hf => ?_)
              refine lv_iload hx hb dX7_evenest_112 (lv_at hl 7 rfl) ?_
              refine x_iald G C h dX7_evenest_114 hf (fun x21 hf => ?_)
              refine lv_iadd hx hb dX7_evenest_115 ?_
              refine lv_iload hx hb dX7_evenest_116 (lv_at hl 0 rfl) ?_
              refine lv_isub hx hb dX7_evenest_118 ?_
              refine x_iast G C h dX7_evenest_119 hf (fun σ22 H locs h hf => ?_)
              refine lv_aload_n hx hb dX7_evenest_120 rfl (lv_at hl 1 rfl) ?_
              refine x_gR (q := (RX7, TX7, 50)) (j := 32) G C h rfl (by decide) (fun _ _ _ => rfl) (lk C q1088) (fun _ z => z) dX7_evenest_121 hf (fun r23 hf => ?_)
              refine lv_iload hx hb dX7_evenest_124 (lv_at hl 6 rfl) ?_
              refine lv_iload hx hb dX7_evenest_126 (lv_at hl 0 rfl) ?_
              refine x_iast G C h dX7_evenest_128 hf (fun σ24 H locs h hf => ?_)
              refine lv_iinc (v := x7 + 1) (lv' := [(7, .int (x7 + 1)), (8, .int x16), (0, .ref a0), (1, .long a1), (3, .int a2), (4, .int a3), (5, .int x2), (6, .int x5)]) hx hb dX7_evenest_129 hl (k := 7) rfl rfl (by decide) rfl (fun ls hl => ?_)
              refine lv_goto (tgt := 53) hx hb dX7_evenest_132 (by decide) ?_
              cases hf
              exact ih _ rfl _ _ _ h (lv_sub hl [2, 3, 4, 5, 6, 7, 0] rfl)
            intro j93 hj93 hf
            refine lv_icmp_ge (tgt := 86) hx hb dX7_evenest_73 (by decide) (fun hc => ?_) (fun hc => ?_)
            · have hf := hf_t hc hf
              refine lv_aload_n hx hb dX7_evenest_86 rfl (lv_at hl 0 rfl) ?_
              refine x_gR (q := (RX7, TX7, 50)) (j := 32) G C h rfl (by decide) (fun _ _ _ => rfl) (lk C q1088) (fun _ z => z) dX7_evenest_87 hf (fun r12 hf => ?_)
              refine lv_iload hx hb dX7_evenest_90 (lv_at hl 6 rfl) ?_
              refine x_iald G C h dX7_evenest_92 hf (fun x13 hf => ?_)
              exact hj93 _ hf _ _ _ h (lv_sub hl [0, 1, 2, 3, 4, 5, 6] rfl)
            · have hf := hf_f hc hf
              refine lv_aload_n hx hb dX7_evenest_76 rfl (lv_at hl 0 rfl) ?_
              refine x_gR (q := (RX7, TX7, 50)) (j := 32) G C h rfl (by decide) (fun _ _ _ => rfl) (lk C q1088) (fun _ z => z) dX7_evenest_77 hf (fun r14 hf => ?_)
              refine lv_iload hx hb dX7_evenest_80 (lv_at hl 5 rfl) ?_
              refine x_iald G C h dX7_evenest_82 hf (fun x15 hf => ?_)
              refine lv_goto (tgt := 93) hx hb dX7_evenest_83 (by decide) ?_
              exact hj93 _ hf _ _ _ h (lv_sub hl [0, 1, 2, 3, 4, 5, 6] rfl)
      · have hf := hf_f hc hf
        refine lv_bipush (v := (-3)) hx hb dX7_evenest_35 (by decide) ?_
        cases hf
        refine W.widen (k := 0) (n := 0) (Nat.le_of_ble_eq_true rfl) (Nat.le_of_ble_eq_true rfl) ?_
        exact x_iret C h dX7_evenest_37
    · have hf := hf_f hc hf
      refine lv_iload hx hb dX7_evenest_27 (lv_at hl 0 rfl) ?_
      cases hf
      refine W.widen (k := 0) (n := 0) (Nat.le_of_ble_eq_true rfl) (Nat.le_of_ble_eq_true rfl) ?_
      exact x_iret C h dX7_evenest_29
  · have hf := hf_t hc hf
    refine lv_bipush (v := (-3)) hx hb dX7_evenest_10 (by decide) ?_
    cases hf
    refine W.widen (k := 0) (n := 0) (Nat.le_of_ble_eq_true rfl) (Nat.le_of_ble_eq_true rfl) ?_
    exact x_iret C h dX7_evenest_12

theorem dX7_guest_0 : decode cX7_guest 0 = .ok (.iload_n 1, 1) := by decide +kernel
theorem dX7_guest_1 : decode cX7_guest 1 = .ok (.iconst 0, 1) := by decide +kernel
theorem dX7_guest_2 : decode cX7_guest 2 = .ok (.bipush 9, 2) := by decide +kernel
theorem dX7_guest_4 : decode cX7_guest 4 = .ok (.invokestatic 113, 3) := by decide +kernel
theorem dX7_guest_7 : decode cX7_guest 7 = .ok (.ifCond .eq 13, 3) := by decide +kernel
theorem dX7_guest_10 : decode cX7_guest 10 = .ok (.iload_n 2, 1) := by decide +kernel
theorem dX7_guest_11 : decode cX7_guest 11 = .ok (.iload_n 1, 1) := by decide +kernel
theorem dX7_guest_12 : decode cX7_guest 12 = .ok (.bipush 9, 2) := by decide +kernel
theorem dX7_guest_14 : decode cX7_guest 14 = .ok (.invokestatic 113, 3) := by decide +kernel
theorem dX7_guest_17 : decode cX7_guest 17 = .ok (.ifCond .ne 6, 3) := by decide +kernel
theorem dX7_guest_20 : decode cX7_guest 20 = .ok (.bipush (-3), 2) := by decide +kernel
theorem dX7_guest_22 : decode cX7_guest 22 = .ok (.ireturn, 1) := by decide +kernel
theorem dX7_guest_23 : decode cX7_guest 23 = .ok (.aload_n 0, 1) := by decide +kernel
theorem dX7_guest_24 : decode cX7_guest 24 = .ok (.getfield 292, 3) := by decide +kernel
theorem dX7_guest_27 : decode cX7_guest 27 = .ok (.bipush 20, 2) := by decide +kernel
theorem dX7_guest_29 : decode cX7_guest 29 = .ok (.if_icmp .ne 6, 3) := by decide +kernel
theorem dX7_guest_32 : decode cX7_guest 32 = .ok (.bipush (-5), 2) := by decide +kernel
theorem dX7_guest_34 : decode cX7_guest 34 = .ok (.ireturn, 1) := by decide +kernel
theorem dX7_guest_35 : decode cX7_guest 35 = .ok (.aload_n 0, 1) := by decide +kernel
theorem dX7_guest_36 : decode cX7_guest 36 = .ok (.getfield 80, 3) := by decide +kernel
theorem dX7_guest_39 : decode cX7_guest 39 = .ok (.aload_n 0, 1) := by decide +kernel
theorem dX7_guest_40 : decode cX7_guest 40 = .ok (.getfield 292, 3) := by decide +kernel
theorem dX7_guest_43 : decode cX7_guest 43 = .ok (.iload_n 1, 1) := by decide +kernel
theorem dX7_guest_44 : decode cX7_guest 44 = .ok (.iastore, 1) := by decide +kernel
theorem dX7_guest_45 : decode cX7_guest 45 = .ok (.aload_n 0, 1) := by decide +kernel
theorem dX7_guest_46 : decode cX7_guest 46 = .ok (.getfield 83, 3) := by decide +kernel
theorem dX7_guest_49 : decode cX7_guest 49 = .ok (.aload_n 0, 1) := by decide +kernel
theorem dX7_guest_50 : decode cX7_guest 50 = .ok (.getfield 292, 3) := by decide +kernel
theorem dX7_guest_53 : decode cX7_guest 53 = .ok (.iload_n 2, 1) := by decide +kernel
theorem dX7_guest_54 : decode cX7_guest 54 = .ok (.iastore, 1) := by decide +kernel
theorem dX7_guest_55 : decode cX7_guest 55 = .ok (.aload_n 0, 1) := by decide +kernel
theorem dX7_guest_56 : decode cX7_guest 56 = .ok (.dup, 1) := by decide +kernel
theorem dX7_guest_57 : decode cX7_guest 57 = .ok (.getfield 292, 3) := by decide +kernel
theorem dX7_guest_60 : decode cX7_guest 60 = .ok (.iconst 1, 1) := by decide +kernel
theorem dX7_guest_61 : decode cX7_guest 61 = .ok (.iadd, 1) := by decide +kernel
theorem dX7_guest_62 : decode cX7_guest 62 = .ok (.putfield 292, 3) := by decide +kernel
theorem dX7_guest_65 : decode cX7_guest 65 = .ok (.aload_n 0, 1) := by decide +kernel
theorem dX7_guest_66 : decode cX7_guest 66 = .ok (.getfield 292, 3) := by decide +kernel
theorem dX7_guest_69 : decode cX7_guest 69 = .ok (.ireturn, 1) := by decide +kernel
def fX7_guest (σ : St) (a0 : Nat) (a1 : Int32) (a2 : Int32) : Option (Int32 × St) :=
  (fX7_in σ a1 0 9).bind fun x1 =>
  if x1 = 0 then
    some ((-3), σ)
  else
  (fX7_in σ a2 a1 9).bind fun x2 =>
  if x2 = 0 then
    some ((-3), σ)
  else
  o_gI σ a0 5 35 fun x3 =>
  if x3 = 20 then
    some ((-5), σ)
  else
  o_gR σ a0 5 36 fun r4 =>
  o_gI σ a0 5 35 fun x5 =>
  o_sI σ r4 0 x5 a1 fun σ6 =>
  o_gR σ6 a0 5 37 fun r7 =>
  o_gI σ6 a0 5 35 fun x8 =>
  o_sI σ6 r7 0 x8 a2 fun σ9 =>
  o_gI σ9 a0 5 35 fun x10 =>
  o_pI σ9 a0 5 35 (x10 + 1) fun σ11 =>
  o_gI σ11 a0 5 35 fun x12 =>
  some (x12, σ11)

set_option maxHeartbeats 4000000 in
theorem wX7_guest {l : Launch} {s0 : State} {A0 : Array Value} {D : va_G} {ac : Nat → ClassId} (G : Gl s0 A0 D ac) {σ : St} {a0 : Nat} {a1 : Int32} {a2 : Int32} {v : Int32} {σ' : St} (hf : fX7_guest σ a0 a1 a2 = some (v, σ')) : Met l yX7_guest (ws_ yX7_guest cX7_guest 3 (some (.int))) ({ frames := 1, cells := 0, slots := 0, locals := 22 } : Room) (Pn s0 D ac [.ref a0, .int a1, .int a2] σ) (Qn s0 D ac (some (.int v)) σ') 0 0 (fr s0) := by
  refine x_met (by decide) (Nat.le_of_ble_eq_true rfl) ?_
  intro p e s m args below meth c ls C hnm h hl
  have C : Cx s0 p s m args meth c cX7_guest 3 "HutForShowModel" (some (.int)) := C
  have hx := C.1
  have hb := C.2.1
  have hl : lv_has ls 3 [(0, .ref a0), (1, .int a1), (2, .int a2)] := hl
  unfold fX7_guest at hf
  refine lv_iload_n hx hb dX7_guest_0 rfl (lv_at hl 1 rfl) ?_
  refine lv_iconst (v := 0) hx hb dX7_guest_1 (by decide) ?_
  refine lv_bipush (v := 9) hx hb dX7_guest_2 (by decide) ?_
  obtain ⟨x1, hc, hf⟩ := hf_b hf
  refine x_cS (rest := []) (As := [.int a1, .int 0, .int 9]) (n := 3) (ov := (some (.int x1))) C h (wX7_in G hc) (lw_S q1211 q1212 q61 q1213) (by decide +kernel) ⟨Nat.le_of_ble_eq_true rfl, Nat.le_of_ble_eq_true rfl⟩ rfl rfl rfl hl.1 rfl (Nat.le_of_ble_eq_true rfl) dX7_guest_4 ⟨(Nat.le_of_ble_eq_true rfl), (Nat.le_of_ble_eq_true rfl)⟩ (fun H locs h => ?_)
  refine lv_if_eq (tgt := 20) hx hb dX7_guest_7 (by decide) (fun hc => ?_) (fun hc => ?_)
  · have hf := hf_t hc hf
    refine lv_bipush (v := (-3)) hx hb dX7_guest_20 (by decide) ?_
    cases hf
    refine W.widen (k := 0) (n := 0) (Nat.le_of_ble_eq_true rfl) (Nat.le_of_ble_eq_true rfl) ?_
    exact x_iret C h dX7_guest_22
  · have hf := hf_f hc hf
    refine lv_iload_n hx hb dX7_guest_10 rfl (lv_at hl 2 rfl) ?_
    refine lv_iload_n hx hb dX7_guest_11 rfl (lv_at hl 1 rfl) ?_
    refine lv_bipush (v := 9) hx hb dX7_guest_12 (by decide) ?_
    obtain ⟨x2, hc, hf⟩ := hf_b hf
    refine x_cS (rest := []) (As := [.int a2, .int a1, .int 9]) (n := 3) (ov := (some (.int x2))) C h (wX7_in G hc) (lw_S q1211 q1212 q61 q1213) (by decide +kernel) ⟨Nat.le_of_ble_eq_true rfl, Nat.le_of_ble_eq_true rfl⟩ rfl rfl rfl hl.1 rfl (Nat.le_of_ble_eq_true rfl) dX7_guest_14 ⟨(Nat.le_of_ble_eq_true rfl), (Nat.le_of_ble_eq_true rfl)⟩ (fun H locs h => ?_)
    refine lv_if_ne (tgt := 23) hx hb dX7_guest_17 (by decide) (fun hc => ?_) (fun hc => ?_)
    · have hf := hf_f hc hf
      refine lv_aload_n hx hb dX7_guest_23 rfl (lv_at hl 0 rfl) ?_
      refine x_gI (q := (RX7, TX7, 50)) (j := 35) G C h rfl (by decide) (fun _ _ _ => rfl) (lk C q1091) (fun _ z => z) dX7_guest_24 hf (fun x3 hf => ?_)
      refine lv_bipush (v := 20) hx hb dX7_guest_27 (by decide) ?_
      refine lv_icmp_ne (tgt := 35) hx hb dX7_guest_29 (by decide) (fun hc => ?_) (fun hc => ?_)
      · have hf := hf_f hc hf
        refine lv_aload_n hx hb dX7_guest_35 rfl (lv_at hl 0 rfl) ?_
        refine x_gR (q := (RX7, TX7, 50)) (j := 36) G C h rfl (by decide) (fun _ _ _ => rfl) (lk C q1092) (fun _ z => z) dX7_guest_36 hf (fun r4 hf => ?_)
        refine lv_aload_n hx hb dX7_guest_39 rfl (lv_at hl 0 rfl) ?_
        refine x_gI (q := (RX7, TX7, 50)) (j := 35) G C h rfl (by decide) (fun _ _ _ => rfl) (lk C q1091) (fun _ z => z) dX7_guest_40 hf (fun x5 hf => ?_)
        refine lv_iload_n hx hb dX7_guest_43 rfl (lv_at hl 1 rfl) ?_
        refine x_iast G C h dX7_guest_44 hf (fun σ6 H locs h hf => ?_)
        refine lv_aload_n hx hb dX7_guest_45 rfl (lv_at hl 0 rfl) ?_
        refine x_gR (q := (RX7, TX7, 50)) (j := 37) G C h rfl (by decide) (fun _ _ _ => rfl) (lk C q1093) (fun _ z => z) dX7_guest_46 hf (fun r7 hf => ?_)
        refine lv_aload_n hx hb dX7_guest_49 rfl (lv_at hl 0 rfl) ?_
        refine x_gI (q := (RX7, TX7, 50)) (j := 35) G C h rfl (by decide) (fun _ _ _ => rfl) (lk C q1091) (fun _ z => z) dX7_guest_50 hf (fun x8 hf => ?_)
        refine lv_iload_n hx hb dX7_guest_53 rfl (lv_at hl 2 rfl) ?_
        refine x_iast G C h dX7_guest_54 hf (fun σ9 H locs h hf => ?_)
        refine lv_aload_n hx hb dX7_guest_55 rfl (lv_at hl 0 rfl) ?_
        refine lv_dup hx hb dX7_guest_56 rfl ?_
        refine x_gI (q := (RX7, TX7, 50)) (j := 35) G C h rfl (by decide) (fun _ _ _ => rfl) (lk C q1091) (fun _ z => z) dX7_guest_57 hf (fun x10 hf => ?_)
        refine lv_iconst (v := 1) hx hb dX7_guest_60 (by decide) ?_
        refine lv_iadd hx hb dX7_guest_61 ?_
        refine x_pI (q := (RX7, TX7, 50)) (j := 35) G C h rfl (by decide) rfl (lk C q1091) (fun _ z => z) (Or.inl rfl) dX7_guest_62 hf (fun σ11 H locs h hf => ?_)
        refine lv_aload_n hx hb dX7_guest_65 rfl (lv_at hl 0 rfl) ?_
        refine x_gI (q := (RX7, TX7, 50)) (j := 35) G C h rfl (by decide) (fun _ _ _ => rfl) (lk C q1091) (fun _ z => z) dX7_guest_66 hf (fun x12 hf => ?_)
        cases hf
        refine W.widen (k := 0) (n := 0) (Nat.le_of_ble_eq_true rfl) (Nat.le_of_ble_eq_true rfl) ?_
        exact x_iret C h dX7_guest_69
      · have hf := hf_t hc hf
        refine lv_bipush (v := (-5)) hx hb dX7_guest_32 (by decide) ?_
        cases hf
        refine W.widen (k := 0) (n := 0) (Nat.le_of_ble_eq_true rfl) (Nat.le_of_ble_eq_true rfl) ?_
        exact x_iret C h dX7_guest_34
    · have hf := hf_t hc hf
      refine lv_bipush (v := (-3)) hx hb dX7_guest_20 (by decide) ?_
      cases hf
      refine W.widen (k := 0) (n := 0) (Nat.le_of_ble_eq_true rfl) (Nat.le_of_ble_eq_true rfl) ?_
      exact x_iret C h dX7_guest_22

theorem dX7_staying_0 : decode cX7_staying 0 = .ok (.iconst 0, 1) := by decide +kernel
theorem dX7_staying_1 : decode cX7_staying 1 = .ok (.istore_n 2, 1) := by decide +kernel
theorem dX7_staying_2 : decode cX7_staying 2 = .ok (.iconst 0, 1) := by decide +kernel
theorem dX7_staying_3 : decode cX7_staying 3 = .ok (.istore_n 3, 1) := by decide +kernel
theorem dX7_staying_4 : decode cX7_staying 4 = .ok (.iload_n 3, 1) := by decide +kernel
theorem dX7_staying_5 : decode cX7_staying 5 = .ok (.aload_n 0, 1) := by decide +kernel
theorem dX7_staying_6 : decode cX7_staying 6 = .ok (.getfield 292, 3) := by decide +kernel
theorem dX7_staying_9 : decode cX7_staying 9 = .ok (.if_icmp .ge 72, 3) := by decide +kernel
theorem dX7_staying_12 : decode cX7_staying 12 = .ok (.iconst 0, 1) := by decide +kernel
theorem dX7_staying_13 : decode cX7_staying 13 = .ok (.istore 4, 2) := by decide +kernel
theorem dX7_staying_15 : decode cX7_staying 15 = .ok (.aload_n 0, 1) := by decide +kernel
theorem dX7_staying_16 : decode cX7_staying 16 = .ok (.getfield 80, 3) := by decide +kernel
theorem dX7_staying_19 : decode cX7_staying 19 = .ok (.iload_n 3, 1) := by decide +kernel
theorem dX7_staying_20 : decode cX7_staying 20 = .ok (.iaload, 1) := by decide +kernel
theorem dX7_staying_21 : decode cX7_staying 21 = .ok (.istore 5, 2) := by decide +kernel
theorem dX7_staying_23 : decode cX7_staying 23 = .ok (.iload 5, 2) := by decide +kernel
theorem dX7_staying_25 : decode cX7_staying 25 = .ok (.aload_n 0, 1) := by decide +kernel
theorem dX7_staying_26 : decode cX7_staying 26 = .ok (.getfield 83, 3) := by decide +kernel
theorem dX7_staying_29 : decode cX7_staying 29 = .ok (.iload_n 3, 1) := by decide +kernel
theorem dX7_staying_30 : decode cX7_staying 30 = .ok (.iaload, 1) := by decide +kernel
theorem dX7_staying_31 : decode cX7_staying 31 = .ok (.if_icmp .gt 31, 3) := by decide +kernel
theorem dX7_staying_34 : decode cX7_staying 34 = .ok (.iload 4, 2) := by decide +kernel
theorem dX7_staying_36 : decode cX7_staying 36 = .ok (.ifCond .ne 13, 3) := by decide +kernel
theorem dX7_staying_39 : decode cX7_staying 39 = .ok (.iload_n 1, 1) := by decide +kernel
theorem dX7_staying_40 : decode cX7_staying 40 = .ok (.iload 5, 2) := by decide +kernel
theorem dX7_staying_42 : decode cX7_staying 42 = .ok (.ishr, 1) := by decide +kernel
theorem dX7_staying_43 : decode cX7_staying 43 = .ok (.iconst 1, 1) := by decide +kernel
theorem dX7_staying_44 : decode cX7_staying 44 = .ok (.iand, 1) := by decide +kernel
theorem dX7_staying_45 : decode cX7_staying 45 = .ok (.iconst 1, 1) := by decide +kernel
theorem dX7_staying_46 : decode cX7_staying 46 = .ok (.if_icmp .ne 7, 3) := by decide +kernel
theorem dX7_staying_49 : decode cX7_staying 49 = .ok (.iconst 1, 1) := by decide +kernel
theorem dX7_staying_50 : decode cX7_staying 50 = .ok (.goto 4, 3) := by decide +kernel
theorem dX7_staying_53 : decode cX7_staying 53 = .ok (.iconst 0, 1) := by decide +kernel
theorem dX7_staying_54 : decode cX7_staying 54 = .ok (.istore 4, 2) := by decide +kernel
theorem dX7_staying_56 : decode cX7_staying 56 = .ok (.iinc 5 1, 3) := by decide +kernel
theorem dX7_staying_59 : decode cX7_staying 59 = .ok (.goto (-36), 3) := by decide +kernel
theorem dX7_staying_62 : decode cX7_staying 62 = .ok (.iload_n 2, 1) := by decide +kernel
theorem dX7_staying_63 : decode cX7_staying 63 = .ok (.iload 4, 2) := by decide +kernel
theorem dX7_staying_65 : decode cX7_staying 65 = .ok (.ifCond .eq 7, 3) := by decide +kernel
theorem dX7_staying_68 : decode cX7_staying 68 = .ok (.iconst 1, 1) := by decide +kernel
theorem dX7_staying_69 : decode cX7_staying 69 = .ok (.goto 4, 3) := by decide +kernel
theorem dX7_staying_72 : decode cX7_staying 72 = .ok (.iconst 0, 1) := by decide +kernel
theorem dX7_staying_73 : decode cX7_staying 73 = .ok (.iadd, 1) := by decide +kernel
theorem dX7_staying_74 : decode cX7_staying 74 = .ok (.istore_n 2, 1) := by decide +kernel
theorem dX7_staying_75 : decode cX7_staying 75 = .ok (.iinc 3 1, 3) := by decide +kernel
theorem dX7_staying_78 : decode cX7_staying 78 = .ok (.goto (-74), 3) := by decide +kernel
theorem dX7_staying_81 : decode cX7_staying 81 = .ok (.iload_n 2, 1) := by decide +kernel
theorem dX7_staying_82 : decode cX7_staying 82 = .ok (.ireturn, 1) := by decide +kernel
def lX7_staying_23 (σ : St) (a0 : Nat) (x2 : Int32) (a1 : Int32) (x6 : Int32) (x7 : Int32) : Option ((Int32 × Int32) ⊕ (Int32)) :=
  o_gR σ a0 5 37 fun r8 =>
  o_aI σ r8 0 x2 fun x9 =>
  if x9 < x7 then
    some (.inr x6)
  else
  jn (fun (x10 : Int32) =>
    some (.inl (x10, x7 + 1))) fun j54 =>
  jn (fun (_ : Unit) =>
    j54 1) fun j49 =>
  if x6 = 0 then
    if ((a1 >>> (x7 &&& 31)) &&& 1) = 1 then
      j49 ()
    else
    j54 0
  else
  j49 ()

def lX7_staying_4 (σ : St) (a0 : Nat) (a1 : Int32) (x1 : Int32) (x2 : Int32) : Option ((Int32 × Int32) ⊕ (Int32)) :=
  o_gI σ a0 5 35 fun x3 =>
  if x3 ≤ x2 then
    some (.inr x1)
  else
  o_gR σ a0 5 36 fun r4 =>
  o_aI σ r4 0 x2 fun x5 =>
  (loopF fuel (fun z => lX7_staying_23 σ a0 x2 a1 z.1 z.2) (0, x5)).bind <| fun x11 =>
  jn (fun (x12 : Int32) =>
    some (.inl (x1 + x12, x2 + 1))) fun j73 =>
  if x11 = 0 then
    j73 0
  else
  j73 1

def fX7_staying (σ : St) (a0 : Nat) (a1 : Int32) : Option (Int32) :=
  (loopF fuel (fun z => lX7_staying_4 σ a0 a1 z.1 z.2) (0, 0)).bind <| fun x13 =>
  some x13

set_option maxHeartbeats 4000000 in
theorem wX7_staying {l : Launch} {s0 : State} {A0 : Array Value} {D : va_G} {ac : Nat → ClassId} (G : Gl s0 A0 D ac) {σ : St} {a0 : Nat} {a1 : Int32} {v : Int32} (hf : fX7_staying σ a0 a1 = some (v)) : Met l yX7_staying (ws_ yX7_staying cX7_staying 6 (some (.int))) ({ frames := 0, cells := 0, slots := 0, locals := 0 } : Room) (Pn s0 D ac [.ref a0, .int a1] σ) (Qn s0 D ac (some (.int v)) σ) 0 0 (fr s0) := by
  refine x_met (by decide) (Nat.le_of_ble_eq_true rfl) ?_
  intro p e s m args below meth c ls C hnm h hl
  have C : Cx s0 p s m args meth c cX7_staying 6 "HutForShowModel" (some (.int)) := C
  have hx := C.1
  have hb := C.2.1
  have hl : lv_has ls 6 [(0, .ref a0), (1, .int a1)] := hl
  unfold fX7_staying at hf
  refine lv_iconst (v := 0) hx hb dX7_staying_0 (by decide) ?_
  refine lv_istore_n (lv' := [(2, .int 0), (0, .ref a0), (1, .int a1)]) hx hb dX7_staying_1 rfl hl (by decide) rfl (fun ls hl => ?_)
  refine lv_iconst (v := 0) hx hb dX7_staying_2 (by decide) ?_
  refine lv_istore_n (lv' := [(3, .int 0), (2, .int 0), (0, .ref a0), (1, .int a1)]) hx hb dX7_staying_3 rfl hl (by decide) rfl (fun ls hl => ?_)
  obtain ⟨e4, hL, hK⟩ := hf_b hf
  have hE4_0 : ∀ (x13 : Int32), x13 = e4 → ∀  (H : Heap) (locs : List Loc) (ls : Array Slot), Hs s0 D ac σ H locs → lv_has ls 6 [(0, .ref a0), (1, .int a1), (2, .int x13)] → W p l e ({ frames := 0, cells := 0, slots := 0, locals := 0 } : Room) s m args below meth c H locs 0 0 (MQ below (Qn s0 D ac (some (.int v)) σ) args s 0 0 (fr s0)) (F0 m 81 ls []) := by
    intro x13 he H locs ls h hl
    subst he
    have hf := hK
    refine lv_iload_n hx hb dX7_staying_81 rfl (lv_at hl 2 rfl) ?_
    cases hf
    refine W.widen (k := 0) (n := 0) (Nat.le_of_ble_eq_true rfl) (Nat.le_of_ble_eq_true rfl) ?_
    exact x_iret C h dX7_staying_82
  refine loopF_ind (P := fun z => ∀ (H : Heap) (locs : List Loc) (ls : Array Slot), Hs s0 D ac σ H locs → lv_has ls 6 [(0, .ref a0), (1, .int a1), (2, .int z.1), (3, .int z.2)] → W p l e ({ frames := 0, cells := 0, slots := 0, locals := 0 } : Room) s m args below meth c H locs 0 0 (MQ below (Qn s0 D ac (some (.int v)) σ) args s 0 0 (fr s0)) (F0 m 4 ls [])) ?_ _ _ hL _ _ _ h (lv_sub hl [2, 3, 1, 0] rfl)
  clear hK hL h hl hf
  intro z o hf ih hX H locs ls h hl
  obtain ⟨x1, x2⟩ := z
  have h : Hs s0 D ac σ H locs := h
  have hl : lv_has ls 6 [(0, .ref a0), (1, .int a1), (2, .int x1), (3, .int x2)] := hl
  have hf : lX7_staying_4 σ a0 a1 x1 x2 = some o := hf
  unfold lX7_staying_4 at hf
  refine lv_iload_n hx hb dX7_staying_4 rfl (lv_at hl 3 rfl) ?_
  refine lv_aload_n hx hb dX7_staying_5 rfl (lv_at hl 0 rfl) ?_
  refine x_gI (q := (RX7, TX7, 50)) (j := 35) G C h rfl (by decide) (fun _ _ _ => rfl) (lk C q1091) (fun _ z => z) dX7_staying_6 hf (fun x3 hf => ?_)
  refine lv_icmp_ge (tgt := 81) hx hb dX7_staying_9 (by decide) (fun hc => ?_) (fun hc => ?_)
  · have hf := hf_t hc hf
    cases hf
    exact hE4_0 _ (hX _ rfl) _ _ _ h (lv_sub hl [0, 1, 2] rfl)
  · have hf := hf_f hc hf
    refine lv_iconst (v := 0) hx hb dX7_staying_12 (by decide) ?_
    refine lv_istore (lv' := [(4, .int 0), (0, .ref a0), (1, .int a1), (2, .int x1), (3, .int x2)]) hx hb dX7_staying_13 hl (by decide) rfl (fun ls hl => ?_)
    refine lv_aload_n hx hb dX7_staying_15 rfl (lv_at hl 1 rfl) ?_
    refine x_gR (q := (RX7, TX7, 50)) (j := 36) G C h rfl (by decide) (fun _ _ _ => rfl) (lk C q1092) (fun _ z => z) dX7_staying_16 hf (fun r4 hf => ?_)
    refine lv_iload_n hx hb dX7_staying_19 rfl (lv_at hl 4 rfl) ?_
    refine x_iald G C h dX7_staying_20 hf (fun x5 hf => ?_)
    refine lv_istore (lv' := [(5, .int x5), (4, .int 0), (0, .ref a0), (1, .int a1), (2, .int x1), (3, .int x2)]) hx hb dX7_staying_21 hl (by decide) rfl (fun ls hl => ?_)
    obtain ⟨e23, hL, hK⟩ := hf_b hf
    have hE23_0 : ∀ (x11 : Int32), x11 = e23 → ∀  (H : Heap) (locs : List Loc) (ls : Array Slot), Hs s0 D ac σ H locs → lv_has ls 6 [(0, .ref a0), (1, .int a1), (2, .int x1), (3, .int x2), (4, .int x11)] → W p l e ({ frames := 0, cells := 0, slots := 0, locals := 0 } : Room) s m args below meth c H locs 0 0 (MQ below (Qn s0 D ac (some (.int v)) σ) args s 0 0 (fr s0)) (F0 m 62 ls []) := by
      intro x11 he H locs ls h hl
      subst he
      have hf := hK
      refine lv_iload_n hx hb dX7_staying_62 rfl (lv_at hl 2 rfl) ?_
      refine lv_iload hx hb dX7_staying_63 (lv_at hl 4 rfl) ?_
      refine jn_of (P := fun j => ∀ (x12 : Int32), j x12 = some o → ∀ (H : Heap) (locs : List Loc) (ls : Array Slot), Hs s0 D ac σ H locs → lv_has ls 6 [(0, .ref a0), (1, .int a1), (2, .int x1), (3, .int x2), (4, .int x11)] → W p l e ({ frames := 0, cells := 0, slots := 0, locals := 0 } : Room) s m args below meth c H locs 0 0 (MQ below (Qn s0 D ac (some (.int v)) σ) args s 0 0 (fr s0)) (F0 m 73 ls [.int x12, .int x1])) hf ?_ ?_
      · intro x12 hf H locs ls h hl
        refine lv_iadd hx hb dX7_staying_73 ?_
        refine lv_istore_n (lv' := [(2, .int (x1 + x12)), (0, .ref a0), (1, .int a1), (3, .int x2), (4, .int x11)]) hx hb dX7_staying_74 rfl hl (by decide) rfl (fun ls hl => ?_)
        refine lv_iinc (v := x2 + 1) (lv' := [(3, .int (x2 + 1)), (2, .int (x1 + x12)), (0, .ref a0), (1, .int a1), (4, .int x11)]) hx hb dX7_staying_75 hl (k := 3) rfl rfl (by decide) rfl (fun ls hl => ?_)
        refine lv_goto (tgt := 4) hx hb dX7_staying_78 (by decide) ?_
        cases hf
        exact ih _ rfl _ _ _ h (lv_sub hl [2, 3, 1, 0] rfl)
      intro j73 hj73 hf
      refine lv_if_eq (tgt := 72) hx hb dX7_staying_65 (by decide) (fun hc => ?_) (fun hc => ?_)
      · have hf := hf_t hc hf
        refine lv_iconst (v := 0) hx hb dX7_staying_72 (by decide) ?_
        exact hj73 _ hf _ _ _ h (lv_sub hl [0, 1, 2, 3, 4] rfl)
      · have hf := hf_f hc hf
        refine lv_iconst (v := 1) hx hb dX7_staying_68 (by decide) ?_
        refine lv_goto (tgt := 73) hx hb dX7_staying_69 (by decide) ?_
        exact hj73 _ hf _ _ _ h (lv_sub hl [0, 1, 2, 3, 4] rfl)
    refine loopF_ind (P := fun z => ∀ (H : Heap) (locs : List Loc) (ls : Array Slot), Hs s0 D ac σ H locs → lv_has ls 6 [(0, .ref a0), (1, .int a1), (2, .int x1), (3, .int x2), (4, .int z.1), (5, .int z.2)] → W p l e ({ frames := 0, cells := 0, slots := 0, locals := 0 } : Room) s m args below meth c H locs 0 0 (MQ below (Qn s0 D ac (some (.int v)) σ) args s 0 0 (fr s0)) (F0 m 23 ls [])) ?_ _ _ hL _ _ _ h (lv_sub hl [2, 3, 4, 5, 1, 0] rfl)
    clear hK hL h hl hf
    intro z o hf ih hX H locs ls h hl
    obtain ⟨x6, x7⟩ := z
    have h : Hs s0 D ac σ H locs := h
    have hl : lv_has ls 6 [(0, .ref a0), (1, .int a1), (2, .int x1), (3, .int x2), (4, .int x6), (5, .int x7)] := hl
    have hf : lX7_staying_23 σ a0 x2 a1 x6 x7 = some o := hf
    unfold lX7_staying_23 at hf
    refine lv_iload hx hb dX7_staying_23 (lv_at hl 5 rfl) ?_
    refine lv_aload_n hx hb dX7_staying_25 rfl (lv_at hl 0 rfl) ?_
    refine x_gR (q := (RX7, TX7, 50)) (j := 37) G C h rfl (by decide) (fun _ _ _ => rfl) (lk C q1093) (fun _ z => z) dX7_staying_26 hf (fun r8 hf => ?_)
    refine lv_iload_n hx hb dX7_staying_29 rfl (lv_at hl 3 rfl) ?_
    refine x_iald G C h dX7_staying_30 hf (fun x9 hf => ?_)
    refine lv_icmp_gt (tgt := 62) hx hb dX7_staying_31 (by decide) (fun hc => ?_) (fun hc => ?_)
    · have hf := hf_t hc hf
      cases hf
      exact hE23_0 _ (hX _ rfl) _ _ _ h (lv_sub hl [0, 1, 2, 3, 4] rfl)
    · have hf := hf_f hc hf
      refine lv_iload hx hb dX7_staying_34 (lv_at hl 4 rfl) ?_
      refine jn_of (P := fun j => ∀ (x10 : Int32), j x10 = some o → ∀ (H : Heap) (locs : List Loc) (ls : Array Slot), Hs s0 D ac σ H locs → lv_has ls 6 [(0, .ref a0), (1, .int a1), (2, .int x1), (3, .int x2), (4, .int x6), (5, .int x7)] → W p l e ({ frames := 0, cells := 0, slots := 0, locals := 0 } : Room) s m args below meth c H locs 0 0 (MQ below (Qn s0 D ac (some (.int v)) σ) args s 0 0 (fr s0)) (F0 m 54 ls [.int x10])) hf ?_ ?_
      · intro x10 hf H locs ls h hl
        refine lv_istore (lv' := [(4, .int x10), (0, .ref a0), (1, .int a1), (2, .int x1), (3, .int x2), (5, .int x7)]) hx hb dX7_staying_54 hl (by decide) rfl (fun ls hl => ?_)
        refine lv_iinc (v := x7 + 1) (lv' := [(5, .int (x7 + 1)), (4, .int x10), (0, .ref a0), (1, .int a1), (2, .int x1), (3, .int x2)]) hx hb dX7_staying_56 hl (k := 5) rfl rfl (by decide) rfl (fun ls hl => ?_)
        refine lv_goto (tgt := 23) hx hb dX7_staying_59 (by decide) ?_
        cases hf
        exact ih _ rfl _ _ _ h (lv_sub hl [2, 3, 4, 5, 1, 0] rfl)
      intro j54 hj54 hf
      refine jn_of (P := fun j => ∀ (u0 : Unit), j u0 = some o → ∀ (H : Heap) (locs : List Loc) (ls : Array Slot), Hs s0 D ac σ H locs → lv_has ls 6 [(0, .ref a0), (1, .int a1), (2, .int x1), (3, .int x2), (4, .int x6), (5, .int x7)] → W p l e ({ frames := 0, cells := 0, slots := 0, locals := 0 } : Room) s m args below meth c H locs 0 0 (MQ below (Qn s0 D ac (some (.int v)) σ) args s 0 0 (fr s0)) (F0 m 49 ls [])) hf ?_ ?_
      · intro u0 hf H locs ls h hl
        refine lv_iconst (v := 1) hx hb dX7_staying_49 (by decide) ?_
        refine lv_goto (tgt := 54) hx hb dX7_staying_50 (by decide) ?_
        exact hj54 _ hf _ _ _ h (lv_sub hl [0, 1, 2, 3, 4, 5] rfl)
      intro j49 hj49 hf
      refine lv_if_ne (tgt := 49) hx hb dX7_staying_36 (by decide) (fun hc => ?_) (fun hc => ?_)
      · have hf := hf_f hc hf
        exact hj49 () hf _ _ _ h (lv_sub hl [0, 1, 2, 3, 4, 5] rfl)
      · have hf := hf_t hc hf
        refine lv_iload_n hx hb dX7_staying_39 rfl (lv_at hl 1 rfl) ?_
        refine lv_iload hx hb dX7_staying_40 (lv_at hl 5 rfl) ?_
        refine lv_ishr hx hb dX7_staying_42 ?_
        refine lv_iconst (v := 1) hx hb dX7_staying_43 (by decide) ?_
        refine lv_iand hx hb dX7_staying_44 ?_
        refine lv_iconst (v := 1) hx hb dX7_staying_45 (by decide) ?_
        refine lv_icmp_ne (tgt := 53) hx hb dX7_staying_46 (by decide) (fun hc => ?_) (fun hc => ?_)
        · have hf := hf_f hc hf
          refine lv_iconst (v := 0) hx hb dX7_staying_53 (by decide) ?_
          exact hj54 _ hf _ _ _ h (lv_sub hl [0, 1, 2, 3, 4, 5] rfl)
        · have hf := hf_t hc hf
          exact hj49 () hf _ _ _ h (lv_sub hl [0, 1, 2, 3, 4, 5] rfl)

theorem dX7_held_0 : decode cX7_held 0 = .ok (.iload_n 1, 1) := by decide +kernel
theorem dX7_held_1 : decode cX7_held 1 = .ok (.iconst 0, 1) := by decide +kernel
theorem dX7_held_2 : decode cX7_held 2 = .ok (.iconst 1, 1) := by decide +kernel
theorem dX7_held_3 : decode cX7_held 3 = .ok (.invokestatic 113, 3) := by decide +kernel
theorem dX7_held_6 : decode cX7_held 6 = .ok (.ifCond .ne 6, 3) := by decide +kernel
theorem dX7_held_9 : decode cX7_held 9 = .ok (.bipush (-3), 2) := by decide +kernel
theorem dX7_held_11 : decode cX7_held 11 = .ok (.ireturn, 1) := by decide +kernel
theorem dX7_held_12 : decode cX7_held 12 = .ok (.iconst 0, 1) := by decide +kernel
theorem dX7_held_13 : decode cX7_held 13 = .ok (.istore_n 2, 1) := by decide +kernel
theorem dX7_held_14 : decode cX7_held 14 = .ok (.iconst 1, 1) := by decide +kernel
theorem dX7_held_15 : decode cX7_held 15 = .ok (.istore_n 3, 1) := by decide +kernel
theorem dX7_held_16 : decode cX7_held 16 = .ok (.iload_n 3, 1) := by decide +kernel
theorem dX7_held_17 : decode cX7_held 17 = .ok (.bipush 10, 2) := by decide +kernel
theorem dX7_held_19 : decode cX7_held 19 = .ok (.if_icmp .ge 32, 3) := by decide +kernel
theorem dX7_held_22 : decode cX7_held 22 = .ok (.aload_n 0, 1) := by decide +kernel
theorem dX7_held_23 : decode cX7_held 23 = .ok (.iconst 1, 1) := by decide +kernel
theorem dX7_held_24 : decode cX7_held 24 = .ok (.iload_n 3, 1) := by decide +kernel
theorem dX7_held_25 : decode cX7_held 25 = .ok (.ishl, 1) := by decide +kernel
theorem dX7_held_26 : decode cX7_held 26 = .ok (.invokevirtual 295, 3) := by decide +kernel
theorem dX7_held_29 : decode cX7_held 29 = .ok (.aload_n 0, 1) := by decide +kernel
theorem dX7_held_30 : decode cX7_held 30 = .ok (.iconst 1, 1) := by decide +kernel
theorem dX7_held_31 : decode cX7_held 31 = .ok (.iload_n 2, 1) := by decide +kernel
theorem dX7_held_32 : decode cX7_held 32 = .ok (.ishl, 1) := by decide +kernel
theorem dX7_held_33 : decode cX7_held 33 = .ok (.invokevirtual 295, 3) := by decide +kernel
theorem dX7_held_36 : decode cX7_held 36 = .ok (.if_icmp .le 7, 3) := by decide +kernel
theorem dX7_held_39 : decode cX7_held 39 = .ok (.iload_n 3, 1) := by decide +kernel
theorem dX7_held_40 : decode cX7_held 40 = .ok (.goto 4, 3) := by decide +kernel
theorem dX7_held_43 : decode cX7_held 43 = .ok (.iload_n 2, 1) := by decide +kernel
theorem dX7_held_44 : decode cX7_held 44 = .ok (.istore_n 2, 1) := by decide +kernel
theorem dX7_held_45 : decode cX7_held 45 = .ok (.iinc 3 1, 3) := by decide +kernel
theorem dX7_held_48 : decode cX7_held 48 = .ok (.goto (-32), 3) := by decide +kernel
theorem dX7_held_51 : decode cX7_held 51 = .ok (.iload_n 1, 1) := by decide +kernel
theorem dX7_held_52 : decode cX7_held 52 = .ok (.ifCond .ne 7, 3) := by decide +kernel
theorem dX7_held_55 : decode cX7_held 55 = .ok (.iload_n 2, 1) := by decide +kernel
theorem dX7_held_56 : decode cX7_held 56 = .ok (.goto 10, 3) := by decide +kernel
theorem dX7_held_59 : decode cX7_held 59 = .ok (.aload_n 0, 1) := by decide +kernel
theorem dX7_held_60 : decode cX7_held 60 = .ok (.iconst 1, 1) := by decide +kernel
theorem dX7_held_61 : decode cX7_held 61 = .ok (.iload_n 2, 1) := by decide +kernel
theorem dX7_held_62 : decode cX7_held 62 = .ok (.ishl, 1) := by decide +kernel
theorem dX7_held_63 : decode cX7_held 63 = .ok (.invokevirtual 295, 3) := by decide +kernel
theorem dX7_held_66 : decode cX7_held 66 = .ok (.ireturn, 1) := by decide +kernel
def lX7_held_16 (σ : St) (a0 : Nat) (x2 : Int32) (x3 : Int32) : Option ((Int32 × Int32) ⊕ (Int32)) :=
  if 10 ≤ x3 then
    some (.inr x2)
  else
  o_k σ a0 5 <|
  (fX7_staying σ a0 (1 <<< (x3 &&& 31))).bind fun x4 =>
  o_k σ a0 5 <|
  (fX7_staying σ a0 (1 <<< (x2 &&& 31))).bind fun x5 =>
  jn (fun (x6 : Int32) =>
    some (.inl (x6, x3 + 1))) fun j44 =>
  if x4 ≤ x5 then
    j44 x2
  else
  j44 x3

def fX7_held (σ : St) (a0 : Nat) (a1 : Int32) : Option (Int32) :=
  (fX7_in σ a1 0 1).bind fun x1 =>
  if x1 = 0 then
    some ((-3))
  else
  (loopF fuel (fun z => lX7_held_16 σ a0 z.1 z.2) (0, 1)).bind <| fun x7 =>
  if a1 = 0 then
    some x7
  else
  o_k σ a0 5 <|
  (fX7_staying σ a0 (1 <<< (x7 &&& 31))).bind fun x8 =>
  some x8

set_option maxHeartbeats 4000000 in
theorem wX7_held {l : Launch} {s0 : State} {A0 : Array Value} {D : va_G} {ac : Nat → ClassId} (G : Gl s0 A0 D ac) {σ : St} {a0 : Nat} {a1 : Int32} {v : Int32} (hf : fX7_held σ a0 a1 = some (v)) : Met l yX7_held (ws_ yX7_held cX7_held 4 (some (.int))) ({ frames := 1, cells := 0, slots := 0, locals := 25 } : Room) (Pn s0 D ac [.ref a0, .int a1] σ) (Qn s0 D ac (some (.int v)) σ) 0 0 (fr s0) := by
  refine x_met (by decide) (Nat.le_of_ble_eq_true rfl) ?_
  intro p e s m args below meth c ls C hnm h hl
  have C : Cx s0 p s m args meth c cX7_held 4 "HutForShowModel" (some (.int)) := C
  have hx := C.1
  have hb := C.2.1
  have hl : lv_has ls 4 [(0, .ref a0), (1, .int a1)] := hl
  unfold fX7_held at hf
  refine lv_iload_n hx hb dX7_held_0 rfl (lv_at hl 1 rfl) ?_
  refine lv_iconst (v := 0) hx hb dX7_held_1 (by decide) ?_
  refine lv_iconst (v := 1) hx hb dX7_held_2 (by decide) ?_
  obtain ⟨x1, hc, hf⟩ := hf_b hf
  refine x_cS (rest := []) (As := [.int a1, .int 0, .int 1]) (n := 3) (ov := (some (.int x1))) C h (wX7_in G hc) (lw_S q1211 q1212 q61 q1213) (by decide +kernel) ⟨Nat.le_of_ble_eq_true rfl, Nat.le_of_ble_eq_true rfl⟩ rfl rfl rfl hl.1 rfl (Nat.le_of_ble_eq_true rfl) dX7_held_3 ⟨(Nat.le_of_ble_eq_true rfl), (Nat.le_of_ble_eq_true rfl)⟩ (fun H locs h => ?_)
  refine lv_if_ne (tgt := 12) hx hb dX7_held_6 (by decide) (fun hc => ?_) (fun hc => ?_)
  · have hf := hf_f hc hf
    refine lv_iconst (v := 0) hx hb dX7_held_12 (by decide) ?_
    refine lv_istore_n (lv' := [(2, .int 0), (0, .ref a0), (1, .int a1)]) hx hb dX7_held_13 rfl hl (by decide) rfl (fun ls hl => ?_)
    refine lv_iconst (v := 1) hx hb dX7_held_14 (by decide) ?_
    refine lv_istore_n (lv' := [(3, .int 1), (2, .int 0), (0, .ref a0), (1, .int a1)]) hx hb dX7_held_15 rfl hl (by decide) rfl (fun ls hl => ?_)
    obtain ⟨e16, hL, hK⟩ := hf_b hf
    have hE16_0 : ∀ (x7 : Int32), x7 = e16 → ∀  (H : Heap) (locs : List Loc) (ls : Array Slot), Hs s0 D ac σ H locs → lv_has ls 4 [(0, .ref a0), (1, .int a1), (2, .int x7)] → W p l e ({ frames := 1, cells := 0, slots := 0, locals := 25 } : Room) s m args below meth c H locs 0 0 (MQ below (Qn s0 D ac (some (.int v)) σ) args s 0 0 (fr s0)) (F0 m 51 ls []) := by
      intro x7 he H locs ls h hl
      subst he
      have hf := hK
      refine lv_iload_n hx hb dX7_held_51 rfl (lv_at hl 1 rfl) ?_
      refine lv_if_ne (tgt := 59) hx hb dX7_held_52 (by decide) (fun hc => ?_) (fun hc => ?_)
      · have hf := hf_f hc hf
        refine lv_aload_n hx hb dX7_held_59 rfl (lv_at hl 0 rfl) ?_
        refine lv_iconst (v := 1) hx hb dX7_held_60 (by decide) ?_
        refine lv_iload_n hx hb dX7_held_61 rfl (lv_at hl 2 rfl) ?_
        refine lv_ishl hx hb dX7_held_62 ?_
        obtain ⟨hk, hf⟩ := k_of hf
        obtain ⟨x8, hc, hf⟩ := hf_b hf
        refine x_cV (q := (RX7, TX7, 50)) (rest := []) (As := [.int (1 <<< (x7 &&& 31))]) (n := 1) (ov := (some (.int x8))) G C h (wX7_staying G hc) hk rfl (lw_V q1420 q1422 qs45 q61 q1423) (by decide +kernel) ⟨Nat.le_of_ble_eq_true rfl, Nat.le_of_ble_eq_true rfl⟩ rfl rfl rfl hl.1 rfl (Nat.le_of_ble_eq_true rfl) dX7_held_63 ⟨(Nat.le_of_ble_eq_true rfl), (Nat.le_of_ble_eq_true rfl)⟩ (fun H locs h => ?_)
        cases hf
        refine W.widen (k := 0) (n := 0) (Nat.le_of_ble_eq_true rfl) (Nat.le_of_ble_eq_true rfl) ?_
        exact x_iret C h dX7_held_66
      · have hf := hf_t hc hf
        refine lv_iload_n hx hb dX7_held_55 rfl (lv_at hl 2 rfl) ?_
        refine lv_goto (tgt := 66) hx hb dX7_held_56 (by decide) ?_
        cases hf
        refine W.widen (k := 0) (n := 0) (Nat.le_of_ble_eq_true rfl) (Nat.le_of_ble_eq_true rfl) ?_
        exact x_iret C h dX7_held_66
    refine loopF_ind (P := fun z => ∀ (H : Heap) (locs : List Loc) (ls : Array Slot), Hs s0 D ac σ H locs → lv_has ls 4 [(0, .ref a0), (1, .int a1), (2, .int z.1), (3, .int z.2)] → W p l e ({ frames := 1, cells := 0, slots := 0, locals := 25 } : Room) s m args below meth c H locs 0 0 (MQ below (Qn s0 D ac (some (.int v)) σ) args s 0 0 (fr s0)) (F0 m 16 ls [])) ?_ _ _ hL _ _ _ h (lv_sub hl [2, 3, 1, 0] rfl)
    clear hK hL h hl hf
    intro z o hf ih hX H locs ls h hl
    obtain ⟨x2, x3⟩ := z
    have h : Hs s0 D ac σ H locs := h
    have hl : lv_has ls 4 [(0, .ref a0), (1, .int a1), (2, .int x2), (3, .int x3)] := hl
    have hf : lX7_held_16 σ a0 x2 x3 = some o := hf
    unfold lX7_held_16 at hf
    refine lv_iload_n hx hb dX7_held_16 rfl (lv_at hl 3 rfl) ?_
    refine lv_bipush (v := 10) hx hb dX7_held_17 (by decide) ?_
    refine lv_icmp_ge (tgt := 51) hx hb dX7_held_19 (by decide) (fun hc => ?_) (fun hc => ?_)
    · have hf := hf_t hc hf
      cases hf
      exact hE16_0 _ (hX _ rfl) _ _ _ h (lv_sub hl [0, 1, 2] rfl)
    · have hf := hf_f hc hf
      refine lv_aload_n hx hb dX7_held_22 rfl (lv_at hl 0 rfl) ?_
      refine lv_iconst (v := 1) hx hb dX7_held_23 (by decide) ?_
      refine lv_iload_n hx hb dX7_held_24 rfl (lv_at hl 3 rfl) ?_
      refine lv_ishl hx hb dX7_held_25 ?_
      obtain ⟨hk, hf⟩ := k_of hf
      obtain ⟨x4, hc, hf⟩ := hf_b hf
      refine x_cV (q := (RX7, TX7, 50)) (rest := []) (As := [.int (1 <<< (x3 &&& 31))]) (n := 1) (ov := (some (.int x4))) G C h (wX7_staying G hc) hk rfl (lw_V q1420 q1422 qs45 q61 q1423) (by decide +kernel) ⟨Nat.le_of_ble_eq_true rfl, Nat.le_of_ble_eq_true rfl⟩ rfl rfl rfl hl.1 rfl (Nat.le_of_ble_eq_true rfl) dX7_held_26 ⟨(Nat.le_of_ble_eq_true rfl), (Nat.le_of_ble_eq_true rfl)⟩ (fun H locs h => ?_)
      refine lv_aload_n hx hb dX7_held_29 rfl (lv_at hl 0 rfl) ?_
      refine lv_iconst (v := 1) hx hb dX7_held_30 (by decide) ?_
      refine lv_iload_n hx hb dX7_held_31 rfl (lv_at hl 2 rfl) ?_
      refine lv_ishl hx hb dX7_held_32 ?_
      obtain ⟨hk, hf⟩ := k_of hf
      obtain ⟨x5, hc, hf⟩ := hf_b hf
      refine x_cV (q := (RX7, TX7, 50)) (rest := [.int x4]) (As := [.int (1 <<< (x2 &&& 31))]) (n := 1) (ov := (some (.int x5))) G C h (wX7_staying G hc) hk rfl (lw_V q1420 q1422 qs45 q61 q1423) (by decide +kernel) ⟨Nat.le_of_ble_eq_true rfl, Nat.le_of_ble_eq_true rfl⟩ rfl rfl rfl hl.1 rfl (Nat.le_of_ble_eq_true rfl) dX7_held_33 ⟨(Nat.le_of_ble_eq_true rfl), (Nat.le_of_ble_eq_true rfl)⟩ (fun H locs h => ?_)
      refine jn_of (P := fun j => ∀ (x6 : Int32), j x6 = some o → ∀ (H : Heap) (locs : List Loc) (ls : Array Slot), Hs s0 D ac σ H locs → lv_has ls 4 [(0, .ref a0), (1, .int a1), (2, .int x2), (3, .int x3)] → W p l e ({ frames := 1, cells := 0, slots := 0, locals := 25 } : Room) s m args below meth c H locs 0 0 (MQ below (Qn s0 D ac (some (.int v)) σ) args s 0 0 (fr s0)) (F0 m 44 ls [.int x6])) hf ?_ ?_
      · intro x6 hf H locs ls h hl
        refine lv_istore_n (lv' := [(2, .int x6), (0, .ref a0), (1, .int a1), (3, .int x3)]) hx hb dX7_held_44 rfl hl (by decide) rfl (fun ls hl => ?_)
        refine lv_iinc (v := x3 + 1) (lv' := [(3, .int (x3 + 1)), (2, .int x6), (0, .ref a0), (1, .int a1)]) hx hb dX7_held_45 hl (k := 3) rfl rfl (by decide) rfl (fun ls hl => ?_)
        refine lv_goto (tgt := 16) hx hb dX7_held_48 (by decide) ?_
        cases hf
        exact ih _ rfl _ _ _ h (lv_sub hl [2, 3, 1, 0] rfl)
      intro j44 hj44 hf
      refine lv_icmp_le (tgt := 43) hx hb dX7_held_36 (by decide) (fun hc => ?_) (fun hc => ?_)
      · have hf := hf_t hc hf
        refine lv_iload_n hx hb dX7_held_43 rfl (lv_at hl 2 rfl) ?_
        exact hj44 _ hf _ _ _ h (lv_sub hl [0, 1, 2, 3] rfl)
      · have hf := hf_f hc hf
        refine lv_iload_n hx hb dX7_held_39 rfl (lv_at hl 3 rfl) ?_
        refine lv_goto (tgt := 44) hx hb dX7_held_40 (by decide) ?_
        exact hj44 _ hf _ _ _ h (lv_sub hl [0, 1, 2, 3] rfl)
  · have hf := hf_t hc hf
    refine lv_bipush (v := (-3)) hx hb dX7_held_9 (by decide) ?_
    cases hf
    refine W.widen (k := 0) (n := 0) (Nat.le_of_ble_eq_true rfl) (Nat.le_of_ble_eq_true rfl) ?_
    exact x_iret C h dX7_held_11
