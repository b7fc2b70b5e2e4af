set_option maxRecDepth 100000
theorem dX0_even_0 : decode cX0_even 0 = .ok (.iload_n 1, 1) := by decide +kernel
theorem dX0_even_1 : decode cX0_even 1 = .ok (.iconst (-1), 1) := by decide +kernel
theorem dX0_even_2 : decode cX0_even 2 = .ok (.if_icmp .ge 6, 3) := by decide +kernel
theorem dX0_even_5 : decode cX0_even 5 = .ok (.bipush (-3), 2) := by decide +kernel
theorem dX0_even_7 : decode cX0_even 7 = .ok (.ireturn, 1) := by decide +kernel
theorem dX0_even_8 : decode cX0_even 8 = .ok (.aload_n 0, 1) := by decide +kernel
theorem dX0_even_9 : decode cX0_even 9 = .ok (.getfield 123, 3) := by decide +kernel
theorem dX0_even_12 : decode cX0_even 12 = .ok (.iconst 2, 1) := by decide +kernel
theorem dX0_even_13 : decode cX0_even 13 = .ok (.if_icmp .ge 5, 3) := by decide +kernel
theorem dX0_even_16 : decode cX0_even 16 = .ok (.iconst (-1), 1) := by decide +kernel
theorem dX0_even_17 : decode cX0_even 17 = .ok (.ireturn, 1) := by decide +kernel
theorem dX0_even_18 : decode cX0_even 18 = .ok (.iconst 0, 1) := by decide +kernel
theorem dX0_even_19 : decode cX0_even 19 = .ok (.istore_n 2, 1) := by decide +kernel
theorem dX0_even_20 : decode cX0_even 20 = .ok (.iconst 0, 1) := by decide +kernel
theorem dX0_even_21 : decode cX0_even 21 = .ok (.istore_n 3, 1) := by decide +kernel
theorem dX0_even_22 : decode cX0_even 22 = .ok (.iload_n 3, 1) := by decide +kernel
theorem dX0_even_23 : decode cX0_even 23 = .ok (.iconst 1, 1) := by decide +kernel
theorem dX0_even_24 : decode cX0_even 24 = .ok (.aload_n 0, 1) := by decide +kernel
theorem dX0_even_25 : decode cX0_even 25 = .ok (.getfield 123, 3) := by decide +kernel
theorem dX0_even_28 : decode cX0_even 28 = .ok (.ishl, 1) := by decide +kernel
theorem dX0_even_29 : decode cX0_even 29 = .ok (.if_icmp .ge 28, 3) := by decide +kernel
theorem dX0_even_32 : decode cX0_even 32 = .ok (.aload_n 0, 1) := by decide +kernel
theorem dX0_even_33 : decode cX0_even 33 = .ok (.iload_n 3, 1) := by decide +kernel
theorem dX0_even_34 : decode cX0_even 34 = .ok (.invokevirtual 346, 3) := by decide +kernel
theorem dX0_even_37 : decode cX0_even 37 = .ok (.iconst (-1), 1) := by decide +kernel
theorem dX0_even_38 : decode cX0_even 38 = .ok (.if_icmp .ne 13, 3) := by decide +kernel
theorem dX0_even_41 : decode cX0_even 41 = .ok (.iload_n 2, 1) := by decide +kernel
theorem dX0_even_42 : decode cX0_even 42 = .ok (.iload_n 1, 1) := by decide +kernel
theorem dX0_even_43 : decode cX0_even 43 = .ok (.if_icmp .ne 5, 3) := by decide +kernel
theorem dX0_even_46 : decode cX0_even 46 = .ok (.iload_n 3, 1) := by decide +kernel
theorem dX0_even_47 : decode cX0_even 47 = .ok (.ireturn, 1) := by decide +kernel
theorem dX0_even_48 : decode cX0_even 48 = .ok (.iinc 2 1, 3) := by decide +kernel
theorem dX0_even_51 : decode cX0_even 51 = .ok (.iinc 3 1, 3) := by decide +kernel
theorem dX0_even_54 : decode cX0_even 54 = .ok (.goto (-32), 3) := by decide +kernel
theorem dX0_even_57 : decode cX0_even 57 = .ok (.iload_n 1, 1) := by decide +kernel
theorem dX0_even_58 : decode cX0_even 58 = .ok (.iconst (-1), 1) := by decide +kernel
theorem dX0_even_59 : decode cX0_even 59 = .ok (.if_icmp .ne 7, 3) := by decide +kernel
theorem dX0_even_62 : decode cX0_even 62 = .ok (.iload_n 2, 1) := by decide +kernel
theorem dX0_even_63 : decode cX0_even 63 = .ok (.goto 4, 3) := by decide +kernel
theorem dX0_even_66 : decode cX0_even 66 = .ok (.iconst (-1), 1) := by decide +kernel
theorem dX0_even_67 : decode cX0_even 67 = .ok (.ireturn, 1) := by decide +kernel
def lX0_even_22 (σ : St) (a0 : Nat) (a1 : Int32) (x2 : Int32) (x3 : Int32) : Option ((Int32 × Int32) ⊕ ((Int32) ⊕ (Int32))) :=
  o_gI σ a0 0 3 fun x4 =>
  if (1 <<< (x4 &&& 31)) ≤ x3 then
    some (.inr (.inr x2))
  else
  o_k σ a0 0 <|
  (fX0_changes σ a0 x3).bind fun x5 =>
  jn (fun (x6 : Int32) =>
    some (.inl (x6, x3 + 1))) fun j51 =>
  if x5 = ((-1)) then
    if x2 = a1 then
      some (.inr (.inl x3))
    else
    j51 (x2 + 1)
  else
  j51 x2

def fX0_even (σ : St) (a0 : Nat) (a1 : Int32) : Option (Int32) :=
  if ((-1)) ≤ a1 then
    o_gI σ a0 0 3 fun x1 =>
    if 2 ≤ x1 then
      (loopF fuel (fun z => lX0_even_22 σ a0 a1 z.1 z.2) (0, 0)).bind <| sm (  fun x7 =>
        some x7) <| fun x8 =>
      if a1 = ((-1)) then
        some x8
      else
      some ((-1))
    else
    some ((-1))
  else
  some ((-3))

set_option maxHeartbeats 4000000 in
theorem wX0_even {l : Launch} {s0 : State} {A0 : Array Value} {D : va_G} {ac : Nat → ClassId} (G : Gl s0 A0 D ac) {σ : St} {a0 : Nat} {a1 : Int32} {v : Int32} (hf : fX0_even σ a0 a1 = some (v)) : Met l yX0_even (ws_ yX0_even cX0_even 4 (some (.int))) ({ frames := 5, cells := 0, slots := 0, locals := 112 } : Room) (Pn s0 D ac [.ref a0, .int a1] σ) (Qn s0 D ac (some (.int v)) σ) 0 0 (fr s0) := by
  refine x_met (by decide) (Nat.le_of_ble_eq_true rfl) ?_
  intro p e s m args below meth c ls C hnm h hl
  have C : Cx s0 p s m args meth c cX0_even 4 "HutForShow" (some (.int)) := C
  have hx := C.1
  have hb := C.2.1
  have hl : lv_has ls 4 [(0, .ref a0), (1, .int a1)] := hl
  unfold fX0_even at hf
  refine lv_iload_n hx hb dX0_even_0 rfl (lv_at hl 1 rfl) ?_
  refine lv_iconst (v := (-1)) hx hb dX0_even_1 (by decide) ?_
  refine lv_icmp_ge (tgt := 8) hx hb dX0_even_2 (by decide) (fun hc => ?_) (fun hc => ?_)
  · have hf := hf_t hc hf
    refine lv_aload_n hx hb dX0_even_8 rfl (lv_at hl 0 rfl) ?_
    refine x_gI (q := (RX0, TX0, 33)) (j := 3) G C h rfl (by decide) (fun _ _ _ => rfl) (lk C q203) (fun _ z => z) dX0_even_9 hf (fun x1 hf => ?_)
    refine lv_iconst (v := 2) hx hb dX0_even_12 (by decide) ?_
    refine lv_icmp_ge (tgt := 18) hx hb dX0_even_13 (by decide) (fun hc => ?_) (fun hc => ?_)
    · have hf := hf_t hc hf
      refine lv_iconst (v := 0) hx hb dX0_even_18 (by decide) ?_
      refine lv_istore_n (lv' := [(2, .int 0), (0, .ref a0), (1, .int a1)]) hx hb dX0_even_19 rfl hl (by decide) rfl (fun ls hl => ?_)
      refine lv_iconst (v := 0) hx hb dX0_even_20 (by decide) ?_
      refine lv_istore_n (lv' := [(3, .int 0), (2, .int 0), (0, .ref a0), (1, .int a1)]) hx hb dX0_even_21 rfl hl (by decide) rfl (fun ls hl => ?_)
      obtain ⟨e22, hL, hK⟩ := hf_b hf
      have hE22_0 : ∀ (x7 : Int32), (.inl x7) = e22 → ∀  (H : Heap) (locs : List Loc) (ls : Array Slot), Hs s0 D ac σ H locs → lv_has ls 4 [(0, .ref a0), (1, .int a1), (3, .int x7)] → W p l e ({ frames := 5, cells := 0, slots := 0, locals := 112 } : Room) s m args below meth c H locs 0 0 (MQ below (Qn s0 D ac (some (.int v)) σ) args s 0 0 (fr s0)) (F0 m 46 ls []) := by
        intro x7 he H locs ls h hl
        subst he
        have hf := hK
        have hf := hf_sl hf
        refine lv_iload_n hx hb dX0_even_46 rfl (lv_at hl 2 rfl) ?_
        cases hf
        refine W.widen (k := 0) (n := 0) (Nat.le_of_ble_eq_true rfl) (Nat.le_of_ble_eq_true rfl) ?_
        exact x_iret C h dX0_even_47
      have hE22_1 : ∀ (x8 : Int32), (.inr x8) = e22 → ∀  (H : Heap) (locs : List Loc) (ls : Array Slot), Hs s0 D ac σ H locs → lv_has ls 4 [(0, .ref a0), (1, .int a1), (2, .int x8)] → W p l e ({ frames := 5, cells := 0, slots := 0, locals := 112 } : Room) s m args below meth c H locs 0 0 (MQ below (Qn s0 D ac (some (.int v)) σ) args s 0 0 (fr s0)) (F0 m 57 ls []) := by
        intro x8 he H locs ls h hl
        subst he
        have hf := hK
        have hf := hf_sr hf
        refine lv_iload_n hx hb dX0_even_57 rfl (lv_at hl 1 rfl) ?_
        refine lv_iconst (v := (-1)) hx hb dX0_even_58 (by decide) ?_
        refine lv_icmp_ne (tgt := 66) hx hb dX0_even_59 (by decide) (fun hc => ?_) (fun hc => ?_)
        · have hf := hf_f hc hf
          refine lv_iconst (v := (-1)) hx hb dX0_even_66 (by decide) ?_
          cases hf
          refine W.widen (k := 0) (n := 0) (Nat.le_of_ble_eq_true rfl) (Nat.le_of_ble_eq_true rfl) ?_
          exact x_iret C h dX0_even_67
        · have hf := hf_t hc hf
          refine lv_iload_n hx hb dX0_even_62 rfl (lv_at hl 2 rfl) ?_
          refine lv_goto (tgt := 67) hx hb dX0_even_63 (by decide) ?_
          cases hf
          refine W.widen (k := 0) (n := 0) (Nat.le_of_ble_eq_true rfl) (Nat.le_of_ble_eq_true rfl) ?_
          exact x_iret C h dX0_even_67
      refine loopF_ind (P := fun z => ∀ (H : Heap) (locs : List Loc) (ls : Array Slot), Hs s0 D ac σ H locs → lv_has ls 4 [(0, .ref a0), (1, .int a1), (2, .int z.1), (3, .int z.2)] → W p l e ({ frames := 5, cells := 0, slots := 0, locals := 112 } : Room) s m args below meth c H locs 0 0 (MQ below (Qn s0 D ac (some (.int v)) σ) args s 0 0 (fr s0)) (F0 m 22 ls [])) ?_ _ _ hL _ _ _ h (lv_sub hl [2, 3, 1, 0] rfl)
      clear hK hL h hl hf
      intro z o hf ih hX H locs ls h hl
      obtain ⟨x2, x3⟩ := z
      have h : Hs s0 D ac σ H locs := h
      have hl : lv_has ls 4 [(0, .ref a0), (1, .int a1), (2, .int x2), (3, .int x3)] := hl
      have hf : lX0_even_22 σ a0 a1 x2 x3 = some o := hf
      unfold lX0_even_22 at hf
      refine lv_iload_n hx hb dX0_even_22 rfl (lv_at hl 3 rfl) ?_
      refine lv_iconst (v := 1) hx hb dX0_even_23 (by decide) ?_
      refine lv_aload_n hx hb dX0_even_24 rfl (lv_at hl 0 rfl) ?_
      refine x_gI (q := (RX0, TX0, 33)) (j := 3) G C h rfl (by decide) (fun _ _ _ => rfl) (lk C q203) (fun _ z => z) dX0_even_25 hf (fun x4 hf => ?_)
      refine lv_ishl hx hb dX0_even_28 ?_
      refine lv_icmp_ge (tgt := 57) hx hb dX0_even_29 (by decide) (fun hc => ?_) (fun hc => ?_)
      · have hf := hf_t hc hf
        cases hf
        exact hE22_1 _ (hX _ rfl) _ _ _ h (lv_sub hl [0, 1, 2] rfl)
      · have hf := hf_f hc hf
        refine lv_aload_n hx hb dX0_even_32 rfl (lv_at hl 0 rfl) ?_
        refine lv_iload_n hx hb dX0_even_33 rfl (lv_at hl 3 rfl) ?_
        obtain ⟨hk, hf⟩ := k_of hf
        obtain ⟨x5, hc, hf⟩ := hf_b hf
        refine x_cV (q := (RX0, TX0, 33)) (rest := []) (As := [.int x3]) (n := 1) (ov := (some (.int x5))) G C h (wX0_changes G hc) hk rfl (lw_V q977 q979 qs19 q54 q980) (by decide +kernel) ⟨Nat.le_of_ble_eq_true rfl, Nat.le_of_ble_eq_true rfl⟩ rfl rfl rfl hl.1 rfl (Nat.le_of_ble_eq_true rfl) dX0_even_34 ⟨(Nat.le_of_ble_eq_true rfl), (Nat.le_of_ble_eq_true rfl)⟩ (fun H locs h => ?_)
        refine lv_iconst (v := (-1)) hx hb dX0_even_37 (by decide) ?_
        refine jn_of (P := fun j => ∀ (x6 : Int32), j x6 = some o → ∀ (H : Heap) (locs : List Loc) (ls : Array Slot), Hs s0 D ac σ H locs → lv_has ls 4 [(0, .ref a0), (1, .int a1), (2, .int x6), (3, .int x3)] → W p l e ({ frames := 5, cells := 0, slots := 0, locals := 112 } : Room) s m args below meth c H locs 0 0 (MQ below (Qn s0 D ac (some (.int v)) σ) args s 0 0 (fr s0)) (F0 m 51 ls [])) hf ?_ ?_
        · intro x6 hf H locs ls h hl
          refine lv_iinc (v := x3 + 1) (lv' := [(3, .int (x3 + 1)), (0, .ref a0), (1, .int a1), (2, .int x6)]) hx hb dX0_even_51 hl (k := 3) rfl rfl (by decide) rfl (fun ls hl => ?_)
          refine lv_goto (tgt := 22) hx hb dX0_even_54 (by decide) ?_
          cases hf
          exact ih _ rfl _ _ _ h (lv_sub hl [1, 2, 3, 0] rfl)
        intro j51 hj51 hf
        refine lv_icmp_ne (tgt := 51) hx hb dX0_even_38 (by decide) (fun hc => ?_) (fun hc => ?_)
        · have hf := hf_f hc hf
          exact hj51 _ hf _ _ _ h (lv_sub hl [0, 1, 2, 3] rfl)
        · have hf := hf_t hc hf
          refine lv_iload_n hx hb dX0_even_41 rfl (lv_at hl 2 rfl) ?_
          refine lv_iload_n hx hb dX0_even_42 rfl (lv_at hl 1 rfl) ?_
          refine lv_icmp_ne (tgt := 48) hx hb dX0_even_43 (by decide) (fun hc => ?_) (fun hc => ?_)
          · have hf := hf_f hc hf
            refine lv_iinc (v := x2 + 1) (lv' := [(2, .int (x2 + 1)), (0, .ref a0), (1, .int a1), (3, .int x3)]) hx hb dX0_even_48 hl (k := 2) rfl rfl (by decide) rfl (fun ls hl => ?_)
            exact hj51 _ hf _ _ _ h (lv_sub hl [1, 2, 0, 3] rfl)
          · have hf := hf_t hc hf
            cases hf
            exact hE22_0 _ (hX _ rfl) _ _ _ h (lv_sub hl [0, 1, 3] rfl)
    · have hf := hf_f hc hf
      refine lv_iconst (v := (-1)) hx hb dX0_even_16 (by decide) ?_
      cases hf
      refine W.widen (k := 0) (n := 0) (Nat.le_of_ble_eq_true rfl) (Nat.le_of_ble_eq_true rfl) ?_
      exact x_iret C h dX0_even_17
  · have hf := hf_f hc hf
    refine lv_bipush (v := (-3)) hx hb dX0_even_5 (by decide) ?_
    cases hf
    refine W.widen (k := 0) (n := 0) (Nat.le_of_ble_eq_true rfl) (Nat.le_of_ble_eq_true rfl) ?_
    exact x_iret C h dX0_even_7

theorem dX0_ring_0 : decode cX0_ring 0 = .ok (.aload_n 0, 1) := by decide +kernel
theorem dX0_ring_1 : decode cX0_ring 1 = .ok (.iload_n 1, 1) := by decide +kernel
theorem dX0_ring_2 : decode cX0_ring 2 = .ok (.invokevirtual 339, 3) := by decide +kernel
theorem dX0_ring_5 : decode cX0_ring 5 = .ok (.ifCond .ne 6, 3) := by decide +kernel
theorem dX0_ring_8 : decode cX0_ring 8 = .ok (.bipush (-3), 2) := by decide +kernel
theorem dX0_ring_10 : decode cX0_ring 10 = .ok (.ireturn, 1) := by decide +kernel
theorem dX0_ring_11 : decode cX0_ring 11 = .ok (.aload_n 0, 1) := by decide +kernel
theorem dX0_ring_12 : decode cX0_ring 12 = .ok (.getfield 123, 3) := by decide +kernel
theorem dX0_ring_15 : decode cX0_ring 15 = .ok (.iconst 2, 1) := by decide +kernel
theorem dX0_ring_16 : decode cX0_ring 16 = .ok (.if_icmp .ge 6, 3) := by decide +kernel
theorem dX0_ring_19 : decode cX0_ring 19 = .ok (.bipush (-4), 2) := by decide +kernel
theorem dX0_ring_21 : decode cX0_ring 21 = .ok (.ireturn, 1) := by decide +kernel
theorem dX0_ring_22 : decode cX0_ring 22 = .ok (.iconst 0, 1) := by decide +kernel
theorem dX0_ring_23 : decode cX0_ring 23 = .ok (.istore_n 2, 1) := by decide +kernel
theorem dX0_ring_24 : decode cX0_ring 24 = .ok (.iload_n 2, 1) := by decide +kernel
theorem dX0_ring_25 : decode cX0_ring 25 = .ok (.aload_n 0, 1) := by decide +kernel
theorem dX0_ring_26 : decode cX0_ring 26 = .ok (.getfield 99, 3) := by decide +kernel
theorem dX0_ring_29 : decode cX0_ring 29 = .ok (.arraylength, 1) := by decide +kernel
theorem dX0_ring_30 : decode cX0_ring 30 = .ok (.if_icmp .ge 16, 3) := by decide +kernel
theorem dX0_ring_33 : decode cX0_ring 33 = .ok (.aload_n 0, 1) := by decide +kernel
theorem dX0_ring_34 : decode cX0_ring 34 = .ok (.getfield 99, 3) := by decide +kernel
theorem dX0_ring_37 : decode cX0_ring 37 = .ok (.iload_n 2, 1) := by decide +kernel
theorem dX0_ring_38 : decode cX0_ring 38 = .ok (.iconst (-1), 1) := by decide +kernel
theorem dX0_ring_39 : decode cX0_ring 39 = .ok (.iastore, 1) := by decide +kernel
theorem dX0_ring_40 : decode cX0_ring 40 = .ok (.iinc 2 1, 3) := by decide +kernel
theorem dX0_ring_43 : decode cX0_ring 43 = .ok (.goto (-19), 3) := by decide +kernel
theorem dX0_ring_46 : decode cX0_ring 46 = .ok (.iload_n 1, 1) := by decide +kernel
theorem dX0_ring_47 : decode cX0_ring 47 = .ok (.istore_n 2, 1) := by decide +kernel
theorem dX0_ring_48 : decode cX0_ring 48 = .ok (.iconst 0, 1) := by decide +kernel
theorem dX0_ring_49 : decode cX0_ring 49 = .ok (.istore_n 3, 1) := by decide +kernel
theorem dX0_ring_50 : decode cX0_ring 50 = .ok (.aload_n 0, 1) := by decide +kernel
theorem dX0_ring_51 : decode cX0_ring 51 = .ok (.getfield 99, 3) := by decide +kernel
theorem dX0_ring_54 : decode cX0_ring 54 = .ok (.iload_n 2, 1) := by decide +kernel
theorem dX0_ring_55 : decode cX0_ring 55 = .ok (.iaload, 1) := by decide +kernel
theorem dX0_ring_56 : decode cX0_ring 56 = .ok (.iconst (-1), 1) := by decide +kernel
theorem dX0_ring_57 : decode cX0_ring 57 = .ok (.if_icmp .ne 38, 3) := by decide +kernel
theorem dX0_ring_60 : decode cX0_ring 60 = .ok (.aload_n 0, 1) := by decide +kernel
theorem dX0_ring_61 : decode cX0_ring 61 = .ok (.getfield 99, 3) := by decide +kernel
theorem dX0_ring_64 : decode cX0_ring 64 = .ok (.iload_n 2, 1) := by decide +kernel
theorem dX0_ring_65 : decode cX0_ring 65 = .ok (.iload_n 3, 1) := by decide +kernel
theorem dX0_ring_66 : decode cX0_ring 66 = .ok (.iastore, 1) := by decide +kernel
theorem dX0_ring_67 : decode cX0_ring 67 = .ok (.iinc 3 1, 3) := by decide +kernel
theorem dX0_ring_70 : decode cX0_ring 70 = .ok (.aload_n 0, 1) := by decide +kernel
theorem dX0_ring_71 : decode cX0_ring 71 = .ok (.iload_n 2, 1) := by decide +kernel
theorem dX0_ring_72 : decode cX0_ring 72 = .ok (.invokevirtual 346, 3) := by decide +kernel
theorem dX0_ring_75 : decode cX0_ring 75 = .ok (.istore 4, 2) := by decide +kernel
theorem dX0_ring_77 : decode cX0_ring 77 = .ok (.iload 4, 2) := by decide +kernel
theorem dX0_ring_79 : decode cX0_ring 79 = .ok (.iconst (-1), 1) := by decide +kernel
theorem dX0_ring_80 : decode cX0_ring 80 = .ok (.if_icmp .ne 5, 3) := by decide +kernel
theorem dX0_ring_83 : decode cX0_ring 83 = .ok (.iconst 0, 1) := by decide +kernel
theorem dX0_ring_84 : decode cX0_ring 84 = .ok (.ireturn, 1) := by decide +kernel
theorem dX0_ring_85 : decode cX0_ring 85 = .ok (.iload_n 2, 1) := by decide +kernel
theorem dX0_ring_86 : decode cX0_ring 86 = .ok (.iconst 1, 1) := by decide +kernel
theorem dX0_ring_87 : decode cX0_ring 87 = .ok (.iload 4, 2) := by decide +kernel
theorem dX0_ring_89 : decode cX0_ring 89 = .ok (.ishl, 1) := by decide +kernel
theorem dX0_ring_90 : decode cX0_ring 90 = .ok (.ixor, 1) := by decide +kernel
theorem dX0_ring_91 : decode cX0_ring 91 = .ok (.istore_n 2, 1) := by decide +kernel
theorem dX0_ring_92 : decode cX0_ring 92 = .ok (.goto (-42), 3) := by decide +kernel
theorem dX0_ring_95 : decode cX0_ring 95 = .ok (.iload_n 3, 1) := by decide +kernel
theorem dX0_ring_96 : decode cX0_ring 96 = .ok (.aload_n 0, 1) := by decide +kernel
theorem dX0_ring_97 : decode cX0_ring 97 = .ok (.getfield 99, 3) := by decide +kernel
theorem dX0_ring_100 : decode cX0_ring 100 = .ok (.iload_n 2, 1) := by decide +kernel
theorem dX0_ring_101 : decode cX0_ring 101 = .ok (.iaload, 1) := by decide +kernel
theorem dX0_ring_102 : decode cX0_ring 102 = .ok (.isub, 1) := by decide +kernel
theorem dX0_ring_103 : decode cX0_ring 103 = .ok (.ireturn, 1) := by decide +kernel
def lX0_ring_24 (a0 : Nat) (σ3 : St) (x4 : Int32) : Option ((St × Int32) ⊕ (St)) :=
  o_gR σ3 a0 0 24 fun r5 =>
  o_len σ3 r5 0 fun x6 =>
  if x6 ≤ x4 then
    some (.inr σ3)
  else
  o_gR σ3 a0 0 24 fun r7 =>
  o_sI σ3 r7 0 x4 ((-1)) fun σ8 =>
  some (.inl (σ8, x4 + 1))

def lX0_ring_50 (a0 : Nat) (σ10 : St) (x11 : Int32) (x12 : Int32) : Option ((St × Int32 × Int32) ⊕ ((St) ⊕ (St × Int32 × Int32))) :=
  o_gR σ10 a0 0 24 fun r13 =>
  o_aI σ10 r13 0 x11 fun x14 =>
  if x14 = ((-1)) then
    o_gR σ10 a0 0 24 fun r15 =>
    o_sI σ10 r15 0 x11 x12 fun σ16 =>
    o_k σ16 a0 0 <|
    (fX0_changes σ16 a0 x11).bind fun x17 =>
    if x17 = ((-1)) then
      some (.inr (.inl σ16))
    else
    o_let (x11 ^^^ (1 <<< (x17 &&& 31))) fun x18 =>
    some (.inl (σ16, x18, x12 + 1))
  else
  some (.inr (.inr (σ10, x11, x12)))

def fX0_ring (σ : St) (a0 : Nat) (a1 : Int32) : Option (Int32 × St) :=
  o_k σ a0 0 <|
  (fX0_areHuts σ a0 a1).bind fun x1 =>
  if x1 = 0 then
    some ((-3), σ)
  else
  o_gI σ a0 0 3 fun x2 =>
  if 2 ≤ x2 then
    (loopF fuel (fun z => lX0_ring_24 a0 z.1 z.2) (σ, 0)).bind <| fun σ9 =>
    (loopF fuel (fun z => lX0_ring_50 a0 z.1 z.2.1 z.2.2) (σ9, a1, 0)).bind <| sm (  fun σ19 =>
      some (0, σ19)) <| un3 fun σ20 x21 x22 =>
    o_gR σ20 a0 0 24 fun r23 =>
    o_aI σ20 r23 0 x21 fun x24 =>
    some (x22 - x24, σ20)
  else
  some ((-4), σ)

set_option maxHeartbeats 4000000 in
theorem wX0_ring {l : Launch} {s0 : State} {A0 : Array Value} {D : va_G} {ac : Nat → ClassId} (G : Gl s0 A0 D ac) {σ : St} {a0 : Nat} {a1 : Int32} {v : Int32} {σ' : St} (hf : fX0_ring σ a0 a1 = some (v, σ')) : Met l yX0_ring (ws_ yX0_ring cX0_ring 5 (some (.int))) ({ frames := 5, cells := 0, slots := 0, locals := 112 } : Room) (Pn s0 D ac [.ref a0, .int a1] σ) (Qn s0 D ac (some (.int v)) σ') 0 0 (fr s0) := by
  refine x_met (by decide) (Nat.le_of_ble_eq_true rfl) ?_
  intro p e s m args below meth c ls C hnm h hl
  have C : Cx s0 p s m args meth c cX0_ring 5 "HutForShow" (some (.int)) := C
  have hx := C.1
  have hb := C.2.1
  have hl : lv_has ls 5 [(0, .ref a0), (1, .int a1)] := hl
  unfold fX0_ring at hf
  refine lv_aload_n hx hb dX0_ring_0 rfl (lv_at hl 0 rfl) ?_
  refine lv_iload_n hx hb dX0_ring_1 rfl (lv_at hl 1 rfl) ?_
  obtain ⟨hk, hf⟩ := k_of hf
  obtain ⟨x1, hc, hf⟩ := hf_b hf
  refine x_cV (q := (RX0, TX0, 33)) (rest := []) (As := [.int a1]) (n := 1) (ov := (some (.int x1))) G C h (wX0_areHuts G hc) hk rfl (lw_V q960 q962 qs16 q54 q963) (by decide +kernel) ⟨Nat.le_of_ble_eq_true rfl, Nat.le_of_ble_eq_true rfl⟩ rfl rfl rfl hl.1 rfl (Nat.le_of_ble_eq_true rfl) dX0_ring_2 ⟨(Nat.le_of_ble_eq_true rfl), (Nat.le_of_ble_eq_true rfl)⟩ (fun H locs h => ?_)
  refine lv_if_ne (tgt := 11) hx hb dX0_ring_5 (by decide) (fun hc => ?_) (fun hc => ?_)
  · have hf := hf_f hc hf
    refine lv_aload_n hx hb dX0_ring_11 rfl (lv_at hl 0 rfl) ?_
    refine x_gI (q := (RX0, TX0, 33)) (j := 3) G C h rfl (by decide) (fun _ _ _ => rfl) (lk C q203) (fun _ z => z) dX0_ring_12 hf (fun x2 hf => ?_)
    refine lv_iconst (v := 2) hx hb dX0_ring_15 (by decide) ?_
    refine lv_icmp_ge (tgt := 22) hx hb dX0_ring_16 (by decide) (fun hc => ?_) (fun hc => ?_)
    · have hf := hf_t hc hf
      refine lv_iconst (v := 0) hx hb dX0_ring_22 (by decide) ?_
      refine lv_istore_n (lv' := [(2, .int 0), (0, .ref a0), (1, .int a1)]) hx hb dX0_ring_23 rfl hl (by decide) rfl (fun ls hl => ?_)
      obtain ⟨e24, hL, hK⟩ := hf_b hf
      have hE24_0 : ∀ (σ9 : St), σ9 = e24 → ∀  (H : Heap) (locs : List Loc) (ls : Array Slot), Hs s0 D ac σ9 H locs → lv_has ls 5 [(0, .ref a0), (1, .int a1)] → W p l e ({ frames := 5, cells := 0, slots := 0, locals := 112 } : Room) s m args below meth c H locs 0 0 (MQ below (Qn s0 D ac (some (.int v)) σ') args s 0 0 (fr s0)) (F0 m 46 ls []) := by
        intro σ9 he H locs ls h hl
        subst he
        have hf := hK
        refine lv_iload_n hx hb dX0_ring_46 rfl (lv_at hl 1 rfl) ?_
        refine lv_istore_n (lv' := [(2, .int a1), (0, .ref a0), (1, .int a1)]) hx hb dX0_ring_47 rfl hl (by decide) rfl (fun ls hl => ?_)
        refine lv_iconst (v := 0) hx hb dX0_ring_48 (by decide) ?_
        refine lv_istore_n (lv' := [(3, .int 0), (2, .int a1), (0, .ref a0), (1, .int a1)]) hx hb dX0_ring_49 rfl hl (by decide) rfl (fun ls hl => ?_)
        obtain ⟨e50, hL, hK⟩ := hf_b hf
        have hE50_0 : ∀ (σ19 : St), (.inl σ19) = e50 → ∀  (H : Heap) (locs : List Loc) (ls : Array Slot), Hs s0 D ac σ19 H locs → lv_has ls 5 [(0, .ref a0), (1, .int a1)] → W p l e ({ frames := 5, cells := 0, slots := 0, locals := 112 } : Room) s m args below meth c H locs 0 0 (MQ below (Qn s0 D ac (some (.int v)) σ') args s 0 0 (fr s0)) (F0 m 83 ls []) := by
          intro σ19 he H locs ls h hl
          subst he
          have hf := hK
          have hf := hf_sl hf
          refine lv_iconst (v := 0) hx hb dX0_ring_83 (by decide) ?_
          cases hf
          refine W.widen (k := 0) (n := 0) (Nat.le_of_ble_eq_true rfl) (Nat.le_of_ble_eq_true rfl) ?_
          exact x_iret C h dX0_ring_84
        have hE50_1 : ∀ (σ20 : St) (x21 : Int32) (x22 : Int32), (.inr (σ20, x21, x22)) = e50 → ∀  (H : Heap) (locs : List Loc) (ls : Array Slot), Hs s0 D ac σ20 H locs → lv_has ls 5 [(0, .ref a0), (1, .int a1), (2, .int x21), (3, .int x22)] → W p l e ({ frames := 5, cells := 0, slots := 0, locals := 112 } : Room) s m args below meth c H locs 0 0 (MQ below (Qn s0 D ac (some (.int v)) σ') args s 0 0 (fr s0)) (F0 m 95 ls []) := by
          intro σ20 x21 x22 he H locs ls h hl
          subst he
          have hf := hK
          have hf := hf_sr hf
          have hf := hf_u3 hf
          refine lv_iload_n hx hb dX0_ring_95 rfl (lv_at hl 3 rfl) ?_
          refine lv_aload_n hx hb dX0_ring_96 rfl (lv_at hl 0 rfl) ?_
          refine x_gR (q := (RX0, TX0, 33)) (j := 24) G C h rfl (by decide) (fun _ _ _ => rfl) (lk C q233) (fun _ z => z) dX0_ring_97 hf (fun r23 hf => ?_)
          refine lv_iload_n hx hb dX0_ring_100 rfl (lv_at hl 2 rfl) ?_
          refine x_iald G C h dX0_ring_101 hf (fun x24 hf => ?_)
          refine lv_isub hx hb dX0_ring_102 ?_
          cases hf
          refine W.widen (k := 0) (n := 0) (Nat.le_of_ble_eq_true rfl) (Nat.le_of_ble_eq_true rfl) ?_
          exact x_iret C h dX0_ring_103
        refine loopF_ind (P := fun z => ∀ (H : Heap) (locs : List Loc) (ls : Array Slot), Hs s0 D ac (z.1) H locs → lv_has ls 5 [(0, .ref a0), (1, .int a1), (2, .int z.2.1), (3, .int z.2.2)] → W p l e ({ frames := 5, cells := 0, slots := 0, locals := 112 } : Room) s m args below meth c H locs 0 0 (MQ below (Qn s0 D ac (some (.int v)) σ') args s 0 0 (fr s0)) (F0 m 50 ls [])) ?_ _ _ hL _ _ _ h (lv_sub hl [2, 3, 1, 0] rfl)
        clear hK hL h hl hf
        intro z o hf ih hX H locs ls h hl
        obtain ⟨σ10, x11, x12⟩ := z
        have h : Hs s0 D ac σ10 H locs := h
        have hl : lv_has ls 5 [(0, .ref a0), (1, .int a1), (2, .int x11), (3, .int x12)] := hl
        have hf : lX0_ring_50 a0 σ10 x11 x12 = some o := hf
        unfold lX0_ring_50 at hf
        refine lv_aload_n hx hb dX0_ring_50 rfl (lv_at hl 0 rfl) ?_
        refine x_gR (q := (RX0, TX0, 33)) (j := 24) G C h rfl (by decide) (fun _ _ _ => rfl) (lk C q233) (fun _ z => z) dX0_ring_51 hf (fun r13 hf => ?_)
        refine lv_iload_n hx hb dX0_ring_54 rfl (lv_at hl 2 rfl) ?_
        refine x_iald G C h dX0_ring_55 hf (fun x14 hf => ?_)
        refine lv_iconst (v := (-1)) hx hb dX0_ring_56 (by decide) ?_
        refine lv_icmp_ne (tgt := 95) hx hb dX0_ring_57 (by decide) (fun hc => ?_) (fun hc => ?_)
        · have hf := hf_f hc hf
          cases hf
          exact hE50_1 _ _ _ (hX _ rfl) _ _ _ h (lv_sub hl [0, 1, 2, 3] rfl)
        · have hf := hf_t hc hf
          refine lv_aload_n hx hb dX0_ring_60 rfl (lv_at hl 0 rfl) ?_
          refine x_gR (q := (RX0, TX0, 33)) (j := 24) G C h rfl (by decide) (fun _ _ _ => rfl) (lk C q233) (fun _ z => z) dX0_ring_61 hf (fun r15 hf => ?_)
          refine lv_iload_n hx hb dX0_ring_64 rfl (lv_at hl 2 rfl) ?_
          refine lv_iload_n hx hb dX0_ring_65 rfl (lv_at hl 3 rfl) ?_
          refine x_iast G C h dX0_ring_66 hf (fun σ16 H locs h hf => ?_)
          refine lv_iinc (v := x12 + 1) (lv' := [(3, .int (x12 + 1)), (0, .ref a0), (1, .int a1), (2, .int x11)]) hx hb dX0_ring_67 hl (k := 3) rfl rfl (by decide) rfl (fun ls hl => ?_)
          refine lv_aload_n hx hb dX0_ring_70 rfl (lv_at hl 1 rfl) ?_
          refine lv_iload_n hx hb dX0_ring_71 rfl (lv_at hl 3 rfl) ?_
          obtain ⟨hk, hf⟩ := k_of hf
          obtain ⟨x17, hc, hf⟩ := hf_b hf
          refine x_cV (q := (RX0, TX0, 33)) (rest := []) (As := [.int x11]) (n := 1) (ov := (some (.int x17))) G C h (wX0_changes G hc) hk rfl (lw_V q977 q979 qs19 q54 q980) (by decide +kernel) ⟨Nat.le_of_ble_eq_true rfl, Nat.le_of_ble_eq_true rfl⟩ rfl rfl rfl hl.1 rfl (Nat.le_of_ble_eq_true rfl) dX0_ring_72 ⟨(Nat.le_of_ble_eq_true rfl), (Nat.le_of_ble_eq_true rfl)⟩ (fun H locs h => ?_)
          refine lv_istore (lv' := [(4, .int x17), (3, .int (x12 + 1)), (0, .ref a0), (1, .int a1), (2, .int x11)]) hx hb dX0_ring_75 hl (by decide) rfl (fun ls hl => ?_)
          refine lv_iload hx hb dX0_ring_77 (lv_at hl 0 rfl) ?_
          refine lv_iconst (v := (-1)) hx hb dX0_ring_79 (by decide) ?_
          refine lv_icmp_ne (tgt := 85) hx hb dX0_ring_80 (by decide) (fun hc => ?_) (fun hc => ?_)
          · have hf := hf_f hc hf
            refine lv_iload_n hx hb dX0_ring_85 rfl (lv_at hl 4 rfl) ?_
            refine lv_iconst (v := 1) hx hb dX0_ring_86 (by decide) ?_
            refine lv_iload hx hb dX0_ring_87 (lv_at hl 0 rfl) ?_
            refine lv_ishl hx hb dX0_ring_89 ?_
            refine lv_ixor hx hb dX0_ring_90 ?_
            refine x_letI hf (fun x18 hf => ?_)
            refine lv_istore_n (lv' := [(2, .int x18), (4, .int x17), (3, .int (x12 + 1)), (0, .ref a0), (1, .int a1)]) hx hb dX0_ring_91 rfl hl (by decide) rfl (fun ls hl => ?_)
            refine lv_goto (tgt := 50) hx hb dX0_ring_92 (by decide) ?_
            cases hf
            exact ih _ rfl _ _ _ h (lv_sub hl [3, 4, 0, 2] rfl)
          · have hf := hf_t hc hf
            cases hf
            exact hE50_0 _ (hX _ rfl) _ _ _ h (lv_sub hl [2, 3] rfl)
      refine loopF_ind (P := fun z => ∀ (H : Heap) (locs : List Loc) (ls : Array Slot), Hs s0 D ac (z.1) H locs → lv_has ls 5 [(0, .ref a0), (1, .int a1), (2, .int z.2)] → W p l e ({ frames := 5, cells := 0, slots := 0, locals := 112 } : Room) s m args below meth c H locs 0 0 (MQ below (Qn s0 D ac (some (.int v)) σ') args s 0 0 (fr s0)) (F0 m 24 ls [])) ?_ _ _ hL _ _ _ h (lv_sub hl [1, 2, 0] rfl)
      clear hK hL h hl hf
      intro z o hf ih hX H locs ls h hl
      obtain ⟨σ3, x4⟩ := z
      have h : Hs s0 D ac σ3 H locs := h
      have hl : lv_has ls 5 [(0, .ref a0), (1, .int a1), (2, .int x4)] := hl
      have hf : lX0_ring_24 a0 σ3 x4 = some o := hf
      unfold lX0_ring_24 at hf
      refine lv_iload_n hx hb dX0_ring_24 rfl (lv_at hl 2 rfl) ?_
      refine lv_aload_n hx hb dX0_ring_25 rfl (lv_at hl 0 rfl) ?_
      refine x_gR (q := (RX0, TX0, 33)) (j := 24) G C h rfl (by decide) (fun _ _ _ => rfl) (lk C q233) (fun _ z => z) dX0_ring_26 hf (fun r5 hf => ?_)
      refine x_len (q := 0) rfl G C h dX0_ring_29 hf (fun x6 hf => ?_)
      refine lv_icmp_ge (tgt := 46) hx hb dX0_ring_30 (by decide) (fun hc => ?_) (fun hc => ?_)
      · have hf := hf_t hc hf
        cases hf
        exact hE24_0 _ (hX _ rfl) _ _ _ h (lv_sub hl [0, 1] rfl)
      · have hf := hf_f hc hf
        refine lv_aload_n hx hb dX0_ring_33 rfl (lv_at hl 0 rfl) ?_
        refine x_gR (q := (RX0, TX0, 33)) (j := 24) G C h rfl (by decide) (fun _ _ _ => rfl) (lk C q233) (fun _ z => z) dX0_ring_34 hf (fun r7 hf => ?_)
        refine lv_iload_n hx hb dX0_ring_37 rfl (lv_at hl 2 rfl) ?_
        refine lv_iconst (v := (-1)) hx hb dX0_ring_38 (by decide) ?_
        refine x_iast G C h dX0_ring_39 hf (fun σ8 H locs h hf => ?_)
        refine lv_iinc (v := x4 + 1) (lv' := [(2, .int (x4 + 1)), (0, .ref a0), (1, .int a1)]) hx hb dX0_ring_40 hl (k := 2) rfl rfl (by decide) rfl (fun ls hl => ?_)
        refine lv_goto (tgt := 24) hx hb dX0_ring_43 (by decide) ?_
        cases hf
        exact ih _ rfl _ _ _ h (lv_sub hl [1, 2, 0] rfl)
    · have hf := hf_f hc hf
      refine lv_bipush (v := (-4)) hx hb dX0_ring_19 (by decide) ?_
      cases hf
      refine W.widen (k := 0) (n := 0) (Nat.le_of_ble_eq_true rfl) (Nat.le_of_ble_eq_true rfl) ?_
      exact x_iret C h dX0_ring_21
  · have hf := hf_t hc hf
    refine lv_bipush (v := (-3)) hx hb dX0_ring_8 (by decide) ?_
    cases hf
    refine W.widen (k := 0) (n := 0) (Nat.le_of_ble_eq_true rfl) (Nat.le_of_ble_eq_true rfl) ?_
    exact x_iret C h dX0_ring_10

theorem dX0_areTold_0 : decode cX0_areTold 0 = .ok (.iload_n 0, 1) := by decide +kernel
theorem dX0_areTold_1 : decode cX0_areTold 1 = .ok (.i2l, 1) := by decide +kernel
theorem dX0_areTold_2 : decode cX0_areTold 2 = .ok (.lconst 0, 1) := by decide +kernel
theorem dX0_areTold_3 : decode cX0_areTold 3 = .ok (.ldc2_w 137, 3) := by decide +kernel
theorem dX0_areTold_6 : decode cX0_areTold 6 = .ok (.invokestatic 127, 3) := by decide +kernel
theorem dX0_areTold_9 : decode cX0_areTold 9 = .ok (.ifCond .eq 43, 3) := by decide +kernel
theorem dX0_areTold_12 : decode cX0_areTold 12 = .ok (.iload_n 1, 1) := by decide +kernel
theorem dX0_areTold_13 : decode cX0_areTold 13 = .ok (.i2l, 1) := by decide +kernel
theorem dX0_areTold_14 : decode cX0_areTold 14 = .ok (.lconst 0, 1) := by decide +kernel
theorem dX0_areTold_15 : decode cX0_areTold 15 = .ok (.ldc2_w 137, 3) := by decide +kernel
theorem dX0_areTold_18 : decode cX0_areTold 18 = .ok (.invokestatic 127, 3) := by decide +kernel
theorem dX0_areTold_21 : decode cX0_areTold 21 = .ok (.ifCond .eq 31, 3) := by decide +kernel
theorem dX0_areTold_24 : decode cX0_areTold 24 = .ok (.iload_n 2, 1) := by decide +kernel
theorem dX0_areTold_25 : decode cX0_areTold 25 = .ok (.i2l, 1) := by decide +kernel
theorem dX0_areTold_26 : decode cX0_areTold 26 = .ok (.lconst 0, 1) := by decide +kernel
theorem dX0_areTold_27 : decode cX0_areTold 27 = .ok (.ldc2_w 137, 3) := by decide +kernel
theorem dX0_areTold_30 : decode cX0_areTold 30 = .ok (.invokestatic 127, 3) := by decide +kernel
theorem dX0_areTold_33 : decode cX0_areTold 33 = .ok (.ifCond .eq 19, 3) := by decide +kernel
theorem dX0_areTold_36 : decode cX0_areTold 36 = .ok (.iload_n 3, 1) := by decide +kernel
theorem dX0_areTold_37 : decode cX0_areTold 37 = .ok (.i2l, 1) := by decide +kernel
theorem dX0_areTold_38 : decode cX0_areTold 38 = .ok (.lconst 0, 1) := by decide +kernel
theorem dX0_areTold_39 : decode cX0_areTold 39 = .ok (.ldc2_w 137, 3) := by decide +kernel
theorem dX0_areTold_42 : decode cX0_areTold 42 = .ok (.invokestatic 127, 3) := by decide +kernel
theorem dX0_areTold_45 : decode cX0_areTold 45 = .ok (.ifCond .eq 7, 3) := by decide +kernel
theorem dX0_areTold_48 : decode cX0_areTold 48 = .ok (.iconst 1, 1) := by decide +kernel
theorem dX0_areTold_49 : decode cX0_areTold 49 = .ok (.goto 4, 3) := by decide +kernel
theorem dX0_areTold_52 : decode cX0_areTold 52 = .ok (.iconst 0, 1) := by decide +kernel
theorem dX0_areTold_53 : decode cX0_areTold 53 = .ok (.ireturn, 1) := by decide +kernel
def fX0_areTold (σ : St) (a0 : Int32) (a1 : Int32) (a2 : Int32) (a3 : Int32) : Option (Int32) :=
  (fX0_isIn σ (a0.toInt64) 0 99).bind fun x1 =>
  jn (fun (_ : Unit) =>
    some 0) fun j52 =>
  if x1 = 0 then
    j52 ()
  else
  (fX0_isIn σ (a1.toInt64) 0 99).bind fun x2 =>
  if x2 = 0 then
    j52 ()
  else
  (fX0_isIn σ (a2.toInt64) 0 99).bind fun x3 =>
  if x3 = 0 then
    j52 ()
  else
  (fX0_isIn σ (a3.toInt64) 0 99).bind fun x4 =>
  if x4 = 0 then
    j52 ()
  else
  some 1

set_option maxHeartbeats 4000000 in
theorem wX0_areTold {l : Launch} {s0 : State} {A0 : Array Value} {D : va_G} {ac : Nat → ClassId} (G : Gl s0 A0 D ac) {σ : St} {a0 : Int32} {a1 : Int32} {a2 : Int32} {a3 : Int32} {v : Int32} (hf : fX0_areTold σ a0 a1 a2 a3 = some (v)) : Met l yX0_areTold (ws_ yX0_areTold cX0_areTold 4 (some (.boolean))) ({ frames := 1, cells := 0, slots := 0, locals := 25 } : Room) (Pn s0 D ac [.int a0, .int a1, .int a2, .int a3] σ) (Qn s0 D ac (some (.int v)) σ) 0 0 (fr s0) := by
  refine x_met (by decide) (Nat.le_of_ble_eq_true rfl) ?_
  intro p e s m args below meth c ls C hnm h hl
  have C : Cx s0 p s m args meth c cX0_areTold 4 "HutForShow" (some (.boolean)) := C
  have hx := C.1
  have hb := C.2.1
  have hl : lv_has ls 4 [(0, .int a0), (1, .int a1), (2, .int a2), (3, .int a3)] := hl
  unfold fX0_areTold at hf
  refine lv_iload_n hx hb dX0_areTold_0 rfl (lv_at hl 0 rfl) ?_
  refine lv_i2l hx hb dX0_areTold_1 rfl ?_
  refine lv_lconst (v := 0) hx hb dX0_areTold_2 (by decide) ?_
  refine lv_ldc2 (v := 99) hx hb C.2.2.2.1 (C.2.2.2.2.1 _ q321) dX0_areTold_3 ?_
  obtain ⟨x1, hc, hf⟩ := hf_b hf
  refine x_cS (rest := []) (As := [.long (a0.toInt64), .long 0, .long 99]) (n := 3) (ov := (some (.int x1))) C h (wX0_isIn G hc) (lw_S q318 q319 q54 q320) (by decide +kernel) ⟨Nat.le_of_ble_eq_true rfl, Nat.le_of_ble_eq_true rfl⟩ rfl rfl rfl hl.1 rfl (Nat.le_of_ble_eq_true rfl) dX0_areTold_6 ⟨(Nat.le_of_ble_eq_true rfl), (Nat.le_of_ble_eq_true rfl)⟩ (fun H locs h => ?_)
  refine jn_of (P := fun j => ∀ (u0 : Unit), j u0 = some (v) → ∀ (H : Heap) (locs : List Loc) (ls : Array Slot), Hs s0 D ac σ H locs → lv_has ls 4 [(0, .int a0), (1, .int a1), (2, .int a2), (3, .int a3)] → W p l e ({ frames := 1, cells := 0, slots := 0, locals := 25 } : Room) s m args below meth c H locs 0 0 (MQ below (Qn s0 D ac (some (.int v)) σ) args s 0 0 (fr s0)) (F0 m 52 ls [])) hf ?_ ?_
  · intro u0 hf H locs ls h hl
    refine lv_iconst (v := 0) hx hb dX0_areTold_52 (by decide) ?_
    cases hf
    refine W.widen (k := 0) (n := 0) (Nat.le_of_ble_eq_true rfl) (Nat.le_of_ble_eq_true rfl) ?_
    exact x_zret C h (by decide) dX0_areTold_53
  intro j52 hj52 hf
  refine lv_if_eq (tgt := 52) hx hb dX0_areTold_9 (by decide) (fun hc => ?_) (fun hc => ?_)
  · have hf := hf_t hc hf
    exact hj52 () hf _ _ _ h (lv_sub hl [0, 1, 2, 3] rfl)
  · have hf := hf_f hc hf
    refine lv_iload_n hx hb dX0_areTold_12 rfl (lv_at hl 1 rfl) ?_
    refine lv_i2l hx hb dX0_areTold_13 rfl ?_
    refine lv_lconst (v := 0) hx hb dX0_areTold_14 (by decide) ?_
    refine lv_ldc2 (v := 99) hx hb C.2.2.2.1 (C.2.2.2.2.1 _ q321) dX0_areTold_15 ?_
    obtain ⟨x2, hc, hf⟩ := hf_b hf
    refine x_cS (rest := []) (As := [.long (a1.toInt64), .long 0, .long 99]) (n := 3) (ov := (some (.int x2))) C h (wX0_isIn G hc) (lw_S q318 q319 q54 q320) (by decide +kernel) ⟨Nat.le_of_ble_eq_true rfl, Nat.le_of_ble_eq_true rfl⟩ rfl rfl rfl hl.1 rfl (Nat.le_of_ble_eq_true rfl) dX0_areTold_18 ⟨(Nat.le_of_ble_eq_true rfl), (Nat.le_of_ble_eq_true rfl)⟩ (fun H locs h => ?_)
    refine lv_if_eq (tgt := 52) hx hb dX0_areTold_21 (by decide) (fun hc => ?_) (fun hc => ?_)
    · have hf := hf_t hc hf
      exact hj52 () hf _ _ _ h (lv_sub hl [0, 1, 2, 3] rfl)
    · have hf := hf_f hc hf
      refine lv_iload_n hx hb dX0_areTold_24 rfl (lv_at hl 2 rfl) ?_
      refine lv_i2l hx hb dX0_areTold_25 rfl ?_
      refine lv_lconst (v := 0) hx hb dX0_areTold_26 (by decide) ?_
      refine lv_ldc2 (v := 99) hx hb C.2.2.2.1 (C.2.2.2.2.1 _ q321) dX0_areTold_27 ?_
      obtain ⟨x3, hc, hf⟩ := hf_b hf
      refine x_cS (rest := []) (As := [.long (a2.toInt64), .long 0, .long 99]) (n := 3) (ov := (some (.int x3))) C h (wX0_isIn G hc) (lw_S q318 q319 q54 q320) (by decide +kernel) ⟨Nat.le_of_ble_eq_true rfl, Nat.le_of_ble_eq_true rfl⟩ rfl rfl rfl hl.1 rfl (Nat.le_of_ble_eq_true rfl) dX0_areTold_30 ⟨(Nat.le_of_ble_eq_true rfl), (Nat.le_of_ble_eq_true rfl)⟩ (fun H locs h => ?_)
      refine lv_if_eq (tgt := 52) hx hb dX0_areTold_33 (by decide) (fun hc => ?_) (fun hc => ?_)
      · have hf := hf_t hc hf
        exact hj52 () hf _ _ _ h (lv_sub hl [0, 1, 2, 3] rfl)
      · have hf := hf_f hc hf
        refine lv_iload_n hx hb dX0_areTold_36 rfl (lv_at hl 3 rfl) ?_
        refine lv_i2l hx hb dX0_areTold_37 rfl ?_
        refine lv_lconst (v := 0) hx hb dX0_areTold_38 (by decide) ?_
        refine lv_ldc2 (v := 99) hx hb C.2.2.2.1 (C.2.2.2.2.1 _ q321) dX0_areTold_39 ?_
        obtain ⟨x4, hc, hf⟩ := hf_b hf
        refine x_cS (rest := []) (As := [.long (a3.toInt64), .long 0, .long 99]) (n := 3) (ov := (some (.int x4))) C h (wX0_isIn G hc) (lw_S q318 q319 q54 q320) (by decide +kernel) ⟨Nat.le_of_ble_eq_true rfl, Nat.le_of_ble_eq_true rfl⟩ rfl rfl rfl hl.1 rfl (Nat.le_of_ble_eq_true rfl) dX0_areTold_42 ⟨(Nat.le_of_ble_eq_true rfl), (Nat.le_of_ble_eq_true rfl)⟩ (fun H locs h => ?_)
        refine lv_if_eq (tgt := 52) hx hb dX0_areTold_45 (by decide) (fun hc => ?_) (fun hc => ?_)
        · have hf := hf_t hc hf
          exact hj52 () hf _ _ _ h (lv_sub hl [0, 1, 2, 3] rfl)
        · have hf := hf_f hc hf
          refine lv_iconst (v := 1) hx hb dX0_areTold_48 (by decide) ?_
          refine lv_goto (tgt := 53) hx hb dX0_areTold_49 (by decide) ?_
          cases hf
          refine W.widen (k := 0) (n := 0) (Nat.le_of_ble_eq_true rfl) (Nat.le_of_ble_eq_true rfl) ?_
          exact x_zret C h (by decide) dX0_areTold_53

theorem dX18_init_0 : decode cX18_init 0 = .ok (.aload_n 0, 1) := by decide +kernel
theorem dX18_init_1 : decode cX18_init 1 = .ok (.invokespecial 1, 3) := by decide +kernel
theorem dX18_init_4 : decode cX18_init 4 = .ok (.aload_n 0, 1) := by decide +kernel
theorem dX18_init_5 : decode cX18_init 5 = .ok (.iload_n 1, 1) := by decide +kernel
theorem dX18_init_6 : decode cX18_init 6 = .ok (.putfield 7, 3) := by decide +kernel
theorem dX18_init_9 : decode cX18_init 9 = .ok (.aload_n 0, 1) := by decide +kernel
theorem dX18_init_10 : decode cX18_init 10 = .ok (.iload_n 2, 1) := by decide +kernel
theorem dX18_init_11 : decode cX18_init 11 = .ok (.putfield 13, 3) := by decide +kernel
theorem dX18_init_14 : decode cX18_init 14 = .ok (.return_, 1) := by decide +kernel
def fX18_init (σ : St) (a0 : Nat) (a1 : Int32) (a2 : Int32) : Option (St) :=
  o_pI σ a0 15 0 a1 fun σ1 =>
  o_pI σ1 a0 15 1 a2 fun σ2 =>
  some σ2

set_option maxHeartbeats 4000000 in
theorem wX18_init {l : Launch} {s0 : State} {A0 : Array Value} {D : va_G} {ac : Nat → ClassId} (G : Gl s0 A0 D ac) {σ : St} {a0 : Nat} {a1 : Int32} {a2 : Int32} {σ' : St} (hf : fX18_init σ a0 a1 a2 = some (σ')) : Met l yX18_init (ws_ yX18_init cX18_init 3 none) ({ frames := 1, cells := 0, slots := 0, locals := 12 } : Room) (Pn s0 D ac [.ref a0, .int a1, .int a2] σ) (Qn s0 D ac none σ') 0 0 (fr s0) := by
  refine x_met (by decide) (Nat.le_of_ble_eq_true rfl) ?_
  intro p e s m args below meth c ls C hnm h hl
  have C : Cx s0 p s m args meth c cX18_init 3 "HutForShow$Pair" none := C
  have hx := C.1
  have hb := C.2.1
  have hl : lv_has ls 3 [(0, .ref a0), (1, .int a1), (2, .int a2)] := hl
  unfold fX18_init at hf
  refine lv_aload_n hx hb dX18_init_0 rfl (lv_at hl 0 rfl) ?_
  refine W.objInit hx hb C.2.2.2.1 (C.2.2.2.2.1 _ q996) (C.2.2.2.2.1 _ q88) (C.2.2.2.2.1 _ q89) rfl (by rw [C.2.2.1]; exact hl.1) rfl dX18_init_1 (Nat.le_of_ble_eq_true rfl) (Nat.le_of_ble_eq_true rfl) ?_
  refine W.eq (g2 := F0 m 4 ls []) rfl ?_
  refine lv_aload_n hx hb dX18_init_4 rfl (lv_at hl 0 rfl) ?_
  refine lv_iload_n hx hb dX18_init_5 rfl (lv_at hl 1 rfl) ?_
  refine x_pI (q := (RX18, TX18, 2)) (j := 0) G C h rfl (by decide) rfl (lk C q997) (fun _ z => z) (Or.inr ⟨hnm, rfl⟩) dX18_init_6 hf (fun σ1 H locs h hf => ?_)
  refine lv_aload_n hx hb dX18_init_9 rfl (lv_at hl 0 rfl) ?_
  refine lv_iload_n hx hb dX18_init_10 rfl (lv_at hl 2 rfl) ?_
  refine x_pI (q := (RX18, TX18, 2)) (j := 1) G C h rfl (by decide) rfl (lk C q998) (fun _ z => z) (Or.inr ⟨hnm, rfl⟩) dX18_init_11 hf (fun σ2 H locs h hf => ?_)
  cases hf
  refine W.widen (k := 0) (n := 0) (Nat.le_of_ble_eq_true rfl) (Nat.le_of_ble_eq_true rfl) ?_
  exact x_vret C h dX18_init_14

theorem dX0_chose_0 : decode cX0_chose 0 = .ok (.iload_n 1, 1) := by decide +kernel
theorem dX0_chose_1 : decode cX0_chose 1 = .ok (.iload_n 2, 1) := by decide +kernel
theorem dX0_chose_2 : decode cX0_chose 2 = .ok (.iload_n 3, 1) := by decide +kernel
theorem dX0_chose_3 : decode cX0_chose 3 = .ok (.iload 4, 2) := by decide +kernel
theorem dX0_chose_5 : decode cX0_chose 5 = .ok (.invokestatic 349, 3) := by decide +kernel
theorem dX0_chose_8 : decode cX0_chose 8 = .ok (.ifCond .ne 6, 3) := by decide +kernel
theorem dX0_chose_11 : decode cX0_chose 11 = .ok (.bipush (-3), 2) := by decide +kernel
theorem dX0_chose_13 : decode cX0_chose 13 = .ok (.ireturn, 1) := by decide +kernel
theorem dX0_chose_14 : decode cX0_chose 14 = .ok (.aload_n 0, 1) := by decide +kernel
theorem dX0_chose_15 : decode cX0_chose 15 = .ok (.getfield 353, 3) := by decide +kernel
theorem dX0_chose_18 : decode cX0_chose 18 = .ok (.bipush 16, 2) := by decide +kernel
theorem dX0_chose_20 : decode cX0_chose 20 = .ok (.if_icmp .ne 6, 3) := by decide +kernel
theorem dX0_chose_23 : decode cX0_chose 23 = .ok (.bipush (-5), 2) := by decide +kernel
theorem dX0_chose_25 : decode cX0_chose 25 = .ok (.ireturn, 1) := by decide +kernel
theorem dX0_chose_26 : decode cX0_chose 26 = .ok (.aload_n 0, 1) := by decide +kernel
theorem dX0_chose_27 : decode cX0_chose 27 = .ok (.getfield 104, 3) := by decide +kernel
theorem dX0_chose_30 : decode cX0_chose 30 = .ok (.aload_n 0, 1) := by decide +kernel
theorem dX0_chose_31 : decode cX0_chose 31 = .ok (.getfield 353, 3) := by decide +kernel
theorem dX0_chose_34 : decode cX0_chose 34 = .ok (.new 102, 3) := by decide +kernel
theorem dX0_chose_37 : decode cX0_chose 37 = .ok (.dup, 1) := by decide +kernel
theorem dX0_chose_38 : decode cX0_chose 38 = .ok (.iload_n 1, 1) := by decide +kernel
theorem dX0_chose_39 : decode cX0_chose 39 = .ok (.iload_n 3, 1) := by decide +kernel
theorem dX0_chose_40 : decode cX0_chose 40 = .ok (.isub, 1) := by decide +kernel
theorem dX0_chose_41 : decode cX0_chose 41 = .ok (.iload_n 2, 1) := by decide +kernel
theorem dX0_chose_42 : decode cX0_chose 42 = .ok (.iload 4, 2) := by decide +kernel
theorem dX0_chose_44 : decode cX0_chose 44 = .ok (.isub, 1) := by decide +kernel
theorem dX0_chose_45 : decode cX0_chose 45 = .ok (.invokespecial 356, 3) := by decide +kernel
theorem dX0_chose_48 : decode cX0_chose 48 = .ok (.aastore, 1) := by decide +kernel
theorem dX0_chose_49 : decode cX0_chose 49 = .ok (.aload_n 0, 1) := by decide +kernel
theorem dX0_chose_50 : decode cX0_chose 50 = .ok (.getfield 108, 3) := by decide +kernel
theorem dX0_chose_53 : decode cX0_chose 53 = .ok (.aload_n 0, 1) := by decide +kernel
theorem dX0_chose_54 : decode cX0_chose 54 = .ok (.getfield 353, 3) := by decide +kernel
theorem dX0_chose_57 : decode cX0_chose 57 = .ok (.iload 5, 2) := by decide +kernel
theorem dX0_chose_59 : decode cX0_chose 59 = .ok (.bastore, 1) := by decide +kernel
theorem dX0_chose_60 : decode cX0_chose 60 = .ok (.aload_n 0, 1) := by decide +kernel
theorem dX0_chose_61 : decode cX0_chose 61 = .ok (.dup, 1) := by decide +kernel
theorem dX0_chose_62 : decode cX0_chose 62 = .ok (.getfield 353, 3) := by decide +kernel
theorem dX0_chose_65 : decode cX0_chose 65 = .ok (.iconst 1, 1) := by decide +kernel
theorem dX0_chose_66 : decode cX0_chose 66 = .ok (.iadd, 1) := by decide +kernel
theorem dX0_chose_67 : decode cX0_chose 67 = .ok (.putfield 353, 3) := by decide +kernel
theorem dX0_chose_70 : decode cX0_chose 70 = .ok (.aload_n 0, 1) := by decide +kernel
theorem dX0_chose_71 : decode cX0_chose 71 = .ok (.getfield 353, 3) := by decide +kernel
theorem dX0_chose_74 : decode cX0_chose 74 = .ok (.ireturn, 1) := by decide +kernel
def fX0_chose (σ : St) (a0 : Nat) (a1 : Int32) (a2 : Int32) (a3 : Int32) (a4 : Int32) (a5 : Int32) : Option (Int32 × St) :=
  (fX0_areTold σ a1 a2 a3 a4).bind fun x1 =>
  if x1 = 0 then
    some ((-3), σ)
  else
  o_gI σ a0 0 27 fun x2 =>
  if x2 = 16 then
    some ((-5), σ)
  else
  o_gR σ a0 0 25 fun r3 =>
  o_gI σ a0 0 27 fun x4 =>
  o_new σ 15 fun r5 σ6 =>
  (fX18_init σ6 r5 (a1 - a3) (a2 - a4)).bind fun σ7 =>
  o_sR σ7 r3 8 x4 r5 fun σ8 =>
  o_gR σ8 a0 0 26 fun r9 =>
  o_gI σ8 a0 0 27 fun x10 =>
  o_sI σ8 r9 2 x10 (vp_nar .boolean a5) fun σ11 =>
  o_gI σ11 a0 0 27 fun x12 =>
  o_pI σ11 a0 0 27 (x12 + 1) fun σ13 =>
  o_gI σ13 a0 0 27 fun x14 =>
  some (x14, σ13)

set_option maxHeartbeats 4000000 in
theorem wX0_chose {l : Launch} {s0 : State} {A0 : Array Value} {D : va_G} {ac : Nat → ClassId} (G : Gl s0 A0 D ac) {σ : St} {a0 : Nat} {a1 : Int32} {a2 : Int32} {a3 : Int32} {a4 : Int32} {a5 : Int32} {v : Int32} {σ' : St} (hf : fX0_chose σ a0 a1 a2 a3 a4 a5 = some (v, σ')) : Met l yX0_chose (ws_ yX0_chose cX0_chose 6 (some (.int))) ({ frames := 2, cells := 1, slots := 2, locals := 48 } : Room) (Pn s0 D ac [.ref a0, .int a1, .int a2, .int a3, .int a4, .int a5] σ) (Qn s0 D ac (some (.int v)) σ') 1 2 (fr s0) := by
  refine x_met (by decide) (Nat.le_of_ble_eq_true rfl) ?_
  intro p e s m args below meth c ls C hnm h hl
  have C : Cx s0 p s m args meth c cX0_chose 6 "HutForShow" (some (.int)) := C
  have hx := C.1
  have hb := C.2.1
  have hl : lv_has ls 6 [(0, .ref a0), (1, .int a1), (2, .int a2), (3, .int a3), (4, .int a4), (5, .int a5)] := hl
  unfold fX0_chose at hf
  refine lv_iload_n hx hb dX0_chose_0 rfl (lv_at hl 1 rfl) ?_
  refine lv_iload_n hx hb dX0_chose_1 rfl (lv_at hl 2 rfl) ?_
  refine lv_iload_n hx hb dX0_chose_2 rfl (lv_at hl 3 rfl) ?_
  refine lv_iload hx hb dX0_chose_3 (lv_at hl 4 rfl) ?_
  obtain ⟨x1, hc, hf⟩ := hf_b hf
  refine x_cS (rest := []) (As := [.int a1, .int a2, .int a3, .int a4]) (n := 4) (ov := (some (.int x1))) C h (wX0_areTold G hc) (lw_S q989 q990 q54 q991) (by decide +kernel) ⟨Nat.le_of_ble_eq_true rfl, Nat.le_of_ble_eq_true rfl⟩ rfl rfl rfl hl.1 rfl (Nat.le_of_ble_eq_true rfl) dX0_chose_5 ⟨(Nat.le_of_ble_eq_true rfl), (Nat.le_of_ble_eq_true rfl)⟩ (fun H locs h => ?_)
  refine lv_if_ne (tgt := 14) hx hb dX0_chose_8 (by decide) (fun hc => ?_) (fun hc => ?_)
  · have hf := hf_f hc hf
    refine lv_aload_n hx hb dX0_chose_14 rfl (lv_at hl 0 rfl) ?_
    refine x_gI (q := (RX0, TX0, 33)) (j := 27) G C h rfl (by decide) (fun _ _ _ => rfl) (lk C q236) (fun _ z => z) dX0_chose_15 hf (fun x2 hf => ?_)
    refine lv_bipush (v := 16) hx hb dX0_chose_18 (by decide) ?_
    refine lv_icmp_ne (tgt := 26) hx hb dX0_chose_20 (by decide) (fun hc => ?_) (fun hc => ?_)
    · have hf := hf_f hc hf
      refine lv_aload_n hx hb dX0_chose_26 rfl (lv_at hl 0 rfl) ?_
      refine x_gR (q := (RX0, TX0, 33)) (j := 25) G C h rfl (by decide) (fun _ _ _ => rfl) (lk C q234) (fun _ z => z) dX0_chose_27 hf (fun r3 hf => ?_)
      refine lv_aload_n hx hb dX0_chose_30 rfl (lv_at hl 0 rfl) ?_
      refine x_gI (q := (RX0, TX0, 33)) (j := 27) G C h rfl (by decide) (fun _ _ _ => rfl) (lk C q236) (fun _ z => z) dX0_chose_31 hf (fun x4 hf => ?_)
      refine x_new (q := (RX18, TX18, 2)) G C h rfl (fun j _ => nf_all 15 j) q190 q992 q81 (Nat.le_of_ble_eq_true rfl) (Nat.le_of_ble_eq_true rfl) dX0_chose_34 hf (fun r5 σ6 H h hf => ?_)
      refine lv_dup hx hb dX0_chose_37 rfl ?_
      refine lv_iload_n hx hb dX0_chose_38 rfl (lv_at hl 1 rfl) ?_
      refine lv_iload_n hx hb dX0_chose_39 rfl (lv_at hl 3 rfl) ?_
      refine lv_isub hx hb dX0_chose_40 ?_
      refine lv_iload_n hx hb dX0_chose_41 rfl (lv_at hl 2 rfl) ?_
      refine lv_iload hx hb dX0_chose_42 (lv_at hl 4 rfl) ?_
      refine lv_isub hx hb dX0_chose_44 ?_
      obtain ⟨σ7, hc, hf⟩ := hf_b hf
      refine x_cI (rest := [.ref r5, .int x4, .ref r3]) (As := [.int (a1 - a3), .int (a2 - a4)]) (n := 2) (ov := none) C h (wX18_init G hc) q993 q994 q81 q995 rfl (by decide +kernel) ⟨Nat.le_of_ble_eq_true rfl, Nat.le_of_ble_eq_true rfl⟩ rfl rfl rfl hl.1 rfl (Nat.le_of_ble_eq_true rfl) dX0_chose_45 ⟨(Nat.le_of_ble_eq_true rfl), (Nat.le_of_ble_eq_true rfl)⟩ (fun H locs h => ?_)
      refine x_aast G C h dX0_chose_48 hf (fun σ8 H locs h hf => ?_)
      refine lv_aload_n hx hb dX0_chose_49 rfl (lv_at hl 0 rfl) ?_
      refine x_gR (q := (RX0, TX0, 33)) (j := 26) G C h rfl (by decide) (fun _ _ _ => rfl) (lk C q235) (fun _ z => z) dX0_chose_50 hf (fun r9 hf => ?_)
      refine lv_aload_n hx hb dX0_chose_53 rfl (lv_at hl 0 rfl) ?_
      refine x_gI (q := (RX0, TX0, 33)) (j := 27) G C h rfl (by decide) (fun _ _ _ => rfl) (lk C q236) (fun _ z => z) dX0_chose_54 hf (fun x10 hf => ?_)
      refine lv_iload hx hb dX0_chose_57 (lv_at hl 5 rfl) ?_
      refine x_zast G C h dX0_chose_59 hf (fun σ11 H locs h hf => ?_)
      refine lv_aload_n hx hb dX0_chose_60 rfl (lv_at hl 0 rfl) ?_
      refine lv_dup hx hb dX0_chose_61 rfl ?_
      refine x_gI (q := (RX0, TX0, 33)) (j := 27) G C h rfl (by decide) (fun _ _ _ => rfl) (lk C q236) (fun _ z => z) dX0_chose_62 hf (fun x12 hf => ?_)
      refine lv_iconst (v := 1) hx hb dX0_chose_65 (by decide) ?_
      refine lv_iadd hx hb dX0_chose_66 ?_
      refine x_pI (q := (RX0, TX0, 33)) (j := 27) G C h rfl (by decide) rfl (lk C q236) (fun _ z => z) (Or.inl rfl) dX0_chose_67 hf (fun σ13 H locs h hf => ?_)
      refine lv_aload_n hx hb dX0_chose_70 rfl (lv_at hl 0 rfl) ?_
      refine x_gI (q := (RX0, TX0, 33)) (j := 27) G C h rfl (by decide) (fun _ _ _ => rfl) (lk C q236) (fun _ z => z) dX0_chose_71 hf (fun x14 hf => ?_)
      cases hf
      refine W.widen (k := 1) (n := 2) (Nat.le_of_ble_eq_true rfl) (Nat.le_of_ble_eq_true rfl) ?_
      exact x_iret C h dX0_chose_74
    · have hf := hf_t hc hf
      refine lv_bipush (v := (-5)) hx hb dX0_chose_23 (by decide) ?_
      cases hf
      refine W.widen (k := 1) (n := 2) (Nat.le_of_ble_eq_true rfl) (Nat.le_of_ble_eq_true rfl) ?_
      exact x_iret C h dX0_chose_25
  · have hf := hf_t hc hf
    refine lv_bipush (v := (-3)) hx hb dX0_chose_11 (by decide) ?_
    cases hf
    refine W.widen (k := 1) (n := 2) (Nat.le_of_ble_eq_true rfl) (Nat.le_of_ble_eq_true rfl) ?_
    exact x_iret C h dX0_chose_13

theorem dX18_isFirst_0 : decode cX18_isFirst 0 = .ok (.iload_n 1, 1) := by decide +kernel
theorem dX18_isFirst_1 : decode cX18_isFirst 1 = .ok (.aload_n 0, 1) := by decide +kernel
theorem dX18_isFirst_2 : decode cX18_isFirst 2 = .ok (.getfield 7, 3) := by decide +kernel
theorem dX18_isFirst_5 : decode cX18_isFirst 5 = .ok (.imul, 1) := by decide +kernel
theorem dX18_isFirst_6 : decode cX18_isFirst 6 = .ok (.iload_n 2, 1) := by decide +kernel
theorem dX18_isFirst_7 : decode cX18_isFirst 7 = .ok (.aload_n 0, 1) := by decide +kernel
theorem dX18_isFirst_8 : decode cX18_isFirst 8 = .ok (.getfield 13, 3) := by decide +kernel
theorem dX18_isFirst_11 : decode cX18_isFirst 11 = .ok (.imul, 1) := by decide +kernel
theorem dX18_isFirst_12 : decode cX18_isFirst 12 = .ok (.iadd, 1) := by decide +kernel
theorem dX18_isFirst_13 : decode cX18_isFirst 13 = .ok (.ifCond .lt 7, 3) := by decide +kernel
theorem dX18_isFirst_16 : decode cX18_isFirst 16 = .ok (.iconst 1, 1) := by decide +kernel
theorem dX18_isFirst_17 : decode cX18_isFirst 17 = .ok (.goto 4, 3) := by decide +kernel
theorem dX18_isFirst_20 : decode cX18_isFirst 20 = .ok (.iconst 0, 1) := by decide +kernel
theorem dX18_isFirst_21 : decode cX18_isFirst 21 = .ok (.ireturn, 1) := by decide +kernel
def fX18_isFirst (σ : St) (a0 : Nat) (a1 : Int32) (a2 : Int32) : Option (Int32) :=
  o_gI σ a0 15 0 fun x1 =>
  o_gI σ a0 15 1 fun x2 =>
  if ((a1 * x1) + (a2 * x2)) < 0 then
    some 0
  else
  some 1

set_option maxHeartbeats 4000000 in
theorem wX18_isFirst {l : Launch} {s0 : State} {A0 : Array Value} {D : va_G} {ac : Nat → ClassId} (G : Gl s0 A0 D ac) {σ : St} {a0 : Nat} {a1 : Int32} {a2 : Int32} {v : Int32} (hf : fX18_isFirst σ a0 a1 a2 = some (v)) : Met l yX18_isFirst (ws_ yX18_isFirst cX18_isFirst 3 (some (.boolean))) ({ frames := 0, cells := 0, slots := 0, locals := 0 } : Room) (Pn s0 D ac [.ref a0, .int a1, .int a2] σ) (Qn s0 D ac (some (.int v)) σ) 0 0 (fr s0) := by
  refine x_met (by decide) (Nat.le_of_ble_eq_true rfl) ?_
  intro p e s m args below meth c ls C hnm h hl
  have C : Cx s0 p s m args meth c cX18_isFirst 3 "HutForShow$Pair" (some (.boolean)) := C
  have hx := C.1
  have hb := C.2.1
  have hl : lv_has ls 3 [(0, .ref a0), (1, .int a1), (2, .int a2)] := hl
  unfold fX18_isFirst at hf
  refine lv_iload_n hx hb dX18_isFirst_0 rfl (lv_at hl 1 rfl) ?_
  refine lv_aload_n hx hb dX18_isFirst_1 rfl (lv_at hl 0 rfl) ?_
  refine x_gI (q := (RX18, TX18, 2)) (j := 0) G C h rfl (by decide) (fun _ _ _ => rfl) (lk C q997) (fun _ z => z) dX18_isFirst_2 hf (fun x1 hf => ?_)
  refine lv_imul hx hb dX18_isFirst_5 ?_
  refine lv_iload_n hx hb dX18_isFirst_6 rfl (lv_at hl 2 rfl) ?_
  refine lv_aload_n hx hb dX18_isFirst_7 rfl (lv_at hl 0 rfl) ?_
  refine x_gI (q := (RX18, TX18, 2)) (j := 1) G C h rfl (by decide) (fun _ _ _ => rfl) (lk C q998) (fun _ z => z) dX18_isFirst_8 hf (fun x2 hf => ?_)
  refine lv_imul hx hb dX18_isFirst_11 ?_
  refine lv_iadd hx hb dX18_isFirst_12 ?_
  refine lv_if_lt (tgt := 20) hx hb dX18_isFirst_13 (by decide) (fun hc => ?_) (fun hc => ?_)
  · have hf := hf_t hc hf
    refine lv_iconst (v := 0) hx hb dX18_isFirst_20 (by decide) ?_
    cases hf
    refine W.widen (k := 0) (n := 0) (Nat.le_of_ble_eq_true rfl) (Nat.le_of_ble_eq_true rfl) ?_
    exact x_zret C h (by decide) dX18_isFirst_21
  · have hf := hf_f hc hf
    refine lv_iconst (v := 1) hx hb dX18_isFirst_16 (by decide) ?_
    refine lv_goto (tgt := 21) hx hb dX18_isFirst_17 (by decide) ?_
    cases hf
    refine W.widen (k := 0) (n := 0) (Nat.le_of_ble_eq_true rfl) (Nat.le_of_ble_eq_true rfl) ?_
    exact x_zret C h (by decide) dX18_isFirst_21

theorem dX0_mayBe_0 : decode cX0_mayBe 0 = .ok (.iconst 1, 1) := by decide +kernel
theorem dX0_mayBe_1 : decode cX0_mayBe 1 = .ok (.istore_n 3, 1) := by decide +kernel
theorem dX0_mayBe_2 : decode cX0_mayBe 2 = .ok (.iconst 0, 1) := by decide +kernel
theorem dX0_mayBe_3 : decode cX0_mayBe 3 = .ok (.istore 4, 2) := by decide +kernel
theorem dX0_mayBe_5 : decode cX0_mayBe 5 = .ok (.iload 4, 2) := by decide +kernel
theorem dX0_mayBe_7 : decode cX0_mayBe 7 = .ok (.aload_n 0, 1) := by decide +kernel
theorem dX0_mayBe_8 : decode cX0_mayBe 8 = .ok (.getfield 353, 3) := by decide +kernel
theorem dX0_mayBe_11 : decode cX0_mayBe 11 = .ok (.if_icmp .ge 41, 3) := by decide +kernel
theorem dX0_mayBe_14 : decode cX0_mayBe 14 = .ok (.iload_n 3, 1) := by decide +kernel
theorem dX0_mayBe_15 : decode cX0_mayBe 15 = .ok (.ifCond .eq 29, 3) := by decide +kernel
theorem dX0_mayBe_18 : decode cX0_mayBe 18 = .ok (.aload_n 0, 1) := by decide +kernel
theorem dX0_mayBe_19 : decode cX0_mayBe 19 = .ok (.getfield 104, 3) := by decide +kernel
theorem dX0_mayBe_22 : decode cX0_mayBe 22 = .ok (.iload 4, 2) := by decide +kernel
theorem dX0_mayBe_24 : decode cX0_mayBe 24 = .ok (.aaload, 1) := by decide +kernel
theorem dX0_mayBe_25 : decode cX0_mayBe 25 = .ok (.iload_n 1, 1) := by decide +kernel
theorem dX0_mayBe_26 : decode cX0_mayBe 26 = .ok (.iload_n 2, 1) := by decide +kernel
theorem dX0_mayBe_27 : decode cX0_mayBe 27 = .ok (.invokevirtual 357, 3) := by decide +kernel
theorem dX0_mayBe_30 : decode cX0_mayBe 30 = .ok (.aload_n 0, 1) := by decide +kernel
theorem dX0_mayBe_31 : decode cX0_mayBe 31 = .ok (.getfield 108, 3) := by decide +kernel
theorem dX0_mayBe_34 : decode cX0_mayBe 34 = .ok (.iload 4, 2) := by decide +kernel
theorem dX0_mayBe_36 : decode cX0_mayBe 36 = .ok (.baload, 1) := by decide +kernel
theorem dX0_mayBe_37 : decode cX0_mayBe 37 = .ok (.if_icmp .ne 7, 3) := by decide +kernel
theorem dX0_mayBe_40 : decode cX0_mayBe 40 = .ok (.iconst 1, 1) := by decide +kernel
theorem dX0_mayBe_41 : decode cX0_mayBe 41 = .ok (.goto 4, 3) := by decide +kernel
theorem dX0_mayBe_44 : decode cX0_mayBe 44 = .ok (.iconst 0, 1) := by decide +kernel
theorem dX0_mayBe_45 : decode cX0_mayBe 45 = .ok (.istore_n 3, 1) := by decide +kernel
theorem dX0_mayBe_46 : decode cX0_mayBe 46 = .ok (.iinc 4 1, 3) := by decide +kernel
theorem dX0_mayBe_49 : decode cX0_mayBe 49 = .ok (.goto (-44), 3) := by decide +kernel
theorem dX0_mayBe_52 : decode cX0_mayBe 52 = .ok (.iload_n 3, 1) := by decide +kernel
theorem dX0_mayBe_53 : decode cX0_mayBe 53 = .ok (.ireturn, 1) := by decide +kernel
def lX0_mayBe_5 (σ : St) (a0 : Nat) (a1 : Int32) (a2 : Int32) (x1 : Int32) (x2 : Int32) : Option ((Int32 × Int32) ⊕ (Int32)) :=
  o_gI σ a0 0 27 fun x3 =>
  if x3 ≤ x2 then
    some (.inr x1)
  else
  jn (fun (x9 : Int32) =>
    some (.inl (x9, x2 + 1))) fun j45 =>
  jn (fun (_ : Unit) =>
    j45 0) fun j44 =>
  if x1 = 0 then
    j44 ()
  else
  o_gR σ a0 0 25 fun r4 =>
  o_aR σ r4 8 x2 fun r5 =>
  o_k σ r5 15 <|
  (fX18_isFirst σ r5 a1 a2).bind fun x6 =>
  o_gR σ a0 0 26 fun r7 =>
  o_aI σ r7 2 x2 fun x8 =>
  if x6 = x8 then
    j45 1
  else
  j44 ()

def fX0_mayBe (σ : St) (a0 : Nat) (a1 : Int32) (a2 : Int32) : Option (Int32) :=
  (loopF fuel (fun z => lX0_mayBe_5 σ a0 a1 a2 z.1 z.2) (1, 0)).bind <| fun x10 =>
  o_bz x10 <| some x10

set_option maxHeartbeats 4000000 in
theorem wX0_mayBe {l : Launch} {s0 : State} {A0 : Array Value} {D : va_G} {ac : Nat → ClassId} (G : Gl s0 A0 D ac) {σ : St} {a0 : Nat} {a1 : Int32} {a2 : Int32} {v : Int32} (hf : fX0_mayBe σ a0 a1 a2 = some (v)) : Met l yX0_mayBe (ws_ yX0_mayBe cX0_mayBe 5 (some (.boolean))) ({ frames := 1, cells := 0, slots := 0, locals := 22 } : Room) (Pn s0 D ac [.ref a0, .int a1, .int a2] σ) (Qn s0 D ac (some (.int v)) σ) 0 0 (fr s0) := by
  refine x_met (by decide) (Nat.le_of_ble_eq_true rfl) ?_
  intro p e s m args below meth c ls C hnm h hl
  have C : Cx s0 p s m args meth c cX0_mayBe 5 "HutForShow" (some (.boolean)) := C
  have hx := C.1
  have hb := C.2.1
  have hl : lv_has ls 5 [(0, .ref a0), (1, .int a1), (2, .int a2)] := hl
  unfold fX0_mayBe at hf
  refine lv_iconst (v := 1) hx hb dX0_mayBe_0 (by decide) ?_
  refine lv_istore_n (lv' := [(3, .int 1), (0, .ref a0), (1, .int a1), (2, .int a2)]) hx hb dX0_mayBe_1 rfl hl (by decide) rfl (fun ls hl => ?_)
  refine lv_iconst (v := 0) hx hb dX0_mayBe_2 (by decide) ?_
  refine lv_istore (lv' := [(4, .int 0), (3, .int 1), (0, .ref a0), (1, .int a1), (2, .int a2)]) hx hb dX0_mayBe_3 hl (by decide) rfl (fun ls hl => ?_)
  obtain ⟨e5, hL, hK⟩ := hf_b hf
  have hE5_0 : ∀ (x10 : Int32), x10 = e5 → ∀  (H : Heap) (locs : List Loc) (ls : Array Slot), Hs s0 D ac σ H locs → lv_has ls 5 [(0, .ref a0), (1, .int a1), (2, .int a2), (3, .int x10)] → W p l e ({ frames := 1, cells := 0, slots := 0, locals := 22 } : Room) s m args below meth c H locs 0 0 (MQ below (Qn s0 D ac (some (.int v)) σ) args s 0 0 (fr s0)) (F0 m 52 ls []) := by
    intro x10 he H locs ls h hl
    subst he
    have hf := hK
    refine lv_iload_n hx hb dX0_mayBe_52 rfl (lv_at hl 3 rfl) ?_
    obtain ⟨hz, hf⟩ := bz_of hf
    cases hf
    refine W.widen (k := 0) (n := 0) (Nat.le_of_ble_eq_true rfl) (Nat.le_of_ble_eq_true rfl) ?_
    exact x_zret C h hz dX0_mayBe_53
  refine loopF_ind (P := fun z => ∀ (H : Heap) (locs : List Loc) (ls : Array Slot), Hs s0 D ac σ H locs → lv_has ls 5 [(0, .ref a0), (1, .int a1), (2, .int a2), (3, .int z.1), (4, .int z.2)] → W p l e ({ frames := 1, cells := 0, slots := 0, locals := 22 } : Room) s m args below meth c H locs 0 0 (MQ below (Qn s0 D ac (some (.int v)) σ) args s 0 0 (fr s0)) (F0 m 5 ls [])) ?_ _ _ hL _ _ _ h (lv_sub hl [2, 3, 4, 1, 0] rfl)
  clear hK hL h hl hf
  intro z o hf ih hX H locs ls h hl
  obtain ⟨x1, x2⟩ := z
  have h : Hs s0 D ac σ H locs := h
  have hl : lv_has ls 5 [(0, .ref a0), (1, .int a1), (2, .int a2), (3, .int x1), (4, .int x2)] := hl
  have hf : lX0_mayBe_5 σ a0 a1 a2 x1 x2 = some o := hf
  unfold lX0_mayBe_5 at hf
  refine lv_iload hx hb dX0_mayBe_5 (lv_at hl 4 rfl) ?_
  refine lv_aload_n hx hb dX0_mayBe_7 rfl (lv_at hl 0 rfl) ?_
  refine x_gI (q := (RX0, TX0, 33)) (j := 27) G C h rfl (by decide) (fun _ _ _ => rfl) (lk C q236) (fun _ z => z) dX0_mayBe_8 hf (fun x3 hf => ?_)
  refine lv_icmp_ge (tgt := 52) hx hb dX0_mayBe_11 (by decide) (fun hc => ?_) (fun hc => ?_)
  · have hf := hf_t hc hf
    cases hf
    exact hE5_0 _ (hX _ rfl) _ _ _ h (lv_sub hl [0, 1, 2, 3] rfl)
  · have hf := hf_f hc hf
    refine lv_iload_n hx hb dX0_mayBe_14 rfl (lv_at hl 3 rfl) ?_
    refine jn_of (P := fun j => ∀ (x9 : Int32), j x9 = some o → ∀ (H : Heap) (locs : List Loc) (ls : Array Slot), Hs s0 D ac σ H locs → lv_has ls 5 [(0, .ref a0), (1, .int a1), (2, .int a2), (3, .int x1), (4, .int x2)] → W p l e ({ frames := 1, cells := 0, slots := 0, locals := 22 } : Room) s m args below meth c H locs 0 0 (MQ below (Qn s0 D ac (some (.int v)) σ) args s 0 0 (fr s0)) (F0 m 45 ls [.int x9])) hf ?_ ?_
    · intro x9 hf H locs ls h hl
      refine lv_istore_n (lv' := [(3, .int x9), (0, .ref a0), (1, .int a1), (2, .int a2), (4, .int x2)]) hx hb dX0_mayBe_45 rfl hl (by decide) rfl (fun ls hl => ?_)
      refine lv_iinc (v := x2 + 1) (lv' := [(4, .int (x2 + 1)), (3, .int x9), (0, .ref a0), (1, .int a1), (2, .int a2)]) hx hb dX0_mayBe_46 hl (k := 4) rfl rfl (by decide) rfl (fun ls hl => ?_)
      refine lv_goto (tgt := 5) hx hb dX0_mayBe_49 (by decide) ?_
      cases hf
      exact ih _ rfl _ _ _ h (lv_sub hl [2, 3, 4, 1, 0] rfl)
    intro j45 hj45 hf
    refine jn_of (P := fun j => ∀ (u0 : Unit), j u0 = some o → ∀ (H : Heap) (locs : List Loc) (ls : Array Slot), Hs s0 D ac σ H locs → lv_has ls 5 [(0, .ref a0), (1, .int a1), (2, .int a2), (3, .int x1), (4, .int x2)] → W p l e ({ frames := 1, cells := 0, slots := 0, locals := 22 } : Room) s m args below meth c H locs 0 0 (MQ below (Qn s0 D ac (some (.int v)) σ) args s 0 0 (fr s0)) (F0 m 44 ls [])) hf ?_ ?_
    · intro u0 hf H locs ls h hl
      refine lv_iconst (v := 0) hx hb dX0_mayBe_44 (by decide) ?_
      exact hj45 _ hf _ _ _ h (lv_sub hl [0, 1, 2, 3, 4] rfl)
    intro j44 hj44 hf
    refine lv_if_eq (tgt := 44) hx hb dX0_mayBe_15 (by decide) (fun hc => ?_) (fun hc => ?_)
    · have hf := hf_t hc hf
      exact hj44 () hf _ _ _ h (lv_sub hl [0, 1, 2, 3, 4] rfl)
    · have hf := hf_f hc hf
      refine lv_aload_n hx hb dX0_mayBe_18 rfl (lv_at hl 0 rfl) ?_
      refine x_gR (q := (RX0, TX0, 33)) (j := 25) G C h rfl (by decide) (fun _ _ _ => rfl) (lk C q234) (fun _ z => z) dX0_mayBe_19 hf (fun r4 hf => ?_)
      refine lv_iload hx hb dX0_mayBe_22 (lv_at hl 4 rfl) ?_
      refine x_aald (q := 8) rfl rfl (fun _ _ _ => rfl) G C h dX0_mayBe_24 hf (fun r5 hf => ?_)
      refine lv_iload_n hx hb dX0_mayBe_25 rfl (lv_at hl 1 rfl) ?_
      refine lv_iload_n hx hb dX0_mayBe_26 rfl (lv_at hl 2 rfl) ?_
      obtain ⟨hk, hf⟩ := k_of hf
      obtain ⟨x6, hc, hf⟩ := hf_b hf
      refine x_cV (q := (RX18, TX18, 2)) (rest := []) (As := [.int a1, .int a2]) (n := 2) (ov := (some (.int x6))) G C h (wX18_isFirst G hc) hk rfl (lw_V q1012 q1013 q1014 q81 q1015) (by decide +kernel) ⟨Nat.le_of_ble_eq_true rfl, Nat.le_of_ble_eq_true rfl⟩ rfl rfl rfl hl.1 rfl (Nat.le_of_ble_eq_true rfl) dX0_mayBe_27 ⟨(Nat.le_of_ble_eq_true rfl), (Nat.le_of_ble_eq_true rfl)⟩ (fun H locs h => ?_)
      refine lv_aload_n hx hb dX0_mayBe_30 rfl (lv_at hl 0 rfl) ?_
      refine x_gR (q := (RX0, TX0, 33)) (j := 26) G C h rfl (by decide) (fun _ _ _ => rfl) (lk C q235) (fun _ z => z) dX0_mayBe_31 hf (fun r7 hf => ?_)
      refine lv_iload hx hb dX0_mayBe_34 (lv_at hl 4 rfl) ?_
      refine x_zald G C h dX0_mayBe_36 hf (fun x8 hf => ?_)
      refine lv_icmp_ne (tgt := 44) hx hb dX0_mayBe_37 (by decide) (fun hc => ?_) (fun hc => ?_)
      · have hf := hf_f hc hf
        exact hj44 () hf _ _ _ h (lv_sub hl [0, 1, 2, 3, 4] rfl)
      · have hf := hf_t hc hf
        refine lv_iconst (v := 1) hx hb dX0_mayBe_40 (by decide) ?_
        refine lv_goto (tgt := 45) hx hb dX0_mayBe_41 (by decide) ?_
        exact hj45 _ hf _ _ _ h (lv_sub hl [0, 1, 2, 3, 4] rfl)

theorem dX0_may_0 : decode cX0_may 0 = .ok (.iload_n 1, 1) := by decide +kernel
theorem dX0_may_1 : decode cX0_may 1 = .ok (.i2l, 1) := by decide +kernel
theorem dX0_may_2 : decode cX0_may 2 = .ok (.lconst 0, 1) := by decide +kernel
theorem dX0_may_3 : decode cX0_may 3 = .ok (.lconst 1, 1) := by decide +kernel
theorem dX0_may_4 : decode cX0_may 4 = .ok (.invokestatic 127, 3) := by decide +kernel
theorem dX0_may_7 : decode cX0_may 7 = .ok (.ifCond .ne 6, 3) := by decide +kernel
theorem dX0_may_10 : decode cX0_may 10 = .ok (.bipush (-3), 2) := by decide +kernel
theorem dX0_may_12 : decode cX0_may 12 = .ok (.ireturn, 1) := by decide +kernel
theorem dX0_may_13 : decode cX0_may 13 = .ok (.iconst 0, 1) := by decide +kernel
theorem dX0_may_14 : decode cX0_may 14 = .ok (.istore_n 2, 1) := by decide +kernel
theorem dX0_may_15 : decode cX0_may 15 = .ok (.iconst (-1), 1) := by decide +kernel
theorem dX0_may_16 : decode cX0_may 16 = .ok (.istore_n 3, 1) := by decide +kernel
theorem dX0_may_17 : decode cX0_may 17 = .ok (.iconst 5, 1) := by decide +kernel
theorem dX0_may_18 : decode cX0_may 18 = .ok (.istore 4, 2) := by decide +kernel
theorem dX0_may_20 : decode cX0_may 20 = .ok (.iload 4, 2) := by decide +kernel
theorem dX0_may_22 : decode cX0_may 22 = .ok (.ifCond .lt 66, 3) := by decide +kernel
theorem dX0_may_25 : decode cX0_may 25 = .ok (.iconst 5, 1) := by decide +kernel
theorem dX0_may_26 : decode cX0_may 26 = .ok (.istore 5, 2) := by decide +kernel
theorem dX0_may_28 : decode cX0_may 28 = .ok (.iload 5, 2) := by decide +kernel
theorem dX0_may_30 : decode cX0_may 30 = .ok (.ifCond .lt 52, 3) := by decide +kernel
theorem dX0_may_33 : decode cX0_may 33 = .ok (.iload_n 2, 1) := by decide +kernel
theorem dX0_may_34 : decode cX0_may 34 = .ok (.aload_n 0, 1) := by decide +kernel
theorem dX0_may_35 : decode cX0_may 35 = .ok (.iload 4, 2) := by decide +kernel
theorem dX0_may_37 : decode cX0_may 37 = .ok (.iload 5, 2) := by decide +kernel
theorem dX0_may_39 : decode cX0_may 39 = .ok (.invokevirtual 360, 3) := by decide +kernel
theorem dX0_may_42 : decode cX0_may 42 = .ok (.ifCond .eq 7, 3) := by decide +kernel
theorem dX0_may_45 : decode cX0_may 45 = .ok (.iconst 1, 1) := by decide +kernel
theorem dX0_may_46 : decode cX0_may 46 = .ok (.goto 4, 3) := by decide +kernel
theorem dX0_may_49 : decode cX0_may 49 = .ok (.iconst 0, 1) := by decide +kernel
theorem dX0_may_50 : decode cX0_may 50 = .ok (.iadd, 1) := by decide +kernel
theorem dX0_may_51 : decode cX0_may 51 = .ok (.istore_n 2, 1) := by decide +kernel
theorem dX0_may_52 : decode cX0_may 52 = .ok (.aload_n 0, 1) := by decide +kernel
theorem dX0_may_53 : decode cX0_may 53 = .ok (.iload 4, 2) := by decide +kernel
theorem dX0_may_55 : decode cX0_may 55 = .ok (.iload 5, 2) := by decide +kernel
theorem dX0_may_57 : decode cX0_may 57 = .ok (.invokevirtual 360, 3) := by decide +kernel
theorem dX0_may_60 : decode cX0_may 60 = .ok (.ifCond .eq 14, 3) := by decide +kernel
theorem dX0_may_63 : decode cX0_may 63 = .ok (.bipush 10, 2) := by decide +kernel
theorem dX0_may_65 : decode cX0_may 65 = .ok (.iload 4, 2) := by decide +kernel
theorem dX0_may_67 : decode cX0_may 67 = .ok (.imul, 1) := by decide +kernel
theorem dX0_may_68 : decode cX0_may 68 = .ok (.iload 5, 2) := by decide +kernel
theorem dX0_may_70 : decode cX0_may 70 = .ok (.iadd, 1) := by decide +kernel
theorem dX0_may_71 : decode cX0_may 71 = .ok (.goto 4, 3) := by decide +kernel
theorem dX0_may_74 : decode cX0_may 74 = .ok (.iload_n 3, 1) := by decide +kernel
theorem dX0_may_75 : decode cX0_may 75 = .ok (.istore_n 3, 1) := by decide +kernel
theorem dX0_may_76 : decode cX0_may 76 = .ok (.iinc 5 (-1), 3) := by decide +kernel
theorem dX0_may_79 : decode cX0_may 79 = .ok (.goto (-51), 3) := by decide +kernel
theorem dX0_may_82 : decode cX0_may 82 = .ok (.iinc 4 (-1), 3) := by decide +kernel
theorem dX0_may_85 : decode cX0_may 85 = .ok (.goto (-65), 3) := by decide +kernel
theorem dX0_may_88 : decode cX0_may 88 = .ok (.iload_n 1, 1) := by decide +kernel
theorem dX0_may_89 : decode cX0_may 89 = .ok (.ifCond .ne 7, 3) := by decide +kernel
theorem dX0_may_92 : decode cX0_may 92 = .ok (.iload_n 2, 1) := by decide +kernel
theorem dX0_may_93 : decode cX0_may 93 = .ok (.goto 4, 3) := by decide +kernel
theorem dX0_may_96 : decode cX0_may 96 = .ok (.iload_n 3, 1) := by decide +kernel
theorem dX0_may_97 : decode cX0_may 97 = .ok (.ireturn, 1) := by decide +kernel
def lX0_may_28 (σ : St) (a0 : Nat) (x4 : Int32) (x5 : Int32) (x6 : Int32) (x7 : Int32) : Option ((Int32 × Int32 × Int32) ⊕ (Int32 × Int32)) :=
  if x7 < 0 then
    some (.inr (x5, x6))
  else
  o_k σ a0 0 <|
  (fX0_mayBe σ a0 x4 x7).bind fun x8 =>
  jn (fun (x9 : Int32) =>
    o_k σ a0 0 <|
    (fX0_mayBe σ a0 x4 x7).bind fun x10 =>
    jn (fun (x11 : Int32) =>
      some (.inl (x5 + x9, x11, x7 + (-1)))) fun j75 =>
    if x10 = 0 then
      j75 x6
    else
    j75 ((10 * x4) + x7)) fun j50 =>
  if x8 = 0 then
    j50 0
  else
  j50 1

def lX0_may_20 (σ : St) (a0 : Nat) (x2 : Int32) (x3 : Int32) (x4 : Int32) : Option ((Int32 × Int32 × Int32) ⊕ (Int32 × Int32)) :=
  if x4 < 0 then
    some (.inr (x2, x3))
  else
  (loopF fuel (fun z => lX0_may_28 σ a0 x4 z.1 z.2.1 z.2.2) (x2, x3, 5)).bind <| un2 fun x12 x13 =>
  some (.inl (x12, x13, x4 + (-1)))

def fX0_may (σ : St) (a0 : Nat) (a1 : Int32) : Option (Int32) :=
  (fX0_isIn σ (a1.toInt64) 0 1).bind fun x1 =>
  if x1 = 0 then
    some ((-3))
  else
  (loopF fuel (fun z => lX0_may_20 σ a0 z.1 z.2.1 z.2.2) (0, (-1), 5)).bind <| un2 fun x14 x15 =>
  if a1 = 0 then
    some x14
  else
  some x15

set_option maxHeartbeats 4000000 in
theorem wX0_may {l : Launch} {s0 : State} {A0 : Array Value} {D : va_G} {ac : Nat → ClassId} (G : Gl s0 A0 D ac) {σ : St} {a0 : Nat} {a1 : Int32} {v : Int32} (hf : fX0_may σ a0 a1 = some (v)) : Met l yX0_may (ws_ yX0_may cX0_may 6 (some (.int))) ({ frames := 2, cells := 0, slots := 0, locals := 46 } : Room) (Pn s0 D ac [.ref a0, .int a1] σ) (Qn s0 D ac (some (.int v)) σ) 0 0 (fr s0) := by
  refine x_met (by decide) (Nat.le_of_ble_eq_true rfl) ?_
  intro p e s m args below meth c ls C hnm h hl
  have C : Cx s0 p s m args meth c cX0_may 6 "HutForShow" (some (.int)) := C
  have hx := C.1
  have hb := C.2.1
  have hl : lv_has ls 6 [(0, .ref a0), (1, .int a1)] := hl
  unfold fX0_may at hf
  refine lv_iload_n hx hb dX0_may_0 rfl (lv_at hl 1 rfl) ?_
  refine lv_i2l hx hb dX0_may_1 rfl ?_
  refine lv_lconst (v := 0) hx hb dX0_may_2 (by decide) ?_
  refine lv_lconst (v := 1) hx hb dX0_may_3 (by decide) ?_
  obtain ⟨x1, hc, hf⟩ := hf_b hf
  refine x_cS (rest := []) (As := [.long (a1.toInt64), .long 0, .long 1]) (n := 3) (ov := (some (.int x1))) C h (wX0_isIn G hc) (lw_S q318 q319 q54 q320) (by decide +kernel) ⟨Nat.le_of_ble_eq_true rfl, Nat.le_of_ble_eq_true rfl⟩ rfl rfl rfl hl.1 rfl (Nat.le_of_ble_eq_true rfl) dX0_may_4 ⟨(Nat.le_of_ble_eq_true rfl), (Nat.le_of_ble_eq_true rfl)⟩ (fun H locs h => ?_)
  refine lv_if_ne (tgt := 13) hx hb dX0_may_7 (by decide) (fun hc => ?_) (fun hc => ?_)
  · have hf := hf_f hc hf
    refine lv_iconst (v := 0) hx hb dX0_may_13 (by decide) ?_
    refine lv_istore_n (lv' := [(2, .int 0), (0, .ref a0), (1, .int a1)]) hx hb dX0_may_14 rfl hl (by decide) rfl (fun ls hl => ?_)
    refine lv_iconst (v := (-1)) hx hb dX0_may_15 (by decide) ?_
    refine lv_istore_n (lv' := [(3, .int ((-1))), (2, .int 0), (0, .ref a0), (1, .int a1)]) hx hb dX0_may_16 rfl hl (by decide) rfl (fun ls hl => ?_)
    refine lv_iconst (v := 5) hx hb dX0_may_17 (by decide) ?_
    refine lv_istore (lv' := [(4, .int 5), (3, .int ((-1))), (2, .int 0), (0, .ref a0), (1, .int a1)]) hx hb dX0_may_18 hl (by decide) rfl (fun ls hl => ?_)
    obtain ⟨e20, hL, hK⟩ := hf_b hf
    have hE20_0 : ∀ (x14 : Int32) (x15 : Int32), (x14, x15) = e20 → ∀  (H : Heap) (locs : List Loc) (ls : Array Slot), Hs s0 D ac σ H locs → lv_has ls 6 [(0, .ref a0), (1, .int a1), (2, .int x14), (3, .int x15)] → W p l e ({ frames := 2, cells := 0, slots := 0, locals := 46 } : Room) s m args below meth c H locs 0 0 (MQ below (Qn s0 D ac (some (.int v)) σ) args s 0 0 (fr s0)) (F0 m 88 ls []) := by
      intro x14 x15 he H locs ls h hl
      subst he
      have hf := hK
      have hf := hf_u2 hf
      refine lv_iload_n hx hb dX0_may_88 rfl (lv_at hl 1 rfl) ?_
      refine lv_if_ne (tgt := 96) hx hb dX0_may_89 (by decide) (fun hc => ?_) (fun hc => ?_)
      · have hf := hf_f hc hf
        refine lv_iload_n hx hb dX0_may_96 rfl (lv_at hl 3 rfl) ?_
        cases hf
        refine W.widen (k := 0) (n := 0) (Nat.le_of_ble_eq_true rfl) (Nat.le_of_ble_eq_true rfl) ?_
        exact x_iret C h dX0_may_97
      · have hf := hf_t hc hf
        refine lv_iload_n hx hb dX0_may_92 rfl (lv_at hl 2 rfl) ?_
        refine lv_goto (tgt := 97) hx hb dX0_may_93 (by decide) ?_
        cases hf
        refine W.widen (k := 0) (n := 0) (Nat.le_of_ble_eq_true rfl) (Nat.le_of_ble_eq_true rfl) ?_
        exact x_iret C h dX0_may_97
    refine loopF_ind (P := fun z => ∀ (H : Heap) (locs : List Loc) (ls : Array Slot), Hs s0 D ac σ H locs → lv_has ls 6 [(0, .ref a0), (1, .int a1), (2, .int z.1), (3, .int z.2.1), (4, .int z.2.2)] → W p l e ({ frames := 2, cells := 0, slots := 0, locals := 46 } : Room) s m args below meth c H locs 0 0 (MQ below (Qn s0 D ac (some (.int v)) σ) args s 0 0 (fr s0)) (F0 m 20 ls [])) ?_ _ _ hL _ _ _ h (lv_sub hl [3, 4, 2, 1, 0] rfl)
    clear hK hL h hl hf
    intro z o hf ih hX H locs ls h hl
    obtain ⟨x2, x3, x4⟩ := z
    have h : Hs s0 D ac σ H locs := h
    have hl : lv_has ls 6 [(0, .ref a0), (1, .int a1), (2, .int x2), (3, .int x3), (4, .int x4)] := hl
    have hf : lX0_may_20 σ a0 x2 x3 x4 = some o := hf
    unfold lX0_may_20 at hf
    refine lv_iload hx hb dX0_may_20 (lv_at hl 4 rfl) ?_
    refine lv_if_lt (tgt := 88) hx hb dX0_may_22 (by decide) (fun hc => ?_) (fun hc => ?_)
    · have hf := hf_t hc hf
      cases hf
      exact hE20_0 _ _ (hX _ rfl) _ _ _ h (lv_sub hl [0, 1, 2, 3] rfl)
    · have hf := hf_f hc hf
      refine lv_iconst (v := 5) hx hb dX0_may_25 (by decide) ?_
      refine lv_istore (lv' := [(5, .int 5), (0, .ref a0), (1, .int a1), (2, .int x2), (3, .int x3), (4, .int x4)]) hx hb dX0_may_26 hl (by decide) rfl (fun ls hl => ?_)
      obtain ⟨e28, hL, hK⟩ := hf_b hf
      have hE28_0 : ∀ (x12 : Int32) (x13 : Int32), (x12, x13) = e28 → ∀  (H : Heap) (locs : List Loc) (ls : Array Slot), Hs s0 D ac σ H locs → lv_has ls 6 [(0, .ref a0), (1, .int a1), (2, .int x12), (3, .int x13), (4, .int x4)] → W p l e ({ frames := 2, cells := 0, slots := 0, locals := 46 } : Room) s m args below meth c H locs 0 0 (MQ below (Qn s0 D ac (some (.int v)) σ) args s 0 0 (fr s0)) (F0 m 82 ls []) := by
        intro x12 x13 he H locs ls h hl
        subst he
        have hf := hK
        have hf := hf_u2 hf
        refine lv_iinc (v := x4 + (-1)) (lv' := [(4, .int (x4 + (-1))), (0, .ref a0), (1, .int a1), (2, .int x12), (3, .int x13)]) hx hb dX0_may_82 hl (k := 4) rfl rfl (by decide) rfl (fun ls hl => ?_)
        refine lv_goto (tgt := 20) hx hb dX0_may_85 (by decide) ?_
        cases hf
        exact ih _ rfl _ _ _ h (lv_sub hl [1, 2, 3, 4, 0] rfl)
      refine loopF_ind (P := fun z => ∀ (H : Heap) (locs : List Loc) (ls : Array Slot), Hs s0 D ac σ H locs → lv_has ls 6 [(0, .ref a0), (1, .int a1), (2, .int z.1), (3, .int z.2.1), (4, .int x4), (5, .int z.2.2)] → W p l e ({ frames := 2, cells := 0, slots := 0, locals := 46 } : Room) s m args below meth c H locs 0 0 (MQ below (Qn s0 D ac (some (.int v)) σ) args s 0 0 (fr s0)) (F0 m 28 ls [])) ?_ _ _ hL _ _ _ h (lv_sub hl [1, 2, 3, 4, 5, 0] rfl)
      clear hK hL h hl hf
      intro z o hf ih hX H locs ls h hl
      obtain ⟨x5, x6, x7⟩ := z
      have h : Hs s0 D ac σ H locs := h
      have hl : lv_has ls 6 [(0, .ref a0), (1, .int a1), (2, .int x5), (3, .int x6), (4, .int x4), (5, .int x7)] := hl
      have hf : lX0_may_28 σ a0 x4 x5 x6 x7 = some o := hf
      unfold lX0_may_28 at hf
      refine lv_iload hx hb dX0_may_28 (lv_at hl 5 rfl) ?_
      refine lv_if_lt (tgt := 82) hx hb dX0_may_30 (by decide) (fun hc => ?_) (fun hc => ?_)
      · have hf := hf_t hc hf
        cases hf
        exact hE28_0 _ _ (hX _ rfl) _ _ _ h (lv_sub hl [0, 1, 2, 3, 4] rfl)
      · have hf := hf_f hc hf
        refine lv_iload_n hx hb dX0_may_33 rfl (lv_at hl 2 rfl) ?_
        refine lv_aload_n hx hb dX0_may_34 rfl (lv_at hl 0 rfl) ?_
        refine lv_iload hx hb dX0_may_35 (lv_at hl 4 rfl) ?_
        refine lv_iload hx hb dX0_may_37 (lv_at hl 5 rfl) ?_
        obtain ⟨hk, hf⟩ := k_of hf
        obtain ⟨x8, hc, hf⟩ := hf_b hf
        refine x_cV (q := (RX0, TX0, 33)) (rest := [.int x5]) (As := [.int x4, .int x7]) (n := 2) (ov := (some (.int x8))) G C h (wX0_mayBe G hc) hk rfl (lw_V q1008 q1010 qs20 q54 q1011) (by decide +kernel) ⟨Nat.le_of_ble_eq_true rfl, Nat.le_of_ble_eq_true rfl⟩ rfl rfl rfl hl.1 rfl (Nat.le_of_ble_eq_true rfl) dX0_may_39 ⟨(Nat.le_of_ble_eq_true rfl), (Nat.le_of_ble_eq_true rfl)⟩ (fun H locs h => ?_)
        refine jn_of (P := fun j => ∀ (x9 : Int32), j x9 = some o → ∀ (H : Heap) (locs : List Loc) (ls : Array Slot), Hs s0 D ac σ H locs → lv_has ls 6 [(0, .ref a0), (1, .int a1), (2, .int x5), (3, .int x6), (4, .int x4), (5, .int x7)] → W p l e ({ frames := 2, cells := 0, slots := 0, locals := 46 } : Room) s m args below meth c H locs 0 0 (MQ below (Qn s0 D ac (some (.int v)) σ) args s 0 0 (fr s0)) (F0 m 50 ls [.int x9, .int x5])) hf ?_ ?_
        · intro x9 hf H locs ls h hl
          refine lv_iadd hx hb dX0_may_50 ?_
          refine lv_istore_n (lv' := [(2, .int (x5 + x9)), (0, .ref a0), (1, .int a1), (3, .int x6), (4, .int x4), (5, .int x7)]) hx hb dX0_may_51 rfl hl (by decide) rfl (fun ls hl => ?_)
          refine lv_aload_n hx hb dX0_may_52 rfl (lv_at hl 1 rfl) ?_
          refine lv_iload hx hb dX0_may_53 (lv_at hl 4 rfl) ?_
          refine lv_iload hx hb dX0_may_55 (lv_at hl 5 rfl) ?_
          obtain ⟨hk, hf⟩ := k_of hf
          obtain ⟨x10, hc, hf⟩ := hf_b hf
          refine x_cV (q := (RX0, TX0, 33)) (rest := []) (As := [.int x4, .int x7]) (n := 2) (ov := (some (.int x10))) G C h (wX0_mayBe G hc) hk rfl (lw_V q1008 q1010 qs20 q54 q1011) (by decide +kernel) ⟨Nat.le_of_ble_eq_true rfl, Nat.le_of_ble_eq_true rfl⟩ rfl rfl rfl hl.1 rfl (Nat.le_of_ble_eq_true rfl) dX0_may_57 ⟨(Nat.le_of_ble_eq_true rfl), (Nat.le_of_ble_eq_true rfl)⟩ (fun H locs h => ?_)
          refine jn_of (P := fun j => ∀ (x11 : Int32), j x11 = some o → ∀ (H : Heap) (locs : List Loc) (ls : Array Slot), Hs s0 D ac σ H locs → lv_has ls 6 [(0, .ref a0), (1, .int a1), (2, .int (x5 + x9)), (3, .int x6), (4, .int x4), (5, .int x7)] → W p l e ({ frames := 2, cells := 0, slots := 0, locals := 46 } : Room) s m args below meth c H locs 0 0 (MQ below (Qn s0 D ac (some (.int v)) σ) args s 0 0 (fr s0)) (F0 m 75 ls [.int x11])) hf ?_ ?_
          · intro x11 hf H locs ls h hl
            refine lv_istore_n (lv' := [(3, .int x11), (0, .ref a0), (1, .int a1), (2, .int (x5 + x9)), (4, .int x4), (5, .int x7)]) hx hb dX0_may_75 rfl hl (by decide) rfl (fun ls hl => ?_)
            refine lv_iinc (v := x7 + (-1)) (lv' := [(5, .int (x7 + (-1))), (3, .int x11), (0, .ref a0), (1, .int a1), (2, .int (x5 + x9)), (4, .int x4)]) hx hb dX0_may_76 hl (k := 5) rfl rfl (by decide) rfl (fun ls hl => ?_)
            refine lv_goto (tgt := 28) hx hb dX0_may_79 (by decide) ?_
            cases hf
            exact ih _ rfl _ _ _ h (lv_sub hl [2, 3, 4, 1, 5, 0] rfl)
          intro j75 hj75 hf
          refine lv_if_eq (tgt := 74) hx hb dX0_may_60 (by decide) (fun hc => ?_) (fun hc => ?_)
          · have hf := hf_t hc hf
            refine lv_iload_n hx hb dX0_may_74 rfl (lv_at hl 3 rfl) ?_
            exact hj75 _ hf _ _ _ h (lv_sub hl [1, 2, 0, 3, 4, 5] rfl)
          · have hf := hf_f hc hf
            refine lv_bipush (v := 10) hx hb dX0_may_63 (by decide) ?_
            refine lv_iload hx hb dX0_may_65 (lv_at hl 4 rfl) ?_
            refine lv_imul hx hb dX0_may_67 ?_
            refine lv_iload hx hb dX0_may_68 (lv_at hl 5 rfl) ?_
            refine lv_iadd hx hb dX0_may_70 ?_
            refine lv_goto (tgt := 75) hx hb dX0_may_71 (by decide) ?_
            exact hj75 _ hf _ _ _ h (lv_sub hl [1, 2, 0, 3, 4, 5] rfl)
        intro j50 hj50 hf
        refine lv_if_eq (tgt := 49) hx hb dX0_may_42 (by decide) (fun hc => ?_) (fun hc => ?_)
        · have hf := hf_t hc hf
          refine lv_iconst (v := 0) hx hb dX0_may_49 (by decide) ?_
          exact hj50 _ hf _ _ _ h (lv_sub hl [0, 1, 2, 3, 4, 5] rfl)
        · have hf := hf_f hc hf
          refine lv_iconst (v := 1) hx hb dX0_may_45 (by decide) ?_
          refine lv_goto (tgt := 50) hx hb dX0_may_46 (by decide) ?_
          exact hj50 _ hf _ _ _ h (lv_sub hl [0, 1, 2, 3, 4, 5] rfl)
  · have hf := hf_t hc hf
    refine lv_bipush (v := (-3)) hx hb dX0_may_10 (by decide) ?_
    cases hf
    refine W.widen (k := 0) (n := 0) (Nat.le_of_ble_eq_true rfl) (Nat.le_of_ble_eq_true rfl) ?_
    exact x_iret C h dX0_may_12

theorem dX0_pair_0 : decode cX0_pair 0 = .ok (.iload_n 1, 1) := by decide +kernel
theorem dX0_pair_1 : decode cX0_pair 1 = .ok (.iload_n 2, 1) := by decide +kernel
theorem dX0_pair_2 : decode cX0_pair 2 = .ok (.iload_n 3, 1) := by decide +kernel
theorem dX0_pair_3 : decode cX0_pair 3 = .ok (.iload 4, 2) := by decide +kernel
theorem dX0_pair_5 : decode cX0_pair 5 = .ok (.invokestatic 349, 3) := by decide +kernel
theorem dX0_pair_8 : decode cX0_pair 8 = .ok (.ifCond .ne 6, 3) := by decide +kernel
theorem dX0_pair_11 : decode cX0_pair 11 = .ok (.bipush (-3), 2) := by decide +kernel
theorem dX0_pair_13 : decode cX0_pair 13 = .ok (.ireturn, 1) := by decide +kernel
theorem dX0_pair_14 : decode cX0_pair 14 = .ok (.aload_n 0, 1) := by decide +kernel
theorem dX0_pair_15 : decode cX0_pair 15 = .ok (.getfield 363, 3) := by decide +kernel
theorem dX0_pair_18 : decode cX0_pair 18 = .ok (.bipush 8, 2) := by decide +kernel
theorem dX0_pair_20 : decode cX0_pair 20 = .ok (.if_icmp .ne 6, 3) := by decide +kernel
theorem dX0_pair_23 : decode cX0_pair 23 = .ok (.bipush (-5), 2) := by decide +kernel
theorem dX0_pair_25 : decode cX0_pair 25 = .ok (.ireturn, 1) := by decide +kernel
theorem dX0_pair_26 : decode cX0_pair 26 = .ok (.aload_n 0, 1) := by decide +kernel
theorem dX0_pair_27 : decode cX0_pair 27 = .ok (.getfield 112, 3) := by decide +kernel
theorem dX0_pair_30 : decode cX0_pair 30 = .ok (.aload_n 0, 1) := by decide +kernel
theorem dX0_pair_31 : decode cX0_pair 31 = .ok (.getfield 363, 3) := by decide +kernel
theorem dX0_pair_34 : decode cX0_pair 34 = .ok (.new 102, 3) := by decide +kernel
theorem dX0_pair_37 : decode cX0_pair 37 = .ok (.dup, 1) := by decide +kernel
theorem dX0_pair_38 : decode cX0_pair 38 = .ok (.iload_n 1, 1) := by decide +kernel
theorem dX0_pair_39 : decode cX0_pair 39 = .ok (.iload_n 3, 1) := by decide +kernel
theorem dX0_pair_40 : decode cX0_pair 40 = .ok (.isub, 1) := by decide +kernel
theorem dX0_pair_41 : decode cX0_pair 41 = .ok (.iload_n 2, 1) := by decide +kernel
theorem dX0_pair_42 : decode cX0_pair 42 = .ok (.iload 4, 2) := by decide +kernel
theorem dX0_pair_44 : decode cX0_pair 44 = .ok (.isub, 1) := by decide +kernel
theorem dX0_pair_45 : decode cX0_pair 45 = .ok (.invokespecial 356, 3) := by decide +kernel
theorem dX0_pair_48 : decode cX0_pair 48 = .ok (.aastore, 1) := by decide +kernel
theorem dX0_pair_49 : decode cX0_pair 49 = .ok (.aload_n 0, 1) := by decide +kernel
theorem dX0_pair_50 : decode cX0_pair 50 = .ok (.dup, 1) := by decide +kernel
theorem dX0_pair_51 : decode cX0_pair 51 = .ok (.getfield 363, 3) := by decide +kernel
theorem dX0_pair_54 : decode cX0_pair 54 = .ok (.iconst 1, 1) := by decide +kernel
theorem dX0_pair_55 : decode cX0_pair 55 = .ok (.iadd, 1) := by decide +kernel
theorem dX0_pair_56 : decode cX0_pair 56 = .ok (.putfield 363, 3) := by decide +kernel
theorem dX0_pair_59 : decode cX0_pair 59 = .ok (.aload_n 0, 1) := by decide +kernel
theorem dX0_pair_60 : decode cX0_pair 60 = .ok (.getfield 363, 3) := by decide +kernel
theorem dX0_pair_63 : decode cX0_pair 63 = .ok (.ireturn, 1) := by decide +kernel
def fX0_pair (σ : St) (a0 : Nat) (a1 : Int32) (a2 : Int32) (a3 : Int32) (a4 : Int32) : Option (Int32 × St) :=
  (fX0_areTold σ a1 a2 a3 a4).bind fun x1 =>
  if x1 = 0 then
    some ((-3), σ)
  else
  o_gI σ a0 0 29 fun x2 =>
  if x2 = 8 then
    some ((-5), σ)
  else
  o_gR σ a0 0 28 fun r3 =>
  o_gI σ a0 0 29 fun x4 =>
  o_new σ 15 fun r5 σ6 =>
  (fX18_init σ6 r5 (a1 - a3) (a2 - a4)).bind fun σ7 =>
  o_sR σ7 r3 8 x4 r5 fun σ8 =>
  o_gI σ8 a0 0 29 fun x9 =>
  o_pI σ8 a0 0 29 (x9 + 1) fun σ10 =>
  o_gI σ10 a0 0 29 fun x11 =>
  some (x11, σ10)

set_option maxHeartbeats 4000000 in
theorem wX0_pair {l : Launch} {s0 : State} {A0 : Array Value} {D : va_G} {ac : Nat → ClassId} (G : Gl s0 A0 D ac) {σ : St} {a0 : Nat} {a1 : Int32} {a2 : Int32} {a3 : Int32} {a4 : Int32} {v : Int32} {σ' : St} (hf : fX0_pair σ a0 a1 a2 a3 a4 = some (v, σ')) : Met l yX0_pair (ws_ yX0_pair cX0_pair 5 (some (.int))) ({ frames := 2, cells := 1, slots := 2, locals := 48 } : Room) (Pn s0 D ac [.ref a0, .int a1, .int a2, .int a3, .int a4] σ) (Qn s0 D ac (some (.int v)) σ') 1 2 (fr s0) := by
  refine x_met (by decide) (Nat.le_of_ble_eq_true rfl) ?_
  intro p e s m args below meth c ls C hnm h hl
  have C : Cx s0 p s m args meth c cX0_pair 5 "HutForShow" (some (.int)) := C
  have hx := C.1
  have hb := C.2.1
  have hl : lv_has ls 5 [(0, .ref a0), (1, .int a1), (2, .int a2), (3, .int a3), (4, .int a4)] := hl
  unfold fX0_pair at hf
  refine lv_iload_n hx hb dX0_pair_0 rfl (lv_at hl 1 rfl) ?_
  refine lv_iload_n hx hb dX0_pair_1 rfl (lv_at hl 2 rfl) ?_
  refine lv_iload_n hx hb dX0_pair_2 rfl (lv_at hl 3 rfl) ?_
  refine lv_iload hx hb dX0_pair_3 (lv_at hl 4 rfl) ?_
  obtain ⟨x1, hc, hf⟩ := hf_b hf
  refine x_cS (rest := []) (As := [.int a1, .int a2, .int a3, .int a4]) (n := 4) (ov := (some (.int x1))) C h (wX0_areTold G hc) (lw_S q989 q990 q54 q991) (by decide +kernel) ⟨Nat.le_of_ble_eq_true rfl, Nat.le_of_ble_eq_true rfl⟩ rfl rfl rfl hl.1 rfl (Nat.le_of_ble_eq_true rfl) dX0_pair_5 ⟨(Nat.le_of_ble_eq_true rfl), (Nat.le_of_ble_eq_true rfl)⟩ (fun H locs h => ?_)
  refine lv_if_ne (tgt := 14) hx hb dX0_pair_8 (by decide) (fun hc => ?_) (fun hc => ?_)
  · have hf := hf_f hc hf
    refine lv_aload_n hx hb dX0_pair_14 rfl (lv_at hl 0 rfl) ?_
    refine x_gI (q := (RX0, TX0, 33)) (j := 29) G C h rfl (by decide) (fun _ _ _ => rfl) (lk C q238) (fun _ z => z) dX0_pair_15 hf (fun x2 hf => ?_)
    refine lv_bipush (v := 8) hx hb dX0_pair_18 (by decide) ?_
    refine lv_icmp_ne (tgt := 26) hx hb dX0_pair_20 (by decide) (fun hc => ?_) (fun hc => ?_)
    · have hf := hf_f hc hf
      refine lv_aload_n hx hb dX0_pair_26 rfl (lv_at hl 0 rfl) ?_
      refine x_gR (q := (RX0, TX0, 33)) (j := 28) G C h rfl (by decide) (fun _ _ _ => rfl) (lk C q237) (fun _ z => z) dX0_pair_27 hf (fun r3 hf => ?_)
      refine lv_aload_n hx hb dX0_pair_30 rfl (lv_at hl 0 rfl) ?_
      refine x_gI (q := (RX0, TX0, 33)) (j := 29) G C h rfl (by decide) (fun _ _ _ => rfl) (lk C q238) (fun _ z => z) dX0_pair_31 hf (fun x4 hf => ?_)
      refine x_new (q := (RX18, TX18, 2)) G C h rfl (fun j _ => nf_all 15 j) q190 q992 q81 (Nat.le_of_ble_eq_true rfl) (Nat.le_of_ble_eq_true rfl) dX0_pair_34 hf (fun r5 σ6 H h hf => ?_)
      refine lv_dup hx hb dX0_pair_37 rfl ?_
      refine lv_iload_n hx hb dX0_pair_38 rfl (lv_at hl 1 rfl) ?_
      refine lv_iload_n hx hb dX0_pair_39 rfl (lv_at hl 3 rfl) ?_
      refine lv_isub hx hb dX0_pair_40 ?_
      refine lv_iload_n hx hb dX0_pair_41 rfl (lv_at hl 2 rfl) ?_
      refine lv_iload hx hb dX0_pair_42 (lv_at hl 4 rfl) ?_
      refine lv_isub hx hb dX0_pair_44 ?_
      obtain ⟨σ7, hc, hf⟩ := hf_b hf
      refine x_cI (rest := [.ref r5, .int x4, .ref r3]) (As := [.int (a1 - a3), .int (a2 - a4)]) (n := 2) (ov := none) C h (wX18_init G hc) q993 q994 q81 q995 rfl (by decide +kernel) ⟨Nat.le_of_ble_eq_true rfl, Nat.le_of_ble_eq_true rfl⟩ rfl rfl rfl hl.1 rfl (Nat.le_of_ble_eq_true rfl) dX0_pair_45 ⟨(Nat.le_of_ble_eq_true rfl), (Nat.le_of_ble_eq_true rfl)⟩ (fun H locs h => ?_)
      refine x_aast G C h dX0_pair_48 hf (fun σ8 H locs h hf => ?_)
      refine lv_aload_n hx hb dX0_pair_49 rfl (lv_at hl 0 rfl) ?_
      refine lv_dup hx hb dX0_pair_50 rfl ?_
      refine x_gI (q := (RX0, TX0, 33)) (j := 29) G C h rfl (by decide) (fun _ _ _ => rfl) (lk C q238) (fun _ z => z) dX0_pair_51 hf (fun x9 hf => ?_)
      refine lv_iconst (v := 1) hx hb dX0_pair_54 (by decide) ?_
      refine lv_iadd hx hb dX0_pair_55 ?_
      refine x_pI (q := (RX0, TX0, 33)) (j := 29) G C h rfl (by decide) rfl (lk C q238) (fun _ z => z) (Or.inl rfl) dX0_pair_56 hf (fun σ10 H locs h hf => ?_)
      refine lv_aload_n hx hb dX0_pair_59 rfl (lv_at hl 0 rfl) ?_
      refine x_gI (q := (RX0, TX0, 33)) (j := 29) G C h rfl (by decide) (fun _ _ _ => rfl) (lk C q238) (fun _ z => z) dX0_pair_60 hf (fun x11 hf => ?_)
      cases hf
      refine W.widen (k := 1) (n := 2) (Nat.le_of_ble_eq_true rfl) (Nat.le_of_ble_eq_true rfl) ?_
      exact x_iret C h dX0_pair_63
    · have hf := hf_t hc hf
      refine lv_bipush (v := (-5)) hx hb dX0_pair_23 (by decide) ?_
      cases hf
      refine W.widen (k := 1) (n := 2) (Nat.le_of_ble_eq_true rfl) (Nat.le_of_ble_eq_true rfl) ?_
      exact x_iret C h dX0_pair_25
  · have hf := hf_t hc hf
    refine lv_bipush (v := (-3)) hx hb dX0_pair_11 (by decide) ?_
    cases hf
    refine W.widen (k := 1) (n := 2) (Nat.le_of_ble_eq_true rfl) (Nat.le_of_ble_eq_true rfl) ?_
    exact x_iret C h dX0_pair_13

theorem dX0_parting_0 : decode cX0_parting 0 = .ok (.iconst (-1), 1) := by decide +kernel
theorem dX0_parting_1 : decode cX0_parting 1 = .ok (.istore_n 1, 1) := by decide +kernel
theorem dX0_parting_2 : decode cX0_parting 2 = .ok (.ldc_w 290, 3) := by decide +kernel
theorem dX0_parting_5 : decode cX0_parting 5 = .ok (.istore_n 2, 1) := by decide +kernel
theorem dX0_parting_6 : decode cX0_parting 6 = .ok (.iconst 0, 1) := by decide +kernel
theorem dX0_parting_7 : decode cX0_parting 7 = .ok (.istore_n 3, 1) := by decide +kernel
theorem dX0_parting_8 : decode cX0_parting 8 = .ok (.iload_n 3, 1) := by decide +kernel
theorem dX0_parting_9 : decode cX0_parting 9 = .ok (.aload_n 0, 1) := by decide +kernel
theorem dX0_parting_10 : decode cX0_parting 10 = .ok (.getfield 363, 3) := by decide +kernel
theorem dX0_parting_13 : decode cX0_parting 13 = .ok (.if_icmp .ge 106, 3) := by decide +kernel
theorem dX0_parting_16 : decode cX0_parting 16 = .ok (.aload_n 0, 1) := by decide +kernel
theorem dX0_parting_17 : decode cX0_parting 17 = .ok (.iconst 0, 1) := by decide +kernel
theorem dX0_parting_18 : decode cX0_parting 18 = .ok (.invokevirtual 366, 3) := by decide +kernel
theorem dX0_parting_21 : decode cX0_parting 21 = .ok (.ifCond .le 98, 3) := by decide +kernel
theorem dX0_parting_24 : decode cX0_parting 24 = .ok (.iconst 0, 1) := by decide +kernel
theorem dX0_parting_25 : decode cX0_parting 25 = .ok (.istore 4, 2) := by decide +kernel
theorem dX0_parting_27 : decode cX0_parting 27 = .ok (.iconst 0, 1) := by decide +kernel
theorem dX0_parting_28 : decode cX0_parting 28 = .ok (.istore 5, 2) := by decide +kernel
theorem dX0_parting_30 : decode cX0_parting 30 = .ok (.iload 5, 2) := by decide +kernel
theorem dX0_parting_32 : decode cX0_parting 32 = .ok (.bipush 36, 2) := by decide +kernel
theorem dX0_parting_34 : decode cX0_parting 34 = .ok (.if_icmp .ge 62, 3) := by decide +kernel
theorem dX0_parting_37 : decode cX0_parting 37 = .ok (.iload 4, 2) := by decide +kernel
theorem dX0_parting_39 : decode cX0_parting 39 = .ok (.aload_n 0, 1) := by decide +kernel
theorem dX0_parting_40 : decode cX0_parting 40 = .ok (.iload 5, 2) := by decide +kernel
theorem dX0_parting_42 : decode cX0_parting 42 = .ok (.bipush 6, 2) := by decide +kernel
theorem dX0_parting_44 : decode cX0_parting 44 = .ok (.idiv, 1) := by decide +kernel
theorem dX0_parting_45 : decode cX0_parting 45 = .ok (.iload 5, 2) := by decide +kernel
theorem dX0_parting_47 : decode cX0_parting 47 = .ok (.bipush 6, 2) := by decide +kernel
theorem dX0_parting_49 : decode cX0_parting 49 = .ok (.irem, 1) := by decide +kernel
theorem dX0_parting_50 : decode cX0_parting 50 = .ok (.invokevirtual 360, 3) := by decide +kernel
theorem dX0_parting_53 : decode cX0_parting 53 = .ok (.ifCond .ne 7, 3) := by decide +kernel
theorem dX0_parting_56 : decode cX0_parting 56 = .ok (.iconst 0, 1) := by decide +kernel
theorem dX0_parting_57 : decode cX0_parting 57 = .ok (.goto 30, 3) := by decide +kernel
theorem dX0_parting_60 : decode cX0_parting 60 = .ok (.aload_n 0, 1) := by decide +kernel
theorem dX0_parting_61 : decode cX0_parting 61 = .ok (.getfield 112, 3) := by decide +kernel
theorem dX0_parting_64 : decode cX0_parting 64 = .ok (.iload_n 3, 1) := by decide +kernel
theorem dX0_parting_65 : decode cX0_parting 65 = .ok (.aaload, 1) := by decide +kernel
theorem dX0_parting_66 : decode cX0_parting 66 = .ok (.iload 5, 2) := by decide +kernel
theorem dX0_parting_68 : decode cX0_parting 68 = .ok (.bipush 6, 2) := by decide +kernel
theorem dX0_parting_70 : decode cX0_parting 70 = .ok (.idiv, 1) := by decide +kernel
theorem dX0_parting_71 : decode cX0_parting 71 = .ok (.iload 5, 2) := by decide +kernel
theorem dX0_parting_73 : decode cX0_parting 73 = .ok (.bipush 6, 2) := by decide +kernel
theorem dX0_parting_75 : decode cX0_parting 75 = .ok (.irem, 1) := by decide +kernel
theorem dX0_parting_76 : decode cX0_parting 76 = .ok (.invokevirtual 357, 3) := by decide +kernel
theorem dX0_parting_79 : decode cX0_parting 79 = .ok (.ifCond .eq 7, 3) := by decide +kernel
theorem dX0_parting_82 : decode cX0_parting 82 = .ok (.iconst 1, 1) := by decide +kernel
theorem dX0_parting_83 : decode cX0_parting 83 = .ok (.goto 4, 3) := by decide +kernel
theorem dX0_parting_86 : decode cX0_parting 86 = .ok (.iconst (-1), 1) := by decide +kernel
theorem dX0_parting_87 : decode cX0_parting 87 = .ok (.iadd, 1) := by decide +kernel
theorem dX0_parting_88 : decode cX0_parting 88 = .ok (.istore 4, 2) := by decide +kernel
theorem dX0_parting_90 : decode cX0_parting 90 = .ok (.iinc 5 1, 3) := by decide +kernel
theorem dX0_parting_93 : decode cX0_parting 93 = .ok (.goto (-63), 3) := by decide +kernel
theorem dX0_parting_96 : decode cX0_parting 96 = .ok (.iload 4, 2) := by decide +kernel
theorem dX0_parting_98 : decode cX0_parting 98 = .ok (.invokestatic 277, 3) := by decide +kernel
theorem dX0_parting_101 : decode cX0_parting 101 = .ok (.iload_n 2, 1) := by decide +kernel
theorem dX0_parting_102 : decode cX0_parting 102 = .ok (.if_icmp .ge 11, 3) := by decide +kernel
theorem dX0_parting_105 : decode cX0_parting 105 = .ok (.iload 4, 2) := by decide +kernel
theorem dX0_parting_107 : decode cX0_parting 107 = .ok (.invokestatic 277, 3) := by decide +kernel
theorem dX0_parting_110 : decode cX0_parting 110 = .ok (.istore_n 2, 1) := by decide +kernel
theorem dX0_parting_111 : decode cX0_parting 111 = .ok (.iload_n 3, 1) := by decide +kernel
theorem dX0_parting_112 : decode cX0_parting 112 = .ok (.istore_n 1, 1) := by decide +kernel
theorem dX0_parting_113 : decode cX0_parting 113 = .ok (.iinc 3 1, 3) := by decide +kernel
theorem dX0_parting_116 : decode cX0_parting 116 = .ok (.goto (-108), 3) := by decide +kernel
theorem dX0_parting_119 : decode cX0_parting 119 = .ok (.iload_n 1, 1) := by decide +kernel
theorem dX0_parting_120 : decode cX0_parting 120 = .ok (.ireturn, 1) := by decide +kernel
def lX0_parting_30 (σ : St) (a0 : Nat) (x3 : Int32) (x6 : Int32) (x7 : Int32) : Option ((Int32 × Int32) ⊕ (Int32)) :=
  if 36 ≤ x7 then
    some (.inr x6)
  else
  o_k σ a0 0 <|
  (fX0_mayBe σ a0 (x7 / 6) (x7 - x7 / 6 * 6)).bind fun x8 =>
  jn (fun (x12 : Int32) =>
    some (.inl (x6 + x12, x7 + 1))) fun j87 =>
  if x8 = 0 then
    j87 0
  else
  o_gR σ a0 0 28 fun r9 =>
  o_aR σ r9 8 x3 fun r10 =>
  o_k σ r10 15 <|
  (fX18_isFirst σ r10 (x7 / 6) (x7 - x7 / 6 * 6)).bind fun x11 =>
  if x11 = 0 then
    j87 ((-1))
  else
  j87 1

def lX0_parting_8 (σ : St) (a0 : Nat) (x1 : Int32) (x2 : Int32) (x3 : Int32) : Option ((Int32 × Int32 × Int32) ⊕ (Int32)) :=
  o_gI σ a0 0 29 fun x4 =>
  if x4 ≤ x3 then
    some (.inr x1)
  else
  o_k σ a0 0 <|
  (fX0_may σ a0 0).bind fun x5 =>
  if x5 ≤ 0 then
    some (.inr x1)
  else
  (loopF fuel (fun z => lX0_parting_30 σ a0 x3 z.1 z.2) (0, 0)).bind <| fun x13 =>
  o_let (jabs x13) fun x14 =>
  jn (fun (x16 : Int32) (x17 : Int32) =>
    some (.inl (x16, x17, x3 + 1))) fun j113 =>
  if x2 ≤ x14 then
    j113 x1 x2
  else
  o_let (jabs x13) fun x15 =>
  j113 x3 x15

def fX0_parting (σ : St) (a0 : Nat) : Option (Int32) :=
  (loopF fuel (fun z => lX0_parting_8 σ a0 z.1 z.2.1 z.2.2) ((-1), 268435456, 0)).bind <| fun x18 =>
  some x18

set_option maxHeartbeats 4000000 in
theorem wX0_parting {l : Launch} {s0 : State} {A0 : Array Value} {D : va_G} {ac : Nat → ClassId} (G : Gl s0 A0 D ac) {σ : St} {a0 : Nat} {v : Int32} (hf : fX0_parting σ a0 = some (v)) : Met l yX0_parting (ws_ yX0_parting cX0_parting 6 (some (.int))) ({ frames := 3, cells := 0, slots := 0, locals := 71 } : Room) (Pn s0 D ac [.ref a0] σ) (Qn s0 D ac (some (.int v)) σ) 0 0 (fr s0) := by
  refine x_met (by decide) (Nat.le_of_ble_eq_true rfl) ?_
  intro p e s m args below meth c ls C hnm h hl
  have C : Cx s0 p s m args meth c cX0_parting 6 "HutForShow" (some (.int)) := C
  have hx := C.1
  have hb := C.2.1
  have hl : lv_has ls 6 [(0, .ref a0)] := hl
  unfold fX0_parting at hf
  refine lv_iconst (v := (-1)) hx hb dX0_parting_0 (by decide) ?_
  refine lv_istore_n (lv' := [(1, .int ((-1))), (0, .ref a0)]) hx hb dX0_parting_1 rfl hl (by decide) rfl (fun ls hl => ?_)
  refine lv_ldcw (v := 268435456) hx hb C.2.2.2.1 (C.2.2.2.2.1 _ q895) dX0_parting_2 ?_
  refine lv_istore_n (lv' := [(2, .int 268435456), (1, .int ((-1))), (0, .ref a0)]) hx hb dX0_parting_5 rfl hl (by decide) rfl (fun ls hl => ?_)
  refine lv_iconst (v := 0) hx hb dX0_parting_6 (by decide) ?_
  refine lv_istore_n (lv' := [(3, .int 0), (2, .int 268435456), (1, .int ((-1))), (0, .ref a0)]) hx hb dX0_parting_7 rfl hl (by decide) rfl (fun ls hl => ?_)
  obtain ⟨e8, hL, hK⟩ := hf_b hf
  have hE8_0 : ∀ (x18 : Int32), x18 = e8 → ∀  (H : Heap) (locs : List Loc) (ls : Array Slot), Hs s0 D ac σ H locs → lv_has ls 6 [(0, .ref a0), (1, .int x18)] → W p l e ({ frames := 3, cells := 0, slots := 0, locals := 71 } : Room) s m args below meth c H locs 0 0 (MQ below (Qn s0 D ac (some (.int v)) σ) args s 0 0 (fr s0)) (F0 m 119 ls []) := by
    intro x18 he H locs ls h hl
    subst he
    have hf := hK
    refine lv_iload_n hx hb dX0_parting_119 rfl (lv_at hl 1 rfl) ?_
    cases hf
    refine W.widen (k := 0) (n := 0) (Nat.le_of_ble_eq_true rfl) (Nat.le_of_ble_eq_true rfl) ?_
    exact x_iret C h dX0_parting_120
  refine loopF_ind (P := fun z => ∀ (H : Heap) (locs : List Loc) (ls : Array Slot), Hs s0 D ac σ H locs → lv_has ls 6 [(0, .ref a0), (1, .int z.1), (2, .int z.2.1), (3, .int z.2.2)] → W p l e ({ frames := 3, cells := 0, slots := 0, locals := 71 } : Room) s m args below meth c H locs 0 0 (MQ below (Qn s0 D ac (some (.int v)) σ) args s 0 0 (fr s0)) (F0 m 8 ls [])) ?_ _ _ hL _ _ _ h (lv_sub hl [3, 2, 1, 0] rfl)
  clear hK hL h hl hf
  intro z o hf ih hX H locs ls h hl
  obtain ⟨x1, x2, x3⟩ := z
  have h : Hs s0 D ac σ H locs := h
  have hl : lv_has ls 6 [(0, .ref a0), (1, .int x1), (2, .int x2), (3, .int x3)] := hl
  have hf : lX0_parting_8 σ a0 x1 x2 x3 = some o := hf
  unfold lX0_parting_8 at hf
  refine lv_iload_n hx hb dX0_parting_8 rfl (lv_at hl 3 rfl) ?_
  refine lv_aload_n hx hb dX0_parting_9 rfl (lv_at hl 0 rfl) ?_
  refine x_gI (q := (RX0, TX0, 33)) (j := 29) G C h rfl (by decide) (fun _ _ _ => rfl) (lk C q238) (fun _ z => z) dX0_parting_10 hf (fun x4 hf => ?_)
  refine lv_icmp_ge (tgt := 119) hx hb dX0_parting_13 (by decide) (fun hc => ?_) (fun hc => ?_)
  · have hf := hf_t hc hf
    cases hf
    exact hE8_0 _ (hX _ rfl) _ _ _ h (lv_sub hl [0, 1] rfl)
  · have hf := hf_f hc hf
    refine lv_aload_n hx hb dX0_parting_16 rfl (lv_at hl 0 rfl) ?_
    refine lv_iconst (v := 0) hx hb dX0_parting_17 (by decide) ?_
    obtain ⟨hk, hf⟩ := k_of hf
    obtain ⟨x5, hc, hf⟩ := hf_b hf
    refine x_cV (q := (RX0, TX0, 33)) (rest := []) (As := [.int 0]) (n := 1) (ov := (some (.int x5))) G C h (wX0_may G hc) hk rfl (lw_V q1024 q1005 q1006 q54 q1007) (by decide +kernel) ⟨Nat.le_of_ble_eq_true rfl, Nat.le_of_ble_eq_true rfl⟩ rfl rfl rfl hl.1 rfl (Nat.le_of_ble_eq_true rfl) dX0_parting_18 ⟨(Nat.le_of_ble_eq_true rfl), (Nat.le_of_ble_eq_true rfl)⟩ (fun H locs h => ?_)
    refine lv_if_le (tgt := 119) hx hb dX0_parting_21 (by decide) (fun hc => ?_) (fun hc => ?_)
    · have hf := hf_t hc hf
      cases hf
      exact hE8_0 _ (hX _ rfl) _ _ _ h (lv_sub hl [0, 1] rfl)
    · have hf := hf_f hc hf
      refine lv_iconst (v := 0) hx hb dX0_parting_24 (by decide) ?_
      refine lv_istore (lv' := [(4, .int 0), (0, .ref a0), (1, .int x1), (2, .int x2), (3, .int x3)]) hx hb dX0_parting_25 hl (by decide) rfl (fun ls hl => ?_)
      refine lv_iconst (v := 0) hx hb dX0_parting_27 (by decide) ?_
      refine lv_istore (lv' := [(5, .int 0), (4, .int 0), (0, .ref a0), (1, .int x1), (2, .int x2), (3, .int x3)]) hx hb dX0_parting_28 hl (by decide) rfl (fun ls hl => ?_)
      obtain ⟨e30, hL, hK⟩ := hf_b hf
      have hE30_0 : ∀ (x13 : Int32), x13 = e30 → ∀  (H : Heap) (locs : List Loc) (ls : Array Slot), Hs s0 D ac σ H locs → lv_has ls 6 [(0, .ref a0), (1, .int x1), (2, .int x2), (3, .int x3), (4, .int x13)] → W p l e ({ frames := 3, cells := 0, slots := 0, locals := 71 } : Room) s m args below meth c H locs 0 0 (MQ below (Qn s0 D ac (some (.int v)) σ) args s 0 0 (fr s0)) (F0 m 96 ls []) := by
        intro x13 he H locs ls h hl
        subst he
        have hf := hK
        refine lv_iload hx hb dX0_parting_96 (lv_at hl 4 rfl) ?_
        refine x_abs C hl.1 q890 q347 q63 q348 (Nat.le_of_ble_eq_true rfl) (Nat.le_of_ble_eq_true rfl) (Nat.le_of_ble_eq_true rfl) (Nat.le_of_ble_eq_true rfl) dX0_parting_98 ?_
        refine x_letI hf (fun x14 hf => ?_)
        refine lv_iload_n hx hb dX0_parting_101 rfl (lv_at hl 2 rfl) ?_
        refine jn_of (P := fun j => ∀ (x16 : Int32) (x17 : Int32), j x16 x17 = some o → ∀ (H : Heap) (locs : List Loc) (ls : Array Slot), Hs s0 D ac σ H locs → lv_has ls 6 [(0, .ref a0), (1, .int x16), (2, .int x17), (3, .int x3), (4, .int x13)] → W p l e ({ frames := 3, cells := 0, slots := 0, locals := 71 } : Room) s m args below meth c H locs 0 0 (MQ below (Qn s0 D ac (some (.int v)) σ) args s 0 0 (fr s0)) (F0 m 113 ls [])) hf ?_ ?_
        · intro x16 x17 hf H locs ls h hl
          refine lv_iinc (v := x3 + 1) (lv' := [(3, .int (x3 + 1)), (0, .ref a0), (1, .int x16), (2, .int x17), (4, .int x13)]) hx hb dX0_parting_113 hl (k := 3) rfl rfl (by decide) rfl (fun ls hl => ?_)
          refine lv_goto (tgt := 8) hx hb dX0_parting_116 (by decide) ?_
          cases hf
          exact ih _ rfl _ _ _ h (lv_sub hl [1, 2, 3, 0] rfl)
        intro j113 hj113 hf
        refine lv_icmp_ge (tgt := 113) hx hb dX0_parting_102 (by decide) (fun hc => ?_) (fun hc => ?_)
        · have hf := hf_t hc hf
          exact hj113 _ _ hf _ _ _ h (lv_sub hl [0, 1, 2, 3, 4] rfl)
        · have hf := hf_f hc hf
          refine lv_iload hx hb dX0_parting_105 (lv_at hl 4 rfl) ?_
          refine x_abs C hl.1 q890 q347 q63 q348 (Nat.le_of_ble_eq_true rfl) (Nat.le_of_ble_eq_true rfl) (Nat.le_of_ble_eq_true rfl) (Nat.le_of_ble_eq_true rfl) dX0_parting_107 ?_
          refine x_letI hf (fun x15 hf => ?_)
          refine lv_istore_n (lv' := [(2, .int x15), (0, .ref a0), (1, .int x1), (3, .int x3), (4, .int x13)]) hx hb dX0_parting_110 rfl hl (by decide) rfl (fun ls hl => ?_)
          refine lv_iload_n hx hb dX0_parting_111 rfl (lv_at hl 3 rfl) ?_
          refine lv_istore_n (lv' := [(1, .int x3), (2, .int x15), (0, .ref a0), (3, .int x3), (4, .int x13)]) hx hb dX0_parting_112 rfl hl (by decide) rfl (fun ls hl => ?_)
          exact hj113 _ _ hf _ _ _ h (lv_sub hl [2, 0, 1, 3, 4] rfl)
      refine loopF_ind (P := fun z => ∀ (H : Heap) (locs : List Loc) (ls : Array Slot), Hs s0 D ac σ H locs → lv_has ls 6 [(0, .ref a0), (1, .int x1), (2, .int x2), (3, .int x3), (4, .int z.1), (5, .int z.2)] → W p l e ({ frames := 3, cells := 0, slots := 0, locals := 71 } : Room) s m args below meth c H locs 0 0 (MQ below (Qn s0 D ac (some (.int v)) σ) args s 0 0 (fr s0)) (F0 m 30 ls [])) ?_ _ _ hL _ _ _ h (lv_sub hl [2, 3, 4, 5, 1, 0] rfl)
      clear hK hL h hl hf
      intro z o hf ih hX H locs ls h hl
      obtain ⟨x6, x7⟩ := z
      have h : Hs s0 D ac σ H locs := h
      have hl : lv_has ls 6 [(0, .ref a0), (1, .int x1), (2, .int x2), (3, .int x3), (4, .int x6), (5, .int x7)] := hl
      have hf : lX0_parting_30 σ a0 x3 x6 x7 = some o := hf
      unfold lX0_parting_30 at hf
      refine lv_iload hx hb dX0_parting_30 (lv_at hl 5 rfl) ?_
      refine lv_bipush (v := 36) hx hb dX0_parting_32 (by decide) ?_
      refine lv_icmp_ge (tgt := 96) hx hb dX0_parting_34 (by decide) (fun hc => ?_) (fun hc => ?_)
      · have hf := hf_t hc hf
        cases hf
        exact hE30_0 _ (hX _ rfl) _ _ _ h (lv_sub hl [0, 1, 2, 3, 4] rfl)
      · have hf := hf_f hc hf
        refine lv_iload hx hb dX0_parting_37 (lv_at hl 4 rfl) ?_
        refine lv_aload_n hx hb dX0_parting_39 rfl (lv_at hl 0 rfl) ?_
        refine lv_iload hx hb dX0_parting_40 (lv_at hl 5 rfl) ?_
        refine lv_bipush (v := 6) hx hb dX0_parting_42 (by decide) ?_
        refine lv_idiv hx hb dX0_parting_44 (by decide) ?_
        refine lv_iload hx hb dX0_parting_45 (lv_at hl 5 rfl) ?_
        refine lv_bipush (v := 6) hx hb dX0_parting_47 (by decide) ?_
        refine lv_irem hx hb dX0_parting_49 (by decide) ?_
        obtain ⟨hk, hf⟩ := k_of hf
        obtain ⟨x8, hc, hf⟩ := hf_b hf
        refine x_cV (q := (RX0, TX0, 33)) (rest := [.int x6]) (As := [.int (x7 / 6), .int (x7 - x7 / 6 * 6)]) (n := 2) (ov := (some (.int x8))) G C h (wX0_mayBe G hc) hk rfl (lw_V q1008 q1010 qs20 q54 q1011) (by decide +kernel) ⟨Nat.le_of_ble_eq_true rfl, Nat.le_of_ble_eq_true rfl⟩ rfl rfl rfl hl.1 rfl (Nat.le_of_ble_eq_true rfl) dX0_parting_50 ⟨(Nat.le_of_ble_eq_true rfl), (Nat.le_of_ble_eq_true rfl)⟩ (fun H locs h => ?_)
        refine jn_of (P := fun j => ∀ (x12 : Int32), j x12 = some o → ∀ (H : Heap) (locs : List Loc) (ls : Array Slot), Hs s0 D ac σ H locs → lv_has ls 6 [(0, .ref a0), (1, .int x1), (2, .int x2), (3, .int x3), (4, .int x6), (5, .int x7)] → W p l e ({ frames := 3, cells := 0, slots := 0, locals := 71 } : Room) s m args below meth c H locs 0 0 (MQ below (Qn s0 D ac (some (.int v)) σ) args s 0 0 (fr s0)) (F0 m 87 ls [.int x12, .int x6])) hf ?_ ?_
        · intro x12 hf H locs ls h hl
          refine lv_iadd hx hb dX0_parting_87 ?_
          refine lv_istore (lv' := [(4, .int (x6 + x12)), (0, .ref a0), (1, .int x1), (2, .int x2), (3, .int x3), (5, .int x7)]) hx hb dX0_parting_88 hl (by decide) rfl (fun ls hl => ?_)
          refine lv_iinc (v := x7 + 1) (lv' := [(5, .int (x7 + 1)), (4, .int (x6 + x12)), (0, .ref a0), (1, .int x1), (2, .int x2), (3, .int x3)]) hx hb dX0_parting_90 hl (k := 5) rfl rfl (by decide) rfl (fun ls hl => ?_)
          refine lv_goto (tgt := 30) hx hb dX0_parting_93 (by decide) ?_
          cases hf
          exact ih _ rfl _ _ _ h (lv_sub hl [2, 3, 4, 5, 1, 0] rfl)
        intro j87 hj87 hf
        refine lv_if_ne (tgt := 60) hx hb dX0_parting_53 (by decide) (fun hc => ?_) (fun hc => ?_)
        · have hf := hf_f hc hf
          refine lv_aload_n hx hb dX0_parting_60 rfl (lv_at hl 0 rfl) ?_
          refine x_gR (q := (RX0, TX0, 33)) (j := 28) G C h rfl (by decide) (fun _ _ _ => rfl) (lk C q237) (fun _ z => z) dX0_parting_61 hf (fun r9 hf => ?_)
          refine lv_iload_n hx hb dX0_parting_64 rfl (lv_at hl 3 rfl) ?_
          refine x_aald (q := 8) rfl rfl (fun _ _ _ => rfl) G C h dX0_parting_65 hf (fun r10 hf => ?_)
          refine lv_iload hx hb dX0_parting_66 (lv_at hl 5 rfl) ?_
          refine lv_bipush (v := 6) hx hb dX0_parting_68 (by decide) ?_
          refine lv_idiv hx hb dX0_parting_70 (by decide) ?_
          refine lv_iload hx hb dX0_parting_71 (lv_at hl 5 rfl) ?_
          refine lv_bipush (v := 6) hx hb dX0_parting_73 (by decide) ?_
          refine lv_irem hx hb dX0_parting_75 (by decide) ?_
          obtain ⟨hk, hf⟩ := k_of hf
          obtain ⟨x11, hc, hf⟩ := hf_b hf
          refine x_cV (q := (RX18, TX18, 2)) (rest := [.int x6]) (As := [.int (x7 / 6), .int (x7 - x7 / 6 * 6)]) (n := 2) (ov := (some (.int x11))) G C h (wX18_isFirst G hc) hk rfl (lw_V q1012 q1013 q1014 q81 q1015) (by decide +kernel) ⟨Nat.le_of_ble_eq_true rfl, Nat.le_of_ble_eq_true rfl⟩ rfl rfl rfl hl.1 rfl (Nat.le_of_ble_eq_true rfl) dX0_parting_76 ⟨(Nat.le_of_ble_eq_true rfl), (Nat.le_of_ble_eq_true rfl)⟩ (fun H locs h => ?_)
          refine lv_if_eq (tgt := 86) hx hb dX0_parting_79 (by decide) (fun hc => ?_) (fun hc => ?_)
          · have hf := hf_t hc hf
            refine lv_iconst (v := (-1)) hx hb dX0_parting_86 (by decide) ?_
            exact hj87 _ hf _ _ _ h (lv_sub hl [0, 1, 2, 3, 4, 5] rfl)
          · have hf := hf_f hc hf
            refine lv_iconst (v := 1) hx hb dX0_parting_82 (by decide) ?_
            refine lv_goto (tgt := 87) hx hb dX0_parting_83 (by decide) ?_
            exact hj87 _ hf _ _ _ h (lv_sub hl [0, 1, 2, 3, 4, 5] rfl)
        · have hf := hf_t hc hf
          refine lv_iconst (v := 0) hx hb dX0_parting_56 (by decide) ?_
          refine lv_goto (tgt := 87) hx hb dX0_parting_57 (by decide) ?_
          exact hj87 _ hf _ _ _ h (lv_sub hl [0, 1, 2, 3, 4, 5] rfl)

theorem dX0_spot_0 : decode cX0_spot 0 = .ok (.iload_n 1, 1) := by decide +kernel
theorem dX0_spot_1 : decode cX0_spot 1 = .ok (.invokestatic 133, 3) := by decide +kernel
theorem dX0_spot_4 : decode cX0_spot 4 = .ok (.ifCond .eq 10, 3) := by decide +kernel
theorem dX0_spot_7 : decode cX0_spot 7 = .ok (.iload_n 2, 1) := by decide +kernel
theorem dX0_spot_8 : decode cX0_spot 8 = .ok (.invokestatic 133, 3) := by decide +kernel
theorem dX0_spot_11 : decode cX0_spot 11 = .ok (.ifCond .ne 6, 3) := by decide +kernel
theorem dX0_spot_14 : decode cX0_spot 14 = .ok (.bipush (-3), 2) := by decide +kernel
theorem dX0_spot_16 : decode cX0_spot 16 = .ok (.ireturn, 1) := by decide +kernel
theorem dX0_spot_17 : decode cX0_spot 17 = .ok (.aload_n 0, 1) := by decide +kernel
theorem dX0_spot_18 : decode cX0_spot 18 = .ok (.getfield 369, 3) := by decide +kernel
theorem dX0_spot_21 : decode cX0_spot 21 = .ok (.bipush 10, 2) := by decide +kernel
theorem dX0_spot_23 : decode cX0_spot 23 = .ok (.if_icmp .ne 6, 3) := by decide +kernel
theorem dX0_spot_26 : decode cX0_spot 26 = .ok (.bipush (-5), 2) := by decide +kernel
theorem dX0_spot_28 : decode cX0_spot 28 = .ok (.ireturn, 1) := by decide +kernel
theorem dX0_spot_29 : decode cX0_spot 29 = .ok (.aload_n 0, 1) := by decide +kernel
theorem dX0_spot_30 : decode cX0_spot 30 = .ok (.getfield 115, 3) := by decide +kernel
theorem dX0_spot_33 : decode cX0_spot 33 = .ok (.aload_n 0, 1) := by decide +kernel
theorem dX0_spot_34 : decode cX0_spot 34 = .ok (.getfield 369, 3) := by decide +kernel
theorem dX0_spot_37 : decode cX0_spot 37 = .ok (.new 24, 3) := by decide +kernel
theorem dX0_spot_40 : decode cX0_spot 40 = .ok (.dup, 1) := by decide +kernel
theorem dX0_spot_41 : decode cX0_spot 41 = .ok (.iload_n 1, 1) := by decide +kernel
theorem dX0_spot_42 : decode cX0_spot 42 = .ok (.iload_n 2, 1) := by decide +kernel
theorem dX0_spot_43 : decode cX0_spot 43 = .ok (.invokespecial 139, 3) := by decide +kernel
theorem dX0_spot_46 : decode cX0_spot 46 = .ok (.aastore, 1) := by decide +kernel
theorem dX0_spot_47 : decode cX0_spot 47 = .ok (.aload_n 0, 1) := by decide +kernel
theorem dX0_spot_48 : decode cX0_spot 48 = .ok (.dup, 1) := by decide +kernel
theorem dX0_spot_49 : decode cX0_spot 49 = .ok (.getfield 369, 3) := by decide +kernel
theorem dX0_spot_52 : decode cX0_spot 52 = .ok (.iconst 1, 1) := by decide +kernel
theorem dX0_spot_53 : decode cX0_spot 53 = .ok (.iadd, 1) := by decide +kernel
theorem dX0_spot_54 : decode cX0_spot 54 = .ok (.putfield 369, 3) := by decide +kernel
theorem dX0_spot_57 : decode cX0_spot 57 = .ok (.aload_n 0, 1) := by decide +kernel
theorem dX0_spot_58 : decode cX0_spot 58 = .ok (.getfield 369, 3) := by decide +kernel
theorem dX0_spot_61 : decode cX0_spot 61 = .ok (.iconst 1, 1) := by decide +kernel
theorem dX0_spot_62 : decode cX0_spot 62 = .ok (.isub, 1) := by decide +kernel
theorem dX0_spot_63 : decode cX0_spot 63 = .ok (.ireturn, 1) := by decide +kernel
def fX0_spot (σ : St) (a0 : Nat) (a1 : Int32) (a2 : Int32) : Option (Int32 × St) :=
  (fX0_isSpan σ a1).bind fun x1 =>
  if x1 = 0 then
    some ((-3), σ)
  else
  (fX0_isSpan σ a2).bind fun x2 =>
  if x2 = 0 then
    some ((-3), σ)
  else
  o_gI σ a0 0 31 fun x3 =>
  if x3 = 10 then
    some ((-5), σ)
  else
  o_gR σ a0 0 30 fun r4 =>
  o_gI σ a0 0 31 fun x5 =>
  o_new σ 6 fun r6 σ7 =>
  (fX8_init σ7 r6 a1 a2).bind fun σ8 =>
  o_sR σ8 r4 3 x5 r6 fun σ9 =>
  o_gI σ9 a0 0 31 fun x10 =>
  o_pI σ9 a0 0 31 (x10 + 1) fun σ11 =>
  o_gI σ11 a0 0 31 fun x12 =>
  some (x12 - 1, σ11)

set_option maxHeartbeats 4000000 in
theorem wX0_spot {l : Launch} {s0 : State} {A0 : Array Value} {D : va_G} {ac : Nat → ClassId} (G : Gl s0 A0 D ac) {σ : St} {a0 : Nat} {a1 : Int32} {a2 : Int32} {v : Int32} {σ' : St} (hf : fX0_spot σ a0 a1 a2 = some (v, σ')) : Met l yX0_spot (ws_ yX0_spot cX0_spot 3 (some (.int))) ({ frames := 2, cells := 1, slots := 2, locals := 45 } : Room) (Pn s0 D ac [.ref a0, .int a1, .int a2] σ) (Qn s0 D ac (some (.int v)) σ') 1 2 (fr s0) := by
  refine x_met (by decide) (Nat.le_of_ble_eq_true rfl) ?_
  intro p e s m args below meth c ls C hnm h hl
  have C : Cx s0 p s m args meth c cX0_spot 3 "HutForShow" (some (.int)) := C
  have hx := C.1
  have hb := C.2.1
  have hl : lv_has ls 3 [(0, .ref a0), (1, .int a1), (2, .int a2)] := hl
  unfold fX0_spot at hf
  refine lv_iload_n hx hb dX0_spot_0 rfl (lv_at hl 1 rfl) ?_
  obtain ⟨x1, hc, hf⟩ := hf_b hf
  refine x_cS (rest := []) (As := [.int a1]) (n := 1) (ov := (some (.int x1))) C h (wX0_isSpan G hc) (lw_S q314 q315 q54 q316) (by decide +kernel) ⟨Nat.le_of_ble_eq_true rfl, Nat.le_of_ble_eq_true rfl⟩ rfl rfl rfl hl.1 rfl (Nat.le_of_ble_eq_true rfl) dX0_spot_1 ⟨(Nat.le_of_ble_eq_true rfl), (Nat.le_of_ble_eq_true rfl)⟩ (fun H locs h => ?_)
  refine lv_if_eq (tgt := 14) hx hb dX0_spot_4 (by decide) (fun hc => ?_) (fun hc => ?_)
  · have hf := hf_t hc hf
    refine lv_bipush (v := (-3)) hx hb dX0_spot_14 (by decide) ?_
    cases hf
    refine W.widen (k := 1) (n := 2) (Nat.le_of_ble_eq_true rfl) (Nat.le_of_ble_eq_true rfl) ?_
    exact x_iret C h dX0_spot_16
  · have hf := hf_f hc hf
    refine lv_iload_n hx hb dX0_spot_7 rfl (lv_at hl 2 rfl) ?_
    obtain ⟨x2, hc, hf⟩ := hf_b hf
    refine x_cS (rest := []) (As := [.int a2]) (n := 1) (ov := (some (.int x2))) C h (wX0_isSpan G hc) (lw_S q314 q315 q54 q316) (by decide +kernel) ⟨Nat.le_of_ble_eq_true rfl, Nat.le_of_ble_eq_true rfl⟩ rfl rfl rfl hl.1 rfl (Nat.le_of_ble_eq_true rfl) dX0_spot_8 ⟨(Nat.le_of_ble_eq_true rfl), (Nat.le_of_ble_eq_true rfl)⟩ (fun H locs h => ?_)
    refine lv_if_ne (tgt := 17) hx hb dX0_spot_11 (by decide) (fun hc => ?_) (fun hc => ?_)
    · have hf := hf_f hc hf
      refine lv_aload_n hx hb dX0_spot_17 rfl (lv_at hl 0 rfl) ?_
      refine x_gI (q := (RX0, TX0, 33)) (j := 31) G C h rfl (by decide) (fun _ _ _ => rfl) (lk C q240) (fun _ z => z) dX0_spot_18 hf (fun x3 hf => ?_)
      refine lv_bipush (v := 10) hx hb dX0_spot_21 (by decide) ?_
      refine lv_icmp_ne (tgt := 29) hx hb dX0_spot_23 (by decide) (fun hc => ?_) (fun hc => ?_)
      · have hf := hf_f hc hf
        refine lv_aload_n hx hb dX0_spot_29 rfl (lv_at hl 0 rfl) ?_
        refine x_gR (q := (RX0, TX0, 33)) (j := 30) G C h rfl (by decide) (fun _ _ _ => rfl) (lk C q239) (fun _ z => z) dX0_spot_30 hf (fun r4 hf => ?_)
        refine lv_aload_n hx hb dX0_spot_33 rfl (lv_at hl 0 rfl) ?_
        refine x_gI (q := (RX0, TX0, 33)) (j := 31) G C h rfl (by decide) (fun _ _ _ => rfl) (lk C q240) (fun _ z => z) dX0_spot_34 hf (fun x5 hf => ?_)
        refine x_new (q := (RX8, TX8, 2)) G C h rfl (fun j _ => nf_all 6 j) q110 q322 q62 (Nat.le_of_ble_eq_true rfl) (Nat.le_of_ble_eq_true rfl) dX0_spot_37 hf (fun r6 σ7 H h hf => ?_)
        refine lv_dup hx hb dX0_spot_40 rfl ?_
        refine lv_iload_n hx hb dX0_spot_41 rfl (lv_at hl 1 rfl) ?_
        refine lv_iload_n hx hb dX0_spot_42 rfl (lv_at hl 2 rfl) ?_
        obtain ⟨σ8, hc, hf⟩ := hf_b hf
        refine x_cI (rest := [.ref r6, .int x5, .ref r4]) (As := [.int a1, .int a2]) (n := 2) (ov := none) C h (wX8_init G hc) q323 q324 q62 q325 rfl (by decide +kernel) ⟨Nat.le_of_ble_eq_true rfl, Nat.le_of_ble_eq_true rfl⟩ rfl rfl rfl hl.1 rfl (Nat.le_of_ble_eq_true rfl) dX0_spot_43 ⟨(Nat.le_of_ble_eq_true rfl), (Nat.le_of_ble_eq_true rfl)⟩ (fun H locs h => ?_)
        refine x_aast G C h dX0_spot_46 hf (fun σ9 H locs h hf => ?_)
        refine lv_aload_n hx hb dX0_spot_47 rfl (lv_at hl 0 rfl) ?_
        refine lv_dup hx hb dX0_spot_48 rfl ?_
        refine x_gI (q := (RX0, TX0, 33)) (j := 31) G C h rfl (by decide) (fun _ _ _ => rfl) (lk C q240) (fun _ z => z) dX0_spot_49 hf (fun x10 hf => ?_)
        refine lv_iconst (v := 1) hx hb dX0_spot_52 (by decide) ?_
        refine lv_iadd hx hb dX0_spot_53 ?_
        refine x_pI (q := (RX0, TX0, 33)) (j := 31) G C h rfl (by decide) rfl (lk C q240) (fun _ z => z) (Or.inl rfl) dX0_spot_54 hf (fun σ11 H locs h hf => ?_)
        refine lv_aload_n hx hb dX0_spot_57 rfl (lv_at hl 0 rfl) ?_
        refine x_gI (q := (RX0, TX0, 33)) (j := 31) G C h rfl (by decide) (fun _ _ _ => rfl) (lk C q240) (fun _ z => z) dX0_spot_58 hf (fun x12 hf => ?_)
        refine lv_iconst (v := 1) hx hb dX0_spot_61 (by decide) ?_
        refine lv_isub hx hb dX0_spot_62 ?_
        cases hf
        refine W.widen (k := 1) (n := 2) (Nat.le_of_ble_eq_true rfl) (Nat.le_of_ble_eq_true rfl) ?_
        exact x_iret C h dX0_spot_63
      · have hf := hf_t hc hf
        refine lv_bipush (v := (-5)) hx hb dX0_spot_26 (by decide) ?_
        cases hf
        refine W.widen (k := 1) (n := 2) (Nat.le_of_ble_eq_true rfl) (Nat.le_of_ble_eq_true rfl) ?_
        exact x_iret C h dX0_spot_28
    · have hf := hf_t hc hf
      refine lv_bipush (v := (-3)) hx hb dX0_spot_14 (by decide) ?_
      cases hf
      refine W.widen (k := 1) (n := 2) (Nat.le_of_ble_eq_true rfl) (Nat.le_of_ble_eq_true rfl) ?_
      exact x_iret C h dX0_spot_16

theorem dX0_areApart_0 : decode cX0_areApart 0 = .ok (.iconst 1, 1) := by decide +kernel
theorem dX0_areApart_1 : decode cX0_areApart 1 = .ok (.istore_n 2, 1) := by decide +kernel
theorem dX0_areApart_2 : decode cX0_areApart 2 = .ok (.iconst 0, 1) := by decide +kernel
theorem dX0_areApart_3 : decode cX0_areApart 3 = .ok (.istore_n 3, 1) := by decide +kernel
theorem dX0_areApart_4 : decode cX0_areApart 4 = .ok (.iload_n 3, 1) := by decide +kernel
theorem dX0_areApart_5 : decode cX0_areApart 5 = .ok (.aload_n 0, 1) := by decide +kernel
theorem dX0_areApart_6 : decode cX0_areApart 6 = .ok (.getfield 369, 3) := by decide +kernel
theorem dX0_areApart_9 : decode cX0_areApart 9 = .ok (.if_icmp .ge 76, 3) := by decide +kernel
theorem dX0_areApart_12 : decode cX0_areApart 12 = .ok (.iconst 0, 1) := by decide +kernel
theorem dX0_areApart_13 : decode cX0_areApart 13 = .ok (.istore 4, 2) := by decide +kernel
theorem dX0_areApart_15 : decode cX0_areApart 15 = .ok (.iload 4, 2) := by decide +kernel
theorem dX0_areApart_17 : decode cX0_areApart 17 = .ok (.iload_n 3, 1) := by decide +kernel
theorem dX0_areApart_18 : decode cX0_areApart 18 = .ok (.if_icmp .ge 61, 3) := by decide +kernel
theorem dX0_areApart_21 : decode cX0_areApart 21 = .ok (.iload_n 2, 1) := by decide +kernel
theorem dX0_areApart_22 : decode cX0_areApart 22 = .ok (.ifCond .eq 49, 3) := by decide +kernel
theorem dX0_areApart_25 : decode cX0_areApart 25 = .ok (.iload_n 1, 1) := by decide +kernel
theorem dX0_areApart_26 : decode cX0_areApart 26 = .ok (.iload_n 3, 1) := by decide +kernel
theorem dX0_areApart_27 : decode cX0_areApart 27 = .ok (.invokestatic 308, 3) := by decide +kernel
theorem dX0_areApart_30 : decode cX0_areApart 30 = .ok (.ifCond .eq 37, 3) := by decide +kernel
theorem dX0_areApart_33 : decode cX0_areApart 33 = .ok (.iload_n 1, 1) := by decide +kernel
theorem dX0_areApart_34 : decode cX0_areApart 34 = .ok (.iload 4, 2) := by decide +kernel
theorem dX0_areApart_36 : decode cX0_areApart 36 = .ok (.invokestatic 308, 3) := by decide +kernel
theorem dX0_areApart_39 : decode cX0_areApart 39 = .ok (.ifCond .eq 28, 3) := by decide +kernel
theorem dX0_areApart_42 : decode cX0_areApart 42 = .ok (.aload_n 0, 1) := by decide +kernel
theorem dX0_areApart_43 : decode cX0_areApart 43 = .ok (.getfield 115, 3) := by decide +kernel
theorem dX0_areApart_46 : decode cX0_areApart 46 = .ok (.iload_n 3, 1) := by decide +kernel
theorem dX0_areApart_47 : decode cX0_areApart 47 = .ok (.aaload, 1) := by decide +kernel
theorem dX0_areApart_48 : decode cX0_areApart 48 = .ok (.aload_n 0, 1) := by decide +kernel
theorem dX0_areApart_49 : decode cX0_areApart 49 = .ok (.getfield 115, 3) := by decide +kernel
theorem dX0_areApart_52 : decode cX0_areApart 52 = .ok (.iload 4, 2) := by decide +kernel
theorem dX0_areApart_54 : decode cX0_areApart 54 = .ok (.aaload, 1) := by decide +kernel
theorem dX0_areApart_55 : decode cX0_areApart 55 = .ok (.invokevirtual 148, 3) := by decide +kernel
theorem dX0_areApart_58 : decode cX0_areApart 58 = .ok (.aload_n 0, 1) := by decide +kernel
theorem dX0_areApart_59 : decode cX0_areApart 59 = .ok (.getfield 36, 3) := by decide +kernel
theorem dX0_areApart_62 : decode cX0_areApart 62 = .ok (.iconst 0, 1) := by decide +kernel
theorem dX0_areApart_63 : decode cX0_areApart 63 = .ok (.iaload, 1) := by decide +kernel
theorem dX0_areApart_64 : decode cX0_areApart 64 = .ok (.if_icmp .le 7, 3) := by decide +kernel
theorem dX0_areApart_67 : decode cX0_areApart 67 = .ok (.iconst 1, 1) := by decide +kernel
theorem dX0_areApart_68 : decode cX0_areApart 68 = .ok (.goto 4, 3) := by decide +kernel
theorem dX0_areApart_71 : decode cX0_areApart 71 = .ok (.iconst 0, 1) := by decide +kernel
theorem dX0_areApart_72 : decode cX0_areApart 72 = .ok (.istore_n 2, 1) := by decide +kernel
theorem dX0_areApart_73 : decode cX0_areApart 73 = .ok (.iinc 4 1, 3) := by decide +kernel
theorem dX0_areApart_76 : decode cX0_areApart 76 = .ok (.goto (-61), 3) := by decide +kernel
theorem dX0_areApart_79 : decode cX0_areApart 79 = .ok (.iinc 3 1, 3) := by decide +kernel
theorem dX0_areApart_82 : decode cX0_areApart 82 = .ok (.goto (-78), 3) := by decide +kernel
theorem dX0_areApart_85 : decode cX0_areApart 85 = .ok (.iload_n 2, 1) := by decide +kernel
theorem dX0_areApart_86 : decode cX0_areApart 86 = .ok (.ireturn, 1) := by decide +kernel
def lX0_areApart_15 (x2 : Int32) (σ : St) (a1 : Int32) (a0 : Nat) (x4 : Int32) (x5 : Int32) : Option ((Int32 × Int32) ⊕ (Int32)) :=
  if x2 ≤ x5 then
    some (.inr x4)
  else
  jn (fun (x15 : Int32) =>
    some (.inl (x15, x5 + 1))) fun j72 =>
  jn (fun (_ : Unit) =>
    j72 0) fun j71 =>
  if x4 = 0 then
    j71 ()
  else
  (fX0_isSet σ a1 x2).bind fun x6 =>
  jn (fun (_ : Unit) =>
    j72 1) fun j67 =>
  if x6 = 0 then
    j67 ()
  else
  (fX0_isSet σ a1 x5).bind fun x7 =>
  if x7 = 0 then
    j67 ()
  else
  o_gR σ a0 0 30 fun r8 =>
  o_aR σ r8 3 x2 fun r9 =>
  o_gR σ a0 0 30 fun r10 =>
  o_aR σ r10 3 x5 fun r11 =>
  o_k σ r9 6 <|
  (fX8_far σ r9 r11).bind fun x12 =>
  o_gR σ a0 0 6 fun r13 =>
  o_aI σ r13 0 0 fun x14 =>
  if x12 ≤ x14 then
    j71 ()
  else
  j67 ()

def lX0_areApart_4 (σ : St) (a0 : Nat) (a1 : Int32) (x1 : Int32) (x2 : Int32) : Option ((Int32 × Int32) ⊕ (Int32)) :=
  o_gI σ a0 0 31 fun x3 =>
  if x3 ≤ x2 then
    some (.inr x1)
  else
  (loopF fuel (fun z => lX0_areApart_15 x2 σ a1 a0 z.1 z.2) (x1, 0)).bind <| fun x16 =>
  some (.inl (x16, x2 + 1))

def fX0_areApart (σ : St) (a0 : Nat) (a1 : Int32) : Option (Int32) :=
  (loopF fuel (fun z => lX0_areApart_4 σ a0 a1 z.1 z.2) (1, 0)).bind <| fun x17 =>
  o_bz x17 <| some x17

set_option maxHeartbeats 4000000 in
theorem wX0_areApart {l : Launch} {s0 : State} {A0 : Array Value} {D : va_G} {ac : Nat → ClassId} (G : Gl s0 A0 D ac) {σ : St} {a0 : Nat} {a1 : Int32} {v : Int32} (hf : fX0_areApart σ a0 a1 = some (v)) : Met l yX0_areApart (ws_ yX0_areApart cX0_areApart 5 (some (.boolean))) ({ frames := 2, cells := 0, slots := 0, locals := 42 } : Room) (Pn s0 D ac [.ref a0, .int a1] σ) (Qn s0 D ac (some (.int v)) σ) 0 0 (fr s0) := by
  refine x_met (by decide) (Nat.le_of_ble_eq_true rfl) ?_
  intro p e s m args below meth c ls C hnm h hl
  have C : Cx s0 p s m args meth c cX0_areApart 5 "HutForShow" (some (.boolean)) := C
  have hx := C.1
  have hb := C.2.1
  have hl : lv_has ls 5 [(0, .ref a0), (1, .int a1)] := hl
  unfold fX0_areApart at hf
  refine lv_iconst (v := 1) hx hb dX0_areApart_0 (by decide) ?_
  refine lv_istore_n (lv' := [(2, .int 1), (0, .ref a0), (1, .int a1)]) hx hb dX0_areApart_1 rfl hl (by decide) rfl (fun ls hl => ?_)
  refine lv_iconst (v := 0) hx hb dX0_areApart_2 (by decide) ?_
  refine lv_istore_n (lv' := [(3, .int 0), (2, .int 1), (0, .ref a0), (1, .int a1)]) hx hb dX0_areApart_3 rfl hl (by decide) rfl (fun ls hl => ?_)
  obtain ⟨e4, hL, hK⟩ := hf_b hf
  have hE4_0 : ∀ (x17 : Int32), x17 = e4 → ∀  (H : Heap) (locs : List Loc) (ls : Array Slot), Hs s0 D ac σ H locs → lv_has ls 5 [(0, .ref a0), (1, .int a1), (2, .int x17)] → W p l e ({ frames := 2, cells := 0, slots := 0, locals := 42 } : Room) s m args below meth c H locs 0 0 (MQ below (Qn s0 D ac (some (.int v)) σ) args s 0 0 (fr s0)) (F0 m 85 ls []) := by
    intro x17 he H locs ls h hl
    subst he
    have hf := hK
    refine lv_iload_n hx hb dX0_areApart_85 rfl (lv_at hl 2 rfl) ?_
    obtain ⟨hz, hf⟩ := bz_of hf
    cases hf
    refine W.widen (k := 0) (n := 0) (Nat.le_of_ble_eq_true rfl) (Nat.le_of_ble_eq_true rfl) ?_
    exact x_zret C h hz dX0_areApart_86
  refine loopF_ind (P := fun z => ∀ (H : Heap) (locs : List Loc) (ls : Array Slot), Hs s0 D ac σ H locs → lv_has ls 5 [(0, .ref a0), (1, .int a1), (2, .int z.1), (3, .int z.2)] → W p l e ({ frames := 2, cells := 0, slots := 0, locals := 42 } : Room) s m args below meth c H locs 0 0 (MQ below (Qn s0 D ac (some (.int v)) σ) args s 0 0 (fr s0)) (F0 m 4 ls [])) ?_ _ _ hL _ _ _ h (lv_sub hl [2, 3, 1, 0] rfl)
  clear hK hL h hl hf
  intro z o hf ih hX H locs ls h hl
  obtain ⟨x1, x2⟩ := z
  have h : Hs s0 D ac σ H locs := h
  have hl : lv_has ls 5 [(0, .ref a0), (1, .int a1), (2, .int x1), (3, .int x2)] := hl
  have hf : lX0_areApart_4 σ a0 a1 x1 x2 = some o := hf
  unfold lX0_areApart_4 at hf
  refine lv_iload_n hx hb dX0_areApart_4 rfl (lv_at hl 3 rfl) ?_
  refine lv_aload_n hx hb dX0_areApart_5 rfl (lv_at hl 0 rfl) ?_
  refine x_gI (q := (RX0, TX0, 33)) (j := 31) G C h rfl (by decide) (fun _ _ _ => rfl) (lk C q240) (fun _ z => z) dX0_areApart_6 hf (fun x3 hf => ?_)
  refine lv_icmp_ge (tgt := 85) hx hb dX0_areApart_9 (by decide) (fun hc => ?_) (fun hc => ?_)
  · have hf := hf_t hc hf
    cases hf
    exact hE4_0 _ (hX _ rfl) _ _ _ h (lv_sub hl [0, 1, 2] rfl)
  · have hf := hf_f hc hf
    refine lv_iconst (v := 0) hx hb dX0_areApart_12 (by decide) ?_
    refine lv_istore (lv' := [(4, .int 0), (0, .ref a0), (1, .int a1), (2, .int x1), (3, .int x2)]) hx hb dX0_areApart_13 hl (by decide) rfl (fun ls hl => ?_)
    obtain ⟨e15, hL, hK⟩ := hf_b hf
    have hE15_0 : ∀ (x16 : Int32), x16 = e15 → ∀  (H : Heap) (locs : List Loc) (ls : Array Slot), Hs s0 D ac σ H locs → lv_has ls 5 [(0, .ref a0), (1, .int a1), (2, .int x16), (3, .int x2)] → W p l e ({ frames := 2, cells := 0, slots := 0, locals := 42 } : Room) s m args below meth c H locs 0 0 (MQ below (Qn s0 D ac (some (.int v)) σ) args s 0 0 (fr s0)) (F0 m 79 ls []) := by
      intro x16 he H locs ls h hl
      subst he
      have hf := hK
      refine lv_iinc (v := x2 + 1) (lv' := [(3, .int (x2 + 1)), (0, .ref a0), (1, .int a1), (2, .int x16)]) hx hb dX0_areApart_79 hl (k := 3) rfl rfl (by decide) rfl (fun ls hl => ?_)
      refine lv_goto (tgt := 4) hx hb dX0_areApart_82 (by decide) ?_
      cases hf
      exact ih _ rfl _ _ _ h (lv_sub hl [1, 2, 3, 0] rfl)
    refine loopF_ind (P := fun z => ∀ (H : Heap) (locs : List Loc) (ls : Array Slot), Hs s0 D ac σ H locs → lv_has ls 5 [(0, .ref a0), (1, .int a1), (2, .int z.1), (3, .int x2), (4, .int z.2)] → W p l e ({ frames := 2, cells := 0, slots := 0, locals := 42 } : Room) s m args below meth c H locs 0 0 (MQ below (Qn s0 D ac (some (.int v)) σ) args s 0 0 (fr s0)) (F0 m 15 ls [])) ?_ _ _ hL _ _ _ h (lv_sub hl [1, 2, 3, 4, 0] rfl)
    clear hK hL h hl hf
    intro z o hf ih hX H locs ls h hl
    obtain ⟨x4, x5⟩ := z
    have h : Hs s0 D ac σ H locs := h
    have hl : lv_has ls 5 [(0, .ref a0), (1, .int a1), (2, .int x4), (3, .int x2), (4, .int x5)] := hl
    have hf : lX0_areApart_15 x2 σ a1 a0 x4 x5 = some o := hf
    unfold lX0_areApart_15 at hf
    refine lv_iload hx hb dX0_areApart_15 (lv_at hl 4 rfl) ?_
    refine lv_iload_n hx hb dX0_areApart_17 rfl (lv_at hl 3 rfl) ?_
    refine lv_icmp_ge (tgt := 79) hx hb dX0_areApart_18 (by decide) (fun hc => ?_) (fun hc => ?_)
    · have hf := hf_t hc hf
      cases hf
      exact hE15_0 _ (hX _ rfl) _ _ _ h (lv_sub hl [0, 1, 2, 3] rfl)
    · have hf := hf_f hc hf
      refine lv_iload_n hx hb dX0_areApart_21 rfl (lv_at hl 2 rfl) ?_
      refine jn_of (P := fun j => ∀ (x15 : Int32), j x15 = some o → ∀ (H : Heap) (locs : List Loc) (ls : Array Slot), Hs s0 D ac σ H locs → lv_has ls 5 [(0, .ref a0), (1, .int a1), (2, .int x4), (3, .int x2), (4, .int x5)] → W p l e ({ frames := 2, cells := 0, slots := 0, locals := 42 } : Room) s m args below meth c H locs 0 0 (MQ below (Qn s0 D ac (some (.int v)) σ) args s 0 0 (fr s0)) (F0 m 72 ls [.int x15])) hf ?_ ?_
      · intro x15 hf H locs ls h hl
        refine lv_istore_n (lv' := [(2, .int x15), (0, .ref a0), (1, .int a1), (3, .int x2), (4, .int x5)]) hx hb dX0_areApart_72 rfl hl (by decide) rfl (fun ls hl => ?_)
        refine lv_iinc (v := x5 + 1) (lv' := [(4, .int (x5 + 1)), (2, .int x15), (0, .ref a0), (1, .int a1), (3, .int x2)]) hx hb dX0_areApart_73 hl (k := 4) rfl rfl (by decide) rfl (fun ls hl => ?_)
        refine lv_goto (tgt := 15) hx hb dX0_areApart_76 (by decide) ?_
        cases hf
        exact ih _ rfl _ _ _ h (lv_sub hl [2, 3, 1, 4, 0] rfl)
      intro j72 hj72 hf
      refine jn_of (P := fun j => ∀ (u0 : Unit), j u0 = some o → ∀ (H : Heap) (locs : List Loc) (ls : Array Slot), Hs s0 D ac σ H locs → lv_has ls 5 [(0, .ref a0), (1, .int a1), (2, .int x4), (3, .int x2), (4, .int x5)] → W p l e ({ frames := 2, cells := 0, slots := 0, locals := 42 } : Room) s m args below meth c H locs 0 0 (MQ below (Qn s0 D ac (some (.int v)) σ) args s 0 0 (fr s0)) (F0 m 71 ls [])) hf ?_ ?_
      · intro u0 hf H locs ls h hl
        refine lv_iconst (v := 0) hx hb dX0_areApart_71 (by decide) ?_
        exact hj72 _ hf _ _ _ h (lv_sub hl [0, 1, 2, 3, 4] rfl)
      intro j71 hj71 hf
      refine lv_if_eq (tgt := 71) hx hb dX0_areApart_22 (by decide) (fun hc => ?_) (fun hc => ?_)
      · have hf := hf_t hc hf
        exact hj71 () hf _ _ _ h (lv_sub hl [0, 1, 2, 3, 4] rfl)
      · have hf := hf_f hc hf
        refine lv_iload_n hx hb dX0_areApart_25 rfl (lv_at hl 1 rfl) ?_
        refine lv_iload_n hx hb dX0_areApart_26 rfl (lv_at hl 3 rfl) ?_
        obtain ⟨x6, hc, hf⟩ := hf_b hf
        refine x_cS (rest := []) (As := [.int a1, .int x2]) (n := 2) (ov := (some (.int x6))) C h (wX0_isSet G hc) (lw_S q916 q917 q54 q918) (by decide +kernel) ⟨Nat.le_of_ble_eq_true rfl, Nat.le_of_ble_eq_true rfl⟩ rfl rfl rfl hl.1 rfl (Nat.le_of_ble_eq_true rfl) dX0_areApart_27 ⟨(Nat.le_of_ble_eq_true rfl), (Nat.le_of_ble_eq_true rfl)⟩ (fun H locs h => ?_)
        refine jn_of (P := fun j => ∀ (u0 : Unit), j u0 = some o → ∀ (H : Heap) (locs : List Loc) (ls : Array Slot), Hs s0 D ac σ H locs → lv_has ls 5 [(0, .ref a0), (1, .int a1), (2, .int x4), (3, .int x2), (4, .int x5)] → W p l e ({ frames := 2, cells := 0, slots := 0, locals := 42 } : Room) s m args below meth c H locs 0 0 (MQ below (Qn s0 D ac (some (.int v)) σ) args s 0 0 (fr s0)) (F0 m 67 ls [])) hf ?_ ?_
        · intro u0 hf H locs ls h hl
          refine lv_iconst (v := 1) hx hb dX0_areApart_67 (by decide) ?_
          refine lv_goto (tgt := 72) hx hb dX0_areApart_68 (by decide) ?_
          exact hj72 _ hf _ _ _ h (lv_sub hl [0, 1, 2, 3, 4] rfl)
        intro j67 hj67 hf
        refine lv_if_eq (tgt := 67) hx hb dX0_areApart_30 (by decide) (fun hc => ?_) (fun hc => ?_)
        · have hf := hf_t hc hf
          exact hj67 () hf _ _ _ h (lv_sub hl [0, 1, 2, 3, 4] rfl)
        · have hf := hf_f hc hf
          refine lv_iload_n hx hb dX0_areApart_33 rfl (lv_at hl 1 rfl) ?_
          refine lv_iload hx hb dX0_areApart_34 (lv_at hl 4 rfl) ?_
          obtain ⟨x7, hc, hf⟩ := hf_b hf
          refine x_cS (rest := []) (As := [.int a1, .int x5]) (n := 2) (ov := (some (.int x7))) C h (wX0_isSet G hc) (lw_S q916 q917 q54 q918) (by decide +kernel) ⟨Nat.le_of_ble_eq_true rfl, Nat.le_of_ble_eq_true rfl⟩ rfl rfl rfl hl.1 rfl (Nat.le_of_ble_eq_true rfl) dX0_areApart_36 ⟨(Nat.le_of_ble_eq_true rfl), (Nat.le_of_ble_eq_true rfl)⟩ (fun H locs h => ?_)
          refine lv_if_eq (tgt := 67) hx hb dX0_areApart_39 (by decide) (fun hc => ?_) (fun hc => ?_)
          · have hf := hf_t hc hf
            exact hj67 () hf _ _ _ h (lv_sub hl [0, 1, 2, 3, 4] rfl)
          · have hf := hf_f hc hf
            refine lv_aload_n hx hb dX0_areApart_42 rfl (lv_at hl 0 rfl) ?_
            refine x_gR (q := (RX0, TX0, 33)) (j := 30) G C h rfl (by decide) (fun _ _ _ => rfl) (lk C q239) (fun _ z => z) dX0_areApart_43 hf (fun r8 hf => ?_)
            refine lv_iload_n hx hb dX0_areApart_46 rfl (lv_at hl 3 rfl) ?_
            refine x_aald (q := 3) rfl rfl (fun _ _ _ => rfl) G C h dX0_areApart_47 hf (fun r9 hf => ?_)
            refine lv_aload_n hx hb dX0_areApart_48 rfl (lv_at hl 0 rfl) ?_
            refine x_gR (q := (RX0, TX0, 33)) (j := 30) G C h rfl (by decide) (fun _ _ _ => rfl) (lk C q239) (fun _ z => z) dX0_areApart_49 hf (fun r10 hf => ?_)
            refine lv_iload hx hb dX0_areApart_52 (lv_at hl 4 rfl) ?_
            refine x_aald (q := 3) rfl rfl (fun _ _ _ => rfl) G C h dX0_areApart_54 hf (fun r11 hf => ?_)
            obtain ⟨hk, hf⟩ := k_of hf
            obtain ⟨x12, hc, hf⟩ := hf_b hf
            refine x_cV (q := (RX8, TX8, 2)) (rest := []) (As := [.ref r11]) (n := 1) (ov := (some (.int x12))) G C h (wX8_far G hc) hk rfl (lw_V q342 q343 q344 q62 q345) (by decide +kernel) ⟨Nat.le_of_ble_eq_true rfl, Nat.le_of_ble_eq_true rfl⟩ rfl rfl rfl hl.1 rfl (Nat.le_of_ble_eq_true rfl) dX0_areApart_55 ⟨(Nat.le_of_ble_eq_true rfl), (Nat.le_of_ble_eq_true rfl)⟩ (fun H locs h => ?_)
            refine lv_aload_n hx hb dX0_areApart_58 rfl (lv_at hl 0 rfl) ?_
            refine x_gR (q := (RX0, TX0, 33)) (j := 6) G C h rfl (by decide) (fun _ _ _ => rfl) (lk C q211) (fun _ z => z) dX0_areApart_59 hf (fun r13 hf => ?_)
            refine lv_iconst (v := 0) hx hb dX0_areApart_62 (by decide) ?_
            refine x_iald G C h dX0_areApart_63 hf (fun x14 hf => ?_)
            refine lv_icmp_le (tgt := 71) hx hb dX0_areApart_64 (by decide) (fun hc => ?_) (fun hc => ?_)
            · have hf := hf_t hc hf
              exact hj71 () hf _ _ _ h (lv_sub hl [0, 1, 2, 3, 4] rfl)
            · have hf := hf_f hc hf
              exact hj67 () hf _ _ _ h (lv_sub hl [0, 1, 2, 3, 4] rfl)

theorem dX0_room_0 : decode cX0_room 0 = .ok (.iconst 0, 1) := by decide +kernel
theorem dX0_room_1 : decode cX0_room 1 = .ok (.istore_n 1, 1) := by decide +kernel
theorem dX0_room_2 : decode cX0_room 2 = .ok (.iconst 1, 1) := by decide +kernel
theorem dX0_room_3 : decode cX0_room 3 = .ok (.istore_n 2, 1) := by decide +kernel
theorem dX0_room_4 : decode cX0_room 4 = .ok (.iload_n 2, 1) := by decide +kernel
theorem dX0_room_5 : decode cX0_room 5 = .ok (.iconst 1, 1) := by decide +kernel
theorem dX0_room_6 : decode cX0_room 6 = .ok (.aload_n 0, 1) := by decide +kernel
theorem dX0_room_7 : decode cX0_room 7 = .ok (.getfield 369, 3) := by decide +kernel
theorem dX0_room_10 : decode cX0_room 10 = .ok (.ishl, 1) := by decide +kernel
theorem dX0_room_11 : decode cX0_room 11 = .ok (.if_icmp .ge 34, 3) := by decide +kernel
theorem dX0_room_14 : decode cX0_room 14 = .ok (.iload_n 2, 1) := by decide +kernel
theorem dX0_room_15 : decode cX0_room 15 = .ok (.invokestatic 316, 3) := by decide +kernel
theorem dX0_room_18 : decode cX0_room 18 = .ok (.iload_n 1, 1) := by decide +kernel
theorem dX0_room_19 : decode cX0_room 19 = .ok (.invokestatic 316, 3) := by decide +kernel
theorem dX0_room_22 : decode cX0_room 22 = .ok (.if_icmp .le 15, 3) := by decide +kernel
theorem dX0_room_25 : decode cX0_room 25 = .ok (.aload_n 0, 1) := by decide +kernel
theorem dX0_room_26 : decode cX0_room 26 = .ok (.iload_n 2, 1) := by decide +kernel
theorem dX0_room_27 : decode cX0_room 27 = .ok (.invokevirtual 372, 3) := by decide +kernel
theorem dX0_room_30 : decode cX0_room 30 = .ok (.ifCond .eq 7, 3) := by decide +kernel
theorem dX0_room_33 : decode cX0_room 33 = .ok (.iload_n 2, 1) := by decide +kernel
theorem dX0_room_34 : decode cX0_room 34 = .ok (.goto 4, 3) := by decide +kernel
theorem dX0_room_37 : decode cX0_room 37 = .ok (.iload_n 1, 1) := by decide +kernel
theorem dX0_room_38 : decode cX0_room 38 = .ok (.istore_n 1, 1) := by decide +kernel
theorem dX0_room_39 : decode cX0_room 39 = .ok (.iinc 2 1, 3) := by decide +kernel
theorem dX0_room_42 : decode cX0_room 42 = .ok (.goto (-38), 3) := by decide +kernel
theorem dX0_room_45 : decode cX0_room 45 = .ok (.iload_n 1, 1) := by decide +kernel
theorem dX0_room_46 : decode cX0_room 46 = .ok (.ireturn, 1) := by decide +kernel
def lX0_room_4 (σ : St) (a0 : Nat) (x1 : Int32) (x2 : Int32) : Option ((Int32 × Int32) ⊕ (Int32)) :=
  o_gI σ a0 0 31 fun x3 =>
  if (1 <<< (x3 &&& 31)) ≤ x2 then
    some (.inr x1)
  else
  (fJ7_bitCount σ x2).bind fun x4 =>
  (fJ7_bitCount σ x1).bind fun x5 =>
  jn (fun (x7 : Int32) =>
    some (.inl (x7, x2 + 1))) fun j38 =>
  jn (fun (_ : Unit) =>
    j38 x1) fun j37 =>
  if x4 ≤ x5 then
    j37 ()
  else
  o_k σ a0 0 <|
  (fX0_areApart σ a0 x2).bind fun x6 =>
  if x6 = 0 then
    j37 ()
  else
  j38 x2

def fX0_room (σ : St) (a0 : Nat) : Option (Int32) :=
  (loopF fuel (fun z => lX0_room_4 σ a0 z.1 z.2) (0, 1)).bind <| fun x8 =>
  some x8

set_option maxHeartbeats 4000000 in
theorem wX0_room {l : Launch} {s0 : State} {A0 : Array Value} {D : va_G} {ac : Nat → ClassId} (G : Gl s0 A0 D ac) {σ : St} {a0 : Nat} {v : Int32} (hf : fX0_room σ a0 = some (v)) : Met l yX0_room (ws_ yX0_room cX0_room 3 (some (.int))) ({ frames := 3, cells := 0, slots := 0, locals := 66 } : Room) (Pn s0 D ac [.ref a0] σ) (Qn s0 D ac (some (.int v)) σ) 0 0 (fr s0) := by
  refine x_met (by decide) (Nat.le_of_ble_eq_true rfl) ?_
  intro p e s m args below meth c ls C hnm h hl
  have C : Cx s0 p s m args meth c cX0_room 3 "HutForShow" (some (.int)) := C
  have hx := C.1
  have hb := C.2.1
  have hl : lv_has ls 3 [(0, .ref a0)] := hl
  unfold fX0_room at hf
  refine lv_iconst (v := 0) hx hb dX0_room_0 (by decide) ?_
  refine lv_istore_n (lv' := [(1, .int 0), (0, .ref a0)]) hx hb dX0_room_1 rfl hl (by decide) rfl (fun ls hl => ?_)
  refine lv_iconst (v := 1) hx hb dX0_room_2 (by decide) ?_
  refine lv_istore_n (lv' := [(2, .int 1), (1, .int 0), (0, .ref a0)]) hx hb dX0_room_3 rfl hl (by decide) rfl (fun ls hl => ?_)
  obtain ⟨e4, hL, hK⟩ := hf_b hf
  have hE4_0 : ∀ (x8 : Int32), x8 = e4 → ∀  (H : Heap) (locs : List Loc) (ls : Array Slot), Hs s0 D ac σ H locs → lv_has ls 3 [(0, .ref a0), (1, .int x8)] → W p l e ({ frames := 3, cells := 0, slots := 0, locals := 66 } : Room) s m args below meth c H locs 0 0 (MQ below (Qn s0 D ac (some (.int v)) σ) args s 0 0 (fr s0)) (F0 m 45 ls []) := by
    intro x8 he H locs ls h hl
    subst he
    have hf := hK
    refine lv_iload_n hx hb dX0_room_45 rfl (lv_at hl 1 rfl) ?_
    cases hf
    refine W.widen (k := 0) (n := 0) (Nat.le_of_ble_eq_true rfl) (Nat.le_of_ble_eq_true rfl) ?_
    exact x_iret C h dX0_room_46
  refine loopF_ind (P := fun z => ∀ (H : Heap) (locs : List Loc) (ls : Array Slot), Hs s0 D ac σ H locs → lv_has ls 3 [(0, .ref a0), (1, .int z.1), (2, .int z.2)] → W p l e ({ frames := 3, cells := 0, slots := 0, locals := 66 } : Room) s m args below meth c H locs 0 0 (MQ below (Qn s0 D ac (some (.int v)) σ) args s 0 0 (fr s0)) (F0 m 4 ls [])) ?_ _ _ hL _ _ _ h (lv_sub hl [2, 1, 0] rfl)
  clear hK hL h hl hf
  intro z o hf ih hX H locs ls h hl
  obtain ⟨x1, x2⟩ := z
  have h : Hs s0 D ac σ H locs := h
  have hl : lv_has ls 3 [(0, .ref a0), (1, .int x1), (2, .int x2)] := hl
  have hf : lX0_room_4 σ a0 x1 x2 = some o := hf
  unfold lX0_room_4 at hf
  refine lv_iload_n hx hb dX0_room_4 rfl (lv_at hl 2 rfl) ?_
  refine lv_iconst (v := 1) hx hb dX0_room_5 (by decide) ?_
  refine lv_aload_n hx hb dX0_room_6 rfl (lv_at hl 0 rfl) ?_
  refine x_gI (q := (RX0, TX0, 33)) (j := 31) G C h rfl (by decide) (fun _ _ _ => rfl) (lk C q240) (fun _ z => z) dX0_room_7 hf (fun x3 hf => ?_)
  refine lv_ishl hx hb dX0_room_10 ?_
  refine lv_icmp_ge (tgt := 45) hx hb dX0_room_11 (by decide) (fun hc => ?_) (fun hc => ?_)
  · have hf := hf_t hc hf
    cases hf
    exact hE4_0 _ (hX _ rfl) _ _ _ h (lv_sub hl [0, 1] rfl)
  · have hf := hf_f hc hf
    refine lv_iload_n hx hb dX0_room_14 rfl (lv_at hl 2 rfl) ?_
    obtain ⟨x4, hc, hf⟩ := hf_b hf
    refine x_cS (rest := []) (As := [.int x2]) (n := 1) (ov := (some (.int x4))) C h (wJ7_bitCount G hc) (lw_S q924 q925 q80 q926) (by decide +kernel) ⟨Nat.le_of_ble_eq_true rfl, Nat.le_of_ble_eq_true rfl⟩ rfl rfl rfl hl.1 rfl (Nat.le_of_ble_eq_true rfl) dX0_room_15 ⟨(Nat.le_of_ble_eq_true rfl), (Nat.le_of_ble_eq_true rfl)⟩ (fun H locs h => ?_)
    refine lv_iload_n hx hb dX0_room_18 rfl (lv_at hl 1 rfl) ?_
    obtain ⟨x5, hc, hf⟩ := hf_b hf
    refine x_cS (rest := [.int x4]) (As := [.int x1]) (n := 1) (ov := (some (.int x5))) C h (wJ7_bitCount G hc) (lw_S q924 q925 q80 q926) (by decide +kernel) ⟨Nat.le_of_ble_eq_true rfl, Nat.le_of_ble_eq_true rfl⟩ rfl rfl rfl hl.1 rfl (Nat.le_of_ble_eq_true rfl) dX0_room_19 ⟨(Nat.le_of_ble_eq_true rfl), (Nat.le_of_ble_eq_true rfl)⟩ (fun H locs h => ?_)
    refine jn_of (P := fun j => ∀ (x7 : Int32), j x7 = some o → ∀ (H : Heap) (locs : List Loc) (ls : Array Slot), Hs s0 D ac σ H locs → lv_has ls 3 [(0, .ref a0), (1, .int x1), (2, .int x2)] → W p l e ({ frames := 3, cells := 0, slots := 0, locals := 66 } : Room) s m args below meth c H locs 0 0 (MQ below (Qn s0 D ac (some (.int v)) σ) args s 0 0 (fr s0)) (F0 m 38 ls [.int x7])) hf ?_ ?_
    · intro x7 hf H locs ls h hl
      refine lv_istore_n (lv' := [(1, .int x7), (0, .ref a0), (2, .int x2)]) hx hb dX0_room_38 rfl hl (by decide) rfl (fun ls hl => ?_)
      refine lv_iinc (v := x2 + 1) (lv' := [(2, .int (x2 + 1)), (1, .int x7), (0, .ref a0)]) hx hb dX0_room_39 hl (k := 2) rfl rfl (by decide) rfl (fun ls hl => ?_)
      refine lv_goto (tgt := 4) hx hb dX0_room_42 (by decide) ?_
      cases hf
      exact ih _ rfl _ _ _ h (lv_sub hl [2, 1, 0] rfl)
    intro j38 hj38 hf
    refine jn_of (P := fun j => ∀ (u0 : Unit), j u0 = some o → ∀ (H : Heap) (locs : List Loc) (ls : Array Slot), Hs s0 D ac σ H locs → lv_has ls 3 [(0, .ref a0), (1, .int x1), (2, .int x2)] → W p l e ({ frames := 3, cells := 0, slots := 0, locals := 66 } : Room) s m args below meth c H locs 0 0 (MQ below (Qn s0 D ac (some (.int v)) σ) args s 0 0 (fr s0)) (F0 m 37 ls [])) hf ?_ ?_
    · intro u0 hf H locs ls h hl
      refine lv_iload_n hx hb dX0_room_37 rfl (lv_at hl 1 rfl) ?_
      exact hj38 _ hf _ _ _ h (lv_sub hl [0, 1, 2] rfl)
    intro j37 hj37 hf
    refine lv_icmp_le (tgt := 37) hx hb dX0_room_22 (by decide) (fun hc => ?_) (fun hc => ?_)
    · have hf := hf_t hc hf
      exact hj37 () hf _ _ _ h (lv_sub hl [0, 1, 2] rfl)
    · have hf := hf_f hc hf
      refine lv_aload_n hx hb dX0_room_25 rfl (lv_at hl 0 rfl) ?_
      refine lv_iload_n hx hb dX0_room_26 rfl (lv_at hl 2 rfl) ?_
      obtain ⟨hk, hf⟩ := k_of hf
      obtain ⟨x6, hc, hf⟩ := hf_b hf
      refine x_cV (q := (RX0, TX0, 33)) (rest := []) (As := [.int x2]) (n := 1) (ov := (some (.int x6))) G C h (wX0_areApart G hc) hk rfl (lw_V q1033 q1035 qs21 q54 q1036) (by decide +kernel) ⟨Nat.le_of_ble_eq_true rfl, Nat.le_of_ble_eq_true rfl⟩ rfl rfl rfl hl.1 rfl (Nat.le_of_ble_eq_true rfl) dX0_room_27 ⟨(Nat.le_of_ble_eq_true rfl), (Nat.le_of_ble_eq_true rfl)⟩ (fun H locs h => ?_)
      refine lv_if_eq (tgt := 37) hx hb dX0_room_30 (by decide) (fun hc => ?_) (fun hc => ?_)
      · have hf := hf_t hc hf
        exact hj37 () hf _ _ _ h (lv_sub hl [0, 1, 2] rfl)
      · have hf := hf_f hc hf
        refine lv_iload_n hx hb dX0_room_33 rfl (lv_at hl 2 rfl) ?_
        refine lv_goto (tgt := 38) hx hb dX0_room_34 (by decide) ?_
        exact hj38 _ hf _ _ _ h (lv_sub hl [0, 1, 2] rfl)

theorem dX0_trip_0 : decode cX0_trip 0 = .ok (.iload_n 1, 1) := by decide +kernel
theorem dX0_trip_1 : decode cX0_trip 1 = .ok (.i2l, 1) := by decide +kernel
theorem dX0_trip_2 : decode cX0_trip 2 = .ok (.lconst 0, 1) := by decide +kernel
theorem dX0_trip_3 : decode cX0_trip 3 = .ok (.iconst 1, 1) := by decide +kernel
theorem dX0_trip_4 : decode cX0_trip 4 = .ok (.aload_n 0, 1) := by decide +kernel
theorem dX0_trip_5 : decode cX0_trip 5 = .ok (.getfield 369, 3) := by decide +kernel
theorem dX0_trip_8 : decode cX0_trip 8 = .ok (.ishl, 1) := by decide +kernel
theorem dX0_trip_9 : decode cX0_trip 9 = .ok (.iconst 1, 1) := by decide +kernel
theorem dX0_trip_10 : decode cX0_trip 10 = .ok (.isub, 1) := by decide +kernel
theorem dX0_trip_11 : decode cX0_trip 11 = .ok (.i2l, 1) := by decide +kernel
theorem dX0_trip_12 : decode cX0_trip 12 = .ok (.invokestatic 127, 3) := by decide +kernel
theorem dX0_trip_15 : decode cX0_trip 15 = .ok (.ifCond .eq 12, 3) := by decide +kernel
theorem dX0_trip_18 : decode cX0_trip 18 = .ok (.iload_n 1, 1) := by decide +kernel
theorem dX0_trip_19 : decode cX0_trip 19 = .ok (.invokestatic 316, 3) := by decide +kernel
theorem dX0_trip_22 : decode cX0_trip 22 = .ok (.bipush 7, 2) := by decide +kernel
theorem dX0_trip_24 : decode cX0_trip 24 = .ok (.if_icmp .le 6, 3) := by decide +kernel
theorem dX0_trip_27 : decode cX0_trip 27 = .ok (.bipush (-3), 2) := by decide +kernel
theorem dX0_trip_29 : decode cX0_trip 29 = .ok (.ireturn, 1) := by decide +kernel
theorem dX0_trip_30 : decode cX0_trip 30 = .ok (.iload_n 1, 1) := by decide +kernel
theorem dX0_trip_31 : decode cX0_trip 31 = .ok (.ifCond .ne 5, 3) := by decide +kernel
theorem dX0_trip_34 : decode cX0_trip 34 = .ok (.iconst 0, 1) := by decide +kernel
theorem dX0_trip_35 : decode cX0_trip 35 = .ok (.ireturn, 1) := by decide +kernel
theorem dX0_trip_36 : decode cX0_trip 36 = .ok (.iload_n 1, 1) := by decide +kernel
theorem dX0_trip_37 : decode cX0_trip 37 = .ok (.invokestatic 375, 3) := by decide +kernel
theorem dX0_trip_40 : decode cX0_trip 40 = .ok (.istore_n 2, 1) := by decide +kernel
theorem dX0_trip_41 : decode cX0_trip 41 = .ok (.iconst 0, 1) := by decide +kernel
theorem dX0_trip_42 : decode cX0_trip 42 = .ok (.istore_n 3, 1) := by decide +kernel
theorem dX0_trip_43 : decode cX0_trip 43 = .ok (.iload_n 3, 1) := by decide +kernel
theorem dX0_trip_44 : decode cX0_trip 44 = .ok (.iload_n 1, 1) := by decide +kernel
theorem dX0_trip_45 : decode cX0_trip 45 = .ok (.if_icmp .gt 56, 3) := by decide +kernel
theorem dX0_trip_48 : decode cX0_trip 48 = .ok (.iconst 0, 1) := by decide +kernel
theorem dX0_trip_49 : decode cX0_trip 49 = .ok (.istore 4, 2) := by decide +kernel
theorem dX0_trip_51 : decode cX0_trip 51 = .ok (.iload 4, 2) := by decide +kernel
theorem dX0_trip_53 : decode cX0_trip 53 = .ok (.aload_n 0, 1) := by decide +kernel
theorem dX0_trip_54 : decode cX0_trip 54 = .ok (.getfield 369, 3) := by decide +kernel
theorem dX0_trip_57 : decode cX0_trip 57 = .ok (.if_icmp .ge 38, 3) := by decide +kernel
theorem dX0_trip_60 : decode cX0_trip 60 = .ok (.aload_n 0, 1) := by decide +kernel
theorem dX0_trip_61 : decode cX0_trip 61 = .ok (.getfield 120, 3) := by decide +kernel
theorem dX0_trip_64 : decode cX0_trip 64 = .ok (.iload_n 3, 1) := by decide +kernel
theorem dX0_trip_65 : decode cX0_trip 65 = .ok (.aaload, 1) := by decide +kernel
theorem dX0_trip_66 : decode cX0_trip 66 = .ok (.iload 4, 2) := by decide +kernel
theorem dX0_trip_68 : decode cX0_trip 68 = .ok (.iload_n 3, 1) := by decide +kernel
theorem dX0_trip_69 : decode cX0_trip 69 = .ok (.iconst 1, 1) := by decide +kernel
theorem dX0_trip_70 : decode cX0_trip 70 = .ok (.iload_n 2, 1) := by decide +kernel
theorem dX0_trip_71 : decode cX0_trip 71 = .ok (.ishl, 1) := by decide +kernel
theorem dX0_trip_72 : decode cX0_trip 72 = .ok (.if_icmp .ne 13, 3) := by decide +kernel
theorem dX0_trip_75 : decode cX0_trip 75 = .ok (.iload 4, 2) := by decide +kernel
theorem dX0_trip_77 : decode cX0_trip 77 = .ok (.iload_n 2, 1) := by decide +kernel
theorem dX0_trip_78 : decode cX0_trip 78 = .ok (.if_icmp .ne 7, 3) := by decide +kernel
theorem dX0_trip_81 : decode cX0_trip 81 = .ok (.iconst 0, 1) := by decide +kernel
theorem dX0_trip_82 : decode cX0_trip 82 = .ok (.goto 6, 3) := by decide +kernel
theorem dX0_trip_85 : decode cX0_trip 85 = .ok (.ldc_w 290, 3) := by decide +kernel
theorem dX0_trip_88 : decode cX0_trip 88 = .ok (.iastore, 1) := by decide +kernel
theorem dX0_trip_89 : decode cX0_trip 89 = .ok (.iinc 4 1, 3) := by decide +kernel
theorem dX0_trip_92 : decode cX0_trip 92 = .ok (.goto (-41), 3) := by decide +kernel
theorem dX0_trip_95 : decode cX0_trip 95 = .ok (.iinc 3 1, 3) := by decide +kernel
theorem dX0_trip_98 : decode cX0_trip 98 = .ok (.goto (-55), 3) := by decide +kernel
theorem dX0_trip_101 : decode cX0_trip 101 = .ok (.iconst 1, 1) := by decide +kernel
theorem dX0_trip_102 : decode cX0_trip 102 = .ok (.iload_n 2, 1) := by decide +kernel
theorem dX0_trip_103 : decode cX0_trip 103 = .ok (.ishl, 1) := by decide +kernel
theorem dX0_trip_104 : decode cX0_trip 104 = .ok (.istore_n 3, 1) := by decide +kernel
theorem dX0_trip_105 : decode cX0_trip 105 = .ok (.iload_n 3, 1) := by decide +kernel
theorem dX0_trip_106 : decode cX0_trip 106 = .ok (.iload_n 1, 1) := by decide +kernel
theorem dX0_trip_107 : decode cX0_trip 107 = .ok (.if_icmp .gt 144, 3) := by decide +kernel
theorem dX0_trip_110 : decode cX0_trip 110 = .ok (.iconst 0, 1) := by decide +kernel
theorem dX0_trip_111 : decode cX0_trip 111 = .ok (.istore 4, 2) := by decide +kernel
theorem dX0_trip_113 : decode cX0_trip 113 = .ok (.iload 4, 2) := by decide +kernel
theorem dX0_trip_115 : decode cX0_trip 115 = .ok (.aload_n 0, 1) := by decide +kernel
theorem dX0_trip_116 : decode cX0_trip 116 = .ok (.getfield 369, 3) := by decide +kernel
theorem dX0_trip_119 : decode cX0_trip 119 = .ok (.if_icmp .ge 126, 3) := by decide +kernel
theorem dX0_trip_122 : decode cX0_trip 122 = .ok (.iload_n 3, 1) := by decide +kernel
theorem dX0_trip_123 : decode cX0_trip 123 = .ok (.iload_n 1, 1) := by decide +kernel
theorem dX0_trip_124 : decode cX0_trip 124 = .ok (.iconst (-1), 1) := by decide +kernel
theorem dX0_trip_125 : decode cX0_trip 125 = .ok (.ixor, 1) := by decide +kernel
theorem dX0_trip_126 : decode cX0_trip 126 = .ok (.iand, 1) := by decide +kernel
theorem dX0_trip_127 : decode cX0_trip 127 = .ok (.ifCond .ne 118, 3) := by decide +kernel
theorem dX0_trip_130 : decode cX0_trip 130 = .ok (.iconst 0, 1) := by decide +kernel
theorem dX0_trip_131 : decode cX0_trip 131 = .ok (.istore 5, 2) := by decide +kernel
theorem dX0_trip_133 : decode cX0_trip 133 = .ok (.iload 5, 2) := by decide +kernel
theorem dX0_trip_135 : decode cX0_trip 135 = .ok (.aload_n 0, 1) := by decide +kernel
theorem dX0_trip_136 : decode cX0_trip 136 = .ok (.getfield 369, 3) := by decide +kernel
theorem dX0_trip_139 : decode cX0_trip 139 = .ok (.if_icmp .ge 100, 3) := by decide +kernel
theorem dX0_trip_142 : decode cX0_trip 142 = .ok (.aload_n 0, 1) := by decide +kernel
theorem dX0_trip_143 : decode cX0_trip 143 = .ok (.getfield 120, 3) := by decide +kernel
theorem dX0_trip_146 : decode cX0_trip 146 = .ok (.iload_n 3, 1) := by decide +kernel
theorem dX0_trip_147 : decode cX0_trip 147 = .ok (.aaload, 1) := by decide +kernel
theorem dX0_trip_148 : decode cX0_trip 148 = .ok (.iload 4, 2) := by decide +kernel
theorem dX0_trip_150 : decode cX0_trip 150 = .ok (.iaload, 1) := by decide +kernel
theorem dX0_trip_151 : decode cX0_trip 151 = .ok (.ldc_w 290, 3) := by decide +kernel
theorem dX0_trip_154 : decode cX0_trip 154 = .ok (.if_icmp .ge 85, 3) := by decide +kernel
theorem dX0_trip_157 : decode cX0_trip 157 = .ok (.iload_n 1, 1) := by decide +kernel
theorem dX0_trip_158 : decode cX0_trip 158 = .ok (.iload 5, 2) := by decide +kernel
theorem dX0_trip_160 : decode cX0_trip 160 = .ok (.invokestatic 308, 3) := by decide +kernel
theorem dX0_trip_163 : decode cX0_trip 163 = .ok (.ifCond .eq 70, 3) := by decide +kernel
theorem dX0_trip_166 : decode cX0_trip 166 = .ok (.iload_n 3, 1) := by decide +kernel
theorem dX0_trip_167 : decode cX0_trip 167 = .ok (.iload 5, 2) := by decide +kernel
theorem dX0_trip_169 : decode cX0_trip 169 = .ok (.invokestatic 308, 3) := by decide +kernel
theorem dX0_trip_172 : decode cX0_trip 172 = .ok (.ifCond .ne 61, 3) := by decide +kernel
theorem dX0_trip_175 : decode cX0_trip 175 = .ok (.iload_n 3, 1) := by decide +kernel
theorem dX0_trip_176 : decode cX0_trip 176 = .ok (.iconst 1, 1) := by decide +kernel
theorem dX0_trip_177 : decode cX0_trip 177 = .ok (.iload 5, 2) := by decide +kernel
theorem dX0_trip_179 : decode cX0_trip 179 = .ok (.ishl, 1) := by decide +kernel
theorem dX0_trip_180 : decode cX0_trip 180 = .ok (.ior, 1) := by decide +kernel
theorem dX0_trip_181 : decode cX0_trip 181 = .ok (.istore 6, 2) := by decide +kernel
theorem dX0_trip_183 : decode cX0_trip 183 = .ok (.aload_n 0, 1) := by decide +kernel
theorem dX0_trip_184 : decode cX0_trip 184 = .ok (.getfield 120, 3) := by decide +kernel
theorem dX0_trip_187 : decode cX0_trip 187 = .ok (.iload 6, 2) := by decide +kernel
theorem dX0_trip_189 : decode cX0_trip 189 = .ok (.aaload, 1) := by decide +kernel
theorem dX0_trip_190 : decode cX0_trip 190 = .ok (.iload 5, 2) := by decide +kernel
theorem dX0_trip_192 : decode cX0_trip 192 = .ok (.aload_n 0, 1) := by decide +kernel
theorem dX0_trip_193 : decode cX0_trip 193 = .ok (.getfield 120, 3) := by decide +kernel
theorem dX0_trip_196 : decode cX0_trip 196 = .ok (.iload 6, 2) := by decide +kernel
theorem dX0_trip_198 : decode cX0_trip 198 = .ok (.aaload, 1) := by decide +kernel
theorem dX0_trip_199 : decode cX0_trip 199 = .ok (.iload 5, 2) := by decide +kernel
theorem dX0_trip_201 : decode cX0_trip 201 = .ok (.iaload, 1) := by decide +kernel
theorem dX0_trip_202 : decode cX0_trip 202 = .ok (.aload_n 0, 1) := by decide +kernel
theorem dX0_trip_203 : decode cX0_trip 203 = .ok (.getfield 120, 3) := by decide +kernel
theorem dX0_trip_206 : decode cX0_trip 206 = .ok (.iload_n 3, 1) := by decide +kernel
theorem dX0_trip_207 : decode cX0_trip 207 = .ok (.aaload, 1) := by decide +kernel
theorem dX0_trip_208 : decode cX0_trip 208 = .ok (.iload 4, 2) := by decide +kernel
theorem dX0_trip_210 : decode cX0_trip 210 = .ok (.iaload, 1) := by decide +kernel
theorem dX0_trip_211 : decode cX0_trip 211 = .ok (.aload_n 0, 1) := by decide +kernel
theorem dX0_trip_212 : decode cX0_trip 212 = .ok (.getfield 115, 3) := by decide +kernel
theorem dX0_trip_215 : decode cX0_trip 215 = .ok (.iload 4, 2) := by decide +kernel
theorem dX0_trip_217 : decode cX0_trip 217 = .ok (.aaload, 1) := by decide +kernel
theorem dX0_trip_218 : decode cX0_trip 218 = .ok (.aload_n 0, 1) := by decide +kernel
theorem dX0_trip_219 : decode cX0_trip 219 = .ok (.getfield 115, 3) := by decide +kernel
theorem dX0_trip_222 : decode cX0_trip 222 = .ok (.iload 5, 2) := by decide +kernel
theorem dX0_trip_224 : decode cX0_trip 224 = .ok (.aaload, 1) := by decide +kernel
theorem dX0_trip_225 : decode cX0_trip 225 = .ok (.invokevirtual 148, 3) := by decide +kernel
theorem dX0_trip_228 : decode cX0_trip 228 = .ok (.iadd, 1) := by decide +kernel
theorem dX0_trip_229 : decode cX0_trip 229 = .ok (.invokestatic 378, 3) := by decide +kernel
theorem dX0_trip_232 : decode cX0_trip 232 = .ok (.iastore, 1) := by decide +kernel
theorem dX0_trip_233 : decode cX0_trip 233 = .ok (.iinc 5 1, 3) := by decide +kernel
theorem dX0_trip_236 : decode cX0_trip 236 = .ok (.goto (-103), 3) := by decide +kernel
theorem dX0_trip_239 : decode cX0_trip 239 = .ok (.iinc 4 1, 3) := by decide +kernel
theorem dX0_trip_242 : decode cX0_trip 242 = .ok (.goto (-129), 3) := by decide +kernel
theorem dX0_trip_245 : decode cX0_trip 245 = .ok (.iinc 3 1, 3) := by decide +kernel
theorem dX0_trip_248 : decode cX0_trip 248 = .ok (.goto (-143), 3) := by decide +kernel
theorem dX0_trip_251 : decode cX0_trip 251 = .ok (.ldc_w 290, 3) := by decide +kernel
theorem dX0_trip_254 : decode cX0_trip 254 = .ok (.istore_n 3, 1) := by decide +kernel
theorem dX0_trip_255 : decode cX0_trip 255 = .ok (.iconst 0, 1) := by decide +kernel
theorem dX0_trip_256 : decode cX0_trip 256 = .ok (.istore 4, 2) := by decide +kernel
theorem dX0_trip_258 : decode cX0_trip 258 = .ok (.iload 4, 2) := by decide +kernel
theorem dX0_trip_260 : decode cX0_trip 260 = .ok (.aload_n 0, 1) := by decide +kernel
theorem dX0_trip_261 : decode cX0_trip 261 = .ok (.getfield 369, 3) := by decide +kernel
theorem dX0_trip_264 : decode cX0_trip 264 = .ok (.if_icmp .ge 23, 3) := by decide +kernel
theorem dX0_trip_267 : decode cX0_trip 267 = .ok (.iload_n 3, 1) := by decide +kernel
theorem dX0_trip_268 : decode cX0_trip 268 = .ok (.aload_n 0, 1) := by decide +kernel
theorem dX0_trip_269 : decode cX0_trip 269 = .ok (.getfield 120, 3) := by decide +kernel
theorem dX0_trip_272 : decode cX0_trip 272 = .ok (.iload_n 1, 1) := by decide +kernel
theorem dX0_trip_273 : decode cX0_trip 273 = .ok (.aaload, 1) := by decide +kernel
theorem dX0_trip_274 : decode cX0_trip 274 = .ok (.iload 4, 2) := by decide +kernel
theorem dX0_trip_276 : decode cX0_trip 276 = .ok (.iaload, 1) := by decide +kernel
theorem dX0_trip_277 : decode cX0_trip 277 = .ok (.invokestatic 378, 3) := by decide +kernel
theorem dX0_trip_280 : decode cX0_trip 280 = .ok (.istore_n 3, 1) := by decide +kernel
theorem dX0_trip_281 : decode cX0_trip 281 = .ok (.iinc 4 1, 3) := by decide +kernel
theorem dX0_trip_284 : decode cX0_trip 284 = .ok (.goto (-26), 3) := by decide +kernel
theorem dX0_trip_287 : decode cX0_trip 287 = .ok (.iload_n 3, 1) := by decide +kernel
theorem dX0_trip_288 : decode cX0_trip 288 = .ok (.ireturn, 1) := by decide +kernel
def lX0_trip_51 (a0 : Nat) (x6 : Int32) (x4 : Int32) (σ7 : St) (x8 : Int32) : Option ((St × Int32) ⊕ (St)) :=
  o_gI σ7 a0 0 31 fun x9 =>
  if x9 ≤ x8 then
    some (.inr σ7)
  else
  o_gR σ7 a0 0 32 fun r10 =>
  o_aR σ7 r10 11 x6 fun r11 =>
  jn (fun (x12 : Int32) =>
    o_sI σ7 r11 0 x8 x12 fun σ13 =>
    some (.inl (σ13, x8 + 1))) fun j88 =>
  jn (fun (_ : Unit) =>
    j88 268435456) fun j85 =>
  if x6 = (1 <<< (x4 &&& 31)) then
    if x8 = x4 then
      j88 0
    else
    j85 ()
  else
  j85 ()

def lX0_trip_43 (a1 : Int32) (a0 : Nat) (x4 : Int32) (σ5 : St) (x6 : Int32) : Option ((St × Int32) ⊕ (St)) :=
  if a1 < x6 then
    some (.inr σ5)
  else
  (loopF fuel (fun z => lX0_trip_51 a0 x6 x4 z.1 z.2) (σ5, 0)).bind <| fun σ14 =>
  some (.inl (σ14, x6 + 1))

def lX0_trip_133 (a0 : Nat) (x17 : Int32) (x19 : Int32) (a1 : Int32) (σ21 : St) (x22 : Int32) : Option ((St × Int32) ⊕ (St)) :=
  o_gI σ21 a0 0 31 fun x23 =>
  if x23 ≤ x22 then
    some (.inr σ21)
  else
  o_gR σ21 a0 0 32 fun r24 =>
  o_aR σ21 r24 11 x17 fun r25 =>
  o_aI σ21 r25 0 x19 fun x26 =>
  if 268435456 ≤ x26 then
    some (.inr σ21)
  else
  (fX0_isSet σ21 a1 x22).bind fun x27 =>
  jn (fun (σ45 : St) =>
    some (.inl (σ45, x22 + 1))) fun j233 =>
  if x27 = 0 then
    j233 σ21
  else
  (fX0_isSet σ21 x17 x22).bind fun x28 =>
  if x28 = 0 then
    o_let (x17 ||| (1 <<< (x22 &&& 31))) fun x29 =>
    o_gR σ21 a0 0 32 fun r30 =>
    o_aR σ21 r30 11 x29 fun r31 =>
    o_gR σ21 a0 0 32 fun r32 =>
    o_aR σ21 r32 11 x29 fun r33 =>
    o_aI σ21 r33 0 x22 fun x34 =>
    o_gR σ21 a0 0 32 fun r35 =>
    o_aR σ21 r35 11 x17 fun r36 =>
    o_aI σ21 r36 0 x19 fun x37 =>
    o_gR σ21 a0 0 30 fun r38 =>
    o_aR σ21 r38 3 x19 fun r39 =>
    o_gR σ21 a0 0 30 fun r40 =>
    o_aR σ21 r40 3 x22 fun r41 =>
    o_k σ21 r39 6 <|
    (fX8_far σ21 r39 r41).bind fun x42 =>
    o_let (jmin x34 (x37 + x42)) fun x43 =>
    o_sI σ21 r31 0 x22 x43 fun σ44 =>
    j233 σ44
  else
  j233 σ21

def lX0_trip_113 (a0 : Nat) (x17 : Int32) (a1 : Int32) (σ18 : St) (x19 : Int32) : Option ((St × Int32) ⊕ (St)) :=
  o_gI σ18 a0 0 31 fun x20 =>
  if x20 ≤ x19 then
    some (.inr σ18)
  else
  if (x17 &&& (a1 ^^^ ((-1)))) = 0 then
    (loopF fuel (fun z => lX0_trip_133 a0 x17 x19 a1 z.1 z.2) (σ18, 0)).bind <| fun σ46 =>
    some (.inl (σ46, x19 + 1))
  else
  some (.inr σ18)

def lX0_trip_105 (a1 : Int32) (a0 : Nat) (σ16 : St) (x17 : Int32) : Option ((St × Int32) ⊕ (St)) :=
  if a1 < x17 then
    some (.inr σ16)
  else
  (loopF fuel (fun z => lX0_trip_113 a0 x17 a1 z.1 z.2) (σ16, 0)).bind <| fun σ47 =>
  some (.inl (σ47, x17 + 1))

def lX0_trip_258 (σ48 : St) (a0 : Nat) (a1 : Int32) (x49 : Int32) (x50 : Int32) : Option ((Int32 × Int32) ⊕ (Int32)) :=
  o_gI σ48 a0 0 31 fun x51 =>
  if x51 ≤ x50 then
    some (.inr x49)
  else
  o_gR σ48 a0 0 32 fun r52 =>
  o_aR σ48 r52 11 a1 fun r53 =>
  o_aI σ48 r53 0 x50 fun x54 =>
  o_let (jmin x49 x54) fun x55 =>
  some (.inl (x55, x50 + 1))

def fX0_trip (σ : St) (a0 : Nat) (a1 : Int32) : Option (Int32 × St) :=
  o_gI σ a0 0 31 fun x1 =>
  (fX0_isIn σ (a1.toInt64) 0 (((1 <<< (x1 &&& 31)) - 1).toInt64)).bind fun x2 =>
  if x2 = 0 then
    some ((-3), σ)
  else
  (fJ7_bitCount σ a1).bind fun x3 =>
  if x3 ≤ 7 then
    if a1 = 0 then
      some (0, σ)
    else
    (fJ7_numberOfTrailingZeros σ a1).bind fun x4 =>
    (loopF fuel (fun z => lX0_trip_43 a1 a0 x4 z.1 z.2) (σ, 0)).bind <| fun σ15 =>
    (loopF fuel (fun z => lX0_trip_105 a1 a0 z.1 z.2) (σ15, 1 <<< (x4 &&& 31))).bind <| fun σ48 =>
    (loopF fuel (fun z => lX0_trip_258 σ48 a0 a1 z.1 z.2) (268435456, 0)).bind <| fun x56 =>
    some (x56, σ48)
  else
  some ((-3), σ)

set_option maxHeartbeats 4000000 in
theorem wX0_trip {l : Launch} {s0 : State} {A0 : Array Value} {D : va_G} {ac : Nat → ClassId} (G : Gl s0 A0 D ac) {σ : St} {a0 : Nat} {a1 : Int32} {v : Int32} {σ' : St} (hf : fX0_trip σ a0 a1 = some (v, σ')) : Met l yX0_trip (ws_ yX0_trip cX0_trip 7 (some (.int))) ({ frames := 2, cells := 0, slots := 0, locals := 42 } : Room) (Pn s0 D ac [.ref a0, .int a1] σ) (Qn s0 D ac (some (.int v)) σ') 0 0 (fr s0) := by
  refine x_met (by decide) (Nat.le_of_ble_eq_true rfl) ?_
  intro p e s m args below meth c ls C hnm h hl
  have C : Cx s0 p s m args meth c cX0_trip 7 "HutForShow" (some (.int)) := C
  have hx := C.1
  have hb := C.2.1
  have hl : lv_has ls 7 [(0, .ref a0), (1, .int a1)] := hl
  unfold fX0_trip at hf
  refine lv_iload_n hx hb dX0_trip_0 rfl (lv_at hl 1 rfl) ?_
  refine lv_i2l hx hb dX0_trip_1 rfl ?_
  refine lv_lconst (v := 0) hx hb dX0_trip_2 (by decide) ?_
  refine lv_iconst (v := 1) hx hb dX0_trip_3 (by decide) ?_
  refine lv_aload_n hx hb dX0_trip_4 rfl (lv_at hl 0 rfl) ?_
  refine x_gI (q := (RX0, TX0, 33)) (j := 31) G C h rfl (by decide) (fun _ _ _ => rfl) (lk C q240) (fun _ z => z) dX0_trip_5 hf (fun x1 hf => ?_)
  refine lv_ishl hx hb dX0_trip_8 ?_
  refine lv_iconst (v := 1) hx hb dX0_trip_9 (by decide) ?_
  refine lv_isub hx hb dX0_trip_10 ?_
  refine lv_i2l hx hb dX0_trip_11 rfl ?_
  obtain ⟨x2, hc, hf⟩ := hf_b hf
  refine x_cS (rest := []) (As := [.long (a1.toInt64), .long 0, .long (((1 <<< (x1 &&& 31)) - 1).toInt64)]) (n := 3) (ov := (some (.int x2))) C h (wX0_isIn G hc) (lw_S q318 q319 q54 q320) (by decide +kernel) ⟨Nat.le_of_ble_eq_true rfl, Nat.le_of_ble_eq_true rfl⟩ rfl rfl rfl hl.1 rfl (Nat.le_of_ble_eq_true rfl) dX0_trip_12 ⟨(Nat.le_of_ble_eq_true rfl), (Nat.le_of_ble_eq_true rfl)⟩ (fun H locs h => ?_)
  refine lv_if_eq (tgt := 27) hx hb dX0_trip_15 (by decide) (fun hc => ?_) (fun hc => ?_)
  · have hf := hf_t hc hf
    refine lv_bipush (v := (-3)) hx hb dX0_trip_27 (by decide) ?_
    cases hf
    refine W.widen (k := 0) (n := 0) (Nat.le_of_ble_eq_true rfl) (Nat.le_of_ble_eq_true rfl) ?_
    exact x_iret C h dX0_trip_29
  · have hf := hf_f hc hf
    refine lv_iload_n hx hb dX0_trip_18 rfl (lv_at hl 1 rfl) ?_
    obtain ⟨x3, hc, hf⟩ := hf_b hf
    refine x_cS (rest := []) (As := [.int a1]) (n := 1) (ov := (some (.int x3))) C h (wJ7_bitCount G hc) (lw_S q924 q925 q80 q926) (by decide +kernel) ⟨Nat.le_of_ble_eq_true rfl, Nat.le_of_ble_eq_true rfl⟩ rfl rfl rfl hl.1 rfl (Nat.le_of_ble_eq_true rfl) dX0_trip_19 ⟨(Nat.le_of_ble_eq_true rfl), (Nat.le_of_ble_eq_true rfl)⟩ (fun H locs h => ?_)
    refine lv_bipush (v := 7) hx hb dX0_trip_22 (by decide) ?_
    refine lv_icmp_le (tgt := 30) hx hb dX0_trip_24 (by decide) (fun hc => ?_) (fun hc => ?_)
    · have hf := hf_t hc hf
      refine lv_iload_n hx hb dX0_trip_30 rfl (lv_at hl 1 rfl) ?_
      refine lv_if_ne (tgt := 36) hx hb dX0_trip_31 (by decide) (fun hc => ?_) (fun hc => ?_)
      · have hf := hf_f hc hf
        refine lv_iload_n hx hb dX0_trip_36 rfl (lv_at hl 1 rfl) ?_
        obtain ⟨x4, hc, hf⟩ := hf_b hf
        refine x_cS (rest := []) (As := [.int a1]) (n := 1) (ov := (some (.int x4))) C h (wJ7_numberOfTrailingZeros G hc) (lw_S q1041 q1042 q80 q1043) (by decide +kernel) ⟨Nat.le_of_ble_eq_true rfl, Nat.le_of_ble_eq_true rfl⟩ rfl rfl rfl hl.1 rfl (Nat.le_of_ble_eq_true rfl) dX0_trip_37 ⟨(Nat.le_of_ble_eq_true rfl), (Nat.le_of_ble_eq_true rfl)⟩ (fun H locs h => ?_)
        refine lv_istore_n (lv' := [(2, .int x4), (0, .ref a0), (1, .int a1)]) hx hb dX0_trip_40 rfl hl (by decide) rfl (fun ls hl => ?_)
        refine lv_iconst (v := 0) hx hb dX0_trip_41 (by decide) ?_
        refine lv_istore_n (lv' := [(3, .int 0), (2, .int x4), (0, .ref a0), (1, .int a1)]) hx hb dX0_trip_42 rfl hl (by decide) rfl (fun ls hl => ?_)
        obtain ⟨e43, hL, hK⟩ := hf_b hf
        have hE43_0 : ∀ (σ15 : St), σ15 = e43 → ∀  (H : Heap) (locs : List Loc) (ls : Array Slot), Hs s0 D ac σ15 H locs → lv_has ls 7 [(0, .ref a0), (1, .int a1), (2, .int x4)] → W p l e ({ frames := 2, cells := 0, slots := 0, locals := 42 } : Room) s m args below meth c H locs 0 0 (MQ below (Qn s0 D ac (some (.int v)) σ') args s 0 0 (fr s0)) (F0 m 101 ls []) := by
          intro σ15 he H locs ls h hl
          subst he
          have hf := hK
          refine lv_iconst (v := 1) hx hb dX0_trip_101 (by decide) ?_
          refine lv_iload_n hx hb dX0_trip_102 rfl (lv_at hl 2 rfl) ?_
          refine lv_ishl hx hb dX0_trip_103 ?_
          refine lv_istore_n (lv' := [(3, .int (1 <<< (x4 &&& 31))), (0, .ref a0), (1, .int a1), (2, .int x4)]) hx hb dX0_trip_104 rfl hl (by decide) rfl (fun ls hl => ?_)
          obtain ⟨e105, hL, hK⟩ := hf_b hf
          have hE105_0 : ∀ (σ48 : St), σ48 = e105 → ∀  (H : Heap) (locs : List Loc) (ls : Array Slot), Hs s0 D ac σ48 H locs → lv_has ls 7 [(0, .ref a0), (1, .int a1), (2, .int x4)] → W p l e ({ frames := 2, cells := 0, slots := 0, locals := 42 } : Room) s m args below meth c H locs 0 0 (MQ below (Qn s0 D ac (some (.int v)) σ') args s 0 0 (fr s0)) (F0 m 251 ls []) := by
            intro σ48 he H locs ls h hl
            subst he
            have hf := hK
            refine lv_ldcw (v := 268435456) hx hb C.2.2.2.1 (C.2.2.2.2.1 _ q895) dX0_trip_251 ?_
            refine lv_istore_n (lv' := [(3, .int 268435456), (0, .ref a0), (1, .int a1), (2, .int x4)]) hx hb dX0_trip_254 rfl hl (by decide) rfl (fun ls hl => ?_)
            refine lv_iconst (v := 0) hx hb dX0_trip_255 (by decide) ?_
            refine lv_istore (lv' := [(4, .int 0), (3, .int 268435456), (0, .ref a0), (1, .int a1), (2, .int x4)]) hx hb dX0_trip_256 hl (by decide) rfl (fun ls hl => ?_)
            obtain ⟨e258, hL, hK⟩ := hf_b hf
            have hE258_0 : ∀ (x56 : Int32), x56 = e258 → ∀  (H : Heap) (locs : List Loc) (ls : Array Slot), Hs s0 D ac σ48 H locs → lv_has ls 7 [(0, .ref a0), (1, .int a1), (2, .int x4), (3, .int x56)] → W p l e ({ frames := 2, cells := 0, slots := 0, locals := 42 } : Room) s m args below meth c H locs 0 0 (MQ below (Qn s0 D ac (some (.int v)) σ') args s 0 0 (fr s0)) (F0 m 287 ls []) := by
              intro x56 he H locs ls h hl
              subst he
              have hf := hK
              refine lv_iload_n hx hb dX0_trip_287 rfl (lv_at hl 3 rfl) ?_
              cases hf
              refine W.widen (k := 0) (n := 0) (Nat.le_of_ble_eq_true rfl) (Nat.le_of_ble_eq_true rfl) ?_
              exact x_iret C h dX0_trip_288
            refine loopF_ind (P := fun z => ∀ (H : Heap) (locs : List Loc) (ls : Array Slot), Hs s0 D ac σ48 H locs → lv_has ls 7 [(0, .ref a0), (1, .int a1), (2, .int x4), (3, .int z.1), (4, .int z.2)] → W p l e ({ frames := 2, cells := 0, slots := 0, locals := 42 } : Room) s m args below meth c H locs 0 0 (MQ below (Qn s0 D ac (some (.int v)) σ') args s 0 0 (fr s0)) (F0 m 258 ls [])) ?_ _ _ hL _ _ _ h (lv_sub hl [2, 3, 4, 1, 0] rfl)
            clear hK hL h hl hf
            intro z o hf ih hX H locs ls h hl
            obtain ⟨x49, x50⟩ := z
            have h : Hs s0 D ac σ48 H locs := h
            have hl : lv_has ls 7 [(0, .ref a0), (1, .int a1), (2, .int x4), (3, .int x49), (4, .int x50)] := hl
            have hf : lX0_trip_258 σ48 a0 a1 x49 x50 = some o := hf
            unfold lX0_trip_258 at hf
            refine lv_iload hx hb dX0_trip_258 (lv_at hl 4 rfl) ?_
            refine lv_aload_n hx hb dX0_trip_260 rfl (lv_at hl 0 rfl) ?_
            refine x_gI (q := (RX0, TX0, 33)) (j := 31) G C h rfl (by decide) (fun _ _ _ => rfl) (lk C q240) (fun _ z => z) dX0_trip_261 hf (fun x51 hf => ?_)
            refine lv_icmp_ge (tgt := 287) hx hb dX0_trip_264 (by decide) (fun hc => ?_) (fun hc => ?_)
            · have hf := hf_t hc hf
              cases hf
              exact hE258_0 _ (hX _ rfl) _ _ _ h (lv_sub hl [0, 1, 2, 3] rfl)
            · have hf := hf_f hc hf
              refine lv_iload_n hx hb dX0_trip_267 rfl (lv_at hl 3 rfl) ?_
              refine lv_aload_n hx hb dX0_trip_268 rfl (lv_at hl 0 rfl) ?_
              refine x_gR (q := (RX0, TX0, 33)) (j := 32) G C h rfl (by decide) (fun _ _ _ => rfl) (lk C q241) (fun _ z => z) dX0_trip_269 hf (fun r52 hf => ?_)
              refine lv_iload_n hx hb dX0_trip_272 rfl (lv_at hl 1 rfl) ?_
              refine x_aald (q := 11) rfl rfl (fun _ _ _ => rfl) G C h dX0_trip_273 hf (fun r53 hf => ?_)
              refine lv_iload hx hb dX0_trip_274 (lv_at hl 4 rfl) ?_
              refine x_iald G C h dX0_trip_276 hf (fun x54 hf => ?_)
              refine x_min C hl.1 q1045 q475 q63 q476 (Nat.le_of_ble_eq_true rfl) (Nat.le_of_ble_eq_true rfl) (Nat.le_of_ble_eq_true rfl) (Nat.le_of_ble_eq_true rfl) dX0_trip_277 ?_
              refine x_letI hf (fun x55 hf => ?_)
              refine lv_istore_n (lv' := [(3, .int x55), (0, .ref a0), (1, .int a1), (2, .int x4), (4, .int x50)]) hx hb dX0_trip_280 rfl hl (by decide) rfl (fun ls hl => ?_)
              refine lv_iinc (v := x50 + 1) (lv' := [(4, .int (x50 + 1)), (3, .int x55), (0, .ref a0), (1, .int a1), (2, .int x4)]) hx hb dX0_trip_281 hl (k := 4) rfl rfl (by decide) rfl (fun ls hl => ?_)
              refine lv_goto (tgt := 258) hx hb dX0_trip_284 (by decide) ?_
              cases hf
              exact ih _ rfl _ _ _ h (lv_sub hl [2, 3, 4, 1, 0] rfl)
          refine loopF_ind (P := fun z => ∀ (H : Heap) (locs : List Loc) (ls : Array Slot), Hs s0 D ac (z.1) H locs → lv_has ls 7 [(0, .ref a0), (1, .int a1), (2, .int x4), (3, .int z.2)] → W p l e ({ frames := 2, cells := 0, slots := 0, locals := 42 } : Room) s m args below meth c H locs 0 0 (MQ below (Qn s0 D ac (some (.int v)) σ') args s 0 0 (fr s0)) (F0 m 105 ls [])) ?_ _ _ hL _ _ _ h (lv_sub hl [1, 2, 3, 0] rfl)
          clear hK hL h hl hf
          intro z o hf ih hX H locs ls h hl
          obtain ⟨σ16, x17⟩ := z
          have h : Hs s0 D ac σ16 H locs := h
          have hl : lv_has ls 7 [(0, .ref a0), (1, .int a1), (2, .int x4), (3, .int x17)] := hl
          have hf : lX0_trip_105 a1 a0 σ16 x17 = some o := hf
          unfold lX0_trip_105 at hf
          refine lv_iload_n hx hb dX0_trip_105 rfl (lv_at hl 3 rfl) ?_
          refine lv_iload_n hx hb dX0_trip_106 rfl (lv_at hl 1 rfl) ?_
          refine lv_icmp_gt (tgt := 251) hx hb dX0_trip_107 (by decide) (fun hc => ?_) (fun hc => ?_)
          · have hf := hf_t hc hf
            cases hf
            exact hE105_0 _ (hX _ rfl) _ _ _ h (lv_sub hl [0, 1, 2] rfl)
          · have hf := hf_f hc hf
            refine lv_iconst (v := 0) hx hb dX0_trip_110 (by decide) ?_
            refine lv_istore (lv' := [(4, .int 0), (0, .ref a0), (1, .int a1), (2, .int x4), (3, .int x17)]) hx hb dX0_trip_111 hl (by decide) rfl (fun ls hl => ?_)
            obtain ⟨e113, hL, hK⟩ := hf_b hf
            have hE113_0 : ∀ (σ47 : St), σ47 = e113 → ∀  (H : Heap) (locs : List Loc) (ls : Array Slot), Hs s0 D ac σ47 H locs → lv_has ls 7 [(0, .ref a0), (1, .int a1), (2, .int x4), (3, .int x17)] → W p l e ({ frames := 2, cells := 0, slots := 0, locals := 42 } : Room) s m args below meth c H locs 0 0 (MQ below (Qn s0 D ac (some (.int v)) σ') args s 0 0 (fr s0)) (F0 m 245 ls []) := by
              intro σ47 he H locs ls h hl
              subst he
              have hf := hK
              refine lv_iinc (v := x17 + 1) (lv' := [(3, .int (x17 + 1)), (0, .ref a0), (1, .int a1), (2, .int x4)]) hx hb dX0_trip_245 hl (k := 3) rfl rfl (by decide) rfl (fun ls hl => ?_)
              refine lv_goto (tgt := 105) hx hb dX0_trip_248 (by decide) ?_
              cases hf
              exact ih _ rfl _ _ _ h (lv_sub hl [1, 2, 3, 0] rfl)
            refine loopF_ind (P := fun z => ∀ (H : Heap) (locs : List Loc) (ls : Array Slot), Hs s0 D ac (z.1) H locs → lv_has ls 7 [(0, .ref a0), (1, .int a1), (2, .int x4), (3, .int x17), (4, .int z.2)] → W p l e ({ frames := 2, cells := 0, slots := 0, locals := 42 } : Room) s m args below meth c H locs 0 0 (MQ below (Qn s0 D ac (some (.int v)) σ') args s 0 0 (fr s0)) (F0 m 113 ls [])) ?_ _ _ hL _ _ _ h (lv_sub hl [1, 2, 3, 4, 0] rfl)
            clear hK hL h hl hf
            intro z o hf ih hX H locs ls h hl
            obtain ⟨σ18, x19⟩ := z
            have h : Hs s0 D ac σ18 H locs := h
            have hl : lv_has ls 7 [(0, .ref a0), (1, .int a1), (2, .int x4), (3, .int x17), (4, .int x19)] := hl
            have hf : lX0_trip_113 a0 x17 a1 σ18 x19 = some o := hf
            unfold lX0_trip_113 at hf
            refine lv_iload hx hb dX0_trip_113 (lv_at hl 4 rfl) ?_
            refine lv_aload_n hx hb dX0_trip_115 rfl (lv_at hl 0 rfl) ?_
            refine x_gI (q := (RX0, TX0, 33)) (j := 31) G C h rfl (by decide) (fun _ _ _ => rfl) (lk C q240) (fun _ z => z) dX0_trip_116 hf (fun x20 hf => ?_)
            refine lv_icmp_ge (tgt := 245) hx hb dX0_trip_119 (by decide) (fun hc => ?_) (fun hc => ?_)
            · have hf := hf_t hc hf
              cases hf
              exact hE113_0 _ (hX _ rfl) _ _ _ h (lv_sub hl [0, 1, 2, 3] rfl)
            · have hf := hf_f hc hf
              refine lv_iload_n hx hb dX0_trip_122 rfl (lv_at hl 3 rfl) ?_
              refine lv_iload_n hx hb dX0_trip_123 rfl (lv_at hl 1 rfl) ?_
              refine lv_iconst (v := (-1)) hx hb dX0_trip_124 (by decide) ?_
              refine lv_ixor hx hb dX0_trip_125 ?_
              refine lv_iand hx hb dX0_trip_126 ?_
              refine lv_if_ne (tgt := 245) hx hb dX0_trip_127 (by decide) (fun hc => ?_) (fun hc => ?_)
              · have hf := hf_f hc hf
                cases hf
                exact hE113_0 _ (hX _ rfl) _ _ _ h (lv_sub hl [0, 1, 2, 3] rfl)
              · have hf := hf_t hc hf
                refine lv_iconst (v := 0) hx hb dX0_trip_130 (by decide) ?_
                refine lv_istore (lv' := [(5, .int 0), (0, .ref a0), (1, .int a1), (2, .int x4), (3, .int x17), (4, .int x19)]) hx hb dX0_trip_131 hl (by decide) rfl (fun ls hl => ?_)
                obtain ⟨e133, hL, hK⟩ := hf_b hf
                have hE133_0 : ∀ (σ46 : St), σ46 = e133 → ∀  (H : Heap) (locs : List Loc) (ls : Array Slot), Hs s0 D ac σ46 H locs → lv_has ls 7 [(0, .ref a0), (1, .int a1), (2, .int x4), (3, .int x17), (4, .int x19)] → W p l e ({ frames := 2, cells := 0, slots := 0, locals := 42 } : Room) s m args below meth c H locs 0 0 (MQ below (Qn s0 D ac (some (.int v)) σ') args s 0 0 (fr s0)) (F0 m 239 ls []) := by
                  intro σ46 he H locs ls h hl
                  subst he
                  have hf := hK
                  refine lv_iinc (v := x19 + 1) (lv' := [(4, .int (x19 + 1)), (0, .ref a0), (1, .int a1), (2, .int x4), (3, .int x17)]) hx hb dX0_trip_239 hl (k := 4) rfl rfl (by decide) rfl (fun ls hl => ?_)
                  refine lv_goto (tgt := 113) hx hb dX0_trip_242 (by decide) ?_
                  cases hf
                  exact ih _ rfl _ _ _ h (lv_sub hl [1, 2, 3, 4, 0] rfl)
                refine loopF_ind (P := fun z => ∀ (H : Heap) (locs : List Loc) (ls : Array Slot), Hs s0 D ac (z.1) H locs → lv_has ls 7 [(0, .ref a0), (1, .int a1), (2, .int x4), (3, .int x17), (4, .int x19), (5, .int z.2)] → W p l e ({ frames := 2, cells := 0, slots := 0, locals := 42 } : Room) s m args below meth c H locs 0 0 (MQ below (Qn s0 D ac (some (.int v)) σ') args s 0 0 (fr s0)) (F0 m 133 ls [])) ?_ _ _ hL _ _ _ h (lv_sub hl [1, 2, 3, 4, 5, 0] rfl)
                clear hK hL h hl hf
                intro z o hf ih hX H locs ls h hl
                obtain ⟨σ21, x22⟩ := z
                have h : Hs s0 D ac σ21 H locs := h
                have hl : lv_has ls 7 [(0, .ref a0), (1, .int a1), (2, .int x4), (3, .int x17), (4, .int x19), (5, .int x22)] := hl
                have hf : lX0_trip_133 a0 x17 x19 a1 σ21 x22 = some o := hf
                unfold lX0_trip_133 at hf
                refine lv_iload hx hb dX0_trip_133 (lv_at hl 5 rfl) ?_
                refine lv_aload_n hx hb dX0_trip_135 rfl (lv_at hl 0 rfl) ?_
                refine x_gI (q := (RX0, TX0, 33)) (j := 31) G C h rfl (by decide) (fun _ _ _ => rfl) (lk C q240) (fun _ z => z) dX0_trip_136 hf (fun x23 hf => ?_)
                refine lv_icmp_ge (tgt := 239) hx hb dX0_trip_139 (by decide) (fun hc => ?_) (fun hc => ?_)
                · have hf := hf_t hc hf
                  cases hf
                  exact hE133_0 _ (hX _ rfl) _ _ _ h (lv_sub hl [0, 1, 2, 3, 4] rfl)
                · have hf := hf_f hc hf
                  refine lv_aload_n hx hb dX0_trip_142 rfl (lv_at hl 0 rfl) ?_
                  refine x_gR (q := (RX0, TX0, 33)) (j := 32) G C h rfl (by decide) (fun _ _ _ => rfl) (lk C q241) (fun _ z => z) dX0_trip_143 hf (fun r24 hf => ?_)
                  refine lv_iload_n hx hb dX0_trip_146 rfl (lv_at hl 3 rfl) ?_
                  refine x_aald (q := 11) rfl rfl (fun _ _ _ => rfl) G C h dX0_trip_147 hf (fun r25 hf => ?_)
                  refine lv_iload hx hb dX0_trip_148 (lv_at hl 4 rfl) ?_
                  refine x_iald G C h dX0_trip_150 hf (fun x26 hf => ?_)
                  refine lv_ldcw (v := 268435456) hx hb C.2.2.2.1 (C.2.2.2.2.1 _ q895) dX0_trip_151 ?_
                  refine lv_icmp_ge (tgt := 239) hx hb dX0_trip_154 (by decide) (fun hc => ?_) (fun hc => ?_)
                  · have hf := hf_t hc hf
                    cases hf
                    exact hE133_0 _ (hX _ rfl) _ _ _ h (lv_sub hl [0, 1, 2, 3, 4] rfl)
                  · have hf := hf_f hc hf
                    refine lv_iload_n hx hb dX0_trip_157 rfl (lv_at hl 1 rfl) ?_
                    refine lv_iload hx hb dX0_trip_158 (lv_at hl 5 rfl) ?_
                    obtain ⟨x27, hc, hf⟩ := hf_b hf
                    refine x_cS (rest := []) (As := [.int a1, .int x22]) (n := 2) (ov := (some (.int x27))) C h (wX0_isSet G hc) (lw_S q916 q917 q54 q918) (by decide +kernel) ⟨Nat.le_of_ble_eq_true rfl, Nat.le_of_ble_eq_true rfl⟩ rfl rfl rfl hl.1 rfl (Nat.le_of_ble_eq_true rfl) dX0_trip_160 ⟨(Nat.le_of_ble_eq_true rfl), (Nat.le_of_ble_eq_true rfl)⟩ (fun H locs h => ?_)
                    refine jn_of (P := fun j => ∀ (σ45 : St), j σ45 = some o → ∀ (H : Heap) (locs : List Loc) (ls : Array Slot), Hs s0 D ac σ45 H locs → lv_has ls 7 [(0, .ref a0), (1, .int a1), (2, .int x4), (3, .int x17), (4, .int x19), (5, .int x22)] → W p l e ({ frames := 2, cells := 0, slots := 0, locals := 42 } : Room) s m args below meth c H locs 0 0 (MQ below (Qn s0 D ac (some (.int v)) σ') args s 0 0 (fr s0)) (F0 m 233 ls [])) hf ?_ ?_
                    · intro σ45 hf H locs ls h hl
                      refine lv_iinc (v := x22 + 1) (lv' := [(5, .int (x22 + 1)), (0, .ref a0), (1, .int a1), (2, .int x4), (3, .int x17), (4, .int x19)]) hx hb dX0_trip_233 hl (k := 5) rfl rfl (by decide) rfl (fun ls hl => ?_)
                      refine lv_goto (tgt := 133) hx hb dX0_trip_236 (by decide) ?_
                      cases hf
                      exact ih _ rfl _ _ _ h (lv_sub hl [1, 2, 3, 4, 5, 0] rfl)
                    intro j233 hj233 hf
                    refine lv_if_eq (tgt := 233) hx hb dX0_trip_163 (by decide) (fun hc => ?_) (fun hc => ?_)
                    · have hf := hf_t hc hf
                      exact hj233 _ hf _ _ _ h (lv_sub hl [0, 1, 2, 3, 4, 5] rfl)
                    · have hf := hf_f hc hf
                      refine lv_iload_n hx hb dX0_trip_166 rfl (lv_at hl 3 rfl) ?_
                      refine lv_iload hx hb dX0_trip_167 (lv_at hl 5 rfl) ?_
                      obtain ⟨x28, hc, hf⟩ := hf_b hf
                      refine x_cS (rest := []) (As := [.int x17, .int x22]) (n := 2) (ov := (some (.int x28))) C h (wX0_isSet G hc) (lw_S q916 q917 q54 q918) (by decide +kernel) ⟨Nat.le_of_ble_eq_true rfl, Nat.le_of_ble_eq_true rfl⟩ rfl rfl rfl hl.1 rfl (Nat.le_of_ble_eq_true rfl) dX0_trip_169 ⟨(Nat.le_of_ble_eq_true rfl), (Nat.le_of_ble_eq_true rfl)⟩ (fun H locs h => ?_)
                      refine lv_if_ne (tgt := 233) hx hb dX0_trip_172 (by decide) (fun hc => ?_) (fun hc => ?_)
                      · have hf := hf_f hc hf
                        exact hj233 _ hf _ _ _ h (lv_sub hl [0, 1, 2, 3, 4, 5] rfl)
                      · have hf := hf_t hc hf
                        refine lv_iload_n hx hb dX0_trip_175 rfl (lv_at hl 3 rfl) ?_
                        refine lv_iconst (v := 1) hx hb dX0_trip_176 (by decide) ?_
                        refine lv_iload hx hb dX0_trip_177 (lv_at hl 5 rfl) ?_
                        refine lv_ishl hx hb dX0_trip_179 ?_
                        refine lv_ior hx hb dX0_trip_180 ?_
                        refine x_letI hf (fun x29 hf => ?_)
                        refine lv_istore (lv' := [(6, .int x29), (0, .ref a0), (1, .int a1), (2, .int x4), (3, .int x17), (4, .int x19), (5, .int x22)]) hx hb dX0_trip_181 hl (by decide) rfl (fun ls hl => ?_)
                        refine lv_aload_n hx hb dX0_trip_183 rfl (lv_at hl 1 rfl) ?_
                        refine x_gR (q := (RX0, TX0, 33)) (j := 32) G C h rfl (by decide) (fun _ _ _ => rfl) (lk C q241) (fun _ z => z) dX0_trip_184 hf (fun r30 hf => ?_)
                        refine lv_iload hx hb dX0_trip_187 (lv_at hl 0 rfl) ?_
                        refine x_aald (q := 11) rfl rfl (fun _ _ _ => rfl) G C h dX0_trip_189 hf (fun r31 hf => ?_)
                        refine lv_iload hx hb dX0_trip_190 (lv_at hl 6 rfl) ?_
                        refine lv_aload_n hx hb dX0_trip_192 rfl (lv_at hl 1 rfl) ?_
                        refine x_gR (q := (RX0, TX0, 33)) (j := 32) G C h rfl (by decide) (fun _ _ _ => rfl) (lk C q241) (fun _ z => z) dX0_trip_193 hf (fun r32 hf => ?_)
                        refine lv_iload hx hb dX0_trip_196 (lv_at hl 0 rfl) ?_
                        refine x_aald (q := 11) rfl rfl (fun _ _ _ => rfl) G C h dX0_trip_198 hf (fun r33 hf => ?_)
                        refine lv_iload hx hb dX0_trip_199 (lv_at hl 6 rfl) ?_
                        refine x_iald G C h dX0_trip_201 hf (fun x34 hf => ?_)
                        refine lv_aload_n hx hb dX0_trip_202 rfl (lv_at hl 1 rfl) ?_
                        refine x_gR (q := (RX0, TX0, 33)) (j := 32) G C h rfl (by decide) (fun _ _ _ => rfl) (lk C q241) (fun _ z => z) dX0_trip_203 hf (fun r35 hf => ?_)
                        refine lv_iload_n hx hb dX0_trip_206 rfl (lv_at hl 4 rfl) ?_
                        refine x_aald (q := 11) rfl rfl (fun _ _ _ => rfl) G C h dX0_trip_207 hf (fun r36 hf => ?_)
                        refine lv_iload hx hb dX0_trip_208 (lv_at hl 5 rfl) ?_
                        refine x_iald G C h dX0_trip_210 hf (fun x37 hf => ?_)
                        refine lv_aload_n hx hb dX0_trip_211 rfl (lv_at hl 1 rfl) ?_
                        refine x_gR (q := (RX0, TX0, 33)) (j := 30) G C h rfl (by decide) (fun _ _ _ => rfl) (lk C q239) (fun _ z => z) dX0_trip_212 hf (fun r38 hf => ?_)
                        refine lv_iload hx hb dX0_trip_215 (lv_at hl 5 rfl) ?_
                        refine x_aald (q := 3) rfl rfl (fun _ _ _ => rfl) G C h dX0_trip_217 hf (fun r39 hf => ?_)
                        refine lv_aload_n hx hb dX0_trip_218 rfl (lv_at hl 1 rfl) ?_
                        refine x_gR (q := (RX0, TX0, 33)) (j := 30) G C h rfl (by decide) (fun _ _ _ => rfl) (lk C q239) (fun _ z => z) dX0_trip_219 hf (fun r40 hf => ?_)
                        refine lv_iload hx hb dX0_trip_222 (lv_at hl 6 rfl) ?_
                        refine x_aald (q := 3) rfl rfl (fun _ _ _ => rfl) G C h dX0_trip_224 hf (fun r41 hf => ?_)
                        obtain ⟨hk, hf⟩ := k_of hf
                        obtain ⟨x42, hc, hf⟩ := hf_b hf
                        refine x_cV (q := (RX8, TX8, 2)) (rest := [.int x37, .int x34, .int x22, .ref r31]) (As := [.ref r41]) (n := 1) (ov := (some (.int x42))) G C h (wX8_far G hc) hk rfl (lw_V q342 q343 q344 q62 q345) (by decide +kernel) ⟨Nat.le_of_ble_eq_true rfl, Nat.le_of_ble_eq_true rfl⟩ rfl rfl rfl hl.1 rfl (Nat.le_of_ble_eq_true rfl) dX0_trip_225 ⟨(Nat.le_of_ble_eq_true rfl), (Nat.le_of_ble_eq_true rfl)⟩ (fun H locs h => ?_)
                        refine lv_iadd hx hb dX0_trip_228 ?_
                        refine x_min C hl.1 q1045 q475 q63 q476 (Nat.le_of_ble_eq_true rfl) (Nat.le_of_ble_eq_true rfl) (Nat.le_of_ble_eq_true rfl) (Nat.le_of_ble_eq_true rfl) dX0_trip_229 ?_
                        refine x_letI hf (fun x43 hf => ?_)
                        refine x_iast G C h dX0_trip_232 hf (fun σ44 H locs h hf => ?_)
                        exact hj233 _ hf _ _ _ h (lv_sub hl [1, 2, 3, 4, 5, 6] rfl)
        refine loopF_ind (P := fun z => ∀ (H : Heap) (locs : List Loc) (ls : Array Slot), Hs s0 D ac (z.1) H locs → lv_has ls 7 [(0, .ref a0), (1, .int a1), (2, .int x4), (3, .int z.2)] → W p l e ({ frames := 2, cells := 0, slots := 0, locals := 42 } : Room) s m args below meth c H locs 0 0 (MQ below (Qn s0 D ac (some (.int v)) σ') args s 0 0 (fr s0)) (F0 m 43 ls [])) ?_ _ _ hL _ _ _ h (lv_sub hl [2, 3, 1, 0] rfl)
        clear hK hL h hl hf
        intro z o hf ih hX H locs ls h hl
        obtain ⟨σ5, x6⟩ := z
        have h : Hs s0 D ac σ5 H locs := h
        have hl : lv_has ls 7 [(0, .ref a0), (1, .int a1), (2, .int x4), (3, .int x6)] := hl
        have hf : lX0_trip_43 a1 a0 x4 σ5 x6 = some o := hf
        unfold lX0_trip_43 at hf
        refine lv_iload_n hx hb dX0_trip_43 rfl (lv_at hl 3 rfl) ?_
        refine lv_iload_n hx hb dX0_trip_44 rfl (lv_at hl 1 rfl) ?_
        refine lv_icmp_gt (tgt := 101) hx hb dX0_trip_45 (by decide) (fun hc => ?_) (fun hc => ?_)
        · have hf := hf_t hc hf
          cases hf
          exact hE43_0 _ (hX _ rfl) _ _ _ h (lv_sub hl [0, 1, 2] rfl)
        · have hf := hf_f hc hf
          refine lv_iconst (v := 0) hx hb dX0_trip_48 (by decide) ?_
          refine lv_istore (lv' := [(4, .int 0), (0, .ref a0), (1, .int a1), (2, .int x4), (3, .int x6)]) hx hb dX0_trip_49 hl (by decide) rfl (fun ls hl => ?_)
          obtain ⟨e51, hL, hK⟩ := hf_b hf
          have hE51_0 : ∀ (σ14 : St), σ14 = e51 → ∀  (H : Heap) (locs : List Loc) (ls : Array Slot), Hs s0 D ac σ14 H locs → lv_has ls 7 [(0, .ref a0), (1, .int a1), (2, .int x4), (3, .int x6)] → W p l e ({ frames := 2, cells := 0, slots := 0, locals := 42 } : Room) s m args below meth c H locs 0 0 (MQ below (Qn s0 D ac (some (.int v)) σ') args s 0 0 (fr s0)) (F0 m 95 ls []) := by
            intro σ14 he H locs ls h hl
            subst he
            have hf := hK
            refine lv_iinc (v := x6 + 1) (lv' := [(3, .int (x6 + 1)), (0, .ref a0), (1, .int a1), (2, .int x4)]) hx hb dX0_trip_95 hl (k := 3) rfl rfl (by decide) rfl (fun ls hl => ?_)
            refine lv_goto (tgt := 43) hx hb dX0_trip_98 (by decide) ?_
            cases hf
            exact ih _ rfl _ _ _ h (lv_sub hl [1, 2, 3, 0] rfl)
          refine loopF_ind (P := fun z => ∀ (H : Heap) (locs : List Loc) (ls : Array Slot), Hs s0 D ac (z.1) H locs → lv_has ls 7 [(0, .ref a0), (1, .int a1), (2, .int x4), (3, .int x6), (4, .int z.2)] → W p l e ({ frames := 2, cells := 0, slots := 0, locals := 42 } : Room) s m args below meth c H locs 0 0 (MQ below (Qn s0 D ac (some (.int v)) σ') args s 0 0 (fr s0)) (F0 m 51 ls [])) ?_ _ _ hL _ _ _ h (lv_sub hl [1, 2, 3, 4, 0] rfl)
          clear hK hL h hl hf
          intro z o hf ih hX H locs ls h hl
          obtain ⟨σ7, x8⟩ := z
          have h : Hs s0 D ac σ7 H locs := h
          have hl : lv_has ls 7 [(0, .ref a0), (1, .int a1), (2, .int x4), (3, .int x6), (4, .int x8)] := hl
          have hf : lX0_trip_51 a0 x6 x4 σ7 x8 = some o := hf
          unfold lX0_trip_51 at hf
          refine lv_iload hx hb dX0_trip_51 (lv_at hl 4 rfl) ?_
          refine lv_aload_n hx hb dX0_trip_53 rfl (lv_at hl 0 rfl) ?_
          refine x_gI (q := (RX0, TX0, 33)) (j := 31) G C h rfl (by decide) (fun _ _ _ => rfl) (lk C q240) (fun _ z => z) dX0_trip_54 hf (fun x9 hf => ?_)
          refine lv_icmp_ge (tgt := 95) hx hb dX0_trip_57 (by decide) (fun hc => ?_) (fun hc => ?_)
          · have hf := hf_t hc hf
            cases hf
            exact hE51_0 _ (hX _ rfl) _ _ _ h (lv_sub hl [0, 1, 2, 3] rfl)
          · have hf := hf_f hc hf
            refine lv_aload_n hx hb dX0_trip_60 rfl (lv_at hl 0 rfl) ?_
            refine x_gR (q := (RX0, TX0, 33)) (j := 32) G C h rfl (by decide) (fun _ _ _ => rfl) (lk C q241) (fun _ z => z) dX0_trip_61 hf (fun r10 hf => ?_)
            refine lv_iload_n hx hb dX0_trip_64 rfl (lv_at hl 3 rfl) ?_
            refine x_aald (q := 11) rfl rfl (fun _ _ _ => rfl) G C h dX0_trip_65 hf (fun r11 hf => ?_)
            refine lv_iload hx hb dX0_trip_66 (lv_at hl 4 rfl) ?_
            refine lv_iload_n hx hb dX0_trip_68 rfl (lv_at hl 3 rfl) ?_
            refine lv_iconst (v := 1) hx hb dX0_trip_69 (by decide) ?_
            refine lv_iload_n hx hb dX0_trip_70 rfl (lv_at hl 2 rfl) ?_
            refine lv_ishl hx hb dX0_trip_71 ?_
            refine jn_of (P := fun j => ∀ (x12 : Int32), j x12 = some o → ∀ (H : Heap) (locs : List Loc) (ls : Array Slot), Hs s0 D ac σ7 H locs → lv_has ls 7 [(0, .ref a0), (1, .int a1), (2, .int x4), (3, .int x6), (4, .int x8)] → W p l e ({ frames := 2, cells := 0, slots := 0, locals := 42 } : Room) s m args below meth c H locs 0 0 (MQ below (Qn s0 D ac (some (.int v)) σ') args s 0 0 (fr s0)) (F0 m 88 ls [.int x12, .int x8, .ref r11])) hf ?_ ?_
            · intro x12 hf H locs ls h hl
              refine x_iast G C h dX0_trip_88 hf (fun σ13 H locs h hf => ?_)
              refine lv_iinc (v := x8 + 1) (lv' := [(4, .int (x8 + 1)), (0, .ref a0), (1, .int a1), (2, .int x4), (3, .int x6)]) hx hb dX0_trip_89 hl (k := 4) rfl rfl (by decide) rfl (fun ls hl => ?_)
              refine lv_goto (tgt := 51) hx hb dX0_trip_92 (by decide) ?_
              cases hf
              exact ih _ rfl _ _ _ h (lv_sub hl [1, 2, 3, 4, 0] rfl)
            intro j88 hj88 hf
            refine jn_of (P := fun j => ∀ (u0 : Unit), j u0 = some o → ∀ (H : Heap) (locs : List Loc) (ls : Array Slot), Hs s0 D ac σ7 H locs → lv_has ls 7 [(0, .ref a0), (1, .int a1), (2, .int x4), (3, .int x6), (4, .int x8)] → W p l e ({ frames := 2, cells := 0, slots := 0, locals := 42 } : Room) s m args below meth c H locs 0 0 (MQ below (Qn s0 D ac (some (.int v)) σ') args s 0 0 (fr s0)) (F0 m 85 ls [.int x8, .ref r11])) hf ?_ ?_
            · intro u0 hf H locs ls h hl
              refine lv_ldcw (v := 268435456) hx hb C.2.2.2.1 (C.2.2.2.2.1 _ q895) dX0_trip_85 ?_
              exact hj88 _ hf _ _ _ h (lv_sub hl [0, 1, 2, 3, 4] rfl)
            intro j85 hj85 hf
            refine lv_icmp_ne (tgt := 85) hx hb dX0_trip_72 (by decide) (fun hc => ?_) (fun hc => ?_)
            · have hf := hf_f hc hf
              exact hj85 () hf _ _ _ h (lv_sub hl [0, 1, 2, 3, 4] rfl)
            · have hf := hf_t hc hf
              refine lv_iload hx hb dX0_trip_75 (lv_at hl 4 rfl) ?_
              refine lv_iload_n hx hb dX0_trip_77 rfl (lv_at hl 2 rfl) ?_
              refine lv_icmp_ne (tgt := 85) hx hb dX0_trip_78 (by decide) (fun hc => ?_) (fun hc => ?_)
              · have hf := hf_f hc hf
                exact hj85 () hf _ _ _ h (lv_sub hl [0, 1, 2, 3, 4] rfl)
              · have hf := hf_t hc hf
                refine lv_iconst (v := 0) hx hb dX0_trip_81 (by decide) ?_
                refine lv_goto (tgt := 88) hx hb dX0_trip_82 (by decide) ?_
                exact hj88 _ hf _ _ _ h (lv_sub hl [0, 1, 2, 3, 4] rfl)
      · have hf := hf_t hc hf
        refine lv_iconst (v := 0) hx hb dX0_trip_34 (by decide) ?_
        cases hf
        refine W.widen (k := 0) (n := 0) (Nat.le_of_ble_eq_true rfl) (Nat.le_of_ble_eq_true rfl) ?_
        exact x_iret C h dX0_trip_35
    · have hf := hf_f hc hf
      refine lv_bipush (v := (-3)) hx hb dX0_trip_27 (by decide) ?_
      cases hf
      refine W.widen (k := 0) (n := 0) (Nat.le_of_ble_eq_true rfl) (Nat.le_of_ble_eq_true rfl) ?_
      exact x_iret C h dX0_trip_29

theorem dX0_count_0 : decode cX0_count 0 = .ok (.iload_n 1, 1) := by decide +kernel
theorem dX0_count_1 : decode cX0_count 1 = .ok (.tableswitch 112 0 9 #[55, 63, 68, 73, 82, 87, 92, 97, 102, 107], 55) := by decide +kernel
theorem dX0_count_56 : decode cX0_count 56 = .ok (.aload_n 0, 1) := by decide +kernel
theorem dX0_count_57 : decode cX0_count 57 = .ok (.getfield 45, 3) := by decide +kernel
theorem dX0_count_60 : decode cX0_count 60 = .ok (.getfield 202, 3) := by decide +kernel
theorem dX0_count_63 : decode cX0_count 63 = .ok (.ireturn, 1) := by decide +kernel
theorem dX0_count_64 : decode cX0_count 64 = .ok (.aload_n 0, 1) := by decide +kernel
theorem dX0_count_65 : decode cX0_count 65 = .ok (.getfield 123, 3) := by decide +kernel
theorem dX0_count_68 : decode cX0_count 68 = .ok (.ireturn, 1) := by decide +kernel
theorem dX0_count_69 : decode cX0_count 69 = .ok (.aload_n 0, 1) := by decide +kernel
theorem dX0_count_70 : decode cX0_count 70 = .ok (.getfield 162, 3) := by decide +kernel
theorem dX0_count_73 : decode cX0_count 73 = .ok (.ireturn, 1) := by decide +kernel
theorem dX0_count_74 : decode cX0_count 74 = .ok (.aload_n 0, 1) := by decide +kernel
theorem dX0_count_75 : decode cX0_count 75 = .ok (.getfield 45, 3) := by decide +kernel
theorem dX0_count_78 : decode cX0_count 78 = .ok (.iconst (-1), 1) := by decide +kernel
theorem dX0_count_79 : decode cX0_count 79 = .ok (.invokevirtual 158, 3) := by decide +kernel
theorem dX0_count_82 : decode cX0_count 82 = .ok (.ireturn, 1) := by decide +kernel
theorem dX0_count_83 : decode cX0_count 83 = .ok (.aload_n 0, 1) := by decide +kernel
theorem dX0_count_84 : decode cX0_count 84 = .ok (.getfield 211, 3) := by decide +kernel
theorem dX0_count_87 : decode cX0_count 87 = .ok (.ireturn, 1) := by decide +kernel
theorem dX0_count_88 : decode cX0_count 88 = .ok (.aload_n 0, 1) := by decide +kernel
theorem dX0_count_89 : decode cX0_count 89 = .ok (.getfield 305, 3) := by decide +kernel
theorem dX0_count_92 : decode cX0_count 92 = .ok (.ireturn, 1) := by decide +kernel
theorem dX0_count_93 : decode cX0_count 93 = .ok (.aload_n 0, 1) := by decide +kernel
theorem dX0_count_94 : decode cX0_count 94 = .ok (.getfield 353, 3) := by decide +kernel
theorem dX0_count_97 : decode cX0_count 97 = .ok (.ireturn, 1) := by decide +kernel
theorem dX0_count_98 : decode cX0_count 98 = .ok (.aload_n 0, 1) := by decide +kernel
theorem dX0_count_99 : decode cX0_count 99 = .ok (.getfield 363, 3) := by decide +kernel
theorem dX0_count_102 : decode cX0_count 102 = .ok (.ireturn, 1) := by decide +kernel
theorem dX0_count_103 : decode cX0_count 103 = .ok (.aload_n 0, 1) := by decide +kernel
theorem dX0_count_104 : decode cX0_count 104 = .ok (.getfield 369, 3) := by decide +kernel
theorem dX0_count_107 : decode cX0_count 107 = .ok (.ireturn, 1) := by decide +kernel
theorem dX0_count_108 : decode cX0_count 108 = .ok (.aload_n 0, 1) := by decide +kernel
theorem dX0_count_109 : decode cX0_count 109 = .ok (.getfield 330, 3) := by decide +kernel
theorem dX0_count_112 : decode cX0_count 112 = .ok (.ireturn, 1) := by decide +kernel
theorem dX0_count_113 : decode cX0_count 113 = .ok (.bipush (-3), 2) := by decide +kernel
theorem dX0_count_115 : decode cX0_count 115 = .ok (.ireturn, 1) := by decide +kernel
def fX0_count (σ : St) (a0 : Nat) (a1 : Int32) : Option (Int32) :=
  if a1 = 0 then
    o_gR σ a0 0 7 fun r1 =>
    o_gI σ r1 3 0 fun x2 =>
    some x2
  else if a1 = 1 then
    o_gI σ a0 0 3 fun x3 =>
    some x3
  else if a1 = 2 then
    o_gI σ a0 0 5 fun x4 =>
    some x4
  else if a1 = 3 then
    o_gR σ a0 0 7 fun r5 =>
    o_k σ r5 3 <|
    (fX5_many σ r5 ((-1))).bind fun x6 =>
    some x6
  else if a1 = 4 then
    o_gI σ a0 0 12 fun x7 =>
    some x7
  else if a1 = 5 then
    o_gI σ a0 0 19 fun x8 =>
    some x8
  else if a1 = 6 then
    o_gI σ a0 0 27 fun x9 =>
    some x9
  else if a1 = 7 then
    o_gI σ a0 0 29 fun x10 =>
    some x10
  else if a1 = 8 then
    o_gI σ a0 0 31 fun x11 =>
    some x11
  else if a1 = 9 then
    o_gI σ a0 0 23 fun x12 =>
    some x12
  else 
  some ((-3))

set_option maxHeartbeats 4000000 in
theorem wX0_count {l : Launch} {s0 : State} {A0 : Array Value} {D : va_G} {ac : Nat → ClassId} (G : Gl s0 A0 D ac) {σ : St} {a0 : Nat} {a1 : Int32} {v : Int32} (hf : fX0_count σ a0 a1 = some (v)) : Met l yX0_count (ws_ yX0_count cX0_count 2 (some (.int))) ({ frames := 1, cells := 0, slots := 0, locals := 23 } : Room) (Pn s0 D ac [.ref a0, .int a1] σ) (Qn s0 D ac (some (.int v)) σ) 0 0 (fr s0) := by
  refine x_met (by decide) (Nat.le_of_ble_eq_true rfl) ?_
  intro p e s m args below meth c ls C hnm h hl
  have C : Cx s0 p s m args meth c cX0_count 2 "HutForShow" (some (.int)) := C
  have hx := C.1
  have hb := C.2.1
  have hl : lv_has ls 2 [(0, .ref a0), (1, .int a1)] := hl
  unfold fX0_count at hf
  refine lv_iload_n hx hb dX0_count_0 rfl (lv_at hl 1 rfl) ?_
  by_cases hc : a1 = 0
  · have hf := hf_t hc hf
    rw [hc]
    refine lv_tableIn (tgt := 56) hx hb dX0_count_1 (by decide) (by decide) rfl (by decide) ?_
    refine lv_aload_n hx hb dX0_count_56 rfl (lv_at hl 0 rfl) ?_
    refine x_gR (q := (RX0, TX0, 33)) (j := 7) G C h rfl (by decide) (fun _ _ _ => rfl) (lk C q213) (fun _ z => z) dX0_count_57 hf (fun r1 hf => ?_)
    refine x_gI (q := (RX5, TX5, 9)) (j := 0) G C h rfl (by decide) (fun _ _ _ => rfl) (lkn G C q124) (fun _ z => z) dX0_count_60 hf (fun x2 hf => ?_)
    cases hf
    refine W.widen (k := 0) (n := 0) (Nat.le_of_ble_eq_true rfl) (Nat.le_of_ble_eq_true rfl) ?_
    exact x_iret C h dX0_count_63
  have hf := hf_f hc hf
  have hc0 := hc
  clear hc
  by_cases hc : a1 = 1
  · have hf := hf_t hc hf
    rw [hc]
    refine lv_tableIn (tgt := 64) hx hb dX0_count_1 (by decide) (by decide) rfl (by decide) ?_
    refine lv_aload_n hx hb dX0_count_64 rfl (lv_at hl 0 rfl) ?_
    refine x_gI (q := (RX0, TX0, 33)) (j := 3) G C h rfl (by decide) (fun _ _ _ => rfl) (lk C q203) (fun _ z => z) dX0_count_65 hf (fun x3 hf => ?_)
    cases hf
    refine W.widen (k := 0) (n := 0) (Nat.le_of_ble_eq_true rfl) (Nat.le_of_ble_eq_true rfl) ?_
    exact x_iret C h dX0_count_68
  have hf := hf_f hc hf
  have hc1 := hc
  clear hc
  by_cases hc : a1 = 2
  · have hf := hf_t hc hf
    rw [hc]
    refine lv_tableIn (tgt := 69) hx hb dX0_count_1 (by decide) (by decide) rfl (by decide) ?_
    refine lv_aload_n hx hb dX0_count_69 rfl (lv_at hl 0 rfl) ?_
    refine x_gI (q := (RX0, TX0, 33)) (j := 5) G C h rfl (by decide) (fun _ _ _ => rfl) (lk C q210) (fun _ z => z) dX0_count_70 hf (fun x4 hf => ?_)
    cases hf
    refine W.widen (k := 0) (n := 0) (Nat.le_of_ble_eq_true rfl) (Nat.le_of_ble_eq_true rfl) ?_
    exact x_iret C h dX0_count_73
  have hf := hf_f hc hf
  have hc2 := hc
  clear hc
  by_cases hc : a1 = 3
  · have hf := hf_t hc hf
    rw [hc]
    refine lv_tableIn (tgt := 74) hx hb dX0_count_1 (by decide) (by decide) rfl (by decide) ?_
    refine lv_aload_n hx hb dX0_count_74 rfl (lv_at hl 0 rfl) ?_
    refine x_gR (q := (RX0, TX0, 33)) (j := 7) G C h rfl (by decide) (fun _ _ _ => rfl) (lk C q213) (fun _ z => z) dX0_count_75 hf (fun r5 hf => ?_)
    refine lv_iconst (v := (-1)) hx hb dX0_count_78 (by decide) ?_
    obtain ⟨hk, hf⟩ := k_of hf
    obtain ⟨x6, hc, hf⟩ := hf_b hf
    refine x_cV (q := (RX5, TX5, 9)) (rest := []) (As := [.int ((-1))]) (n := 1) (ov := (some (.int x6))) G C h (wX5_many G hc) hk rfl (lw_V q356 q357 q358 q59 q359) (by decide +kernel) ⟨Nat.le_of_ble_eq_true rfl, Nat.le_of_ble_eq_true rfl⟩ rfl rfl rfl hl.1 rfl (Nat.le_of_ble_eq_true rfl) dX0_count_79 ⟨(Nat.le_of_ble_eq_true rfl), (Nat.le_of_ble_eq_true rfl)⟩ (fun H locs h => ?_)
    cases hf
    refine W.widen (k := 0) (n := 0) (Nat.le_of_ble_eq_true rfl) (Nat.le_of_ble_eq_true rfl) ?_
    exact x_iret C h dX0_count_82
  have hf := hf_f hc hf
  have hc3 := hc
  clear hc
  by_cases hc : a1 = 4
  · have hf := hf_t hc hf
    rw [hc]
    refine lv_tableIn (tgt := 83) hx hb dX0_count_1 (by decide) (by decide) rfl (by decide) ?_
    refine lv_aload_n hx hb dX0_count_83 rfl (lv_at hl 0 rfl) ?_
    refine x_gI (q := (RX0, TX0, 33)) (j := 12) G C h rfl (by decide) (fun _ _ _ => rfl) (lk C q221) (fun _ z => z) dX0_count_84 hf (fun x7 hf => ?_)
    cases hf
    refine W.widen (k := 0) (n := 0) (Nat.le_of_ble_eq_true rfl) (Nat.le_of_ble_eq_true rfl) ?_
    exact x_iret C h dX0_count_87
  have hf := hf_f hc hf
  have hc4 := hc
  clear hc
  by_cases hc : a1 = 5
  · have hf := hf_t hc hf
    rw [hc]
    refine lv_tableIn (tgt := 88) hx hb dX0_count_1 (by decide) (by decide) rfl (by decide) ?_
    refine lv_aload_n hx hb dX0_count_88 rfl (lv_at hl 0 rfl) ?_
    refine x_gI (q := (RX0, TX0, 33)) (j := 19) G C h rfl (by decide) (fun _ _ _ => rfl) (lk C q228) (fun _ z => z) dX0_count_89 hf (fun x8 hf => ?_)
    cases hf
    refine W.widen (k := 0) (n := 0) (Nat.le_of_ble_eq_true rfl) (Nat.le_of_ble_eq_true rfl) ?_
    exact x_iret C h dX0_count_92
  have hf := hf_f hc hf
  have hc5 := hc
  clear hc
  by_cases hc : a1 = 6
  · have hf := hf_t hc hf
    rw [hc]
    refine lv_tableIn (tgt := 93) hx hb dX0_count_1 (by decide) (by decide) rfl (by decide) ?_
    refine lv_aload_n hx hb dX0_count_93 rfl (lv_at hl 0 rfl) ?_
    refine x_gI (q := (RX0, TX0, 33)) (j := 27) G C h rfl (by decide) (fun _ _ _ => rfl) (lk C q236) (fun _ z => z) dX0_count_94 hf (fun x9 hf => ?_)
    cases hf
    refine W.widen (k := 0) (n := 0) (Nat.le_of_ble_eq_true rfl) (Nat.le_of_ble_eq_true rfl) ?_
    exact x_iret C h dX0_count_97
  have hf := hf_f hc hf
  have hc6 := hc
  clear hc
  by_cases hc : a1 = 7
  · have hf := hf_t hc hf
    rw [hc]
    refine lv_tableIn (tgt := 98) hx hb dX0_count_1 (by decide) (by decide) rfl (by decide) ?_
    refine lv_aload_n hx hb dX0_count_98 rfl (lv_at hl 0 rfl) ?_
    refine x_gI (q := (RX0, TX0, 33)) (j := 29) G C h rfl (by decide) (fun _ _ _ => rfl) (lk C q238) (fun _ z => z) dX0_count_99 hf (fun x10 hf => ?_)
    cases hf
    refine W.widen (k := 0) (n := 0) (Nat.le_of_ble_eq_true rfl) (Nat.le_of_ble_eq_true rfl) ?_
    exact x_iret C h dX0_count_102
  have hf := hf_f hc hf
  have hc7 := hc
  clear hc
  by_cases hc : a1 = 8
  · have hf := hf_t hc hf
    rw [hc]
    refine lv_tableIn (tgt := 103) hx hb dX0_count_1 (by decide) (by decide) rfl (by decide) ?_
    refine lv_aload_n hx hb dX0_count_103 rfl (lv_at hl 0 rfl) ?_
    refine x_gI (q := (RX0, TX0, 33)) (j := 31) G C h rfl (by decide) (fun _ _ _ => rfl) (lk C q240) (fun _ z => z) dX0_count_104 hf (fun x11 hf => ?_)
    cases hf
    refine W.widen (k := 0) (n := 0) (Nat.le_of_ble_eq_true rfl) (Nat.le_of_ble_eq_true rfl) ?_
    exact x_iret C h dX0_count_107
  have hf := hf_f hc hf
  have hc8 := hc
  clear hc
  by_cases hc : a1 = 9
  · have hf := hf_t hc hf
    rw [hc]
    refine lv_tableIn (tgt := 108) hx hb dX0_count_1 (by decide) (by decide) rfl (by decide) ?_
    refine lv_aload_n hx hb dX0_count_108 rfl (lv_at hl 0 rfl) ?_
    refine x_gI (q := (RX0, TX0, 33)) (j := 23) G C h rfl (by decide) (fun _ _ _ => rfl) (lk C q232) (fun _ z => z) dX0_count_109 hf (fun x12 hf => ?_)
    cases hf
    refine W.widen (k := 0) (n := 0) (Nat.le_of_ble_eq_true rfl) (Nat.le_of_ble_eq_true rfl) ?_
    exact x_iret C h dX0_count_112
  have hf := hf_f hc hf
  have hc9 := hc
  clear hc
  refine lv_tableOut (tgt := 113) hx hb dX0_count_1 (sw_out10 hc0 hc1 hc2 hc3 hc4 hc5 hc6 hc7 hc8 hc9) (by decide) ?_
  refine lv_bipush (v := (-3)) hx hb dX0_count_113 (by decide) ?_
  cases hf
  refine W.widen (k := 0) (n := 0) (Nat.le_of_ble_eq_true rfl) (Nat.le_of_ble_eq_true rfl) ?_
  exact x_iret C h dX0_count_115
