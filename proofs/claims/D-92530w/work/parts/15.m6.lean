set_option maxRecDepth 100000
theorem dX7_mayBe_0 : decode cX7_mayBe 0 = .ok (.iconst 1, 1) := by decide +kernel
theorem dX7_mayBe_1 : decode cX7_mayBe 1 = .ok (.istore_n 3, 1) := by decide +kernel
theorem dX7_mayBe_2 : decode cX7_mayBe 2 = .ok (.iconst 0, 1) := by decide +kernel
theorem dX7_mayBe_3 : decode cX7_mayBe 3 = .ok (.istore 4, 2) := by decide +kernel
theorem dX7_mayBe_5 : decode cX7_mayBe 5 = .ok (.iload 4, 2) := by decide +kernel
theorem dX7_mayBe_7 : decode cX7_mayBe 7 = .ok (.aload_n 0, 1) := by decide +kernel
theorem dX7_mayBe_8 : decode cX7_mayBe 8 = .ok (.getfield 321, 3) := by decide +kernel
theorem dX7_mayBe_11 : decode cX7_mayBe 11 = .ok (.if_icmp .ge 103, 3) := by decide +kernel
theorem dX7_mayBe_14 : decode cX7_mayBe 14 = .ok (.iload_n 1, 1) := by decide +kernel
theorem dX7_mayBe_15 : decode cX7_mayBe 15 = .ok (.aload_n 0, 1) := by decide +kernel
theorem dX7_mayBe_16 : decode cX7_mayBe 16 = .ok (.getfield 98, 3) := by decide +kernel
theorem dX7_mayBe_19 : decode cX7_mayBe 19 = .ok (.iconst 5, 1) := by decide +kernel
theorem dX7_mayBe_20 : decode cX7_mayBe 20 = .ok (.iload 4, 2) := by decide +kernel
theorem dX7_mayBe_22 : decode cX7_mayBe 22 = .ok (.imul, 1) := by decide +kernel
theorem dX7_mayBe_23 : decode cX7_mayBe 23 = .ok (.iaload, 1) := by decide +kernel
theorem dX7_mayBe_24 : decode cX7_mayBe 24 = .ok (.aload_n 0, 1) := by decide +kernel
theorem dX7_mayBe_25 : decode cX7_mayBe 25 = .ok (.getfield 98, 3) := by decide +kernel
theorem dX7_mayBe_28 : decode cX7_mayBe 28 = .ok (.iconst 5, 1) := by decide +kernel
theorem dX7_mayBe_29 : decode cX7_mayBe 29 = .ok (.iload 4, 2) := by decide +kernel
theorem dX7_mayBe_31 : decode cX7_mayBe 31 = .ok (.imul, 1) := by decide +kernel
theorem dX7_mayBe_32 : decode cX7_mayBe 32 = .ok (.iconst 2, 1) := by decide +kernel
theorem dX7_mayBe_33 : decode cX7_mayBe 33 = .ok (.iadd, 1) := by decide +kernel
theorem dX7_mayBe_34 : decode cX7_mayBe 34 = .ok (.iaload, 1) := by decide +kernel
theorem dX7_mayBe_35 : decode cX7_mayBe 35 = .ok (.isub, 1) := by decide +kernel
theorem dX7_mayBe_36 : decode cX7_mayBe 36 = .ok (.imul, 1) := by decide +kernel
theorem dX7_mayBe_37 : decode cX7_mayBe 37 = .ok (.iload_n 2, 1) := by decide +kernel
theorem dX7_mayBe_38 : decode cX7_mayBe 38 = .ok (.aload_n 0, 1) := by decide +kernel
theorem dX7_mayBe_39 : decode cX7_mayBe 39 = .ok (.getfield 98, 3) := by decide +kernel
theorem dX7_mayBe_42 : decode cX7_mayBe 42 = .ok (.iconst 5, 1) := by decide +kernel
theorem dX7_mayBe_43 : decode cX7_mayBe 43 = .ok (.iload 4, 2) := by decide +kernel
theorem dX7_mayBe_45 : decode cX7_mayBe 45 = .ok (.imul, 1) := by decide +kernel
theorem dX7_mayBe_46 : decode cX7_mayBe 46 = .ok (.iconst 1, 1) := by decide +kernel
theorem dX7_mayBe_47 : decode cX7_mayBe 47 = .ok (.iadd, 1) := by decide +kernel
theorem dX7_mayBe_48 : decode cX7_mayBe 48 = .ok (.iaload, 1) := by decide +kernel
theorem dX7_mayBe_49 : decode cX7_mayBe 49 = .ok (.aload_n 0, 1) := by decide +kernel
theorem dX7_mayBe_50 : decode cX7_mayBe 50 = .ok (.getfield 98, 3) := by decide +kernel
theorem dX7_mayBe_53 : decode cX7_mayBe 53 = .ok (.iconst 5, 1) := by decide +kernel
theorem dX7_mayBe_54 : decode cX7_mayBe 54 = .ok (.iload 4, 2) := by decide +kernel
theorem dX7_mayBe_56 : decode cX7_mayBe 56 = .ok (.imul, 1) := by decide +kernel
theorem dX7_mayBe_57 : decode cX7_mayBe 57 = .ok (.iconst 3, 1) := by decide +kernel
theorem dX7_mayBe_58 : decode cX7_mayBe 58 = .ok (.iadd, 1) := by decide +kernel
theorem dX7_mayBe_59 : decode cX7_mayBe 59 = .ok (.iaload, 1) := by decide +kernel
theorem dX7_mayBe_60 : decode cX7_mayBe 60 = .ok (.isub, 1) := by decide +kernel
theorem dX7_mayBe_61 : decode cX7_mayBe 61 = .ok (.imul, 1) := by decide +kernel
theorem dX7_mayBe_62 : decode cX7_mayBe 62 = .ok (.iadd, 1) := by decide +kernel
theorem dX7_mayBe_63 : decode cX7_mayBe 63 = .ok (.istore 5, 2) := by decide +kernel
theorem dX7_mayBe_65 : decode cX7_mayBe 65 = .ok (.iload_n 3, 1) := by decide +kernel
theorem dX7_mayBe_66 : decode cX7_mayBe 66 = .ok (.ifCond .eq 40, 3) := by decide +kernel
theorem dX7_mayBe_69 : decode cX7_mayBe 69 = .ok (.iload 5, 2) := by decide +kernel
theorem dX7_mayBe_71 : decode cX7_mayBe 71 = .ok (.ifCond .lt 7, 3) := by decide +kernel
theorem dX7_mayBe_74 : decode cX7_mayBe 74 = .ok (.iconst 1, 1) := by decide +kernel
theorem dX7_mayBe_75 : decode cX7_mayBe 75 = .ok (.goto 4, 3) := by decide +kernel
theorem dX7_mayBe_78 : decode cX7_mayBe 78 = .ok (.iconst 0, 1) := by decide +kernel
theorem dX7_mayBe_79 : decode cX7_mayBe 79 = .ok (.aload_n 0, 1) := by decide +kernel
theorem dX7_mayBe_80 : decode cX7_mayBe 80 = .ok (.getfield 98, 3) := by decide +kernel
theorem dX7_mayBe_83 : decode cX7_mayBe 83 = .ok (.iconst 5, 1) := by decide +kernel
theorem dX7_mayBe_84 : decode cX7_mayBe 84 = .ok (.iload 4, 2) := by decide +kernel
theorem dX7_mayBe_86 : decode cX7_mayBe 86 = .ok (.imul, 1) := by decide +kernel
theorem dX7_mayBe_87 : decode cX7_mayBe 87 = .ok (.iconst 4, 1) := by decide +kernel
theorem dX7_mayBe_88 : decode cX7_mayBe 88 = .ok (.iadd, 1) := by decide +kernel
theorem dX7_mayBe_89 : decode cX7_mayBe 89 = .ok (.iaload, 1) := by decide +kernel
theorem dX7_mayBe_90 : decode cX7_mayBe 90 = .ok (.iconst 1, 1) := by decide +kernel
theorem dX7_mayBe_91 : decode cX7_mayBe 91 = .ok (.if_icmp .ne 7, 3) := by decide +kernel
theorem dX7_mayBe_94 : decode cX7_mayBe 94 = .ok (.iconst 1, 1) := by decide +kernel
theorem dX7_mayBe_95 : decode cX7_mayBe 95 = .ok (.goto 4, 3) := by decide +kernel
theorem dX7_mayBe_98 : decode cX7_mayBe 98 = .ok (.iconst 0, 1) := by decide +kernel
theorem dX7_mayBe_99 : decode cX7_mayBe 99 = .ok (.if_icmp .ne 7, 3) := by decide +kernel
theorem dX7_mayBe_102 : decode cX7_mayBe 102 = .ok (.iconst 1, 1) := by decide +kernel
theorem dX7_mayBe_103 : decode cX7_mayBe 103 = .ok (.goto 4, 3) := by decide +kernel
theorem dX7_mayBe_106 : decode cX7_mayBe 106 = .ok (.iconst 0, 1) := by decide +kernel
theorem dX7_mayBe_107 : decode cX7_mayBe 107 = .ok (.istore_n 3, 1) := by decide +kernel
theorem dX7_mayBe_108 : decode cX7_mayBe 108 = .ok (.iinc 4 1, 3) := by decide +kernel
theorem dX7_mayBe_111 : decode cX7_mayBe 111 = .ok (.goto (-106), 3) := by decide +kernel
theorem dX7_mayBe_114 : decode cX7_mayBe 114 = .ok (.iload_n 3, 1) := by decide +kernel
theorem dX7_mayBe_115 : decode cX7_mayBe 115 = .ok (.ireturn, 1) := by decide +kernel
def lX7_mayBe_5 (σ : St) (a0 : Nat) (a1 : Int32) (a2 : Int32) (x1 : Int32) (x2 : Int32) : Option ((Int32 × Int32) ⊕ (Int32)) :=
  o_gI σ a0 5 43 fun x3 =>
  if x3 ≤ x2 then
    some (.inr x1)
  else
  o_gR σ a0 5 44 fun r4 =>
  o_aI σ r4 0 (5 * x2) fun x5 =>
  o_gR σ a0 5 44 fun r6 =>
  o_aI σ r6 0 ((5 * x2) + 2) fun x7 =>
  o_gR σ a0 5 44 fun r8 =>
  o_aI σ r8 0 ((5 * x2) + 1) fun x9 =>
  o_gR σ a0 5 44 fun r10 =>
  o_aI σ r10 0 ((5 * x2) + 3) fun x11 =>
  o_let ((a1 * (x5 - x7)) + (a2 * (x9 - x11))) fun x12 =>
  jn (fun (x17 : Int32) =>
    some (.inl (x17, x2 + 1))) fun j107 =>
  jn (fun (_ : Unit) =>
    j107 0) fun j106 =>
  if x1 = 0 then
    j106 ()
  else
  jn (fun (x13 : Int32) =>
    o_gR σ a0 5 44 fun r14 =>
    o_aI σ r14 0 ((5 * x2) + 4) fun x15 =>
    jn (fun (x16 : Int32) =>
      if x13 = x16 then
        j107 1
      else
      j106 ()) fun j99 =>
    if x15 = 1 then
      j99 1
    else
    j99 0) fun j79 =>
  if x12 < 0 then
    j79 0
  else
  j79 1

def fX7_mayBe (σ : St) (a0 : Nat) (a1 : Int32) (a2 : Int32) : Option (Int32) :=
  (loopF fuel (fun z => lX7_mayBe_5 σ a0 a1 a2 z.1 z.2) (1, 0)).bind <| fun x18 =>
  o_bz x18 <| some x18

set_option maxHeartbeats 4000000 in
theorem wX7_mayBe {l : Launch} {s0 : State} {A0 : Array Value} {D : va_G} {ac : Nat → ClassId} (G : Gl s0 A0 D ac) {σ : St} {a0 : Nat} {a1 : Int32} {a2 : Int32} {v : Int32} (hf : fX7_mayBe σ a0 a1 a2 = some (v)) : Met l yX7_mayBe (ws_ yX7_mayBe cX7_mayBe 6 (some (.boolean))) ({ frames := 0, cells := 0, slots := 0, locals := 0 } : Room) (Pn s0 D ac [.ref a0, .int a1, .int a2] σ) (Qn s0 D ac (some (.int v)) σ) 0 0 (fr s0) := by
  refine x_met (by decide) (Nat.le_of_ble_eq_true rfl) ?_
  intro p e s m args below meth c ls C hnm h hl
  have C : Cx s0 p s m args meth c cX7_mayBe 6 "HutForShowModel" (some (.boolean)) := C
  have hx := C.1
  have hb := C.2.1
  have hl : lv_has ls 6 [(0, .ref a0), (1, .int a1), (2, .int a2)] := hl
  unfold fX7_mayBe at hf
  refine lv_iconst (v := 1) hx hb dX7_mayBe_0 (by decide) ?_
  refine lv_istore_n (lv' := [(3, .int 1), (0, .ref a0), (1, .int a1), (2, .int a2)]) hx hb dX7_mayBe_1 rfl hl (by decide) rfl (fun ls hl => ?_)
  refine lv_iconst (v := 0) hx hb dX7_mayBe_2 (by decide) ?_
  refine lv_istore (lv' := [(4, .int 0), (3, .int 1), (0, .ref a0), (1, .int a1), (2, .int a2)]) hx hb dX7_mayBe_3 hl (by decide) rfl (fun ls hl => ?_)
  obtain ⟨e5, hL, hK⟩ := hf_b hf
  have hE5_0 : ∀ (x18 : Int32), x18 = e5 → ∀  (H : Heap) (locs : List Loc) (ls : Array Slot), Hs s0 D ac σ H locs → lv_has ls 6 [(0, .ref a0), (1, .int a1), (2, .int a2), (3, .int x18)] → W p l e ({ frames := 0, cells := 0, slots := 0, locals := 0 } : Room) s m args below meth c H locs 0 0 (MQ below (Qn s0 D ac (some (.int v)) σ) args s 0 0 (fr s0)) (F0 m 114 ls []) := by
    intro x18 he H locs ls h hl
    subst he
    have hf := hK
    refine lv_iload_n hx hb dX7_mayBe_114 rfl (lv_at hl 3 rfl) ?_
    obtain ⟨hz, hf⟩ := bz_of hf
    cases hf
    refine W.widen (k := 0) (n := 0) (Nat.le_of_ble_eq_true rfl) (Nat.le_of_ble_eq_true rfl) ?_
    exact x_zret C h hz dX7_mayBe_115
  refine loopF_ind (P := fun z => ∀ (H : Heap) (locs : List Loc) (ls : Array Slot), Hs s0 D ac σ H locs → lv_has ls 6 [(0, .ref a0), (1, .int a1), (2, .int a2), (3, .int z.1), (4, .int z.2)] → W p l e ({ frames := 0, cells := 0, slots := 0, locals := 0 } : Room) s m args below meth c H locs 0 0 (MQ below (Qn s0 D ac (some (.int v)) σ) args s 0 0 (fr s0)) (F0 m 5 ls [])) ?_ _ _ hL _ _ _ h (lv_sub hl [2, 3, 4, 1, 0] rfl)
  clear hK hL h hl hf
  intro z o hf ih hX H locs ls h hl
  obtain ⟨x1, x2⟩ := z
  have h : Hs s0 D ac σ H locs := h
  have hl : lv_has ls 6 [(0, .ref a0), (1, .int a1), (2, .int a2), (3, .int x1), (4, .int x2)] := hl
  have hf : lX7_mayBe_5 σ a0 a1 a2 x1 x2 = some o := hf
  unfold lX7_mayBe_5 at hf
  refine lv_iload hx hb dX7_mayBe_5 (lv_at hl 4 rfl) ?_
  refine lv_aload_n hx hb dX7_mayBe_7 rfl (lv_at hl 0 rfl) ?_
  refine x_gI (q := (RX7, TX7, 50)) (j := 43) G C h rfl (by decide) (fun _ _ _ => rfl) (lk C q1099) (fun _ z => z) dX7_mayBe_8 hf (fun x3 hf => ?_)
  refine lv_icmp_ge (tgt := 114) hx hb dX7_mayBe_11 (by decide) (fun hc => ?_) (fun hc => ?_)
  · have hf := hf_t hc hf
    cases hf
    exact hE5_0 _ (hX _ rfl) _ _ _ h (lv_sub hl [0, 1, 2, 3] rfl)
  · have hf := hf_f hc hf
    refine lv_iload_n hx hb dX7_mayBe_14 rfl (lv_at hl 1 rfl) ?_
    refine lv_aload_n hx hb dX7_mayBe_15 rfl (lv_at hl 0 rfl) ?_
    refine x_gR (q := (RX7, TX7, 50)) (j := 44) G C h rfl (by decide) (fun _ _ _ => rfl) (lk C q1100) (fun _ z => z) dX7_mayBe_16 hf (fun r4 hf => ?_)
    refine lv_iconst (v := 5) hx hb dX7_mayBe_19 (by decide) ?_
    refine lv_iload hx hb dX7_mayBe_20 (lv_at hl 4 rfl) ?_
    refine lv_imul hx hb dX7_mayBe_22 ?_
    refine x_iald G C h dX7_mayBe_23 hf (fun x5 hf => ?_)
    refine lv_aload_n hx hb dX7_mayBe_24 rfl (lv_at hl 0 rfl) ?_
    refine x_gR (q := (RX7, TX7, 50)) (j := 44) G C h rfl (by decide) (fun _ _ _ => rfl) (lk C q1100) (fun _ z => z) dX7_mayBe_25 hf (fun r6 hf => ?_)
    refine lv_iconst (v := 5) hx hb dX7_mayBe_28 (by decide) ?_
    refine lv_iload hx hb dX7_mayBe_29 (lv_at hl 4 rfl) ?_
    refine lv_imul hx hb dX7_mayBe_31 ?_
    refine lv_iconst (v := 2) hx hb dX7_mayBe_32 (by decide) ?_
    refine lv_iadd hx hb dX7_mayBe_33 ?_
    refine x_iald G C h dX7_mayBe_34 hf (fun x7 hf => ?_)
    refine lv_isub hx hb dX7_mayBe_35 ?_
    refine lv_imul hx hb dX7_mayBe_36 ?_
    refine lv_iload_n hx hb dX7_mayBe_37 rfl (lv_at hl 2 rfl) ?_
    refine lv_aload_n hx hb dX7_mayBe_38 rfl (lv_at hl 0 rfl) ?_
    refine x_gR (q := (RX7, TX7, 50)) (j := 44) G C h rfl (by decide) (fun _ _ _ => rfl) (lk C q1100) (fun _ z => z) dX7_mayBe_39 hf (fun r8 hf => ?_)
    refine lv_iconst (v := 5) hx hb dX7_mayBe_42 (by decide) ?_
    refine lv_iload hx hb dX7_mayBe_43 (lv_at hl 4 rfl) ?_
    refine lv_imul hx hb dX7_mayBe_45 ?_
    refine lv_iconst (v := 1) hx hb dX7_mayBe_46 (by decide) ?_
    refine lv_iadd hx hb dX7_mayBe_47 ?_
    refine x_iald G C h dX7_mayBe_48 hf (fun x9 hf => ?_)
    refine lv_aload_n hx hb dX7_mayBe_49 rfl (lv_at hl 0 rfl) ?_
    refine x_gR (q := (RX7, TX7, 50)) (j := 44) G C h rfl (by decide) (fun _ _ _ => rfl) (lk C q1100) (fun _ z => z) dX7_mayBe_50 hf (fun r10 hf => ?_)
    refine lv_iconst (v := 5) hx hb dX7_mayBe_53 (by decide) ?_
    refine lv_iload hx hb dX7_mayBe_54 (lv_at hl 4 rfl) ?_
    refine lv_imul hx hb dX7_mayBe_56 ?_
    refine lv_iconst (v := 3) hx hb dX7_mayBe_57 (by decide) ?_
    refine lv_iadd hx hb dX7_mayBe_58 ?_
    refine x_iald G C h dX7_mayBe_59 hf (fun x11 hf => ?_)
    refine lv_isub hx hb dX7_mayBe_60 ?_
    refine lv_imul hx hb dX7_mayBe_61 ?_
    refine lv_iadd hx hb dX7_mayBe_62 ?_
    refine x_letI hf (fun x12 hf => ?_)
    refine lv_istore (lv' := [(5, .int x12), (0, .ref a0), (1, .int a1), (2, .int a2), (3, .int x1), (4, .int x2)]) hx hb dX7_mayBe_63 hl (by decide) rfl (fun ls hl => ?_)
    refine lv_iload_n hx hb dX7_mayBe_65 rfl (lv_at hl 4 rfl) ?_
    refine jn_of (P := fun j => ∀ (x17 : Int32), j x17 = some o → ∀ (H : Heap) (locs : List Loc) (ls : Array Slot), Hs s0 D ac σ H locs → lv_has ls 6 [(0, .ref a0), (1, .int a1), (2, .int a2), (3, .int x1), (4, .int x2), (5, .int x12)] → W p l e ({ frames := 0, cells := 0, slots := 0, locals := 0 } : Room) s m args below meth c H locs 0 0 (MQ below (Qn s0 D ac (some (.int v)) σ) args s 0 0 (fr s0)) (F0 m 107 ls [.int x17])) hf ?_ ?_
    · intro x17 hf H locs ls h hl
      refine lv_istore_n (lv' := [(3, .int x17), (0, .ref a0), (1, .int a1), (2, .int a2), (4, .int x2), (5, .int x12)]) hx hb dX7_mayBe_107 rfl hl (by decide) rfl (fun ls hl => ?_)
      refine lv_iinc (v := x2 + 1) (lv' := [(4, .int (x2 + 1)), (3, .int x17), (0, .ref a0), (1, .int a1), (2, .int a2), (5, .int x12)]) hx hb dX7_mayBe_108 hl (k := 4) rfl rfl (by decide) rfl (fun ls hl => ?_)
      refine lv_goto (tgt := 5) hx hb dX7_mayBe_111 (by decide) ?_
      cases hf
      exact ih _ rfl _ _ _ h (lv_sub hl [2, 3, 4, 1, 0] rfl)
    intro j107 hj107 hf
    refine jn_of (P := fun j => ∀ (u0 : Unit), j u0 = some o → ∀ (H : Heap) (locs : List Loc) (ls : Array Slot), Hs s0 D ac σ H locs → lv_has ls 6 [(0, .ref a0), (1, .int a1), (2, .int a2), (3, .int x1), (4, .int x2), (5, .int x12)] → W p l e ({ frames := 0, cells := 0, slots := 0, locals := 0 } : Room) s m args below meth c H locs 0 0 (MQ below (Qn s0 D ac (some (.int v)) σ) args s 0 0 (fr s0)) (F0 m 106 ls [])) hf ?_ ?_
    · intro u0 hf H locs ls h hl
      refine lv_iconst (v := 0) hx hb dX7_mayBe_106 (by decide) ?_
      exact hj107 _ hf _ _ _ h (lv_sub hl [0, 1, 2, 3, 4, 5] rfl)
    intro j106 hj106 hf
    refine lv_if_eq (tgt := 106) hx hb dX7_mayBe_66 (by decide) (fun hc => ?_) (fun hc => ?_)
    · have hf := hf_t hc hf
      exact hj106 () hf _ _ _ h (lv_sub hl [1, 2, 3, 4, 5, 0] rfl)
    · have hf := hf_f hc hf
      refine lv_iload hx hb dX7_mayBe_69 (lv_at hl 0 rfl) ?_
      refine jn_of (P := fun j => ∀ (x13 : Int32), j x13 = some o → ∀ (H : Heap) (locs : List Loc) (ls : Array Slot), Hs s0 D ac σ H locs → lv_has ls 6 [(0, .ref a0), (1, .int a1), (2, .int a2), (3, .int x1), (4, .int x2), (5, .int x12)] → W p l e ({ frames := 0, cells := 0, slots := 0, locals := 0 } : Room) s m args below meth c H locs 0 0 (MQ below (Qn s0 D ac (some (.int v)) σ) args s 0 0 (fr s0)) (F0 m 79 ls [.int x13])) hf ?_ ?_
      · intro x13 hf H locs ls h hl
        refine lv_aload_n hx hb dX7_mayBe_79 rfl (lv_at hl 0 rfl) ?_
        refine x_gR (q := (RX7, TX7, 50)) (j := 44) G C h rfl (by decide) (fun _ _ _ => rfl) (lk C q1100) (fun _ z => z) dX7_mayBe_80 hf (fun r14 hf => ?_)
        refine lv_iconst (v := 5) hx hb dX7_mayBe_83 (by decide) ?_
        refine lv_iload hx hb dX7_mayBe_84 (lv_at hl 4 rfl) ?_
        refine lv_imul hx hb dX7_mayBe_86 ?_
        refine lv_iconst (v := 4) hx hb dX7_mayBe_87 (by decide) ?_
        refine lv_iadd hx hb dX7_mayBe_88 ?_
        refine x_iald G C h dX7_mayBe_89 hf (fun x15 hf => ?_)
        refine lv_iconst (v := 1) hx hb dX7_mayBe_90 (by decide) ?_
        refine jn_of (P := fun j => ∀ (x16 : Int32), j x16 = some o → ∀ (H : Heap) (locs : List Loc) (ls : Array Slot), Hs s0 D ac σ H locs → lv_has ls 6 [(0, .ref a0), (1, .int a1), (2, .int a2), (3, .int x1), (4, .int x2), (5, .int x12)] → W p l e ({ frames := 0, cells := 0, slots := 0, locals := 0 } : Room) s m args below meth c H locs 0 0 (MQ below (Qn s0 D ac (some (.int v)) σ) args s 0 0 (fr s0)) (F0 m 99 ls [.int x16, .int x13])) hf ?_ ?_
        · intro x16 hf H locs ls h hl
          refine lv_icmp_ne (tgt := 106) hx hb dX7_mayBe_99 (by decide) (fun hc => ?_) (fun hc => ?_)
          · have hf := hf_f hc hf
            exact hj106 () hf _ _ _ h (lv_sub hl [0, 1, 2, 3, 4, 5] rfl)
          · have hf := hf_t hc hf
            refine lv_iconst (v := 1) hx hb dX7_mayBe_102 (by decide) ?_
            refine lv_goto (tgt := 107) hx hb dX7_mayBe_103 (by decide) ?_
            exact hj107 _ hf _ _ _ h (lv_sub hl [0, 1, 2, 3, 4, 5] rfl)
        intro j99 hj99 hf
        refine lv_icmp_ne (tgt := 98) hx hb dX7_mayBe_91 (by decide) (fun hc => ?_) (fun hc => ?_)
        · have hf := hf_f hc hf
          refine lv_iconst (v := 0) hx hb dX7_mayBe_98 (by decide) ?_
          exact hj99 _ hf _ _ _ h (lv_sub hl [0, 1, 2, 3, 4, 5] rfl)
        · have hf := hf_t hc hf
          refine lv_iconst (v := 1) hx hb dX7_mayBe_94 (by decide) ?_
          refine lv_goto (tgt := 99) hx hb dX7_mayBe_95 (by decide) ?_
          exact hj99 _ hf _ _ _ h (lv_sub hl [0, 1, 2, 3, 4, 5] rfl)
      intro j79 hj79 hf
      refine lv_if_lt (tgt := 78) hx hb dX7_mayBe_71 (by decide) (fun hc => ?_) (fun hc => ?_)
      · have hf := hf_t hc hf
        refine lv_iconst (v := 0) hx hb dX7_mayBe_78 (by decide) ?_
        exact hj79 _ hf _ _ _ h (lv_sub hl [1, 2, 3, 4, 5, 0] rfl)
      · have hf := hf_f hc hf
        refine lv_iconst (v := 1) hx hb dX7_mayBe_74 (by decide) ?_
        refine lv_goto (tgt := 79) hx hb dX7_mayBe_75 (by decide) ?_
        exact hj79 _ hf _ _ _ h (lv_sub hl [1, 2, 3, 4, 5, 0] rfl)

theorem dX7_may_0 : decode cX7_may 0 = .ok (.iload_n 1, 1) := by decide +kernel
theorem dX7_may_1 : decode cX7_may 1 = .ok (.iconst 0, 1) := by decide +kernel
theorem dX7_may_2 : decode cX7_may 2 = .ok (.iconst 1, 1) := by decide +kernel
theorem dX7_may_3 : decode cX7_may 3 = .ok (.invokestatic 113, 3) := by decide +kernel
theorem dX7_may_6 : decode cX7_may 6 = .ok (.ifCond .ne 6, 3) := by decide +kernel
theorem dX7_may_9 : decode cX7_may 9 = .ok (.bipush (-3), 2) := by decide +kernel
theorem dX7_may_11 : decode cX7_may 11 = .ok (.ireturn, 1) := by decide +kernel
theorem dX7_may_12 : decode cX7_may 12 = .ok (.iconst 0, 1) := by decide +kernel
theorem dX7_may_13 : decode cX7_may 13 = .ok (.istore_n 2, 1) := by decide +kernel
theorem dX7_may_14 : decode cX7_may 14 = .ok (.iconst (-1), 1) := by decide +kernel
theorem dX7_may_15 : decode cX7_may 15 = .ok (.istore_n 3, 1) := by decide +kernel
theorem dX7_may_16 : decode cX7_may 16 = .ok (.bipush 35, 2) := by decide +kernel
theorem dX7_may_18 : decode cX7_may 18 = .ok (.istore 4, 2) := by decide +kernel
theorem dX7_may_20 : decode cX7_may 20 = .ok (.iload 4, 2) := by decide +kernel
theorem dX7_may_22 : decode cX7_may 22 = .ok (.ifCond .lt 62, 3) := by decide +kernel
theorem dX7_may_25 : decode cX7_may 25 = .ok (.aload_n 0, 1) := by decide +kernel
theorem dX7_may_26 : decode cX7_may 26 = .ok (.iload 4, 2) := by decide +kernel
theorem dX7_may_28 : decode cX7_may 28 = .ok (.bipush 6, 2) := by decide +kernel
theorem dX7_may_30 : decode cX7_may 30 = .ok (.idiv, 1) := by decide +kernel
theorem dX7_may_31 : decode cX7_may 31 = .ok (.iload 4, 2) := by decide +kernel
theorem dX7_may_33 : decode cX7_may 33 = .ok (.bipush 6, 2) := by decide +kernel
theorem dX7_may_35 : decode cX7_may 35 = .ok (.irem, 1) := by decide +kernel
theorem dX7_may_36 : decode cX7_may 36 = .ok (.invokevirtual 324, 3) := by decide +kernel
theorem dX7_may_39 : decode cX7_may 39 = .ok (.istore 5, 2) := by decide +kernel
theorem dX7_may_41 : decode cX7_may 41 = .ok (.iload_n 2, 1) := by decide +kernel
theorem dX7_may_42 : decode cX7_may 42 = .ok (.iload 5, 2) := by decide +kernel
theorem dX7_may_44 : decode cX7_may 44 = .ok (.ifCond .eq 7, 3) := by decide +kernel
theorem dX7_may_47 : decode cX7_may 47 = .ok (.iconst 1, 1) := by decide +kernel
theorem dX7_may_48 : decode cX7_may 48 = .ok (.goto 4, 3) := by decide +kernel
theorem dX7_may_51 : decode cX7_may 51 = .ok (.iconst 0, 1) := by decide +kernel
theorem dX7_may_52 : decode cX7_may 52 = .ok (.iadd, 1) := by decide +kernel
theorem dX7_may_53 : decode cX7_may 53 = .ok (.istore_n 2, 1) := by decide +kernel
theorem dX7_may_54 : decode cX7_may 54 = .ok (.iload 5, 2) := by decide +kernel
theorem dX7_may_56 : decode cX7_may 56 = .ok (.ifCond .eq 20, 3) := by decide +kernel
theorem dX7_may_59 : decode cX7_may 59 = .ok (.bipush 10, 2) := by decide +kernel
theorem dX7_may_61 : decode cX7_may 61 = .ok (.iload 4, 2) := by decide +kernel
theorem dX7_may_63 : decode cX7_may 63 = .ok (.bipush 6, 2) := by decide +kernel
theorem dX7_may_65 : decode cX7_may 65 = .ok (.idiv, 1) := by decide +kernel
theorem dX7_may_66 : decode cX7_may 66 = .ok (.imul, 1) := by decide +kernel
theorem dX7_may_67 : decode cX7_may 67 = .ok (.iload 4, 2) := by decide +kernel
theorem dX7_may_69 : decode cX7_may 69 = .ok (.bipush 6, 2) := by decide +kernel
theorem dX7_may_71 : decode cX7_may 71 = .ok (.irem, 1) := by decide +kernel
theorem dX7_may_72 : decode cX7_may 72 = .ok (.iadd, 1) := by decide +kernel
theorem dX7_may_73 : decode cX7_may 73 = .ok (.goto 4, 3) := by decide +kernel
theorem dX7_may_76 : decode cX7_may 76 = .ok (.iload_n 3, 1) := by decide +kernel
theorem dX7_may_77 : decode cX7_may 77 = .ok (.istore_n 3, 1) := by decide +kernel
theorem dX7_may_78 : decode cX7_may 78 = .ok (.iinc 4 (-1), 3) := by decide +kernel
theorem dX7_may_81 : decode cX7_may 81 = .ok (.goto (-61), 3) := by decide +kernel
theorem dX7_may_84 : decode cX7_may 84 = .ok (.iload_n 1, 1) := by decide +kernel
theorem dX7_may_85 : decode cX7_may 85 = .ok (.ifCond .ne 7, 3) := by decide +kernel
theorem dX7_may_88 : decode cX7_may 88 = .ok (.iload_n 2, 1) := by decide +kernel
theorem dX7_may_89 : decode cX7_may 89 = .ok (.goto 4, 3) := by decide +kernel
theorem dX7_may_92 : decode cX7_may 92 = .ok (.iload_n 3, 1) := by decide +kernel
theorem dX7_may_93 : decode cX7_may 93 = .ok (.ireturn, 1) := by decide +kernel
def lX7_may_20 (σ : St) (a0 : Nat) (x2 : Int32) (x3 : Int32) (x4 : Int32) : Option ((Int32 × Int32 × Int32) ⊕ (Int32 × Int32)) :=
  if x4 < 0 then
    some (.inr (x2, x3))
  else
  o_k σ a0 5 <|
  (fX7_mayBe σ a0 (x4 / 6) (x4 - x4 / 6 * 6)).bind fun x5 =>
  jn (fun (x6 : Int32) =>
    jn (fun (x7 : Int32) =>
      some (.inl (x2 + x6, x7, x4 + (-1)))) fun j77 =>
    if x5 = 0 then
      j77 x3
    else
    j77 ((10 * (x4 / 6)) + (x4 - x4 / 6 * 6))) fun j52 =>
  if x5 = 0 then
    j52 0
  else
  j52 1

def fX7_may (σ : St) (a0 : Nat) (a1 : Int32) : Option (Int32) :=
  (fX7_in σ a1 0 1).bind fun x1 =>
  if x1 = 0 then
    some ((-3))
  else
  (loopF fuel (fun z => lX7_may_20 σ a0 z.1 z.2.1 z.2.2) (0, (-1), 35)).bind <| un2 fun x8 x9 =>
  if a1 = 0 then
    some x8
  else
  some x9

set_option maxHeartbeats 4000000 in
theorem wX7_may {l : Launch} {s0 : State} {A0 : Array Value} {D : va_G} {ac : Nat → ClassId} (G : Gl s0 A0 D ac) {σ : St} {a0 : Nat} {a1 : Int32} {v : Int32} (hf : fX7_may σ a0 a1 = some (v)) : Met l yX7_may (ws_ yX7_may cX7_may 6 (some (.int))) ({ frames := 1, cells := 0, slots := 0, locals := 25 } : Room) (Pn s0 D ac [.ref a0, .int a1] σ) (Qn s0 D ac (some (.int v)) σ) 0 0 (fr s0) := by
  refine x_met (by decide) (Nat.le_of_ble_eq_true rfl) ?_
  intro p e s m args below meth c ls C hnm h hl
  have C : Cx s0 p s m args meth c cX7_may 6 "HutForShowModel" (some (.int)) := C
  have hx := C.1
  have hb := C.2.1
  have hl : lv_has ls 6 [(0, .ref a0), (1, .int a1)] := hl
  unfold fX7_may at hf
  refine lv_iload_n hx hb dX7_may_0 rfl (lv_at hl 1 rfl) ?_
  refine lv_iconst (v := 0) hx hb dX7_may_1 (by decide) ?_
  refine lv_iconst (v := 1) hx hb dX7_may_2 (by decide) ?_
  obtain ⟨x1, hc, hf⟩ := hf_b hf
  refine x_cS (rest := []) (As := [.int a1, .int 0, .int 1]) (n := 3) (ov := (some (.int x1))) C h (wX7_in G hc) (lw_S q1211 q1212 q61 q1213) (by decide +kernel) ⟨Nat.le_of_ble_eq_true rfl, Nat.le_of_ble_eq_true rfl⟩ rfl rfl rfl hl.1 rfl (Nat.le_of_ble_eq_true rfl) dX7_may_3 ⟨(Nat.le_of_ble_eq_true rfl), (Nat.le_of_ble_eq_true rfl)⟩ (fun H locs h => ?_)
  refine lv_if_ne (tgt := 12) hx hb dX7_may_6 (by decide) (fun hc => ?_) (fun hc => ?_)
  · have hf := hf_f hc hf
    refine lv_iconst (v := 0) hx hb dX7_may_12 (by decide) ?_
    refine lv_istore_n (lv' := [(2, .int 0), (0, .ref a0), (1, .int a1)]) hx hb dX7_may_13 rfl hl (by decide) rfl (fun ls hl => ?_)
    refine lv_iconst (v := (-1)) hx hb dX7_may_14 (by decide) ?_
    refine lv_istore_n (lv' := [(3, .int ((-1))), (2, .int 0), (0, .ref a0), (1, .int a1)]) hx hb dX7_may_15 rfl hl (by decide) rfl (fun ls hl => ?_)
    refine lv_bipush (v := 35) hx hb dX7_may_16 (by decide) ?_
    refine lv_istore (lv' := [(4, .int 35), (3, .int ((-1))), (2, .int 0), (0, .ref a0), (1, .int a1)]) hx hb dX7_may_18 hl (by decide) rfl (fun ls hl => ?_)
    obtain ⟨e20, hL, hK⟩ := hf_b hf
    have hE20_0 : ∀ (x8 : Int32) (x9 : Int32), (x8, x9) = e20 → ∀  (H : Heap) (locs : List Loc) (ls : Array Slot), Hs s0 D ac σ H locs → lv_has ls 6 [(0, .ref a0), (1, .int a1), (2, .int x8), (3, .int x9)] → W p l e ({ frames := 1, cells := 0, slots := 0, locals := 25 } : Room) s m args below meth c H locs 0 0 (MQ below (Qn s0 D ac (some (.int v)) σ) args s 0 0 (fr s0)) (F0 m 84 ls []) := by
      intro x8 x9 he H locs ls h hl
      subst he
      have hf := hK
      have hf := hf_u2 hf
      refine lv_iload_n hx hb dX7_may_84 rfl (lv_at hl 1 rfl) ?_
      refine lv_if_ne (tgt := 92) hx hb dX7_may_85 (by decide) (fun hc => ?_) (fun hc => ?_)
      · have hf := hf_f hc hf
        refine lv_iload_n hx hb dX7_may_92 rfl (lv_at hl 3 rfl) ?_
        cases hf
        refine W.widen (k := 0) (n := 0) (Nat.le_of_ble_eq_true rfl) (Nat.le_of_ble_eq_true rfl) ?_
        exact x_iret C h dX7_may_93
      · have hf := hf_t hc hf
        refine lv_iload_n hx hb dX7_may_88 rfl (lv_at hl 2 rfl) ?_
        refine lv_goto (tgt := 93) hx hb dX7_may_89 (by decide) ?_
        cases hf
        refine W.widen (k := 0) (n := 0) (Nat.le_of_ble_eq_true rfl) (Nat.le_of_ble_eq_true rfl) ?_
        exact x_iret C h dX7_may_93
    refine loopF_ind (P := fun z => ∀ (H : Heap) (locs : List Loc) (ls : Array Slot), Hs s0 D ac σ H locs → lv_has ls 6 [(0, .ref a0), (1, .int a1), (2, .int z.1), (3, .int z.2.1), (4, .int z.2.2)] → W p l e ({ frames := 1, cells := 0, slots := 0, locals := 25 } : Room) s m args below meth c H locs 0 0 (MQ below (Qn s0 D ac (some (.int v)) σ) args s 0 0 (fr s0)) (F0 m 20 ls [])) ?_ _ _ hL _ _ _ h (lv_sub hl [3, 4, 2, 1, 0] rfl)
    clear hK hL h hl hf
    intro z o hf ih hX H locs ls h hl
    obtain ⟨x2, x3, x4⟩ := z
    have h : Hs s0 D ac σ H locs := h
    have hl : lv_has ls 6 [(0, .ref a0), (1, .int a1), (2, .int x2), (3, .int x3), (4, .int x4)] := hl
    have hf : lX7_may_20 σ a0 x2 x3 x4 = some o := hf
    unfold lX7_may_20 at hf
    refine lv_iload hx hb dX7_may_20 (lv_at hl 4 rfl) ?_
    refine lv_if_lt (tgt := 84) hx hb dX7_may_22 (by decide) (fun hc => ?_) (fun hc => ?_)
    · have hf := hf_t hc hf
      cases hf
      exact hE20_0 _ _ (hX _ rfl) _ _ _ h (lv_sub hl [0, 1, 2, 3] rfl)
    · have hf := hf_f hc hf
      refine lv_aload_n hx hb dX7_may_25 rfl (lv_at hl 0 rfl) ?_
      refine lv_iload hx hb dX7_may_26 (lv_at hl 4 rfl) ?_
      refine lv_bipush (v := 6) hx hb dX7_may_28 (by decide) ?_
      refine lv_idiv hx hb dX7_may_30 (by decide) ?_
      refine lv_iload hx hb dX7_may_31 (lv_at hl 4 rfl) ?_
      refine lv_bipush (v := 6) hx hb dX7_may_33 (by decide) ?_
      refine lv_irem hx hb dX7_may_35 (by decide) ?_
      obtain ⟨hk, hf⟩ := k_of hf
      obtain ⟨x5, hc, hf⟩ := hf_b hf
      refine x_cV (q := (RX7, TX7, 50)) (rest := []) (As := [.int (x4 / 6), .int (x4 - x4 / 6 * 6)]) (n := 2) (ov := (some (.int x5))) G C h (wX7_mayBe G hc) hk rfl (lw_V q1484 q1486 qs51 q61 q1487) (by decide +kernel) ⟨Nat.le_of_ble_eq_true rfl, Nat.le_of_ble_eq_true rfl⟩ rfl rfl rfl hl.1 rfl (Nat.le_of_ble_eq_true rfl) dX7_may_36 ⟨(Nat.le_of_ble_eq_true rfl), (Nat.le_of_ble_eq_true rfl)⟩ (fun H locs h => ?_)
      refine lv_istore (lv' := [(5, .int x5), (0, .ref a0), (1, .int a1), (2, .int x2), (3, .int x3), (4, .int x4)]) hx hb dX7_may_39 hl (by decide) rfl (fun ls hl => ?_)
      refine lv_iload_n hx hb dX7_may_41 rfl (lv_at hl 3 rfl) ?_
      refine lv_iload hx hb dX7_may_42 (lv_at hl 0 rfl) ?_
      refine jn_of (P := fun j => ∀ (x6 : Int32), j x6 = some o → ∀ (H : Heap) (locs : List Loc) (ls : Array Slot), Hs s0 D ac σ H locs → lv_has ls 6 [(0, .ref a0), (1, .int a1), (2, .int x2), (3, .int x3), (4, .int x4), (5, .int x5)] → W p l e ({ frames := 1, cells := 0, slots := 0, locals := 25 } : Room) s m args below meth c H locs 0 0 (MQ below (Qn s0 D ac (some (.int v)) σ) args s 0 0 (fr s0)) (F0 m 52 ls [.int x6, .int x2])) hf ?_ ?_
      · intro x6 hf H locs ls h hl
        refine lv_iadd hx hb dX7_may_52 ?_
        refine lv_istore_n (lv' := [(2, .int (x2 + x6)), (0, .ref a0), (1, .int a1), (3, .int x3), (4, .int x4), (5, .int x5)]) hx hb dX7_may_53 rfl hl (by decide) rfl (fun ls hl => ?_)
        refine lv_iload hx hb dX7_may_54 (lv_at hl 5 rfl) ?_
        refine jn_of (P := fun j => ∀ (x7 : Int32), j x7 = some o → ∀ (H : Heap) (locs : List Loc) (ls : Array Slot), Hs s0 D ac σ H locs → lv_has ls 6 [(0, .ref a0), (1, .int a1), (2, .int (x2 + x6)), (3, .int x3), (4, .int x4), (5, .int x5)] → W p l e ({ frames := 1, cells := 0, slots := 0, locals := 25 } : Room) s m args below meth c H locs 0 0 (MQ below (Qn s0 D ac (some (.int v)) σ) args s 0 0 (fr s0)) (F0 m 77 ls [.int x7])) hf ?_ ?_
        · intro x7 hf H locs ls h hl
          refine lv_istore_n (lv' := [(3, .int x7), (0, .ref a0), (1, .int a1), (2, .int (x2 + x6)), (4, .int x4), (5, .int x5)]) hx hb dX7_may_77 rfl hl (by decide) rfl (fun ls hl => ?_)
          refine lv_iinc (v := x4 + (-1)) (lv' := [(4, .int (x4 + (-1))), (3, .int x7), (0, .ref a0), (1, .int a1), (2, .int (x2 + x6)), (5, .int x5)]) hx hb dX7_may_78 hl (k := 4) rfl rfl (by decide) rfl (fun ls hl => ?_)
          refine lv_goto (tgt := 20) hx hb dX7_may_81 (by decide) ?_
          cases hf
          exact ih _ rfl _ _ _ h (lv_sub hl [2, 3, 4, 1, 0] rfl)
        intro j77 hj77 hf
        refine lv_if_eq (tgt := 76) hx hb dX7_may_56 (by decide) (fun hc => ?_) (fun hc => ?_)
        · have hf := hf_t hc hf
          refine lv_iload_n hx hb dX7_may_76 rfl (lv_at hl 3 rfl) ?_
          exact hj77 _ hf _ _ _ h (lv_sub hl [1, 2, 0, 3, 4, 5] rfl)
        · have hf := hf_f hc hf
          refine lv_bipush (v := 10) hx hb dX7_may_59 (by decide) ?_
          refine lv_iload hx hb dX7_may_61 (lv_at hl 4 rfl) ?_
          refine lv_bipush (v := 6) hx hb dX7_may_63 (by decide) ?_
          refine lv_idiv hx hb dX7_may_65 (by decide) ?_
          refine lv_imul hx hb dX7_may_66 ?_
          refine lv_iload hx hb dX7_may_67 (lv_at hl 4 rfl) ?_
          refine lv_bipush (v := 6) hx hb dX7_may_69 (by decide) ?_
          refine lv_irem hx hb dX7_may_71 (by decide) ?_
          refine lv_iadd hx hb dX7_may_72 ?_
          refine lv_goto (tgt := 77) hx hb dX7_may_73 (by decide) ?_
          exact hj77 _ hf _ _ _ h (lv_sub hl [1, 2, 0, 3, 4, 5] rfl)
      intro j52 hj52 hf
      refine lv_if_eq (tgt := 51) hx hb dX7_may_44 (by decide) (fun hc => ?_) (fun hc => ?_)
      · have hf := hf_t hc hf
        refine lv_iconst (v := 0) hx hb dX7_may_51 (by decide) ?_
        exact hj52 _ hf _ _ _ h (lv_sub hl [1, 2, 3, 4, 5, 0] rfl)
      · have hf := hf_f hc hf
        refine lv_iconst (v := 1) hx hb dX7_may_47 (by decide) ?_
        refine lv_goto (tgt := 52) hx hb dX7_may_48 (by decide) ?_
        exact hj52 _ hf _ _ _ h (lv_sub hl [1, 2, 3, 4, 5, 0] rfl)
  · have hf := hf_t hc hf
    refine lv_bipush (v := (-3)) hx hb dX7_may_9 (by decide) ?_
    cases hf
    refine W.widen (k := 0) (n := 0) (Nat.le_of_ble_eq_true rfl) (Nat.le_of_ble_eq_true rfl) ?_
    exact x_iret C h dX7_may_11

theorem dX7_pair_0 : decode cX7_pair 0 = .ok (.iload_n 1, 1) := by decide +kernel
theorem dX7_pair_1 : decode cX7_pair 1 = .ok (.iload_n 2, 1) := by decide +kernel
theorem dX7_pair_2 : decode cX7_pair 2 = .ok (.iload_n 3, 1) := by decide +kernel
theorem dX7_pair_3 : decode cX7_pair 3 = .ok (.iload 4, 2) := by decide +kernel
theorem dX7_pair_5 : decode cX7_pair 5 = .ok (.invokestatic 317, 3) := by decide +kernel
theorem dX7_pair_8 : decode cX7_pair 8 = .ok (.ifCond .ne 6, 3) := by decide +kernel
theorem dX7_pair_11 : decode cX7_pair 11 = .ok (.bipush (-3), 2) := by decide +kernel
theorem dX7_pair_13 : decode cX7_pair 13 = .ok (.ireturn, 1) := by decide +kernel
theorem dX7_pair_14 : decode cX7_pair 14 = .ok (.aload_n 0, 1) := by decide +kernel
theorem dX7_pair_15 : decode cX7_pair 15 = .ok (.getfield 327, 3) := by decide +kernel
theorem dX7_pair_18 : decode cX7_pair 18 = .ok (.bipush 8, 2) := by decide +kernel
theorem dX7_pair_20 : decode cX7_pair 20 = .ok (.if_icmp .ne 6, 3) := by decide +kernel
theorem dX7_pair_23 : decode cX7_pair 23 = .ok (.bipush (-5), 2) := by decide +kernel
theorem dX7_pair_25 : decode cX7_pair 25 = .ok (.ireturn, 1) := by decide +kernel
theorem dX7_pair_26 : decode cX7_pair 26 = .ok (.aload_n 0, 1) := by decide +kernel
theorem dX7_pair_27 : decode cX7_pair 27 = .ok (.getfield 101, 3) := by decide +kernel
theorem dX7_pair_30 : decode cX7_pair 30 = .ok (.iconst 4, 1) := by decide +kernel
theorem dX7_pair_31 : decode cX7_pair 31 = .ok (.aload_n 0, 1) := by decide +kernel
theorem dX7_pair_32 : decode cX7_pair 32 = .ok (.getfield 327, 3) := by decide +kernel
theorem dX7_pair_35 : decode cX7_pair 35 = .ok (.imul, 1) := by decide +kernel
theorem dX7_pair_36 : decode cX7_pair 36 = .ok (.iload_n 1, 1) := by decide +kernel
theorem dX7_pair_37 : decode cX7_pair 37 = .ok (.iastore, 1) := by decide +kernel
theorem dX7_pair_38 : decode cX7_pair 38 = .ok (.aload_n 0, 1) := by decide +kernel
theorem dX7_pair_39 : decode cX7_pair 39 = .ok (.getfield 101, 3) := by decide +kernel
theorem dX7_pair_42 : decode cX7_pair 42 = .ok (.iconst 4, 1) := by decide +kernel
theorem dX7_pair_43 : decode cX7_pair 43 = .ok (.aload_n 0, 1) := by decide +kernel
theorem dX7_pair_44 : decode cX7_pair 44 = .ok (.getfield 327, 3) := by decide +kernel
theorem dX7_pair_47 : decode cX7_pair 47 = .ok (.imul, 1) := by decide +kernel
theorem dX7_pair_48 : decode cX7_pair 48 = .ok (.iconst 1, 1) := by decide +kernel
theorem dX7_pair_49 : decode cX7_pair 49 = .ok (.iadd, 1) := by decide +kernel
theorem dX7_pair_50 : decode cX7_pair 50 = .ok (.iload_n 2, 1) := by decide +kernel
theorem dX7_pair_51 : decode cX7_pair 51 = .ok (.iastore, 1) := by decide +kernel
theorem dX7_pair_52 : decode cX7_pair 52 = .ok (.aload_n 0, 1) := by decide +kernel
theorem dX7_pair_53 : decode cX7_pair 53 = .ok (.getfield 101, 3) := by decide +kernel
theorem dX7_pair_56 : decode cX7_pair 56 = .ok (.iconst 4, 1) := by decide +kernel
theorem dX7_pair_57 : decode cX7_pair 57 = .ok (.aload_n 0, 1) := by decide +kernel
theorem dX7_pair_58 : decode cX7_pair 58 = .ok (.getfield 327, 3) := by decide +kernel
theorem dX7_pair_61 : decode cX7_pair 61 = .ok (.imul, 1) := by decide +kernel
theorem dX7_pair_62 : decode cX7_pair 62 = .ok (.iconst 2, 1) := by decide +kernel
theorem dX7_pair_63 : decode cX7_pair 63 = .ok (.iadd, 1) := by decide +kernel
theorem dX7_pair_64 : decode cX7_pair 64 = .ok (.iload_n 3, 1) := by decide +kernel
theorem dX7_pair_65 : decode cX7_pair 65 = .ok (.iastore, 1) := by decide +kernel
theorem dX7_pair_66 : decode cX7_pair 66 = .ok (.aload_n 0, 1) := by decide +kernel
theorem dX7_pair_67 : decode cX7_pair 67 = .ok (.getfield 101, 3) := by decide +kernel
theorem dX7_pair_70 : decode cX7_pair 70 = .ok (.iconst 4, 1) := by decide +kernel
theorem dX7_pair_71 : decode cX7_pair 71 = .ok (.aload_n 0, 1) := by decide +kernel
theorem dX7_pair_72 : decode cX7_pair 72 = .ok (.getfield 327, 3) := by decide +kernel
theorem dX7_pair_75 : decode cX7_pair 75 = .ok (.imul, 1) := by decide +kernel
theorem dX7_pair_76 : decode cX7_pair 76 = .ok (.iconst 3, 1) := by decide +kernel
theorem dX7_pair_77 : decode cX7_pair 77 = .ok (.iadd, 1) := by decide +kernel
theorem dX7_pair_78 : decode cX7_pair 78 = .ok (.iload 4, 2) := by decide +kernel
theorem dX7_pair_80 : decode cX7_pair 80 = .ok (.iastore, 1) := by decide +kernel
theorem dX7_pair_81 : decode cX7_pair 81 = .ok (.aload_n 0, 1) := by decide +kernel
theorem dX7_pair_82 : decode cX7_pair 82 = .ok (.dup, 1) := by decide +kernel
theorem dX7_pair_83 : decode cX7_pair 83 = .ok (.getfield 327, 3) := by decide +kernel
theorem dX7_pair_86 : decode cX7_pair 86 = .ok (.iconst 1, 1) := by decide +kernel
theorem dX7_pair_87 : decode cX7_pair 87 = .ok (.iadd, 1) := by decide +kernel
theorem dX7_pair_88 : decode cX7_pair 88 = .ok (.putfield 327, 3) := by decide +kernel
theorem dX7_pair_91 : decode cX7_pair 91 = .ok (.aload_n 0, 1) := by decide +kernel
theorem dX7_pair_92 : decode cX7_pair 92 = .ok (.getfield 327, 3) := by decide +kernel
theorem dX7_pair_95 : decode cX7_pair 95 = .ok (.ireturn, 1) := by decide +kernel
def fX7_pair (σ : St) (a0 : Nat) (a1 : Int32) (a2 : Int32) (a3 : Int32) (a4 : Int32) : Option (Int32 × St) :=
  (fX7_areShown σ a1 a2 a3 a4).bind fun x1 =>
  if x1 = 0 then
    some ((-3), σ)
  else
  o_gI σ a0 5 45 fun x2 =>
  if x2 = 8 then
    some ((-5), σ)
  else
  o_gR σ a0 5 46 fun r3 =>
  o_gI σ a0 5 45 fun x4 =>
  o_sI σ r3 0 (4 * x4) a1 fun σ5 =>
  o_gR σ5 a0 5 46 fun r6 =>
  o_gI σ5 a0 5 45 fun x7 =>
  o_sI σ5 r6 0 ((4 * x7) + 1) a2 fun σ8 =>
  o_gR σ8 a0 5 46 fun r9 =>
  o_gI σ8 a0 5 45 fun x10 =>
  o_sI σ8 r9 0 ((4 * x10) + 2) a3 fun σ11 =>
  o_gR σ11 a0 5 46 fun r12 =>
  o_gI σ11 a0 5 45 fun x13 =>
  o_sI σ11 r12 0 ((4 * x13) + 3) a4 fun σ14 =>
  o_gI σ14 a0 5 45 fun x15 =>
  o_pI σ14 a0 5 45 (x15 + 1) fun σ16 =>
  o_gI σ16 a0 5 45 fun x17 =>
  some (x17, σ16)

set_option maxHeartbeats 4000000 in
theorem wX7_pair {l : Launch} {s0 : State} {A0 : Array Value} {D : va_G} {ac : Nat → ClassId} (G : Gl s0 A0 D ac) {σ : St} {a0 : Nat} {a1 : Int32} {a2 : Int32} {a3 : Int32} {a4 : Int32} {v : Int32} {σ' : St} (hf : fX7_pair σ a0 a1 a2 a3 a4 = some (v, σ')) : Met l yX7_pair (ws_ yX7_pair cX7_pair 5 (some (.int))) ({ frames := 2, cells := 0, slots := 0, locals := 45 } : Room) (Pn s0 D ac [.ref a0, .int a1, .int a2, .int a3, .int a4] σ) (Qn s0 D ac (some (.int v)) σ') 0 0 (fr s0) := by
  refine x_met (by decide) (Nat.le_of_ble_eq_true rfl) ?_
  intro p e s m args below meth c ls C hnm h hl
  have C : Cx s0 p s m args meth c cX7_pair 5 "HutForShowModel" (some (.int)) := C
  have hx := C.1
  have hb := C.2.1
  have hl : lv_has ls 5 [(0, .ref a0), (1, .int a1), (2, .int a2), (3, .int a3), (4, .int a4)] := hl
  unfold fX7_pair at hf
  refine lv_iload_n hx hb dX7_pair_0 rfl (lv_at hl 1 rfl) ?_
  refine lv_iload_n hx hb dX7_pair_1 rfl (lv_at hl 2 rfl) ?_
  refine lv_iload_n hx hb dX7_pair_2 rfl (lv_at hl 3 rfl) ?_
  refine lv_iload hx hb dX7_pair_3 (lv_at hl 4 rfl) ?_
  obtain ⟨x1, hc, hf⟩ := hf_b hf
  refine x_cS (rest := []) (As := [.int a1, .int a2, .int a3, .int a4]) (n := 4) (ov := (some (.int x1))) C h (wX7_areShown G hc) (lw_S q1477 q1478 q61 q1479) (by decide +kernel) ⟨Nat.le_of_ble_eq_true rfl, Nat.le_of_ble_eq_true rfl⟩ rfl rfl rfl hl.1 rfl (Nat.le_of_ble_eq_true rfl) dX7_pair_5 ⟨(Nat.le_of_ble_eq_true rfl), (Nat.le_of_ble_eq_true rfl)⟩ (fun H locs h => ?_)
  refine lv_if_ne (tgt := 14) hx hb dX7_pair_8 (by decide) (fun hc => ?_) (fun hc => ?_)
  · have hf := hf_f hc hf
    refine lv_aload_n hx hb dX7_pair_14 rfl (lv_at hl 0 rfl) ?_
    refine x_gI (q := (RX7, TX7, 50)) (j := 45) G C h rfl (by decide) (fun _ _ _ => rfl) (lk C q1101) (fun _ z => z) dX7_pair_15 hf (fun x2 hf => ?_)
    refine lv_bipush (v := 8) hx hb dX7_pair_18 (by decide) ?_
    refine lv_icmp_ne (tgt := 26) hx hb dX7_pair_20 (by decide) (fun hc => ?_) (fun hc => ?_)
    · have hf := hf_f hc hf
      refine lv_aload_n hx hb dX7_pair_26 rfl (lv_at hl 0 rfl) ?_
      refine x_gR (q := (RX7, TX7, 50)) (j := 46) G C h rfl (by decide) (fun _ _ _ => rfl) (lk C q1102) (fun _ z => z) dX7_pair_27 hf (fun r3 hf => ?_)
      refine lv_iconst (v := 4) hx hb dX7_pair_30 (by decide) ?_
      refine lv_aload_n hx hb dX7_pair_31 rfl (lv_at hl 0 rfl) ?_
      refine x_gI (q := (RX7, TX7, 50)) (j := 45) G C h rfl (by decide) (fun _ _ _ => rfl) (lk C q1101) (fun _ z => z) dX7_pair_32 hf (fun x4 hf => ?_)
      refine lv_imul hx hb dX7_pair_35 ?_
      refine lv_iload_n hx hb dX7_pair_36 rfl (lv_at hl 1 rfl) ?_
      refine x_iast G C h dX7_pair_37 hf (fun σ5 H locs h hf => ?_)
      refine lv_aload_n hx hb dX7_pair_38 rfl (lv_at hl 0 rfl) ?_
      refine x_gR (q := (RX7, TX7, 50)) (j := 46) G C h rfl (by decide) (fun _ _ _ => rfl) (lk C q1102) (fun _ z => z) dX7_pair_39 hf (fun r6 hf => ?_)
      refine lv_iconst (v := 4) hx hb dX7_pair_42 (by decide) ?_
      refine lv_aload_n hx hb dX7_pair_43 rfl (lv_at hl 0 rfl) ?_
      refine x_gI (q := (RX7, TX7, 50)) (j := 45) G C h rfl (by decide) (fun _ _ _ => rfl) (lk C q1101) (fun _ z => z) dX7_pair_44 hf (fun x7 hf => ?_)
      refine lv_imul hx hb dX7_pair_47 ?_
      refine lv_iconst (v := 1) hx hb dX7_pair_48 (by decide) ?_
      refine lv_iadd hx hb dX7_pair_49 ?_
      refine lv_iload_n hx hb dX7_pair_50 rfl (lv_at hl 2 rfl) ?_
      refine x_iast G C h dX7_pair_51 hf (fun σ8 H locs h hf => ?_)
      refine lv_aload_n hx hb dX7_pair_52 rfl (lv_at hl 0 rfl) ?_
      refine x_gR (q := (RX7, TX7, 50)) (j := 46) G C h rfl (by decide) (fun _ _ _ => rfl) (lk C q1102) (fun _ z => z) dX7_pair_53 hf (fun r9 hf => ?_)
      refine lv_iconst (v := 4) hx hb dX7_pair_56 (by decide) ?_
      refine lv_aload_n hx hb dX7_pair_57 rfl (lv_at hl 0 rfl) ?_
      refine x_gI (q := (RX7, TX7, 50)) (j := 45) G C h rfl (by decide) (fun _ _ _ => rfl) (lk C q1101) (fun _ z => z) dX7_pair_58 hf (fun x10 hf => ?_)
      refine lv_imul hx hb dX7_pair_61 ?_
      refine lv_iconst (v := 2) hx hb dX7_pair_62 (by decide) ?_
      refine lv_iadd hx hb dX7_pair_63 ?_
      refine lv_iload_n hx hb dX7_pair_64 rfl (lv_at hl 3 rfl) ?_
      refine x_iast G C h dX7_pair_65 hf (fun σ11 H locs h hf => ?_)
      refine lv_aload_n hx hb dX7_pair_66 rfl (lv_at hl 0 rfl) ?_
      refine x_gR (q := (RX7, TX7, 50)) (j := 46) G C h rfl (by decide) (fun _ _ _ => rfl) (lk C q1102) (fun _ z => z) dX7_pair_67 hf (fun r12 hf => ?_)
      refine lv_iconst (v := 4) hx hb dX7_pair_70 (by decide) ?_
      refine lv_aload_n hx hb dX7_pair_71 rfl (lv_at hl 0 rfl) ?_
      refine x_gI (q := (RX7, TX7, 50)) (j := 45) G C h rfl (by decide) (fun _ _ _ => rfl) (lk C q1101) (fun _ z => z) dX7_pair_72 hf (fun x13 hf => ?_)
      refine lv_imul hx hb dX7_pair_75 ?_
      refine lv_iconst (v := 3) hx hb dX7_pair_76 (by decide) ?_
      refine lv_iadd hx hb dX7_pair_77 ?_
      refine lv_iload hx hb dX7_pair_78 (lv_at hl 4 rfl) ?_
      refine x_iast G C h dX7_pair_80 hf (fun σ14 H locs h hf => ?_)
      refine lv_aload_n hx hb dX7_pair_81 rfl (lv_at hl 0 rfl) ?_
      refine lv_dup hx hb dX7_pair_82 rfl ?_
      refine x_gI (q := (RX7, TX7, 50)) (j := 45) G C h rfl (by decide) (fun _ _ _ => rfl) (lk C q1101) (fun _ z => z) dX7_pair_83 hf (fun x15 hf => ?_)
      refine lv_iconst (v := 1) hx hb dX7_pair_86 (by decide) ?_
      refine lv_iadd hx hb dX7_pair_87 ?_
      refine x_pI (q := (RX7, TX7, 50)) (j := 45) G C h rfl (by decide) rfl (lk C q1101) (fun _ z => z) (Or.inl rfl) dX7_pair_88 hf (fun σ16 H locs h hf => ?_)
      refine lv_aload_n hx hb dX7_pair_91 rfl (lv_at hl 0 rfl) ?_
      refine x_gI (q := (RX7, TX7, 50)) (j := 45) G C h rfl (by decide) (fun _ _ _ => rfl) (lk C q1101) (fun _ z => z) dX7_pair_92 hf (fun x17 hf => ?_)
      cases hf
      refine W.widen (k := 0) (n := 0) (Nat.le_of_ble_eq_true rfl) (Nat.le_of_ble_eq_true rfl) ?_
      exact x_iret C h dX7_pair_95
    · have hf := hf_t hc hf
      refine lv_bipush (v := (-5)) hx hb dX7_pair_23 (by decide) ?_
      cases hf
      refine W.widen (k := 0) (n := 0) (Nat.le_of_ble_eq_true rfl) (Nat.le_of_ble_eq_true rfl) ?_
      exact x_iret C h dX7_pair_25
  · have hf := hf_t hc hf
    refine lv_bipush (v := (-3)) hx hb dX7_pair_11 (by decide) ?_
    cases hf
    refine W.widen (k := 0) (n := 0) (Nat.le_of_ble_eq_true rfl) (Nat.le_of_ble_eq_true rfl) ?_
    exact x_iret C h dX7_pair_13

theorem dX7_parting_0 : decode cX7_parting 0 = .ok (.iconst (-1), 1) := by decide +kernel
theorem dX7_parting_1 : decode cX7_parting 1 = .ok (.istore_n 1, 1) := by decide +kernel
theorem dX7_parting_2 : decode cX7_parting 2 = .ok (.sipush 1000, 3) := by decide +kernel
theorem dX7_parting_5 : decode cX7_parting 5 = .ok (.istore_n 2, 1) := by decide +kernel
theorem dX7_parting_6 : decode cX7_parting 6 = .ok (.iconst 0, 1) := by decide +kernel
theorem dX7_parting_7 : decode cX7_parting 7 = .ok (.istore_n 3, 1) := by decide +kernel
theorem dX7_parting_8 : decode cX7_parting 8 = .ok (.iconst 0, 1) := by decide +kernel
theorem dX7_parting_9 : decode cX7_parting 9 = .ok (.istore 4, 2) := by decide +kernel
theorem dX7_parting_11 : decode cX7_parting 11 = .ok (.iload 4, 2) := by decide +kernel
theorem dX7_parting_13 : decode cX7_parting 13 = .ok (.aload_n 0, 1) := by decide +kernel
theorem dX7_parting_14 : decode cX7_parting 14 = .ok (.getfield 327, 3) := by decide +kernel
theorem dX7_parting_17 : decode cX7_parting 17 = .ok (.if_icmp .ge 157, 3) := by decide +kernel
theorem dX7_parting_20 : decode cX7_parting 20 = .ok (.iconst 0, 1) := by decide +kernel
theorem dX7_parting_21 : decode cX7_parting 21 = .ok (.istore 5, 2) := by decide +kernel
theorem dX7_parting_23 : decode cX7_parting 23 = .ok (.iconst 0, 1) := by decide +kernel
theorem dX7_parting_24 : decode cX7_parting 24 = .ok (.istore 6, 2) := by decide +kernel
theorem dX7_parting_26 : decode cX7_parting 26 = .ok (.iload 6, 2) := by decide +kernel
theorem dX7_parting_28 : decode cX7_parting 28 = .ok (.bipush 36, 2) := by decide +kernel
theorem dX7_parting_30 : decode cX7_parting 30 = .ok (.if_icmp .ge 103, 3) := by decide +kernel
theorem dX7_parting_33 : decode cX7_parting 33 = .ok (.aload_n 0, 1) := by decide +kernel
theorem dX7_parting_34 : decode cX7_parting 34 = .ok (.iload 6, 2) := by decide +kernel
theorem dX7_parting_36 : decode cX7_parting 36 = .ok (.bipush 6, 2) := by decide +kernel
theorem dX7_parting_38 : decode cX7_parting 38 = .ok (.idiv, 1) := by decide +kernel
theorem dX7_parting_39 : decode cX7_parting 39 = .ok (.iload 6, 2) := by decide +kernel
theorem dX7_parting_41 : decode cX7_parting 41 = .ok (.bipush 6, 2) := by decide +kernel
theorem dX7_parting_43 : decode cX7_parting 43 = .ok (.irem, 1) := by decide +kernel
theorem dX7_parting_44 : decode cX7_parting 44 = .ok (.invokevirtual 324, 3) := by decide +kernel
theorem dX7_parting_47 : decode cX7_parting 47 = .ok (.ifCond .eq 80, 3) := by decide +kernel
theorem dX7_parting_50 : decode cX7_parting 50 = .ok (.iload 6, 2) := by decide +kernel
theorem dX7_parting_52 : decode cX7_parting 52 = .ok (.bipush 6, 2) := by decide +kernel
theorem dX7_parting_54 : decode cX7_parting 54 = .ok (.idiv, 1) := by decide +kernel
theorem dX7_parting_55 : decode cX7_parting 55 = .ok (.aload_n 0, 1) := by decide +kernel
theorem dX7_parting_56 : decode cX7_parting 56 = .ok (.getfield 101, 3) := by decide +kernel
theorem dX7_parting_59 : decode cX7_parting 59 = .ok (.iconst 4, 1) := by decide +kernel
theorem dX7_parting_60 : decode cX7_parting 60 = .ok (.iload 4, 2) := by decide +kernel
theorem dX7_parting_62 : decode cX7_parting 62 = .ok (.imul, 1) := by decide +kernel
theorem dX7_parting_63 : decode cX7_parting 63 = .ok (.iaload, 1) := by decide +kernel
theorem dX7_parting_64 : decode cX7_parting 64 = .ok (.aload_n 0, 1) := by decide +kernel
theorem dX7_parting_65 : decode cX7_parting 65 = .ok (.getfield 101, 3) := by decide +kernel
theorem dX7_parting_68 : decode cX7_parting 68 = .ok (.iconst 4, 1) := by decide +kernel
theorem dX7_parting_69 : decode cX7_parting 69 = .ok (.iload 4, 2) := by decide +kernel
theorem dX7_parting_71 : decode cX7_parting 71 = .ok (.imul, 1) := by decide +kernel
theorem dX7_parting_72 : decode cX7_parting 72 = .ok (.iconst 2, 1) := by decide +kernel
theorem dX7_parting_73 : decode cX7_parting 73 = .ok (.iadd, 1) := by decide +kernel
theorem dX7_parting_74 : decode cX7_parting 74 = .ok (.iaload, 1) := by decide +kernel
theorem dX7_parting_75 : decode cX7_parting 75 = .ok (.isub, 1) := by decide +kernel
theorem dX7_parting_76 : decode cX7_parting 76 = .ok (.imul, 1) := by decide +kernel
theorem dX7_parting_77 : decode cX7_parting 77 = .ok (.iload 6, 2) := by decide +kernel
theorem dX7_parting_79 : decode cX7_parting 79 = .ok (.bipush 6, 2) := by decide +kernel
theorem dX7_parting_81 : decode cX7_parting 81 = .ok (.irem, 1) := by decide +kernel
theorem dX7_parting_82 : decode cX7_parting 82 = .ok (.aload_n 0, 1) := by decide +kernel
theorem dX7_parting_83 : decode cX7_parting 83 = .ok (.getfield 101, 3) := by decide +kernel
theorem dX7_parting_86 : decode cX7_parting 86 = .ok (.iconst 4, 1) := by decide +kernel
theorem dX7_parting_87 : decode cX7_parting 87 = .ok (.iload 4, 2) := by decide +kernel
theorem dX7_parting_89 : decode cX7_parting 89 = .ok (.imul, 1) := by decide +kernel
theorem dX7_parting_90 : decode cX7_parting 90 = .ok (.iconst 1, 1) := by decide +kernel
theorem dX7_parting_91 : decode cX7_parting 91 = .ok (.iadd, 1) := by decide +kernel
theorem dX7_parting_92 : decode cX7_parting 92 = .ok (.iaload, 1) := by decide +kernel
theorem dX7_parting_93 : decode cX7_parting 93 = .ok (.aload_n 0, 1) := by decide +kernel
theorem dX7_parting_94 : decode cX7_parting 94 = .ok (.getfield 101, 3) := by decide +kernel
theorem dX7_parting_97 : decode cX7_parting 97 = .ok (.iconst 4, 1) := by decide +kernel
theorem dX7_parting_98 : decode cX7_parting 98 = .ok (.iload 4, 2) := by decide +kernel
theorem dX7_parting_100 : decode cX7_parting 100 = .ok (.imul, 1) := by decide +kernel
theorem dX7_parting_101 : decode cX7_parting 101 = .ok (.iconst 3, 1) := by decide +kernel
theorem dX7_parting_102 : decode cX7_parting 102 = .ok (.iadd, 1) := by decide +kernel
theorem dX7_parting_103 : decode cX7_parting 103 = .ok (.iaload, 1) := by decide +kernel
theorem dX7_parting_104 : decode cX7_parting 104 = .ok (.isub, 1) := by decide +kernel
theorem dX7_parting_105 : decode cX7_parting 105 = .ok (.imul, 1) := by decide +kernel
theorem dX7_parting_106 : decode cX7_parting 106 = .ok (.iadd, 1) := by decide +kernel
theorem dX7_parting_107 : decode cX7_parting 107 = .ok (.istore 7, 2) := by decide +kernel
theorem dX7_parting_109 : decode cX7_parting 109 = .ok (.iload 5, 2) := by decide +kernel
theorem dX7_parting_111 : decode cX7_parting 111 = .ok (.iload 7, 2) := by decide +kernel
theorem dX7_parting_113 : decode cX7_parting 113 = .ok (.ifCond .lt 7, 3) := by decide +kernel
theorem dX7_parting_116 : decode cX7_parting 116 = .ok (.iconst 1, 1) := by decide +kernel
theorem dX7_parting_117 : decode cX7_parting 117 = .ok (.goto 4, 3) := by decide +kernel
theorem dX7_parting_120 : decode cX7_parting 120 = .ok (.iconst (-1), 1) := by decide +kernel
theorem dX7_parting_121 : decode cX7_parting 121 = .ok (.iadd, 1) := by decide +kernel
theorem dX7_parting_122 : decode cX7_parting 122 = .ok (.istore 5, 2) := by decide +kernel
theorem dX7_parting_124 : decode cX7_parting 124 = .ok (.iinc 3 1, 3) := by decide +kernel
theorem dX7_parting_127 : decode cX7_parting 127 = .ok (.iinc 6 1, 3) := by decide +kernel
theorem dX7_parting_130 : decode cX7_parting 130 = .ok (.goto (-104), 3) := by decide +kernel
theorem dX7_parting_133 : decode cX7_parting 133 = .ok (.iload 5, 2) := by decide +kernel
theorem dX7_parting_135 : decode cX7_parting 135 = .ok (.invokestatic 117, 3) := by decide +kernel
theorem dX7_parting_138 : decode cX7_parting 138 = .ok (.iload_n 2, 1) := by decide +kernel
theorem dX7_parting_139 : decode cX7_parting 139 = .ok (.if_icmp .ge 8, 3) := by decide +kernel
theorem dX7_parting_142 : decode cX7_parting 142 = .ok (.iload 4, 2) := by decide +kernel
theorem dX7_parting_144 : decode cX7_parting 144 = .ok (.goto 4, 3) := by decide +kernel
theorem dX7_parting_147 : decode cX7_parting 147 = .ok (.iload_n 1, 1) := by decide +kernel
theorem dX7_parting_148 : decode cX7_parting 148 = .ok (.istore_n 1, 1) := by decide +kernel
theorem dX7_parting_149 : decode cX7_parting 149 = .ok (.iload 5, 2) := by decide +kernel
theorem dX7_parting_151 : decode cX7_parting 151 = .ok (.invokestatic 117, 3) := by decide +kernel
theorem dX7_parting_154 : decode cX7_parting 154 = .ok (.iload_n 2, 1) := by decide +kernel
theorem dX7_parting_155 : decode cX7_parting 155 = .ok (.if_icmp .ge 11, 3) := by decide +kernel
theorem dX7_parting_158 : decode cX7_parting 158 = .ok (.iload 5, 2) := by decide +kernel
theorem dX7_parting_160 : decode cX7_parting 160 = .ok (.invokestatic 117, 3) := by decide +kernel
theorem dX7_parting_163 : decode cX7_parting 163 = .ok (.goto 4, 3) := by decide +kernel
theorem dX7_parting_166 : decode cX7_parting 166 = .ok (.iload_n 2, 1) := by decide +kernel
theorem dX7_parting_167 : decode cX7_parting 167 = .ok (.istore_n 2, 1) := by decide +kernel
theorem dX7_parting_168 : decode cX7_parting 168 = .ok (.iinc 4 1, 3) := by decide +kernel
theorem dX7_parting_171 : decode cX7_parting 171 = .ok (.goto (-160), 3) := by decide +kernel
theorem dX7_parting_174 : decode cX7_parting 174 = .ok (.iload_n 3, 1) := by decide +kernel
theorem dX7_parting_175 : decode cX7_parting 175 = .ok (.ifCond .ne 7, 3) := by decide +kernel
theorem dX7_parting_178 : decode cX7_parting 178 = .ok (.iconst (-1), 1) := by decide +kernel
theorem dX7_parting_179 : decode cX7_parting 179 = .ok (.goto 4, 3) := by decide +kernel
theorem dX7_parting_182 : decode cX7_parting 182 = .ok (.iload_n 1, 1) := by decide +kernel
theorem dX7_parting_183 : decode cX7_parting 183 = .ok (.ireturn, 1) := by decide +kernel
def lX7_parting_26 (σ : St) (a0 : Nat) (x4 : Int32) (x6 : Int32) (x7 : Int32) (x8 : Int32) : Option ((Int32 × Int32 × Int32) ⊕ (Int32 × Int32)) :=
  if 36 ≤ x8 then
    some (.inr (x6, x7))
  else
  o_k σ a0 5 <|
  (fX7_mayBe σ a0 (x8 / 6) (x8 - x8 / 6 * 6)).bind fun x9 =>
  jn (fun (x20 : Int32) (x21 : Int32) =>
    some (.inl (x20, x21, x8 + 1))) fun j127 =>
  if x9 = 0 then
    j127 x6 x7
  else
  o_gR σ a0 5 46 fun r10 =>
  o_aI σ r10 0 (4 * x4) fun x11 =>
  o_gR σ a0 5 46 fun r12 =>
  o_aI σ r12 0 ((4 * x4) + 2) fun x13 =>
  o_gR σ a0 5 46 fun r14 =>
  o_aI σ r14 0 ((4 * x4) + 1) fun x15 =>
  o_gR σ a0 5 46 fun r16 =>
  o_aI σ r16 0 ((4 * x4) + 3) fun x17 =>
  o_let (((x8 / 6) * (x11 - x13)) + ((x8 - x8 / 6 * 6) * (x15 - x17))) fun x18 =>
  jn (fun (x19 : Int32) =>
    j127 (x6 + 1) (x7 + x19)) fun j121 =>
  if x18 < 0 then
    j121 ((-1))
  else
  j121 1

def lX7_parting_11 (σ : St) (a0 : Nat) (x1 : Int32) (x2 : Int32) (x3 : Int32) (x4 : Int32) : Option ((Int32 × Int32 × Int32 × Int32) ⊕ (Int32 × Int32)) :=
  o_gI σ a0 5 45 fun x5 =>
  if x5 ≤ x4 then
    some (.inr (x1, x3))
  else
  (loopF fuel (fun z => lX7_parting_26 σ a0 x4 z.1 z.2.1 z.2.2) (x3, 0, 0)).bind <| un2 fun x22 x23 =>
  (fX7_much σ x23).bind fun x24 =>
  jn (fun (x25 : Int32) =>
    (fX7_much σ x23).bind fun x26 =>
    jn (fun (x28 : Int32) =>
      some (.inl (x25, x28, x22, x4 + 1))) fun j167 =>
    if x2 ≤ x26 then
      j167 x2
    else
    (fX7_much σ x23).bind fun x27 =>
    j167 x27) fun j148 =>
  if x2 ≤ x24 then
    j148 x1
  else
  j148 x4

def fX7_parting (σ : St) (a0 : Nat) : Option (Int32) :=
  (loopF fuel (fun z => lX7_parting_11 σ a0 z.1 z.2.1 z.2.2.1 z.2.2.2) ((-1), 1000, 0, 0)).bind <| un2 fun x29 x30 =>
  if x30 = 0 then
    some ((-1))
  else
  some x29

set_option maxHeartbeats 4000000 in
theorem wX7_parting {l : Launch} {s0 : State} {A0 : Array Value} {D : va_G} {ac : Nat → ClassId} (G : Gl s0 A0 D ac) {σ : St} {a0 : Nat} {v : Int32} (hf : fX7_parting σ a0 = some (v)) : Met l yX7_parting (ws_ yX7_parting cX7_parting 8 (some (.int))) ({ frames := 1, cells := 0, slots := 0, locals := 25 } : Room) (Pn s0 D ac [.ref a0] σ) (Qn s0 D ac (some (.int v)) σ) 0 0 (fr s0) := by
  refine x_met (by decide) (Nat.le_of_ble_eq_true rfl) ?_
  intro p e s m args below meth c ls C hnm h hl
  have C : Cx s0 p s m args meth c cX7_parting 8 "HutForShowModel" (some (.int)) := C
  have hx := C.1
  have hb := C.2.1
  have hl : lv_has ls 8 [(0, .ref a0)] := hl
  unfold fX7_parting at hf
  refine lv_iconst (v := (-1)) hx hb dX7_parting_0 (by decide) ?_
  refine lv_istore_n (lv' := [(1, .int ((-1))), (0, .ref a0)]) hx hb dX7_parting_1 rfl hl (by decide) rfl (fun ls hl => ?_)
  refine lv_sipush (v := 1000) hx hb dX7_parting_2 (by decide) ?_
  refine lv_istore_n (lv' := [(2, .int 1000), (1, .int ((-1))), (0, .ref a0)]) hx hb dX7_parting_5 rfl hl (by decide) rfl (fun ls hl => ?_)
  refine lv_iconst (v := 0) hx hb dX7_parting_6 (by decide) ?_
  refine lv_istore_n (lv' := [(3, .int 0), (2, .int 1000), (1, .int ((-1))), (0, .ref a0)]) hx hb dX7_parting_7 rfl hl (by decide) rfl (fun ls hl => ?_)
  refine lv_iconst (v := 0) hx hb dX7_parting_8 (by decide) ?_
  refine lv_istore (lv' := [(4, .int 0), (3, .int 0), (2, .int 1000), (1, .int ((-1))), (0, .ref a0)]) hx hb dX7_parting_9 hl (by decide) rfl (fun ls hl => ?_)
  obtain ⟨e11, hL, hK⟩ := hf_b hf
  have hE11_0 : ∀ (x29 : Int32) (x30 : Int32), (x29, x30) = e11 → ∀  (H : Heap) (locs : List Loc) (ls : Array Slot), Hs s0 D ac σ H locs → lv_has ls 8 [(0, .ref a0), (1, .int x29), (3, .int x30)] → W p l e ({ frames := 1, cells := 0, slots := 0, locals := 25 } : Room) s m args below meth c H locs 0 0 (MQ below (Qn s0 D ac (some (.int v)) σ) args s 0 0 (fr s0)) (F0 m 174 ls []) := by
    intro x29 x30 he H locs ls h hl
    subst he
    have hf := hK
    have hf := hf_u2 hf
    refine lv_iload_n hx hb dX7_parting_174 rfl (lv_at hl 2 rfl) ?_
    refine lv_if_ne (tgt := 182) hx hb dX7_parting_175 (by decide) (fun hc => ?_) (fun hc => ?_)
    · have hf := hf_f hc hf
      refine lv_iload_n hx hb dX7_parting_182 rfl (lv_at hl 1 rfl) ?_
      cases hf
      refine W.widen (k := 0) (n := 0) (Nat.le_of_ble_eq_true rfl) (Nat.le_of_ble_eq_true rfl) ?_
      exact x_iret C h dX7_parting_183
    · have hf := hf_t hc hf
      refine lv_iconst (v := (-1)) hx hb dX7_parting_178 (by decide) ?_
      refine lv_goto (tgt := 183) hx hb dX7_parting_179 (by decide) ?_
      cases hf
      refine W.widen (k := 0) (n := 0) (Nat.le_of_ble_eq_true rfl) (Nat.le_of_ble_eq_true rfl) ?_
      exact x_iret C h dX7_parting_183
  refine loopF_ind (P := fun z => ∀ (H : Heap) (locs : List Loc) (ls : Array Slot), Hs s0 D ac σ H locs → lv_has ls 8 [(0, .ref a0), (1, .int z.1), (2, .int z.2.1), (3, .int z.2.2.1), (4, .int z.2.2.2)] → W p l e ({ frames := 1, cells := 0, slots := 0, locals := 25 } : Room) s m args below meth c H locs 0 0 (MQ below (Qn s0 D ac (some (.int v)) σ) args s 0 0 (fr s0)) (F0 m 11 ls [])) ?_ _ _ hL _ _ _ h (lv_sub hl [4, 3, 2, 1, 0] rfl)
  clear hK hL h hl hf
  intro z o hf ih hX H locs ls h hl
  obtain ⟨x1, x2, x3, x4⟩ := z
  have h : Hs s0 D ac σ H locs := h
  have hl : lv_has ls 8 [(0, .ref a0), (1, .int x1), (2, .int x2), (3, .int x3), (4, .int x4)] := hl
  have hf : lX7_parting_11 σ a0 x1 x2 x3 x4 = some o := hf
  unfold lX7_parting_11 at hf
  refine lv_iload hx hb dX7_parting_11 (lv_at hl 4 rfl) ?_
  refine lv_aload_n hx hb dX7_parting_13 rfl (lv_at hl 0 rfl) ?_
  refine x_gI (q := (RX7, TX7, 50)) (j := 45) G C h rfl (by decide) (fun _ _ _ => rfl) (lk C q1101) (fun _ z => z) dX7_parting_14 hf (fun x5 hf => ?_)
  refine lv_icmp_ge (tgt := 174) hx hb dX7_parting_17 (by decide) (fun hc => ?_) (fun hc => ?_)
  · have hf := hf_t hc hf
    cases hf
    exact hE11_0 _ _ (hX _ rfl) _ _ _ h (lv_sub hl [0, 1, 3] rfl)
  · have hf := hf_f hc hf
    refine lv_iconst (v := 0) hx hb dX7_parting_20 (by decide) ?_
    refine lv_istore (lv' := [(5, .int 0), (0, .ref a0), (1, .int x1), (2, .int x2), (3, .int x3), (4, .int x4)]) hx hb dX7_parting_21 hl (by decide) rfl (fun ls hl => ?_)
    refine lv_iconst (v := 0) hx hb dX7_parting_23 (by decide) ?_
    refine lv_istore (lv' := [(6, .int 0), (5, .int 0), (0, .ref a0), (1, .int x1), (2, .int x2), (3, .int x3), (4, .int x4)]) hx hb dX7_parting_24 hl (by decide) rfl (fun ls hl => ?_)
    obtain ⟨e26, hL, hK⟩ := hf_b hf
    have hE26_0 : ∀ (x22 : Int32) (x23 : Int32), (x22, x23) = e26 → ∀  (H : Heap) (locs : List Loc) (ls : Array Slot), Hs s0 D ac σ H locs → lv_has ls 8 [(0, .ref a0), (1, .int x1), (2, .int x2), (3, .int x22), (4, .int x4), (5, .int x23)] → W p l e ({ frames := 1, cells := 0, slots := 0, locals := 25 } : Room) s m args below meth c H locs 0 0 (MQ below (Qn s0 D ac (some (.int v)) σ) args s 0 0 (fr s0)) (F0 m 133 ls []) := by
      intro x22 x23 he H locs ls h hl
      subst he
      have hf := hK
      have hf := hf_u2 hf
      refine lv_iload hx hb dX7_parting_133 (lv_at hl 5 rfl) ?_
      obtain ⟨x24, hc, hf⟩ := hf_b hf
      refine x_cS (rest := []) (As := [.int x23]) (n := 1) (ov := (some (.int x24))) C h (wX7_much G hc) (lw_S q1226 q1227 q61 q1228) (by decide +kernel) ⟨Nat.le_of_ble_eq_true rfl, Nat.le_of_ble_eq_true rfl⟩ rfl rfl rfl hl.1 rfl (Nat.le_of_ble_eq_true rfl) dX7_parting_135 ⟨(Nat.le_of_ble_eq_true rfl), (Nat.le_of_ble_eq_true rfl)⟩ (fun H locs h => ?_)
      refine lv_iload_n hx hb dX7_parting_138 rfl (lv_at hl 2 rfl) ?_
      refine jn_of (P := fun j => ∀ (x25 : Int32), j x25 = some o → ∀ (H : Heap) (locs : List Loc) (ls : Array Slot), Hs s0 D ac σ H locs → lv_has ls 8 [(0, .ref a0), (1, .int x1), (2, .int x2), (3, .int x22), (4, .int x4), (5, .int x23)] → W p l e ({ frames := 1, cells := 0, slots := 0, locals := 25 } : Room) s m args below meth c H locs 0 0 (MQ below (Qn s0 D ac (some (.int v)) σ) args s 0 0 (fr s0)) (F0 m 148 ls [.int x25])) hf ?_ ?_
      · intro x25 hf H locs ls h hl
        refine lv_istore_n (lv' := [(1, .int x25), (0, .ref a0), (2, .int x2), (3, .int x22), (4, .int x4), (5, .int x23)]) hx hb dX7_parting_148 rfl hl (by decide) rfl (fun ls hl => ?_)
        refine lv_iload hx hb dX7_parting_149 (lv_at hl 5 rfl) ?_
        obtain ⟨x26, hc, hf⟩ := hf_b hf
        refine x_cS (rest := []) (As := [.int x23]) (n := 1) (ov := (some (.int x26))) C h (wX7_much G hc) (lw_S q1226 q1227 q61 q1228) (by decide +kernel) ⟨Nat.le_of_ble_eq_true rfl, Nat.le_of_ble_eq_true rfl⟩ rfl rfl rfl hl.1 rfl (Nat.le_of_ble_eq_true rfl) dX7_parting_151 ⟨(Nat.le_of_ble_eq_true rfl), (Nat.le_of_ble_eq_true rfl)⟩ (fun H locs h => ?_)
        refine lv_iload_n hx hb dX7_parting_154 rfl (lv_at hl 2 rfl) ?_
        refine jn_of (P := fun j => ∀ (x28 : Int32), j x28 = some o → ∀ (H : Heap) (locs : List Loc) (ls : Array Slot), Hs s0 D ac σ H locs → lv_has ls 8 [(0, .ref a0), (1, .int x25), (2, .int x2), (3, .int x22), (4, .int x4), (5, .int x23)] → W p l e ({ frames := 1, cells := 0, slots := 0, locals := 25 } : Room) s m args below meth c H locs 0 0 (MQ below (Qn s0 D ac (some (.int v)) σ) args s 0 0 (fr s0)) (F0 m 167 ls [.int x28])) hf ?_ ?_
        · intro x28 hf H locs ls h hl
          refine lv_istore_n (lv' := [(2, .int x28), (0, .ref a0), (1, .int x25), (3, .int x22), (4, .int x4), (5, .int x23)]) hx hb dX7_parting_167 rfl hl (by decide) rfl (fun ls hl => ?_)
          refine lv_iinc (v := x4 + 1) (lv' := [(4, .int (x4 + 1)), (2, .int x28), (0, .ref a0), (1, .int x25), (3, .int x22), (5, .int x23)]) hx hb dX7_parting_168 hl (k := 4) rfl rfl (by decide) rfl (fun ls hl => ?_)
          refine lv_goto (tgt := 11) hx hb dX7_parting_171 (by decide) ?_
          cases hf
          exact ih _ rfl _ _ _ h (lv_sub hl [2, 3, 1, 4, 0] rfl)
        intro j167 hj167 hf
        refine lv_icmp_ge (tgt := 166) hx hb dX7_parting_155 (by decide) (fun hc => ?_) (fun hc => ?_)
        · have hf := hf_t hc hf
          refine lv_iload_n hx hb dX7_parting_166 rfl (lv_at hl 2 rfl) ?_
          exact hj167 _ hf _ _ _ h (lv_sub hl [1, 0, 2, 3, 4, 5] rfl)
        · have hf := hf_f hc hf
          refine lv_iload hx hb dX7_parting_158 (lv_at hl 5 rfl) ?_
          obtain ⟨x27, hc, hf⟩ := hf_b hf
          refine x_cS (rest := []) (As := [.int x23]) (n := 1) (ov := (some (.int x27))) C h (wX7_much G hc) (lw_S q1226 q1227 q61 q1228) (by decide +kernel) ⟨Nat.le_of_ble_eq_true rfl, Nat.le_of_ble_eq_true rfl⟩ rfl rfl rfl hl.1 rfl (Nat.le_of_ble_eq_true rfl) dX7_parting_160 ⟨(Nat.le_of_ble_eq_true rfl), (Nat.le_of_ble_eq_true rfl)⟩ (fun H locs h => ?_)
          refine lv_goto (tgt := 167) hx hb dX7_parting_163 (by decide) ?_
          exact hj167 _ hf _ _ _ h (lv_sub hl [1, 0, 2, 3, 4, 5] rfl)
      intro j148 hj148 hf
      refine lv_icmp_ge (tgt := 147) hx hb dX7_parting_139 (by decide) (fun hc => ?_) (fun hc => ?_)
      · have hf := hf_t hc hf
        refine lv_iload_n hx hb dX7_parting_147 rfl (lv_at hl 1 rfl) ?_
        exact hj148 _ hf _ _ _ h (lv_sub hl [0, 1, 2, 3, 4, 5] rfl)
      · have hf := hf_f hc hf
        refine lv_iload hx hb dX7_parting_142 (lv_at hl 4 rfl) ?_
        refine lv_goto (tgt := 148) hx hb dX7_parting_144 (by decide) ?_
        exact hj148 _ hf _ _ _ h (lv_sub hl [0, 1, 2, 3, 4, 5] rfl)
    refine loopF_ind (P := fun z => ∀ (H : Heap) (locs : List Loc) (ls : Array Slot), Hs s0 D ac σ H locs → lv_has ls 8 [(0, .ref a0), (1, .int x1), (2, .int x2), (3, .int z.1), (4, .int x4), (5, .int z.2.1), (6, .int z.2.2)] → W p l e ({ frames := 1, cells := 0, slots := 0, locals := 25 } : Room) s m args below meth c H locs 0 0 (MQ below (Qn s0 D ac (some (.int v)) σ) args s 0 0 (fr s0)) (F0 m 26 ls [])) ?_ _ _ hL _ _ _ h (lv_sub hl [2, 3, 4, 5, 6, 1, 0] rfl)
    clear hK hL h hl hf
    intro z o hf ih hX H locs ls h hl
    obtain ⟨x6, x7, x8⟩ := z
    have h : Hs s0 D ac σ H locs := h
    have hl : lv_has ls 8 [(0, .ref a0), (1, .int x1), (2, .int x2), (3, .int x6), (4, .int x4), (5, .int x7), (6, .int x8)] := hl
    have hf : lX7_parting_26 σ a0 x4 x6 x7 x8 = some o := hf
    unfold lX7_parting_26 at hf
    refine lv_iload hx hb dX7_parting_26 (lv_at hl 6 rfl) ?_
    refine lv_bipush (v := 36) hx hb dX7_parting_28 (by decide) ?_
    refine lv_icmp_ge (tgt := 133) hx hb dX7_parting_30 (by decide) (fun hc => ?_) (fun hc => ?_)
    · have hf := hf_t hc hf
      cases hf
      exact hE26_0 _ _ (hX _ rfl) _ _ _ h (lv_sub hl [0, 1, 2, 3, 4, 5] rfl)
    · have hf := hf_f hc hf
      refine lv_aload_n hx hb dX7_parting_33 rfl (lv_at hl 0 rfl) ?_
      refine lv_iload hx hb dX7_parting_34 (lv_at hl 6 rfl) ?_
      refine lv_bipush (v := 6) hx hb dX7_parting_36 (by decide) ?_
      refine lv_idiv hx hb dX7_parting_38 (by decide) ?_
      refine lv_iload hx hb dX7_parting_39 (lv_at hl 6 rfl) ?_
      refine lv_bipush (v := 6) hx hb dX7_parting_41 (by decide) ?_
      refine lv_irem hx hb dX7_parting_43 (by decide) ?_
      obtain ⟨hk, hf⟩ := k_of hf
      obtain ⟨x9, hc, hf⟩ := hf_b hf
      refine x_cV (q := (RX7, TX7, 50)) (rest := []) (As := [.int (x8 / 6), .int (x8 - x8 / 6 * 6)]) (n := 2) (ov := (some (.int x9))) G C h (wX7_mayBe G hc) hk rfl (lw_V q1484 q1486 qs51 q61 q1487) (by decide +kernel) ⟨Nat.le_of_ble_eq_true rfl, Nat.le_of_ble_eq_true rfl⟩ rfl rfl rfl hl.1 rfl (Nat.le_of_ble_eq_true rfl) dX7_parting_44 ⟨(Nat.le_of_ble_eq_true rfl), (Nat.le_of_ble_eq_true rfl)⟩ (fun H locs h => ?_)
      refine jn_of (P := fun j => ∀ (x20 : Int32) (x21 : Int32), j x20 x21 = some o → ∀ (H : Heap) (locs : List Loc) (ls : Array Slot), Hs s0 D ac σ H locs → lv_has ls 8 [(0, .ref a0), (1, .int x1), (2, .int x2), (3, .int x20), (4, .int x4), (5, .int x21), (6, .int x8)] → W p l e ({ frames := 1, cells := 0, slots := 0, locals := 25 } : Room) s m args below meth c H locs 0 0 (MQ below (Qn s0 D ac (some (.int v)) σ) args s 0 0 (fr s0)) (F0 m 127 ls [])) hf ?_ ?_
      · intro x20 x21 hf H locs ls h hl
        refine lv_iinc (v := x8 + 1) (lv' := [(6, .int (x8 + 1)), (0, .ref a0), (1, .int x1), (2, .int x2), (3, .int x20), (4, .int x4), (5, .int x21)]) hx hb dX7_parting_127 hl (k := 6) rfl rfl (by decide) rfl (fun ls hl => ?_)
        refine lv_goto (tgt := 26) hx hb dX7_parting_130 (by decide) ?_
        cases hf
        exact ih _ rfl _ _ _ h (lv_sub hl [1, 2, 3, 4, 5, 6, 0] rfl)
      intro j127 hj127 hf
      refine lv_if_eq (tgt := 127) hx hb dX7_parting_47 (by decide) (fun hc => ?_) (fun hc => ?_)
      · have hf := hf_t hc hf
        exact hj127 _ _ hf _ _ _ h (lv_sub hl [0, 1, 2, 3, 4, 5, 6] rfl)
      · have hf := hf_f hc hf
        refine lv_iload hx hb dX7_parting_50 (lv_at hl 6 rfl) ?_
        refine lv_bipush (v := 6) hx hb dX7_parting_52 (by decide) ?_
        refine lv_idiv hx hb dX7_parting_54 (by decide) ?_
        refine lv_aload_n hx hb dX7_parting_55 rfl (lv_at hl 0 rfl) ?_
        refine x_gR (q := (RX7, TX7, 50)) (j := 46) G C h rfl (by decide) (fun _ _ _ => rfl) (lk C q1102) (fun _ z => z) dX7_parting_56 hf (fun r10 hf => ?_)
        refine lv_iconst (v := 4) hx hb dX7_parting_59 (by decide) ?_
        refine lv_iload hx hb dX7_parting_60 (lv_at hl 4 rfl) ?_
        refine lv_imul hx hb dX7_parting_62 ?_
        refine x_iald G C h dX7_parting_63 hf (fun x11 hf => ?_)
        refine lv_aload_n hx hb dX7_parting_64 rfl (lv_at hl 0 rfl) ?_
        refine x_gR (q := (RX7, TX7, 50)) (j := 46) G C h rfl (by decide) (fun _ _ _ => rfl) (lk C q1102) (fun _ z => z) dX7_parting_65 hf (fun r12 hf => ?_)
        refine lv_iconst (v := 4) hx hb dX7_parting_68 (by decide) ?_
        refine lv_iload hx hb dX7_parting_69 (lv_at hl 4 rfl) ?_
        refine lv_imul hx hb dX7_parting_71 ?_
        refine lv_iconst (v := 2) hx hb dX7_parting_72 (by decide) ?_
        refine lv_iadd hx hb dX7_parting_73 ?_
        refine x_iald G C h dX7_parting_74 hf (fun x13 hf => ?_)
        refine lv_isub hx hb dX7_parting_75 ?_
        refine lv_imul hx hb dX7_parting_76 ?_
        refine lv_iload hx hb dX7_parting_77 (lv_at hl 6 rfl) ?_
        refine lv_bipush (v := 6) hx hb dX7_parting_79 (by decide) ?_
        refine lv_irem hx hb dX7_parting_81 (by decide) ?_
        refine lv_aload_n hx hb dX7_parting_82 rfl (lv_at hl 0 rfl) ?_
        refine x_gR (q := (RX7, TX7, 50)) (j := 46) G C h rfl (by decide) (fun _ _ _ => rfl) (lk C q1102) (fun _ z => z) dX7_parting_83 hf (fun r14 hf => ?_)
        refine lv_iconst (v := 4) hx hb dX7_parting_86 (by decide) ?_
        refine lv_iload hx hb dX7_parting_87 (lv_at hl 4 rfl) ?_
        refine lv_imul hx hb dX7_parting_89 ?_
        refine lv_iconst (v := 1) hx hb dX7_parting_90 (by decide) ?_
        refine lv_iadd hx hb dX7_parting_91 ?_
        refine x_iald G C h dX7_parting_92 hf (fun x15 hf => ?_)
        refine lv_aload_n hx hb dX7_parting_93 rfl (lv_at hl 0 rfl) ?_
        refine x_gR (q := (RX7, TX7, 50)) (j := 46) G C h rfl (by decide) (fun _ _ _ => rfl) (lk C q1102) (fun _ z => z) dX7_parting_94 hf (fun r16 hf => ?_)
        refine lv_iconst (v := 4) hx hb dX7_parting_97 (by decide) ?_
        refine lv_iload hx hb dX7_parting_98 (lv_at hl 4 rfl) ?_
        refine lv_imul hx hb dX7_parting_100 ?_
        refine lv_iconst (v := 3) hx hb dX7_parting_101 (by decide) ?_
        refine lv_iadd hx hb dX7_parting_102 ?_
        refine x_iald G C h dX7_parting_103 hf (fun x17 hf => ?_)
        refine lv_isub hx hb dX7_parting_104 ?_
        refine lv_imul hx hb dX7_parting_105 ?_
        refine lv_iadd hx hb dX7_parting_106 ?_
        refine x_letI hf (fun x18 hf => ?_)
        refine lv_istore (lv' := [(7, .int x18), (0, .ref a0), (1, .int x1), (2, .int x2), (3, .int x6), (4, .int x4), (5, .int x7), (6, .int x8)]) hx hb dX7_parting_107 hl (by decide) rfl (fun ls hl => ?_)
        refine lv_iload hx hb dX7_parting_109 (lv_at hl 6 rfl) ?_
        refine lv_iload hx hb dX7_parting_111 (lv_at hl 0 rfl) ?_
        refine jn_of (P := fun j => ∀ (x19 : Int32), j x19 = some o → ∀ (H : Heap) (locs : List Loc) (ls : Array Slot), Hs s0 D ac σ H locs → lv_has ls 8 [(0, .ref a0), (1, .int x1), (2, .int x2), (3, .int x6), (4, .int x4), (5, .int x7), (6, .int x8), (7, .int x18)] → W p l e ({ frames := 1, cells := 0, slots := 0, locals := 25 } : Room) s m args below meth c H locs 0 0 (MQ below (Qn s0 D ac (some (.int v)) σ) args s 0 0 (fr s0)) (F0 m 121 ls [.int x19, .int x7])) hf ?_ ?_
        · intro x19 hf H locs ls h hl
          refine lv_iadd hx hb dX7_parting_121 ?_
          refine lv_istore (lv' := [(5, .int (x7 + x19)), (0, .ref a0), (1, .int x1), (2, .int x2), (3, .int x6), (4, .int x4), (6, .int x8), (7, .int x18)]) hx hb dX7_parting_122 hl (by decide) rfl (fun ls hl => ?_)
          refine lv_iinc (v := x6 + 1) (lv' := [(3, .int (x6 + 1)), (5, .int (x7 + x19)), (0, .ref a0), (1, .int x1), (2, .int x2), (4, .int x4), (6, .int x8), (7, .int x18)]) hx hb dX7_parting_124 hl (k := 4) rfl rfl (by decide) rfl (fun ls hl => ?_)
          exact hj127 _ _ hf _ _ _ h (lv_sub hl [2, 3, 4, 0, 5, 1, 6] rfl)
        intro j121 hj121 hf
        refine lv_if_lt (tgt := 120) hx hb dX7_parting_113 (by decide) (fun hc => ?_) (fun hc => ?_)
        · have hf := hf_t hc hf
          refine lv_iconst (v := (-1)) hx hb dX7_parting_120 (by decide) ?_
          exact hj121 _ hf _ _ _ h (lv_sub hl [1, 2, 3, 4, 5, 6, 7, 0] rfl)
        · have hf := hf_f hc hf
          refine lv_iconst (v := 1) hx hb dX7_parting_116 (by decide) ?_
          refine lv_goto (tgt := 121) hx hb dX7_parting_117 (by decide) ?_
          exact hj121 _ hf _ _ _ h (lv_sub hl [1, 2, 3, 4, 5, 6, 7, 0] rfl)

theorem dX7_spot_0 : decode cX7_spot 0 = .ok (.iload_n 1, 1) := by decide +kernel
theorem dX7_spot_1 : decode cX7_spot 1 = .ok (.iconst 0, 1) := by decide +kernel
theorem dX7_spot_2 : decode cX7_spot 2 = .ok (.bipush 30, 2) := by decide +kernel
theorem dX7_spot_4 : decode cX7_spot 4 = .ok (.invokestatic 113, 3) := by decide +kernel
theorem dX7_spot_7 : decode cX7_spot 7 = .ok (.ifCond .eq 13, 3) := by decide +kernel
theorem dX7_spot_10 : decode cX7_spot 10 = .ok (.iload_n 2, 1) := by decide +kernel
theorem dX7_spot_11 : decode cX7_spot 11 = .ok (.iconst 0, 1) := by decide +kernel
theorem dX7_spot_12 : decode cX7_spot 12 = .ok (.bipush 30, 2) := by decide +kernel
theorem dX7_spot_14 : decode cX7_spot 14 = .ok (.invokestatic 113, 3) := by decide +kernel
theorem dX7_spot_17 : decode cX7_spot 17 = .ok (.ifCond .ne 6, 3) := by decide +kernel
theorem dX7_spot_20 : decode cX7_spot 20 = .ok (.bipush (-3), 2) := by decide +kernel
theorem dX7_spot_22 : decode cX7_spot 22 = .ok (.ireturn, 1) := by decide +kernel
theorem dX7_spot_23 : decode cX7_spot 23 = .ok (.aload_n 0, 1) := by decide +kernel
theorem dX7_spot_24 : decode cX7_spot 24 = .ok (.getfield 330, 3) := by decide +kernel
theorem dX7_spot_27 : decode cX7_spot 27 = .ok (.bipush 10, 2) := by decide +kernel
theorem dX7_spot_29 : decode cX7_spot 29 = .ok (.if_icmp .ne 6, 3) := by decide +kernel
theorem dX7_spot_32 : decode cX7_spot 32 = .ok (.bipush (-5), 2) := by decide +kernel
theorem dX7_spot_34 : decode cX7_spot 34 = .ok (.ireturn, 1) := by decide +kernel
theorem dX7_spot_35 : decode cX7_spot 35 = .ok (.aload_n 0, 1) := by decide +kernel
theorem dX7_spot_36 : decode cX7_spot 36 = .ok (.getfield 104, 3) := by decide +kernel
theorem dX7_spot_39 : decode cX7_spot 39 = .ok (.aload_n 0, 1) := by decide +kernel
theorem dX7_spot_40 : decode cX7_spot 40 = .ok (.getfield 330, 3) := by decide +kernel
theorem dX7_spot_43 : decode cX7_spot 43 = .ok (.iload_n 1, 1) := by decide +kernel
theorem dX7_spot_44 : decode cX7_spot 44 = .ok (.iastore, 1) := by decide +kernel
theorem dX7_spot_45 : decode cX7_spot 45 = .ok (.aload_n 0, 1) := by decide +kernel
theorem dX7_spot_46 : decode cX7_spot 46 = .ok (.getfield 107, 3) := by decide +kernel
theorem dX7_spot_49 : decode cX7_spot 49 = .ok (.aload_n 0, 1) := by decide +kernel
theorem dX7_spot_50 : decode cX7_spot 50 = .ok (.getfield 330, 3) := by decide +kernel
theorem dX7_spot_53 : decode cX7_spot 53 = .ok (.iload_n 2, 1) := by decide +kernel
theorem dX7_spot_54 : decode cX7_spot 54 = .ok (.iastore, 1) := by decide +kernel
theorem dX7_spot_55 : decode cX7_spot 55 = .ok (.aload_n 0, 1) := by decide +kernel
theorem dX7_spot_56 : decode cX7_spot 56 = .ok (.dup, 1) := by decide +kernel
theorem dX7_spot_57 : decode cX7_spot 57 = .ok (.getfield 330, 3) := by decide +kernel
theorem dX7_spot_60 : decode cX7_spot 60 = .ok (.iconst 1, 1) := by decide +kernel
theorem dX7_spot_61 : decode cX7_spot 61 = .ok (.iadd, 1) := by decide +kernel
theorem dX7_spot_62 : decode cX7_spot 62 = .ok (.putfield 330, 3) := by decide +kernel
theorem dX7_spot_65 : decode cX7_spot 65 = .ok (.aload_n 0, 1) := by decide +kernel
theorem dX7_spot_66 : decode cX7_spot 66 = .ok (.getfield 330, 3) := by decide +kernel
theorem dX7_spot_69 : decode cX7_spot 69 = .ok (.iconst 1, 1) := by decide +kernel
theorem dX7_spot_70 : decode cX7_spot 70 = .ok (.isub, 1) := by decide +kernel
theorem dX7_spot_71 : decode cX7_spot 71 = .ok (.ireturn, 1) := by decide +kernel
def fX7_spot (σ : St) (a0 : Nat) (a1 : Int32) (a2 : Int32) : Option (Int32 × St) :=
  (fX7_in σ a1 0 30).bind fun x1 =>
  if x1 = 0 then
    some ((-3), σ)
  else
  (fX7_in σ a2 0 30).bind fun x2 =>
  if x2 = 0 then
    some ((-3), σ)
  else
  o_gI σ a0 5 47 fun x3 =>
  if x3 = 10 then
    some ((-5), σ)
  else
  o_gR σ a0 5 48 fun r4 =>
  o_gI σ a0 5 47 fun x5 =>
  o_sI σ r4 0 x5 a1 fun σ6 =>
  o_gR σ6 a0 5 49 fun r7 =>
  o_gI σ6 a0 5 47 fun x8 =>
  o_sI σ6 r7 0 x8 a2 fun σ9 =>
  o_gI σ9 a0 5 47 fun x10 =>
  o_pI σ9 a0 5 47 (x10 + 1) fun σ11 =>
  o_gI σ11 a0 5 47 fun x12 =>
  some (x12 - 1, σ11)

set_option maxHeartbeats 4000000 in
theorem wX7_spot {l : Launch} {s0 : State} {A0 : Array Value} {D : va_G} {ac : Nat → ClassId} (G : Gl s0 A0 D ac) {σ : St} {a0 : Nat} {a1 : Int32} {a2 : Int32} {v : Int32} {σ' : St} (hf : fX7_spot σ a0 a1 a2 = some (v, σ')) : Met l yX7_spot (ws_ yX7_spot cX7_spot 3 (some (.int))) ({ frames := 1, cells := 0, slots := 0, locals := 22 } : Room) (Pn s0 D ac [.ref a0, .int a1, .int a2] σ) (Qn s0 D ac (some (.int v)) σ') 0 0 (fr s0) := by
  refine x_met (by decide) (Nat.le_of_ble_eq_true rfl) ?_
  intro p e s m args below meth c ls C hnm h hl
  have C : Cx s0 p s m args meth c cX7_spot 3 "HutForShowModel" (some (.int)) := C
  have hx := C.1
  have hb := C.2.1
  have hl : lv_has ls 3 [(0, .ref a0), (1, .int a1), (2, .int a2)] := hl
  unfold fX7_spot at hf
  refine lv_iload_n hx hb dX7_spot_0 rfl (lv_at hl 1 rfl) ?_
  refine lv_iconst (v := 0) hx hb dX7_spot_1 (by decide) ?_
  refine lv_bipush (v := 30) hx hb dX7_spot_2 (by decide) ?_
  obtain ⟨x1, hc, hf⟩ := hf_b hf
  refine x_cS (rest := []) (As := [.int a1, .int 0, .int 30]) (n := 3) (ov := (some (.int x1))) C h (wX7_in G hc) (lw_S q1211 q1212 q61 q1213) (by decide +kernel) ⟨Nat.le_of_ble_eq_true rfl, Nat.le_of_ble_eq_true rfl⟩ rfl rfl rfl hl.1 rfl (Nat.le_of_ble_eq_true rfl) dX7_spot_4 ⟨(Nat.le_of_ble_eq_true rfl), (Nat.le_of_ble_eq_true rfl)⟩ (fun H locs h => ?_)
  refine lv_if_eq (tgt := 20) hx hb dX7_spot_7 (by decide) (fun hc => ?_) (fun hc => ?_)
  · have hf := hf_t hc hf
    refine lv_bipush (v := (-3)) hx hb dX7_spot_20 (by decide) ?_
    cases hf
    refine W.widen (k := 0) (n := 0) (Nat.le_of_ble_eq_true rfl) (Nat.le_of_ble_eq_true rfl) ?_
    exact x_iret C h dX7_spot_22
  · have hf := hf_f hc hf
    refine lv_iload_n hx hb dX7_spot_10 rfl (lv_at hl 2 rfl) ?_
    refine lv_iconst (v := 0) hx hb dX7_spot_11 (by decide) ?_
    refine lv_bipush (v := 30) hx hb dX7_spot_12 (by decide) ?_
    obtain ⟨x2, hc, hf⟩ := hf_b hf
    refine x_cS (rest := []) (As := [.int a2, .int 0, .int 30]) (n := 3) (ov := (some (.int x2))) C h (wX7_in G hc) (lw_S q1211 q1212 q61 q1213) (by decide +kernel) ⟨Nat.le_of_ble_eq_true rfl, Nat.le_of_ble_eq_true rfl⟩ rfl rfl rfl hl.1 rfl (Nat.le_of_ble_eq_true rfl) dX7_spot_14 ⟨(Nat.le_of_ble_eq_true rfl), (Nat.le_of_ble_eq_true rfl)⟩ (fun H locs h => ?_)
    refine lv_if_ne (tgt := 23) hx hb dX7_spot_17 (by decide) (fun hc => ?_) (fun hc => ?_)
    · have hf := hf_f hc hf
      refine lv_aload_n hx hb dX7_spot_23 rfl (lv_at hl 0 rfl) ?_
      refine x_gI (q := (RX7, TX7, 50)) (j := 47) G C h rfl (by decide) (fun _ _ _ => rfl) (lk C q1103) (fun _ z => z) dX7_spot_24 hf (fun x3 hf => ?_)
      refine lv_bipush (v := 10) hx hb dX7_spot_27 (by decide) ?_
      refine lv_icmp_ne (tgt := 35) hx hb dX7_spot_29 (by decide) (fun hc => ?_) (fun hc => ?_)
      · have hf := hf_f hc hf
        refine lv_aload_n hx hb dX7_spot_35 rfl (lv_at hl 0 rfl) ?_
        refine x_gR (q := (RX7, TX7, 50)) (j := 48) G C h rfl (by decide) (fun _ _ _ => rfl) (lk C q1104) (fun _ z => z) dX7_spot_36 hf (fun r4 hf => ?_)
        refine lv_aload_n hx hb dX7_spot_39 rfl (lv_at hl 0 rfl) ?_
        refine x_gI (q := (RX7, TX7, 50)) (j := 47) G C h rfl (by decide) (fun _ _ _ => rfl) (lk C q1103) (fun _ z => z) dX7_spot_40 hf (fun x5 hf => ?_)
        refine lv_iload_n hx hb dX7_spot_43 rfl (lv_at hl 1 rfl) ?_
        refine x_iast G C h dX7_spot_44 hf (fun σ6 H locs h hf => ?_)
        refine lv_aload_n hx hb dX7_spot_45 rfl (lv_at hl 0 rfl) ?_
        refine x_gR (q := (RX7, TX7, 50)) (j := 49) G C h rfl (by decide) (fun _ _ _ => rfl) (lk C q1105) (fun _ z => z) dX7_spot_46 hf (fun r7 hf => ?_)
        refine lv_aload_n hx hb dX7_spot_49 rfl (lv_at hl 0 rfl) ?_
        refine x_gI (q := (RX7, TX7, 50)) (j := 47) G C h rfl (by decide) (fun _ _ _ => rfl) (lk C q1103) (fun _ z => z) dX7_spot_50 hf (fun x8 hf => ?_)
        refine lv_iload_n hx hb dX7_spot_53 rfl (lv_at hl 2 rfl) ?_
        refine x_iast G C h dX7_spot_54 hf (fun σ9 H locs h hf => ?_)
        refine lv_aload_n hx hb dX7_spot_55 rfl (lv_at hl 0 rfl) ?_
        refine lv_dup hx hb dX7_spot_56 rfl ?_
        refine x_gI (q := (RX7, TX7, 50)) (j := 47) G C h rfl (by decide) (fun _ _ _ => rfl) (lk C q1103) (fun _ z => z) dX7_spot_57 hf (fun x10 hf => ?_)
        refine lv_iconst (v := 1) hx hb dX7_spot_60 (by decide) ?_
        refine lv_iadd hx hb dX7_spot_61 ?_
        refine x_pI (q := (RX7, TX7, 50)) (j := 47) G C h rfl (by decide) rfl (lk C q1103) (fun _ z => z) (Or.inl rfl) dX7_spot_62 hf (fun σ11 H locs h hf => ?_)
        refine lv_aload_n hx hb dX7_spot_65 rfl (lv_at hl 0 rfl) ?_
        refine x_gI (q := (RX7, TX7, 50)) (j := 47) G C h rfl (by decide) (fun _ _ _ => rfl) (lk C q1103) (fun _ z => z) dX7_spot_66 hf (fun x12 hf => ?_)
        refine lv_iconst (v := 1) hx hb dX7_spot_69 (by decide) ?_
        refine lv_isub hx hb dX7_spot_70 ?_
        cases hf
        refine W.widen (k := 0) (n := 0) (Nat.le_of_ble_eq_true rfl) (Nat.le_of_ble_eq_true rfl) ?_
        exact x_iret C h dX7_spot_71
      · have hf := hf_t hc hf
        refine lv_bipush (v := (-5)) hx hb dX7_spot_32 (by decide) ?_
        cases hf
        refine W.widen (k := 0) (n := 0) (Nat.le_of_ble_eq_true rfl) (Nat.le_of_ble_eq_true rfl) ?_
        exact x_iret C h dX7_spot_34
    · have hf := hf_t hc hf
      refine lv_bipush (v := (-3)) hx hb dX7_spot_20 (by decide) ?_
      cases hf
      refine W.widen (k := 0) (n := 0) (Nat.le_of_ble_eq_true rfl) (Nat.le_of_ble_eq_true rfl) ?_
      exact x_iret C h dX7_spot_22

theorem dX7_bits_0 : decode cX7_bits 0 = .ok (.iconst 0, 1) := by decide +kernel
theorem dX7_bits_1 : decode cX7_bits 1 = .ok (.istore_n 1, 1) := by decide +kernel
theorem dX7_bits_2 : decode cX7_bits 2 = .ok (.iconst 0, 1) := by decide +kernel
theorem dX7_bits_3 : decode cX7_bits 3 = .ok (.istore_n 2, 1) := by decide +kernel
theorem dX7_bits_4 : decode cX7_bits 4 = .ok (.iload_n 2, 1) := by decide +kernel
theorem dX7_bits_5 : decode cX7_bits 5 = .ok (.bipush 10, 2) := by decide +kernel
theorem dX7_bits_7 : decode cX7_bits 7 = .ok (.if_icmp .ge 17, 3) := by decide +kernel
theorem dX7_bits_10 : decode cX7_bits 10 = .ok (.iload_n 1, 1) := by decide +kernel
theorem dX7_bits_11 : decode cX7_bits 11 = .ok (.iload_n 0, 1) := by decide +kernel
theorem dX7_bits_12 : decode cX7_bits 12 = .ok (.iload_n 2, 1) := by decide +kernel
theorem dX7_bits_13 : decode cX7_bits 13 = .ok (.ishr, 1) := by decide +kernel
theorem dX7_bits_14 : decode cX7_bits 14 = .ok (.iconst 1, 1) := by decide +kernel
theorem dX7_bits_15 : decode cX7_bits 15 = .ok (.iand, 1) := by decide +kernel
theorem dX7_bits_16 : decode cX7_bits 16 = .ok (.iadd, 1) := by decide +kernel
theorem dX7_bits_17 : decode cX7_bits 17 = .ok (.istore_n 1, 1) := by decide +kernel
theorem dX7_bits_18 : decode cX7_bits 18 = .ok (.iinc 2 1, 3) := by decide +kernel
theorem dX7_bits_21 : decode cX7_bits 21 = .ok (.goto (-17), 3) := by decide +kernel
theorem dX7_bits_24 : decode cX7_bits 24 = .ok (.iload_n 1, 1) := by decide +kernel
theorem dX7_bits_25 : decode cX7_bits 25 = .ok (.ireturn, 1) := by decide +kernel
def lX7_bits_4 (a0 : Int32) (x1 : Int32) (x2 : Int32) : Option ((Int32 × Int32) ⊕ (Int32)) :=
  if 10 ≤ x2 then
    some (.inr x1)
  else
  o_let (x1 + ((a0 >>> (x2 &&& 31)) &&& 1)) fun x3 =>
  some (.inl (x3, x2 + 1))

def fX7_bits (σ : St) (a0 : Int32) : Option (Int32) :=
  (loopF fuel (fun z => lX7_bits_4 a0 z.1 z.2) (0, 0)).bind <| fun x4 =>
  some x4

set_option maxHeartbeats 4000000 in
theorem wX7_bits {l : Launch} {s0 : State} {A0 : Array Value} {D : va_G} {ac : Nat → ClassId} (G : Gl s0 A0 D ac) {σ : St} {a0 : Int32} {v : Int32} (hf : fX7_bits σ a0 = some (v)) : Met l yX7_bits (ws_ yX7_bits cX7_bits 3 (some (.int))) ({ frames := 0, cells := 0, slots := 0, locals := 0 } : Room) (Pn s0 D ac [.int a0] σ) (Qn s0 D ac (some (.int v)) σ) 0 0 (fr s0) := by
  refine x_met (by decide) (Nat.le_of_ble_eq_true rfl) ?_
  intro p e s m args below meth c ls C hnm h hl
  have C : Cx s0 p s m args meth c cX7_bits 3 "HutForShowModel" (some (.int)) := C
  have hx := C.1
  have hb := C.2.1
  have hl : lv_has ls 3 [(0, .int a0)] := hl
  unfold fX7_bits at hf
  refine lv_iconst (v := 0) hx hb dX7_bits_0 (by decide) ?_
  refine lv_istore_n (lv' := [(1, .int 0), (0, .int a0)]) hx hb dX7_bits_1 rfl hl (by decide) rfl (fun ls hl => ?_)
  refine lv_iconst (v := 0) hx hb dX7_bits_2 (by decide) ?_
  refine lv_istore_n (lv' := [(2, .int 0), (1, .int 0), (0, .int a0)]) hx hb dX7_bits_3 rfl hl (by decide) rfl (fun ls hl => ?_)
  obtain ⟨e4, hL, hK⟩ := hf_b hf
  have hE4_0 : ∀ (x4 : Int32), x4 = e4 → ∀  (H : Heap) (locs : List Loc) (ls : Array Slot), Hs s0 D ac σ H locs → lv_has ls 3 [(0, .int a0), (1, .int x4)] → W p l e ({ frames := 0, cells := 0, slots := 0, locals := 0 } : Room) s m args below meth c H locs 0 0 (MQ below (Qn s0 D ac (some (.int v)) σ) args s 0 0 (fr s0)) (F0 m 24 ls []) := by
    intro x4 he H locs ls h hl
    subst he
    have hf := hK
    refine lv_iload_n hx hb dX7_bits_24 rfl (lv_at hl 1 rfl) ?_
    cases hf
    refine W.widen (k := 0) (n := 0) (Nat.le_of_ble_eq_true rfl) (Nat.le_of_ble_eq_true rfl) ?_
    exact x_iret C h dX7_bits_25
  refine loopF_ind (P := fun z => ∀ (H : Heap) (locs : List Loc) (ls : Array Slot), Hs s0 D ac σ H locs → lv_has ls 3 [(0, .int a0), (1, .int z.1), (2, .int z.2)] → W p l e ({ frames := 0, cells := 0, slots := 0, locals := 0 } : Room) s m args below meth c H locs 0 0 (MQ below (Qn s0 D ac (some (.int v)) σ) args s 0 0 (fr s0)) (F0 m 4 ls [])) ?_ _ _ hL _ _ _ h (lv_sub hl [2, 1, 0] rfl)
  clear hK hL h hl hf
  intro z o hf ih hX H locs ls h hl
  obtain ⟨x1, x2⟩ := z
  have h : Hs s0 D ac σ H locs := h
  have hl : lv_has ls 3 [(0, .int a0), (1, .int x1), (2, .int x2)] := hl
  have hf : lX7_bits_4 a0 x1 x2 = some o := hf
  unfold lX7_bits_4 at hf
  refine lv_iload_n hx hb dX7_bits_4 rfl (lv_at hl 2 rfl) ?_
  refine lv_bipush (v := 10) hx hb dX7_bits_5 (by decide) ?_
  refine lv_icmp_ge (tgt := 24) hx hb dX7_bits_7 (by decide) (fun hc => ?_) (fun hc => ?_)
  · have hf := hf_t hc hf
    cases hf
    exact hE4_0 _ (hX _ rfl) _ _ _ h (lv_sub hl [0, 1] rfl)
  · have hf := hf_f hc hf
    refine lv_iload_n hx hb dX7_bits_10 rfl (lv_at hl 1 rfl) ?_
    refine lv_iload_n hx hb dX7_bits_11 rfl (lv_at hl 0 rfl) ?_
    refine lv_iload_n hx hb dX7_bits_12 rfl (lv_at hl 2 rfl) ?_
    refine lv_ishr hx hb dX7_bits_13 ?_
    refine lv_iconst (v := 1) hx hb dX7_bits_14 (by decide) ?_
    refine lv_iand hx hb dX7_bits_15 ?_
    refine lv_iadd hx hb dX7_bits_16 ?_
    refine x_letI hf (fun x3 hf => ?_)
    refine lv_istore_n (lv' := [(1, .int x3), (0, .int a0), (2, .int x2)]) hx hb dX7_bits_17 rfl hl (by decide) rfl (fun ls hl => ?_)
    refine lv_iinc (v := x2 + 1) (lv' := [(2, .int (x2 + 1)), (1, .int x3), (0, .int a0)]) hx hb dX7_bits_18 hl (k := 2) rfl rfl (by decide) rfl (fun ls hl => ?_)
    refine lv_goto (tgt := 4) hx hb dX7_bits_21 (by decide) ?_
    cases hf
    exact ih _ rfl _ _ _ h (lv_sub hl [2, 1, 0] rfl)

theorem dX7_apart_0 : decode cX7_apart 0 = .ok (.aload_n 0, 1) := by decide +kernel
theorem dX7_apart_1 : decode cX7_apart 1 = .ok (.getfield 104, 3) := by decide +kernel
theorem dX7_apart_4 : decode cX7_apart 4 = .ok (.iload_n 1, 1) := by decide +kernel
theorem dX7_apart_5 : decode cX7_apart 5 = .ok (.iaload, 1) := by decide +kernel
theorem dX7_apart_6 : decode cX7_apart 6 = .ok (.aload_n 0, 1) := by decide +kernel
theorem dX7_apart_7 : decode cX7_apart 7 = .ok (.getfield 104, 3) := by decide +kernel
theorem dX7_apart_10 : decode cX7_apart 10 = .ok (.iload_n 2, 1) := by decide +kernel
theorem dX7_apart_11 : decode cX7_apart 11 = .ok (.iaload, 1) := by decide +kernel
theorem dX7_apart_12 : decode cX7_apart 12 = .ok (.isub, 1) := by decide +kernel
theorem dX7_apart_13 : decode cX7_apart 13 = .ok (.invokestatic 117, 3) := by decide +kernel
theorem dX7_apart_16 : decode cX7_apart 16 = .ok (.aload_n 0, 1) := by decide +kernel
theorem dX7_apart_17 : decode cX7_apart 17 = .ok (.getfield 107, 3) := by decide +kernel
theorem dX7_apart_20 : decode cX7_apart 20 = .ok (.iload_n 1, 1) := by decide +kernel
theorem dX7_apart_21 : decode cX7_apart 21 = .ok (.iaload, 1) := by decide +kernel
theorem dX7_apart_22 : decode cX7_apart 22 = .ok (.aload_n 0, 1) := by decide +kernel
theorem dX7_apart_23 : decode cX7_apart 23 = .ok (.getfield 107, 3) := by decide +kernel
theorem dX7_apart_26 : decode cX7_apart 26 = .ok (.iload_n 2, 1) := by decide +kernel
theorem dX7_apart_27 : decode cX7_apart 27 = .ok (.iaload, 1) := by decide +kernel
theorem dX7_apart_28 : decode cX7_apart 28 = .ok (.isub, 1) := by decide +kernel
theorem dX7_apart_29 : decode cX7_apart 29 = .ok (.invokestatic 117, 3) := by decide +kernel
theorem dX7_apart_32 : decode cX7_apart 32 = .ok (.iadd, 1) := by decide +kernel
theorem dX7_apart_33 : decode cX7_apart 33 = .ok (.ireturn, 1) := by decide +kernel
def fX7_apart (σ : St) (a0 : Nat) (a1 : Int32) (a2 : Int32) : Option (Int32) :=
  o_gR σ a0 5 48 fun r1 =>
  o_aI σ r1 0 a1 fun x2 =>
  o_gR σ a0 5 48 fun r3 =>
  o_aI σ r3 0 a2 fun x4 =>
  (fX7_much σ (x2 - x4)).bind fun x5 =>
  o_gR σ a0 5 49 fun r6 =>
  o_aI σ r6 0 a1 fun x7 =>
  o_gR σ a0 5 49 fun r8 =>
  o_aI σ r8 0 a2 fun x9 =>
  (fX7_much σ (x7 - x9)).bind fun x10 =>
  some (x5 + x10)

set_option maxHeartbeats 4000000 in
theorem wX7_apart {l : Launch} {s0 : State} {A0 : Array Value} {D : va_G} {ac : Nat → ClassId} (G : Gl s0 A0 D ac) {σ : St} {a0 : Nat} {a1 : Int32} {a2 : Int32} {v : Int32} (hf : fX7_apart σ a0 a1 a2 = some (v)) : Met l yX7_apart (ws_ yX7_apart cX7_apart 3 (some (.int))) ({ frames := 1, cells := 0, slots := 0, locals := 20 } : Room) (Pn s0 D ac [.ref a0, .int a1, .int a2] σ) (Qn s0 D ac (some (.int v)) σ) 0 0 (fr s0) := by
  refine x_met (by decide) (Nat.le_of_ble_eq_true rfl) ?_
  intro p e s m args below meth c ls C hnm h hl
  have C : Cx s0 p s m args meth c cX7_apart 3 "HutForShowModel" (some (.int)) := C
  have hx := C.1
  have hb := C.2.1
  have hl : lv_has ls 3 [(0, .ref a0), (1, .int a1), (2, .int a2)] := hl
  unfold fX7_apart at hf
  refine lv_aload_n hx hb dX7_apart_0 rfl (lv_at hl 0 rfl) ?_
  refine x_gR (q := (RX7, TX7, 50)) (j := 48) G C h rfl (by decide) (fun _ _ _ => rfl) (lk C q1104) (fun _ z => z) dX7_apart_1 hf (fun r1 hf => ?_)
  refine lv_iload_n hx hb dX7_apart_4 rfl (lv_at hl 1 rfl) ?_
  refine x_iald G C h dX7_apart_5 hf (fun x2 hf => ?_)
  refine lv_aload_n hx hb dX7_apart_6 rfl (lv_at hl 0 rfl) ?_
  refine x_gR (q := (RX7, TX7, 50)) (j := 48) G C h rfl (by decide) (fun _ _ _ => rfl) (lk C q1104) (fun _ z => z) dX7_apart_7 hf (fun r3 hf => ?_)
  refine lv_iload_n hx hb dX7_apart_10 rfl (lv_at hl 2 rfl) ?_
  refine x_iald G C h dX7_apart_11 hf (fun x4 hf => ?_)
  refine lv_isub hx hb dX7_apart_12 ?_
  obtain ⟨x5, hc, hf⟩ := hf_b hf
  refine x_cS (rest := []) (As := [.int (x2 - x4)]) (n := 1) (ov := (some (.int x5))) C h (wX7_much G hc) (lw_S q1226 q1227 q61 q1228) (by decide +kernel) ⟨Nat.le_of_ble_eq_true rfl, Nat.le_of_ble_eq_true rfl⟩ rfl rfl rfl hl.1 rfl (Nat.le_of_ble_eq_true rfl) dX7_apart_13 ⟨(Nat.le_of_ble_eq_true rfl), (Nat.le_of_ble_eq_true rfl)⟩ (fun H locs h => ?_)
  refine lv_aload_n hx hb dX7_apart_16 rfl (lv_at hl 0 rfl) ?_
  refine x_gR (q := (RX7, TX7, 50)) (j := 49) G C h rfl (by decide) (fun _ _ _ => rfl) (lk C q1105) (fun _ z => z) dX7_apart_17 hf (fun r6 hf => ?_)
  refine lv_iload_n hx hb dX7_apart_20 rfl (lv_at hl 1 rfl) ?_
  refine x_iald G C h dX7_apart_21 hf (fun x7 hf => ?_)
  refine lv_aload_n hx hb dX7_apart_22 rfl (lv_at hl 0 rfl) ?_
  refine x_gR (q := (RX7, TX7, 50)) (j := 49) G C h rfl (by decide) (fun _ _ _ => rfl) (lk C q1105) (fun _ z => z) dX7_apart_23 hf (fun r8 hf => ?_)
  refine lv_iload_n hx hb dX7_apart_26 rfl (lv_at hl 2 rfl) ?_
  refine x_iald G C h dX7_apart_27 hf (fun x9 hf => ?_)
  refine lv_isub hx hb dX7_apart_28 ?_
  obtain ⟨x10, hc, hf⟩ := hf_b hf
  refine x_cS (rest := [.int x5]) (As := [.int (x7 - x9)]) (n := 1) (ov := (some (.int x10))) C h (wX7_much G hc) (lw_S q1226 q1227 q61 q1228) (by decide +kernel) ⟨Nat.le_of_ble_eq_true rfl, Nat.le_of_ble_eq_true rfl⟩ rfl rfl rfl hl.1 rfl (Nat.le_of_ble_eq_true rfl) dX7_apart_29 ⟨(Nat.le_of_ble_eq_true rfl), (Nat.le_of_ble_eq_true rfl)⟩ (fun H locs h => ?_)
  refine lv_iadd hx hb dX7_apart_32 ?_
  cases hf
  refine W.widen (k := 0) (n := 0) (Nat.le_of_ble_eq_true rfl) (Nat.le_of_ble_eq_true rfl) ?_
  exact x_iret C h dX7_apart_33

theorem dX7_room_0 : decode cX7_room 0 = .ok (.iconst 0, 1) := by decide +kernel
theorem dX7_room_1 : decode cX7_room 1 = .ok (.istore_n 1, 1) := by decide +kernel
theorem dX7_room_2 : decode cX7_room 2 = .ok (.iconst 0, 1) := by decide +kernel
theorem dX7_room_3 : decode cX7_room 3 = .ok (.istore_n 2, 1) := by decide +kernel
theorem dX7_room_4 : decode cX7_room 4 = .ok (.iload_n 2, 1) := by decide +kernel
theorem dX7_room_5 : decode cX7_room 5 = .ok (.iconst 1, 1) := by decide +kernel
theorem dX7_room_6 : decode cX7_room 6 = .ok (.aload_n 0, 1) := by decide +kernel
theorem dX7_room_7 : decode cX7_room 7 = .ok (.getfield 330, 3) := by decide +kernel
theorem dX7_room_10 : decode cX7_room 10 = .ok (.ishl, 1) := by decide +kernel
theorem dX7_room_11 : decode cX7_room 11 = .ok (.if_icmp .ge 117, 3) := by decide +kernel
theorem dX7_room_14 : decode cX7_room 14 = .ok (.iload_n 2, 1) := by decide +kernel
theorem dX7_room_15 : decode cX7_room 15 = .ok (.invokestatic 333, 3) := by decide +kernel
theorem dX7_room_18 : decode cX7_room 18 = .ok (.iload_n 1, 1) := by decide +kernel
theorem dX7_room_19 : decode cX7_room 19 = .ok (.invokestatic 333, 3) := by decide +kernel
theorem dX7_room_22 : decode cX7_room 22 = .ok (.if_icmp .le 7, 3) := by decide +kernel
theorem dX7_room_25 : decode cX7_room 25 = .ok (.iconst 1, 1) := by decide +kernel
theorem dX7_room_26 : decode cX7_room 26 = .ok (.goto 4, 3) := by decide +kernel
theorem dX7_room_29 : decode cX7_room 29 = .ok (.iconst 0, 1) := by decide +kernel
theorem dX7_room_30 : decode cX7_room 30 = .ok (.istore_n 3, 1) := by decide +kernel
theorem dX7_room_31 : decode cX7_room 31 = .ok (.iconst 0, 1) := by decide +kernel
theorem dX7_room_32 : decode cX7_room 32 = .ok (.istore 4, 2) := by decide +kernel
theorem dX7_room_34 : decode cX7_room 34 = .ok (.iload 4, 2) := by decide +kernel
theorem dX7_room_36 : decode cX7_room 36 = .ok (.aload_n 0, 1) := by decide +kernel
theorem dX7_room_37 : decode cX7_room 37 = .ok (.getfield 330, 3) := by decide +kernel
theorem dX7_room_40 : decode cX7_room 40 = .ok (.if_icmp .ge 72, 3) := by decide +kernel
theorem dX7_room_43 : decode cX7_room 43 = .ok (.iload_n 3, 1) := by decide +kernel
theorem dX7_room_44 : decode cX7_room 44 = .ok (.ifCond .eq 68, 3) := by decide +kernel
theorem dX7_room_47 : decode cX7_room 47 = .ok (.iconst 0, 1) := by decide +kernel
theorem dX7_room_48 : decode cX7_room 48 = .ok (.istore 5, 2) := by decide +kernel
theorem dX7_room_50 : decode cX7_room 50 = .ok (.iload 5, 2) := by decide +kernel
theorem dX7_room_52 : decode cX7_room 52 = .ok (.iload 4, 2) := by decide +kernel
theorem dX7_room_54 : decode cX7_room 54 = .ok (.if_icmp .ge 52, 3) := by decide +kernel
theorem dX7_room_57 : decode cX7_room 57 = .ok (.iload_n 3, 1) := by decide +kernel
theorem dX7_room_58 : decode cX7_room 58 = .ok (.ifCond .eq 40, 3) := by decide +kernel
theorem dX7_room_61 : decode cX7_room 61 = .ok (.iload_n 2, 1) := by decide +kernel
theorem dX7_room_62 : decode cX7_room 62 = .ok (.iload 4, 2) := by decide +kernel
theorem dX7_room_64 : decode cX7_room 64 = .ok (.ishr, 1) := by decide +kernel
theorem dX7_room_65 : decode cX7_room 65 = .ok (.iconst 1, 1) := by decide +kernel
theorem dX7_room_66 : decode cX7_room 66 = .ok (.iand, 1) := by decide +kernel
theorem dX7_room_67 : decode cX7_room 67 = .ok (.ifCond .eq 27, 3) := by decide +kernel
theorem dX7_room_70 : decode cX7_room 70 = .ok (.iload_n 2, 1) := by decide +kernel
theorem dX7_room_71 : decode cX7_room 71 = .ok (.iload 5, 2) := by decide +kernel
theorem dX7_room_73 : decode cX7_room 73 = .ok (.ishr, 1) := by decide +kernel
theorem dX7_room_74 : decode cX7_room 74 = .ok (.iconst 1, 1) := by decide +kernel
theorem dX7_room_75 : decode cX7_room 75 = .ok (.iand, 1) := by decide +kernel
theorem dX7_room_76 : decode cX7_room 76 = .ok (.ifCond .eq 18, 3) := by decide +kernel
theorem dX7_room_79 : decode cX7_room 79 = .ok (.aload_n 0, 1) := by decide +kernel
theorem dX7_room_80 : decode cX7_room 80 = .ok (.iload 4, 2) := by decide +kernel
theorem dX7_room_82 : decode cX7_room 82 = .ok (.iload 5, 2) := by decide +kernel
theorem dX7_room_84 : decode cX7_room 84 = .ok (.invokevirtual 336, 3) := by decide +kernel
theorem dX7_room_87 : decode cX7_room 87 = .ok (.aload_n 0, 1) := by decide +kernel
theorem dX7_room_88 : decode cX7_room 88 = .ok (.getfield 40, 3) := by decide +kernel
theorem dX7_room_91 : decode cX7_room 91 = .ok (.if_icmp .le 7, 3) := by decide +kernel
theorem dX7_room_94 : decode cX7_room 94 = .ok (.iconst 1, 1) := by decide +kernel
theorem dX7_room_95 : decode cX7_room 95 = .ok (.goto 4, 3) := by decide +kernel
theorem dX7_room_98 : decode cX7_room 98 = .ok (.iconst 0, 1) := by decide +kernel
theorem dX7_room_99 : decode cX7_room 99 = .ok (.istore_n 3, 1) := by decide +kernel
theorem dX7_room_100 : decode cX7_room 100 = .ok (.iinc 5 1, 3) := by decide +kernel
theorem dX7_room_103 : decode cX7_room 103 = .ok (.goto (-53), 3) := by decide +kernel
theorem dX7_room_106 : decode cX7_room 106 = .ok (.iinc 4 1, 3) := by decide +kernel
theorem dX7_room_109 : decode cX7_room 109 = .ok (.goto (-75), 3) := by decide +kernel
theorem dX7_room_112 : decode cX7_room 112 = .ok (.iload_n 3, 1) := by decide +kernel
theorem dX7_room_113 : decode cX7_room 113 = .ok (.ifCond .eq 7, 3) := by decide +kernel
theorem dX7_room_116 : decode cX7_room 116 = .ok (.iload_n 2, 1) := by decide +kernel
theorem dX7_room_117 : decode cX7_room 117 = .ok (.goto 4, 3) := by decide +kernel
theorem dX7_room_120 : decode cX7_room 120 = .ok (.iload_n 1, 1) := by decide +kernel
theorem dX7_room_121 : decode cX7_room 121 = .ok (.istore_n 1, 1) := by decide +kernel
theorem dX7_room_122 : decode cX7_room 122 = .ok (.iinc 2 1, 3) := by decide +kernel
theorem dX7_room_125 : decode cX7_room 125 = .ok (.goto (-121), 3) := by decide +kernel
theorem dX7_room_128 : decode cX7_room 128 = .ok (.iload_n 1, 1) := by decide +kernel
theorem dX7_room_129 : decode cX7_room 129 = .ok (.ireturn, 1) := by decide +kernel
def lX7_room_50 (x8 : Int32) (x2 : Int32) (σ : St) (a0 : Nat) (x10 : Int32) (x11 : Int32) : Option ((Int32 × Int32) ⊕ (Int32)) :=
  if x8 ≤ x11 then
    some (.inr x10)
  else
  jn (fun (x14 : Int32) =>
    some (.inl (x14, x11 + 1))) fun j99 =>
  jn (fun (_ : Unit) =>
    j99 0) fun j98 =>
  if x10 = 0 then
    j98 ()
  else
  jn (fun (_ : Unit) =>
    j99 1) fun j94 =>
  if ((x2 >>> (x8 &&& 31)) &&& 1) = 0 then
    j94 ()
  else
  if ((x2 >>> (x11 &&& 31)) &&& 1) = 0 then
    j94 ()
  else
  o_k σ a0 5 <|
  (fX7_apart σ a0 x8 x11).bind fun x12 =>
  o_gI σ a0 5 13 fun x13 =>
  if x12 ≤ x13 then
    j98 ()
  else
  j94 ()

def lX7_room_34 (σ : St) (a0 : Nat) (x2 : Int32) (x7 : Int32) (x8 : Int32) : Option ((Int32 × Int32) ⊕ (Int32)) :=
  o_gI σ a0 5 47 fun x9 =>
  if x9 ≤ x8 then
    some (.inr x7)
  else
  if x7 = 0 then
    some (.inr x7)
  else
  (loopF fuel (fun z => lX7_room_50 x8 x2 σ a0 z.1 z.2) (x7, 0)).bind <| fun x15 =>
  some (.inl (x15, x8 + 1))

def lX7_room_4 (σ : St) (a0 : Nat) (x1 : Int32) (x2 : Int32) : Option ((Int32 × Int32) ⊕ (Int32)) :=
  o_gI σ a0 5 47 fun x3 =>
  if (1 <<< (x3 &&& 31)) ≤ x2 then
    some (.inr x1)
  else
  (fX7_bits σ x2).bind fun x4 =>
  (fX7_bits σ x1).bind fun x5 =>
  jn (fun (x6 : Int32) =>
    (loopF fuel (fun z => lX7_room_34 σ a0 x2 z.1 z.2) (x6, 0)).bind <| fun x16 =>
    jn (fun (x17 : Int32) =>
      some (.inl (x17, x2 + 1))) fun j121 =>
    if x16 = 0 then
      j121 x1
    else
    j121 x2) fun j30 =>
  if x4 ≤ x5 then
    j30 0
  else
  j30 1

def fX7_room (σ : St) (a0 : Nat) : Option (Int32) :=
  (loopF fuel (fun z => lX7_room_4 σ a0 z.1 z.2) (0, 0)).bind <| fun x18 =>
  some x18

set_option maxHeartbeats 4000000 in
theorem wX7_room {l : Launch} {s0 : State} {A0 : Array Value} {D : va_G} {ac : Nat → ClassId} (G : Gl s0 A0 D ac) {σ : St} {a0 : Nat} {v : Int32} (hf : fX7_room σ a0 = some (v)) : Met l yX7_room (ws_ yX7_room cX7_room 6 (some (.int))) ({ frames := 2, cells := 0, slots := 0, locals := 42 } : Room) (Pn s0 D ac [.ref a0] σ) (Qn s0 D ac (some (.int v)) σ) 0 0 (fr s0) := by
  refine x_met (by decide) (Nat.le_of_ble_eq_true rfl) ?_
  intro p e s m args below meth c ls C hnm h hl
  have C : Cx s0 p s m args meth c cX7_room 6 "HutForShowModel" (some (.int)) := C
  have hx := C.1
  have hb := C.2.1
  have hl : lv_has ls 6 [(0, .ref a0)] := hl
  unfold fX7_room at hf
  refine lv_iconst (v := 0) hx hb dX7_room_0 (by decide) ?_
  refine lv_istore_n (lv' := [(1, .int 0), (0, .ref a0)]) hx hb dX7_room_1 rfl hl (by decide) rfl (fun ls hl => ?_)
  refine lv_iconst (v := 0) hx hb dX7_room_2 (by decide) ?_
  refine lv_istore_n (lv' := [(2, .int 0), (1, .int 0), (0, .ref a0)]) hx hb dX7_room_3 rfl hl (by decide) rfl (fun ls hl => ?_)
  obtain ⟨e4, hL, hK⟩ := hf_b hf
  have hE4_0 : ∀ (x18 : Int32), x18 = e4 → ∀  (H : Heap) (locs : List Loc) (ls : Array Slot), Hs s0 D ac σ H locs → lv_has ls 6 [(0, .ref a0), (1, .int x18)] → W p l e ({ frames := 2, cells := 0, slots := 0, locals := 42 } : Room) s m args below meth c H locs 0 0 (MQ below (Qn s0 D ac (some (.int v)) σ) args s 0 0 (fr s0)) (F0 m 128 ls []) := by
    intro x18 he H locs ls h hl
    subst he
    have hf := hK
    refine lv_iload_n hx hb dX7_room_128 rfl (lv_at hl 1 rfl) ?_
    cases hf
    refine W.widen (k := 0) (n := 0) (Nat.le_of_ble_eq_true rfl) (Nat.le_of_ble_eq_true rfl) ?_
    exact x_iret C h dX7_room_129
  refine loopF_ind (P := fun z => ∀ (H : Heap) (locs : List Loc) (ls : Array Slot), Hs s0 D ac σ H locs → lv_has ls 6 [(0, .ref a0), (1, .int z.1), (2, .int z.2)] → W p l e ({ frames := 2, cells := 0, slots := 0, locals := 42 } : Room) s m args below meth c H locs 0 0 (MQ below (Qn s0 D ac (some (.int v)) σ) args s 0 0 (fr s0)) (F0 m 4 ls [])) ?_ _ _ hL _ _ _ h (lv_sub hl [2, 1, 0] rfl)
  clear hK hL h hl hf
  intro z o hf ih hX H locs ls h hl
  obtain ⟨x1, x2⟩ := z
  have h : Hs s0 D ac σ H locs := h
  have hl : lv_has ls 6 [(0, .ref a0), (1, .int x1), (2, .int x2)] := hl
  have hf : lX7_room_4 σ a0 x1 x2 = some o := hf
  unfold lX7_room_4 at hf
  refine lv_iload_n hx hb dX7_room_4 rfl (lv_at hl 2 rfl) ?_
  refine lv_iconst (v := 1) hx hb dX7_room_5 (by decide) ?_
  refine lv_aload_n hx hb dX7_room_6 rfl (lv_at hl 0 rfl) ?_
  refine x_gI (q := (RX7, TX7, 50)) (j := 47) G C h rfl (by decide) (fun _ _ _ => rfl) (lk C q1103) (fun _ z => z) dX7_room_7 hf (fun x3 hf => ?_)
  refine lv_ishl hx hb dX7_room_10 ?_
  refine lv_icmp_ge (tgt := 128) hx hb dX7_room_11 (by decide) (fun hc => ?_) (fun hc => ?_)
  · have hf := hf_t hc hf
    cases hf
    exact hE4_0 _ (hX _ rfl) _ _ _ h (lv_sub hl [0, 1] rfl)
  · have hf := hf_f hc hf
    refine lv_iload_n hx hb dX7_room_14 rfl (lv_at hl 2 rfl) ?_
    obtain ⟨x4, hc, hf⟩ := hf_b hf
    refine x_cS (rest := []) (As := [.int x2]) (n := 1) (ov := (some (.int x4))) C h (wX7_bits G hc) (lw_S q1504 q1505 q61 q1506) (by decide +kernel) ⟨Nat.le_of_ble_eq_true rfl, Nat.le_of_ble_eq_true rfl⟩ rfl rfl rfl hl.1 rfl (Nat.le_of_ble_eq_true rfl) dX7_room_15 ⟨(Nat.le_of_ble_eq_true rfl), (Nat.le_of_ble_eq_true rfl)⟩ (fun H locs h => ?_)
    refine lv_iload_n hx hb dX7_room_18 rfl (lv_at hl 1 rfl) ?_
    obtain ⟨x5, hc, hf⟩ := hf_b hf
    refine x_cS (rest := [.int x4]) (As := [.int x1]) (n := 1) (ov := (some (.int x5))) C h (wX7_bits G hc) (lw_S q1504 q1505 q61 q1506) (by decide +kernel) ⟨Nat.le_of_ble_eq_true rfl, Nat.le_of_ble_eq_true rfl⟩ rfl rfl rfl hl.1 rfl (Nat.le_of_ble_eq_true rfl) dX7_room_19 ⟨(Nat.le_of_ble_eq_true rfl), (Nat.le_of_ble_eq_true rfl)⟩ (fun H locs h => ?_)
    refine jn_of (P := fun j => ∀ (x6 : Int32), j x6 = some o → ∀ (H : Heap) (locs : List Loc) (ls : Array Slot), Hs s0 D ac σ H locs → lv_has ls 6 [(0, .ref a0), (1, .int x1), (2, .int x2)] → W p l e ({ frames := 2, cells := 0, slots := 0, locals := 42 } : Room) s m args below meth c H locs 0 0 (MQ below (Qn s0 D ac (some (.int v)) σ) args s 0 0 (fr s0)) (F0 m 30 ls [.int x6])) hf ?_ ?_
    · intro x6 hf H locs ls h hl
      refine lv_istore_n (lv' := [(3, .int x6), (0, .ref a0), (1, .int x1), (2, .int x2)]) hx hb dX7_room_30 rfl hl (by decide) rfl (fun ls hl => ?_)
      refine lv_iconst (v := 0) hx hb dX7_room_31 (by decide) ?_
      refine lv_istore (lv' := [(4, .int 0), (3, .int x6), (0, .ref a0), (1, .int x1), (2, .int x2)]) hx hb dX7_room_32 hl (by decide) rfl (fun ls hl => ?_)
      obtain ⟨e34, hL, hK⟩ := hf_b hf
      have hE34_0 : ∀ (x16 : Int32), x16 = e34 → ∀  (H : Heap) (locs : List Loc) (ls : Array Slot), Hs s0 D ac σ H locs → lv_has ls 6 [(0, .ref a0), (1, .int x1), (2, .int x2), (3, .int x16)] → W p l e ({ frames := 2, cells := 0, slots := 0, locals := 42 } : Room) s m args below meth c H locs 0 0 (MQ below (Qn s0 D ac (some (.int v)) σ) args s 0 0 (fr s0)) (F0 m 112 ls []) := by
        intro x16 he H locs ls h hl
        subst he
        have hf := hK
        refine lv_iload_n hx hb dX7_room_112 rfl (lv_at hl 3 rfl) ?_
        refine jn_of (P := fun j => ∀ (x17 : Int32), j x17 = some o → ∀ (H : Heap) (locs : List Loc) (ls : Array Slot), Hs s0 D ac σ H locs → lv_has ls 6 [(0, .ref a0), (1, .int x1), (2, .int x2), (3, .int x16)] → W p l e ({ frames := 2, cells := 0, slots := 0, locals := 42 } : Room) s m args below meth c H locs 0 0 (MQ below (Qn s0 D ac (some (.int v)) σ) args s 0 0 (fr s0)) (F0 m 121 ls [.int x17])) hf ?_ ?_
        · intro x17 hf H locs ls h hl
          refine lv_istore_n (lv' := [(1, .int x17), (0, .ref a0), (2, .int x2), (3, .int x16)]) hx hb dX7_room_121 rfl hl (by decide) rfl (fun ls hl => ?_)
          refine lv_iinc (v := x2 + 1) (lv' := [(2, .int (x2 + 1)), (1, .int x17), (0, .ref a0), (3, .int x16)]) hx hb dX7_room_122 hl (k := 2) rfl rfl (by decide) rfl (fun ls hl => ?_)
          refine lv_goto (tgt := 4) hx hb dX7_room_125 (by decide) ?_
          cases hf
          exact ih _ rfl _ _ _ h (lv_sub hl [2, 1, 0] rfl)
        intro j121 hj121 hf
        refine lv_if_eq (tgt := 120) hx hb dX7_room_113 (by decide) (fun hc => ?_) (fun hc => ?_)
        · have hf := hf_t hc hf
          refine lv_iload_n hx hb dX7_room_120 rfl (lv_at hl 1 rfl) ?_
          exact hj121 _ hf _ _ _ h (lv_sub hl [0, 1, 2, 3] rfl)
        · have hf := hf_f hc hf
          refine lv_iload_n hx hb dX7_room_116 rfl (lv_at hl 2 rfl) ?_
          refine lv_goto (tgt := 121) hx hb dX7_room_117 (by decide) ?_
          exact hj121 _ hf _ _ _ h (lv_sub hl [0, 1, 2, 3] rfl)
      refine loopF_ind (P := fun z => ∀ (H : Heap) (locs : List Loc) (ls : Array Slot), Hs s0 D ac σ H locs → lv_has ls 6 [(0, .ref a0), (1, .int x1), (2, .int x2), (3, .int z.1), (4, .int z.2)] → W p l e ({ frames := 2, cells := 0, slots := 0, locals := 42 } : Room) s m args below meth c H locs 0 0 (MQ below (Qn s0 D ac (some (.int v)) σ) args s 0 0 (fr s0)) (F0 m 34 ls [])) ?_ _ _ hL _ _ _ h (lv_sub hl [2, 3, 4, 1, 0] rfl)
      clear hK hL h hl hf
      intro z o hf ih hX H locs ls h hl
      obtain ⟨x7, x8⟩ := z
      have h : Hs s0 D ac σ H locs := h
      have hl : lv_has ls 6 [(0, .ref a0), (1, .int x1), (2, .int x2), (3, .int x7), (4, .int x8)] := hl
      have hf : lX7_room_34 σ a0 x2 x7 x8 = some o := hf
      unfold lX7_room_34 at hf
      refine lv_iload hx hb dX7_room_34 (lv_at hl 4 rfl) ?_
      refine lv_aload_n hx hb dX7_room_36 rfl (lv_at hl 0 rfl) ?_
      refine x_gI (q := (RX7, TX7, 50)) (j := 47) G C h rfl (by decide) (fun _ _ _ => rfl) (lk C q1103) (fun _ z => z) dX7_room_37 hf (fun x9 hf => ?_)
      refine lv_icmp_ge (tgt := 112) hx hb dX7_room_40 (by decide) (fun hc => ?_) (fun hc => ?_)
      · have hf := hf_t hc hf
        cases hf
        exact hE34_0 _ (hX _ rfl) _ _ _ h (lv_sub hl [0, 1, 2, 3] rfl)
      · have hf := hf_f hc hf
        refine lv_iload_n hx hb dX7_room_43 rfl (lv_at hl 3 rfl) ?_
        refine lv_if_eq (tgt := 112) hx hb dX7_room_44 (by decide) (fun hc => ?_) (fun hc => ?_)
        · have hf := hf_t hc hf
          cases hf
          exact hE34_0 _ (hX _ rfl) _ _ _ h (lv_sub hl [0, 1, 2, 3] rfl)
        · have hf := hf_f hc hf
          refine lv_iconst (v := 0) hx hb dX7_room_47 (by decide) ?_
          refine lv_istore (lv' := [(5, .int 0), (0, .ref a0), (1, .int x1), (2, .int x2), (3, .int x7), (4, .int x8)]) hx hb dX7_room_48 hl (by decide) rfl (fun ls hl => ?_)
          obtain ⟨e50, hL, hK⟩ := hf_b hf
          have hE50_0 : ∀ (x15 : Int32), x15 = e50 → ∀  (H : Heap) (locs : List Loc) (ls : Array Slot), Hs s0 D ac σ H locs → lv_has ls 6 [(0, .ref a0), (1, .int x1), (2, .int x2), (3, .int x15), (4, .int x8)] → W p l e ({ frames := 2, cells := 0, slots := 0, locals := 42 } : Room) s m args below meth c H locs 0 0 (MQ below (Qn s0 D ac (some (.int v)) σ) args s 0 0 (fr s0)) (F0 m 106 ls []) := by
            intro x15 he H locs ls h hl
            subst he
            have hf := hK
            refine lv_iinc (v := x8 + 1) (lv' := [(4, .int (x8 + 1)), (0, .ref a0), (1, .int x1), (2, .int x2), (3, .int x15)]) hx hb dX7_room_106 hl (k := 4) rfl rfl (by decide) rfl (fun ls hl => ?_)
            refine lv_goto (tgt := 34) hx hb dX7_room_109 (by decide) ?_
            cases hf
            exact ih _ rfl _ _ _ h (lv_sub hl [1, 2, 3, 4, 0] rfl)
          refine loopF_ind (P := fun z => ∀ (H : Heap) (locs : List Loc) (ls : Array Slot), Hs s0 D ac σ H locs → lv_has ls 6 [(0, .ref a0), (1, .int x1), (2, .int x2), (3, .int z.1), (4, .int x8), (5, .int z.2)] → W p l e ({ frames := 2, cells := 0, slots := 0, locals := 42 } : Room) s m args below meth c H locs 0 0 (MQ below (Qn s0 D ac (some (.int v)) σ) args s 0 0 (fr s0)) (F0 m 50 ls [])) ?_ _ _ hL _ _ _ h (lv_sub hl [1, 2, 3, 4, 5, 0] rfl)
          clear hK hL h hl hf
          intro z o hf ih hX H locs ls h hl
          obtain ⟨x10, x11⟩ := z
          have h : Hs s0 D ac σ H locs := h
          have hl : lv_has ls 6 [(0, .ref a0), (1, .int x1), (2, .int x2), (3, .int x10), (4, .int x8), (5, .int x11)] := hl
          have hf : lX7_room_50 x8 x2 σ a0 x10 x11 = some o := hf
          unfold lX7_room_50 at hf
          refine lv_iload hx hb dX7_room_50 (lv_at hl 5 rfl) ?_
          refine lv_iload hx hb dX7_room_52 (lv_at hl 4 rfl) ?_
          refine lv_icmp_ge (tgt := 106) hx hb dX7_room_54 (by decide) (fun hc => ?_) (fun hc => ?_)
          · have hf := hf_t hc hf
            cases hf
            exact hE50_0 _ (hX _ rfl) _ _ _ h (lv_sub hl [0, 1, 2, 3, 4] rfl)
          · have hf := hf_f hc hf
            refine lv_iload_n hx hb dX7_room_57 rfl (lv_at hl 3 rfl) ?_
            refine jn_of (P := fun j => ∀ (x14 : Int32), j x14 = some o → ∀ (H : Heap) (locs : List Loc) (ls : Array Slot), Hs s0 D ac σ H locs → lv_has ls 6 [(0, .ref a0), (1, .int x1), (2, .int x2), (3, .int x10), (4, .int x8), (5, .int x11)] → W p l e ({ frames := 2, cells := 0, slots := 0, locals := 42 } : Room) s m args below meth c H locs 0 0 (MQ below (Qn s0 D ac (some (.int v)) σ) args s 0 0 (fr s0)) (F0 m 99 ls [.int x14])) hf ?_ ?_
            · intro x14 hf H locs ls h hl
              refine lv_istore_n (lv' := [(3, .int x14), (0, .ref a0), (1, .int x1), (2, .int x2), (4, .int x8), (5, .int x11)]) hx hb dX7_room_99 rfl hl (by decide) rfl (fun ls hl => ?_)
              refine lv_iinc (v := x11 + 1) (lv' := [(5, .int (x11 + 1)), (3, .int x14), (0, .ref a0), (1, .int x1), (2, .int x2), (4, .int x8)]) hx hb dX7_room_100 hl (k := 5) rfl rfl (by decide) rfl (fun ls hl => ?_)
              refine lv_goto (tgt := 50) hx hb dX7_room_103 (by decide) ?_
              cases hf
              exact ih _ rfl _ _ _ h (lv_sub hl [2, 3, 4, 1, 5, 0] rfl)
            intro j99 hj99 hf
            refine jn_of (P := fun j => ∀ (u0 : Unit), j u0 = some o → ∀ (H : Heap) (locs : List Loc) (ls : Array Slot), Hs s0 D ac σ H locs → lv_has ls 6 [(0, .ref a0), (1, .int x1), (2, .int x2), (3, .int x10), (4, .int x8), (5, .int x11)] → W p l e ({ frames := 2, cells := 0, slots := 0, locals := 42 } : Room) s m args below meth c H locs 0 0 (MQ below (Qn s0 D ac (some (.int v)) σ) args s 0 0 (fr s0)) (F0 m 98 ls [])) hf ?_ ?_
            · intro u0 hf H locs ls h hl
              refine lv_iconst (v := 0) hx hb dX7_room_98 (by decide) ?_
              exact hj99 _ hf _ _ _ h (lv_sub hl [0, 1, 2, 3, 4, 5] rfl)
            intro j98 hj98 hf
            refine lv_if_eq (tgt := 98) hx hb dX7_room_58 (by decide) (fun hc => ?_) (fun hc => ?_)
            · have hf := hf_t hc hf
              exact hj98 () hf _ _ _ h (lv_sub hl [0, 1, 2, 3, 4, 5] rfl)
            · have hf := hf_f hc hf
              refine lv_iload_n hx hb dX7_room_61 rfl (lv_at hl 2 rfl) ?_
              refine lv_iload hx hb dX7_room_62 (lv_at hl 4 rfl) ?_
              refine lv_ishr hx hb dX7_room_64 ?_
              refine lv_iconst (v := 1) hx hb dX7_room_65 (by decide) ?_
              refine lv_iand hx hb dX7_room_66 ?_
              refine jn_of (P := fun j => ∀ (u0 : Unit), j u0 = some o → ∀ (H : Heap) (locs : List Loc) (ls : Array Slot), Hs s0 D ac σ H locs → lv_has ls 6 [(0, .ref a0), (1, .int x1), (2, .int x2), (3, .int x10), (4, .int x8), (5, .int x11)] → W p l e ({ frames := 2, cells := 0, slots := 0, locals := 42 } : Room) s m args below meth c H locs 0 0 (MQ below (Qn s0 D ac (some (.int v)) σ) args s 0 0 (fr s0)) (F0 m 94 ls [])) hf ?_ ?_
              · intro u0 hf H locs ls h hl
                refine lv_iconst (v := 1) hx hb dX7_room_94 (by decide) ?_
                refine lv_goto (tgt := 99) hx hb dX7_room_95 (by decide) ?_
                exact hj99 _ hf _ _ _ h (lv_sub hl [0, 1, 2, 3, 4, 5] rfl)
              intro j94 hj94 hf
              refine lv_if_eq (tgt := 94) hx hb dX7_room_67 (by decide) (fun hc => ?_) (fun hc => ?_)
              · have hf := hf_t hc hf
                exact hj94 () hf _ _ _ h (lv_sub hl [0, 1, 2, 3, 4, 5] rfl)
              · have hf := hf_f hc hf
                refine lv_iload_n hx hb dX7_room_70 rfl (lv_at hl 2 rfl) ?_
                refine lv_iload hx hb dX7_room_71 (lv_at hl 5 rfl) ?_
                refine lv_ishr hx hb dX7_room_73 ?_
                refine lv_iconst (v := 1) hx hb dX7_room_74 (by decide) ?_
                refine lv_iand hx hb dX7_room_75 ?_
                refine lv_if_eq (tgt := 94) hx hb dX7_room_76 (by decide) (fun hc => ?_) (fun hc => ?_)
                · have hf := hf_t hc hf
                  exact hj94 () hf _ _ _ h (lv_sub hl [0, 1, 2, 3, 4, 5] rfl)
                · have hf := hf_f hc hf
                  refine lv_aload_n hx hb dX7_room_79 rfl (lv_at hl 0 rfl) ?_
                  refine lv_iload hx hb dX7_room_80 (lv_at hl 4 rfl) ?_
                  refine lv_iload hx hb dX7_room_82 (lv_at hl 5 rfl) ?_
                  obtain ⟨hk, hf⟩ := k_of hf
                  obtain ⟨x12, hc, hf⟩ := hf_b hf
                  refine x_cV (q := (RX7, TX7, 50)) (rest := []) (As := [.int x8, .int x11]) (n := 2) (ov := (some (.int x12))) G C h (wX7_apart G hc) hk rfl (lw_V q1507 q1509 qs52 q61 q1510) (by decide +kernel) ⟨Nat.le_of_ble_eq_true rfl, Nat.le_of_ble_eq_true rfl⟩ rfl rfl rfl hl.1 rfl (Nat.le_of_ble_eq_true rfl) dX7_room_84 ⟨(Nat.le_of_ble_eq_true rfl), (Nat.le_of_ble_eq_true rfl)⟩ (fun H locs h => ?_)
                  refine lv_aload_n hx hb dX7_room_87 rfl (lv_at hl 0 rfl) ?_
                  refine x_gI (q := (RX7, TX7, 50)) (j := 13) G C h rfl (by decide) (fun _ _ _ => rfl) (lk C q1069) (fun _ z => z) dX7_room_88 hf (fun x13 hf => ?_)
                  refine lv_icmp_le (tgt := 98) hx hb dX7_room_91 (by decide) (fun hc => ?_) (fun hc => ?_)
                  · have hf := hf_t hc hf
                    exact hj98 () hf _ _ _ h (lv_sub hl [0, 1, 2, 3, 4, 5] rfl)
                  · have hf := hf_f hc hf
                    exact hj94 () hf _ _ _ h (lv_sub hl [0, 1, 2, 3, 4, 5] rfl)
    intro j30 hj30 hf
    refine lv_icmp_le (tgt := 29) hx hb dX7_room_22 (by decide) (fun hc => ?_) (fun hc => ?_)
    · have hf := hf_t hc hf
      refine lv_iconst (v := 0) hx hb dX7_room_29 (by decide) ?_
      exact hj30 _ hf _ _ _ h (lv_sub hl [0, 1, 2] rfl)
    · have hf := hf_f hc hf
      refine lv_iconst (v := 1) hx hb dX7_room_25 (by decide) ?_
      refine lv_goto (tgt := 30) hx hb dX7_room_26 (by decide) ?_
      exact hj30 _ hf _ _ _ h (lv_sub hl [0, 1, 2] rfl)

theorem dX7_trip_0 : decode cX7_trip 0 = .ok (.iload_n 1, 1) := by decide +kernel
theorem dX7_trip_1 : decode cX7_trip 1 = .ok (.iconst 0, 1) := by decide +kernel
theorem dX7_trip_2 : decode cX7_trip 2 = .ok (.iconst 1, 1) := by decide +kernel
theorem dX7_trip_3 : decode cX7_trip 3 = .ok (.aload_n 0, 1) := by decide +kernel
theorem dX7_trip_4 : decode cX7_trip 4 = .ok (.getfield 330, 3) := by decide +kernel
theorem dX7_trip_7 : decode cX7_trip 7 = .ok (.ishl, 1) := by decide +kernel
theorem dX7_trip_8 : decode cX7_trip 8 = .ok (.iconst 1, 1) := by decide +kernel
theorem dX7_trip_9 : decode cX7_trip 9 = .ok (.isub, 1) := by decide +kernel
theorem dX7_trip_10 : decode cX7_trip 10 = .ok (.invokestatic 113, 3) := by decide +kernel
theorem dX7_trip_13 : decode cX7_trip 13 = .ok (.ifCond .eq 12, 3) := by decide +kernel
theorem dX7_trip_16 : decode cX7_trip 16 = .ok (.iload_n 1, 1) := by decide +kernel
theorem dX7_trip_17 : decode cX7_trip 17 = .ok (.invokestatic 333, 3) := by decide +kernel
theorem dX7_trip_20 : decode cX7_trip 20 = .ok (.bipush 7, 2) := by decide +kernel
theorem dX7_trip_22 : decode cX7_trip 22 = .ok (.if_icmp .le 6, 3) := by decide +kernel
theorem dX7_trip_25 : decode cX7_trip 25 = .ok (.bipush (-3), 2) := by decide +kernel
theorem dX7_trip_27 : decode cX7_trip 27 = .ok (.ireturn, 1) := by decide +kernel
theorem dX7_trip_28 : decode cX7_trip 28 = .ok (.iconst 0, 1) := by decide +kernel
theorem dX7_trip_29 : decode cX7_trip 29 = .ok (.istore_n 2, 1) := by decide +kernel
theorem dX7_trip_30 : decode cX7_trip 30 = .ok (.iconst 0, 1) := by decide +kernel
theorem dX7_trip_31 : decode cX7_trip 31 = .ok (.istore_n 3, 1) := by decide +kernel
theorem dX7_trip_32 : decode cX7_trip 32 = .ok (.iload_n 3, 1) := by decide +kernel
theorem dX7_trip_33 : decode cX7_trip 33 = .ok (.aload_n 0, 1) := by decide +kernel
theorem dX7_trip_34 : decode cX7_trip 34 = .ok (.getfield 330, 3) := by decide +kernel
theorem dX7_trip_37 : decode cX7_trip 37 = .ok (.if_icmp .ge 28, 3) := by decide +kernel
theorem dX7_trip_40 : decode cX7_trip 40 = .ok (.iload_n 1, 1) := by decide +kernel
theorem dX7_trip_41 : decode cX7_trip 41 = .ok (.iload_n 3, 1) := by decide +kernel
theorem dX7_trip_42 : decode cX7_trip 42 = .ok (.ishr, 1) := by decide +kernel
theorem dX7_trip_43 : decode cX7_trip 43 = .ok (.iconst 1, 1) := by decide +kernel
theorem dX7_trip_44 : decode cX7_trip 44 = .ok (.iand, 1) := by decide +kernel
theorem dX7_trip_45 : decode cX7_trip 45 = .ok (.iconst 1, 1) := by decide +kernel
theorem dX7_trip_46 : decode cX7_trip 46 = .ok (.if_icmp .ne 13, 3) := by decide +kernel
theorem dX7_trip_49 : decode cX7_trip 49 = .ok (.aload_n 0, 1) := by decide +kernel
theorem dX7_trip_50 : decode cX7_trip 50 = .ok (.getfield 71, 3) := by decide +kernel
theorem dX7_trip_53 : decode cX7_trip 53 = .ok (.iload_n 2, 1) := by decide +kernel
theorem dX7_trip_54 : decode cX7_trip 54 = .ok (.iload_n 3, 1) := by decide +kernel
theorem dX7_trip_55 : decode cX7_trip 55 = .ok (.iastore, 1) := by decide +kernel
theorem dX7_trip_56 : decode cX7_trip 56 = .ok (.iinc 2 1, 3) := by decide +kernel
theorem dX7_trip_59 : decode cX7_trip 59 = .ok (.iinc 3 1, 3) := by decide +kernel
theorem dX7_trip_62 : decode cX7_trip 62 = .ok (.goto (-30), 3) := by decide +kernel
theorem dX7_trip_65 : decode cX7_trip 65 = .ok (.iload_n 2, 1) := by decide +kernel
theorem dX7_trip_66 : decode cX7_trip 66 = .ok (.iconst 2, 1) := by decide +kernel
theorem dX7_trip_67 : decode cX7_trip 67 = .ok (.if_icmp .ge 5, 3) := by decide +kernel
theorem dX7_trip_70 : decode cX7_trip 70 = .ok (.iconst 0, 1) := by decide +kernel
theorem dX7_trip_71 : decode cX7_trip 71 = .ok (.ireturn, 1) := by decide +kernel
theorem dX7_trip_72 : decode cX7_trip 72 = .ok (.iconst (-1), 1) := by decide +kernel
theorem dX7_trip_73 : decode cX7_trip 73 = .ok (.istore_n 3, 1) := by decide +kernel
theorem dX7_trip_74 : decode cX7_trip 74 = .ok (.iconst 1, 1) := by decide +kernel
theorem dX7_trip_75 : decode cX7_trip 75 = .ok (.istore 4, 2) := by decide +kernel
theorem dX7_trip_77 : decode cX7_trip 77 = .ok (.aload_n 0, 1) := by decide +kernel
theorem dX7_trip_78 : decode cX7_trip 78 = .ok (.getfield 74, 3) := by decide +kernel
theorem dX7_trip_81 : decode cX7_trip 81 = .ok (.iconst 0, 1) := by decide +kernel
theorem dX7_trip_82 : decode cX7_trip 82 = .ok (.iconst 0, 1) := by decide +kernel
theorem dX7_trip_83 : decode cX7_trip 83 = .ok (.iastore, 1) := by decide +kernel
theorem dX7_trip_84 : decode cX7_trip 84 = .ok (.aload_n 0, 1) := by decide +kernel
theorem dX7_trip_85 : decode cX7_trip 85 = .ok (.getfield 74, 3) := by decide +kernel
theorem dX7_trip_88 : decode cX7_trip 88 = .ok (.iconst 1, 1) := by decide +kernel
theorem dX7_trip_89 : decode cX7_trip 89 = .ok (.iconst 0, 1) := by decide +kernel
theorem dX7_trip_90 : decode cX7_trip 90 = .ok (.iastore, 1) := by decide +kernel
theorem dX7_trip_91 : decode cX7_trip 91 = .ok (.iload 4, 2) := by decide +kernel
theorem dX7_trip_93 : decode cX7_trip 93 = .ok (.ifCond .le 185, 3) := by decide +kernel
theorem dX7_trip_96 : decode cX7_trip 96 = .ok (.aload_n 0, 1) := by decide +kernel
theorem dX7_trip_97 : decode cX7_trip 97 = .ok (.getfield 74, 3) := by decide +kernel
theorem dX7_trip_100 : decode cX7_trip 100 = .ok (.iload 4, 2) := by decide +kernel
theorem dX7_trip_102 : decode cX7_trip 102 = .ok (.dup2, 1) := by decide +kernel
theorem dX7_trip_103 : decode cX7_trip 103 = .ok (.iaload, 1) := by decide +kernel
theorem dX7_trip_104 : decode cX7_trip 104 = .ok (.iconst 1, 1) := by decide +kernel
theorem dX7_trip_105 : decode cX7_trip 105 = .ok (.iadd, 1) := by decide +kernel
theorem dX7_trip_106 : decode cX7_trip 106 = .ok (.iastore, 1) := by decide +kernel
theorem dX7_trip_107 : decode cX7_trip 107 = .ok (.iconst 1, 1) := by decide +kernel
theorem dX7_trip_108 : decode cX7_trip 108 = .ok (.istore 5, 2) := by decide +kernel
theorem dX7_trip_110 : decode cX7_trip 110 = .ok (.iconst 0, 1) := by decide +kernel
theorem dX7_trip_111 : decode cX7_trip 111 = .ok (.istore 6, 2) := by decide +kernel
theorem dX7_trip_113 : decode cX7_trip 113 = .ok (.iload 6, 2) := by decide +kernel
theorem dX7_trip_115 : decode cX7_trip 115 = .ok (.iload 4, 2) := by decide +kernel
theorem dX7_trip_117 : decode cX7_trip 117 = .ok (.if_icmp .ge 38, 3) := by decide +kernel
theorem dX7_trip_120 : decode cX7_trip 120 = .ok (.iload 5, 2) := by decide +kernel
theorem dX7_trip_122 : decode cX7_trip 122 = .ok (.ifCond .eq 24, 3) := by decide +kernel
theorem dX7_trip_125 : decode cX7_trip 125 = .ok (.aload_n 0, 1) := by decide +kernel
theorem dX7_trip_126 : decode cX7_trip 126 = .ok (.getfield 74, 3) := by decide +kernel
theorem dX7_trip_129 : decode cX7_trip 129 = .ok (.iload 6, 2) := by decide +kernel
theorem dX7_trip_131 : decode cX7_trip 131 = .ok (.iaload, 1) := by decide +kernel
theorem dX7_trip_132 : decode cX7_trip 132 = .ok (.aload_n 0, 1) := by decide +kernel
theorem dX7_trip_133 : decode cX7_trip 133 = .ok (.getfield 74, 3) := by decide +kernel
theorem dX7_trip_136 : decode cX7_trip 136 = .ok (.iload 4, 2) := by decide +kernel
theorem dX7_trip_138 : decode cX7_trip 138 = .ok (.iaload, 1) := by decide +kernel
theorem dX7_trip_139 : decode cX7_trip 139 = .ok (.if_icmp .eq 7, 3) := by decide +kernel
theorem dX7_trip_142 : decode cX7_trip 142 = .ok (.iconst 1, 1) := by decide +kernel
theorem dX7_trip_143 : decode cX7_trip 143 = .ok (.goto 4, 3) := by decide +kernel
theorem dX7_trip_146 : decode cX7_trip 146 = .ok (.iconst 0, 1) := by decide +kernel
theorem dX7_trip_147 : decode cX7_trip 147 = .ok (.istore 5, 2) := by decide +kernel
theorem dX7_trip_149 : decode cX7_trip 149 = .ok (.iinc 6 1, 3) := by decide +kernel
theorem dX7_trip_152 : decode cX7_trip 152 = .ok (.goto (-39), 3) := by decide +kernel
theorem dX7_trip_155 : decode cX7_trip 155 = .ok (.aload_n 0, 1) := by decide +kernel
theorem dX7_trip_156 : decode cX7_trip 156 = .ok (.getfield 74, 3) := by decide +kernel
theorem dX7_trip_159 : decode cX7_trip 159 = .ok (.iload 4, 2) := by decide +kernel
theorem dX7_trip_161 : decode cX7_trip 161 = .ok (.iaload, 1) := by decide +kernel
theorem dX7_trip_162 : decode cX7_trip 162 = .ok (.iload_n 2, 1) := by decide +kernel
theorem dX7_trip_163 : decode cX7_trip 163 = .ok (.if_icmp .ne 9, 3) := by decide +kernel
theorem dX7_trip_166 : decode cX7_trip 166 = .ok (.iinc 4 (-1), 3) := by decide +kernel
theorem dX7_trip_169 : decode cX7_trip 169 = .ok (.goto 106, 3) := by decide +kernel
theorem dX7_trip_172 : decode cX7_trip 172 = .ok (.iload 5, 2) := by decide +kernel
theorem dX7_trip_174 : decode cX7_trip 174 = .ok (.ifCond .eq 85, 3) := by decide +kernel
theorem dX7_trip_177 : decode cX7_trip 177 = .ok (.iload 4, 2) := by decide +kernel
theorem dX7_trip_179 : decode cX7_trip 179 = .ok (.iload_n 2, 1) := by decide +kernel
theorem dX7_trip_180 : decode cX7_trip 180 = .ok (.iconst 1, 1) := by decide +kernel
theorem dX7_trip_181 : decode cX7_trip 181 = .ok (.isub, 1) := by decide +kernel
theorem dX7_trip_182 : decode cX7_trip 182 = .ok (.if_icmp .ne 77, 3) := by decide +kernel
theorem dX7_trip_185 : decode cX7_trip 185 = .ok (.iconst 0, 1) := by decide +kernel
theorem dX7_trip_186 : decode cX7_trip 186 = .ok (.istore 6, 2) := by decide +kernel
theorem dX7_trip_188 : decode cX7_trip 188 = .ok (.iconst 1, 1) := by decide +kernel
theorem dX7_trip_189 : decode cX7_trip 189 = .ok (.istore 7, 2) := by decide +kernel
theorem dX7_trip_191 : decode cX7_trip 191 = .ok (.iload 7, 2) := by decide +kernel
theorem dX7_trip_193 : decode cX7_trip 193 = .ok (.iload_n 2, 1) := by decide +kernel
theorem dX7_trip_194 : decode cX7_trip 194 = .ok (.if_icmp .ge 44, 3) := by decide +kernel
theorem dX7_trip_197 : decode cX7_trip 197 = .ok (.iload 6, 2) := by decide +kernel
theorem dX7_trip_199 : decode cX7_trip 199 = .ok (.aload_n 0, 1) := by decide +kernel
theorem dX7_trip_200 : decode cX7_trip 200 = .ok (.aload_n 0, 1) := by decide +kernel
theorem dX7_trip_201 : decode cX7_trip 201 = .ok (.getfield 71, 3) := by decide +kernel
theorem dX7_trip_204 : decode cX7_trip 204 = .ok (.aload_n 0, 1) := by decide +kernel
theorem dX7_trip_205 : decode cX7_trip 205 = .ok (.getfield 74, 3) := by decide +kernel
theorem dX7_trip_208 : decode cX7_trip 208 = .ok (.iload 7, 2) := by decide +kernel
theorem dX7_trip_210 : decode cX7_trip 210 = .ok (.iconst 1, 1) := by decide +kernel
theorem dX7_trip_211 : decode cX7_trip 211 = .ok (.isub, 1) := by decide +kernel
theorem dX7_trip_212 : decode cX7_trip 212 = .ok (.iaload, 1) := by decide +kernel
theorem dX7_trip_213 : decode cX7_trip 213 = .ok (.iaload, 1) := by decide +kernel
theorem dX7_trip_214 : decode cX7_trip 214 = .ok (.aload_n 0, 1) := by decide +kernel
theorem dX7_trip_215 : decode cX7_trip 215 = .ok (.getfield 71, 3) := by decide +kernel
theorem dX7_trip_218 : decode cX7_trip 218 = .ok (.aload_n 0, 1) := by decide +kernel
theorem dX7_trip_219 : decode cX7_trip 219 = .ok (.getfield 74, 3) := by decide +kernel
theorem dX7_trip_222 : decode cX7_trip 222 = .ok (.iload 7, 2) := by decide +kernel
theorem dX7_trip_224 : decode cX7_trip 224 = .ok (.iaload, 1) := by decide +kernel
theorem dX7_trip_225 : decode cX7_trip 225 = .ok (.iaload, 1) := by decide +kernel
theorem dX7_trip_226 : decode cX7_trip 226 = .ok (.invokevirtual 336, 3) := by decide +kernel
theorem dX7_trip_229 : decode cX7_trip 229 = .ok (.iadd, 1) := by decide +kernel
theorem dX7_trip_230 : decode cX7_trip 230 = .ok (.istore 6, 2) := by decide +kernel
theorem dX7_trip_232 : decode cX7_trip 232 = .ok (.iinc 7 1, 3) := by decide +kernel
theorem dX7_trip_235 : decode cX7_trip 235 = .ok (.goto (-44), 3) := by decide +kernel
theorem dX7_trip_238 : decode cX7_trip 238 = .ok (.iload_n 3, 1) := by decide +kernel
theorem dX7_trip_239 : decode cX7_trip 239 = .ok (.iconst (-1), 1) := by decide +kernel
theorem dX7_trip_240 : decode cX7_trip 240 = .ok (.if_icmp .eq 9, 3) := by decide +kernel
theorem dX7_trip_243 : decode cX7_trip 243 = .ok (.iload 6, 2) := by decide +kernel
theorem dX7_trip_245 : decode cX7_trip 245 = .ok (.iload_n 3, 1) := by decide +kernel
theorem dX7_trip_246 : decode cX7_trip 246 = .ok (.if_icmp .ge 8, 3) := by decide +kernel
theorem dX7_trip_249 : decode cX7_trip 249 = .ok (.iload 6, 2) := by decide +kernel
theorem dX7_trip_251 : decode cX7_trip 251 = .ok (.goto 4, 3) := by decide +kernel
theorem dX7_trip_254 : decode cX7_trip 254 = .ok (.iload_n 3, 1) := by decide +kernel
theorem dX7_trip_255 : decode cX7_trip 255 = .ok (.istore_n 3, 1) := by decide +kernel
theorem dX7_trip_256 : decode cX7_trip 256 = .ok (.goto 19, 3) := by decide +kernel
theorem dX7_trip_259 : decode cX7_trip 259 = .ok (.iload 5, 2) := by decide +kernel
theorem dX7_trip_261 : decode cX7_trip 261 = .ok (.ifCond .eq 14, 3) := by decide +kernel
theorem dX7_trip_264 : decode cX7_trip 264 = .ok (.iinc 4 1, 3) := by decide +kernel
theorem dX7_trip_267 : decode cX7_trip 267 = .ok (.aload_n 0, 1) := by decide +kernel
theorem dX7_trip_268 : decode cX7_trip 268 = .ok (.getfield 74, 3) := by decide +kernel
theorem dX7_trip_271 : decode cX7_trip 271 = .ok (.iload 4, 2) := by decide +kernel
theorem dX7_trip_273 : decode cX7_trip 273 = .ok (.iconst 0, 1) := by decide +kernel
theorem dX7_trip_274 : decode cX7_trip 274 = .ok (.iastore, 1) := by decide +kernel
theorem dX7_trip_275 : decode cX7_trip 275 = .ok (.goto (-184), 3) := by decide +kernel
theorem dX7_trip_278 : decode cX7_trip 278 = .ok (.iload_n 3, 1) := by decide +kernel
theorem dX7_trip_279 : decode cX7_trip 279 = .ok (.ireturn, 1) := by decide +kernel
def lX7_trip_32 (a0 : Nat) (a1 : Int32) (σ4 : St) (x5 : Int32) (x6 : Int32) : Option ((St × Int32 × Int32) ⊕ (St × Int32)) :=
  o_gI σ4 a0 5 47 fun x7 =>
  if x7 ≤ x6 then
    some (.inr (σ4, x5))
  else
  jn (fun (σ10 : St) (x11 : Int32) =>
    some (.inl (σ10, x11, x6 + 1))) fun j59 =>
  if ((a1 >>> (x6 &&& 31)) &&& 1) = 1 then
    o_gR σ4 a0 5 32 fun r8 =>
    o_sI σ4 r8 0 x5 x6 fun σ9 =>
    j59 σ9 (x5 + 1)
  else
  j59 σ4 x5

def lX7_trip_113 (x20 : Int32) (σ23 : St) (a0 : Nat) (x24 : Int32) (x25 : Int32) : Option ((Int32 × Int32) ⊕ (Int32)) :=
  if x20 ≤ x25 then
    some (.inr x24)
  else
  jn (fun (x30 : Int32) =>
    some (.inl (x30, x25 + 1))) fun j147 =>
  jn (fun (_ : Unit) =>
    j147 0) fun j146 =>
  if x24 = 0 then
    j146 ()
  else
  o_gR σ23 a0 5 33 fun r26 =>
  o_aI σ23 r26 0 x25 fun x27 =>
  o_gR σ23 a0 5 33 fun r28 =>
  o_aI σ23 r28 0 x20 fun x29 =>
  if x27 = x29 then
    j146 ()
  else
  j147 1

def lX7_trip_191 (x13 : Int32) (σ23 : St) (a0 : Nat) (x34 : Int32) (x35 : Int32) : Option ((Int32 × Int32) ⊕ (Int32)) :=
  if x13 ≤ x35 then
    some (.inr x34)
  else
  o_gR σ23 a0 5 32 fun r36 =>
  o_gR σ23 a0 5 33 fun r37 =>
  o_aI σ23 r37 0 (x35 - 1) fun x38 =>
  o_aI σ23 r36 0 x38 fun x39 =>
  o_gR σ23 a0 5 32 fun r40 =>
  o_gR σ23 a0 5 33 fun r41 =>
  o_aI σ23 r41 0 x35 fun x42 =>
  o_aI σ23 r40 0 x42 fun x43 =>
  o_k σ23 a0 5 <|
  (fX7_apart σ23 a0 x39 x43).bind fun x44 =>
  some (.inl (x34 + x44, x35 + 1))

def lX7_trip_91 (a0 : Nat) (x13 : Int32) (σ18 : St) (x19 : Int32) (x20 : Int32) : Option ((St × Int32 × Int32) ⊕ (St × Int32)) :=
  if x20 ≤ 0 then
    some (.inr (σ18, x19))
  else
  o_gR σ18 a0 5 33 fun r21 =>
  o_aI σ18 r21 0 x20 fun x22 =>
  o_sI σ18 r21 0 x20 (x22 + 1) fun σ23 =>
  (loopF fuel (fun z => lX7_trip_113 x20 σ23 a0 z.1 z.2) (1, 0)).bind <| fun x31 =>
  o_gR σ23 a0 5 33 fun r32 =>
  o_aI σ23 r32 0 x20 fun x33 =>
  jn (fun (σ49 : St) (x50 : Int32) (x51 : Int32) =>
    some (.inl (σ49, x50, x51))) fun j275 =>
  if x33 = x13 then
    j275 σ23 x19 (x20 + (-1))
  else
  jn (fun (_ : Unit) =>
    if x31 = 0 then
      j275 σ23 x19 x20
    else
    o_gR σ23 a0 5 33 fun r47 =>
    o_sI σ23 r47 0 (x20 + 1) 0 fun σ48 =>
    j275 σ48 x19 (x20 + 1)) fun j259 =>
  if x31 = 0 then
    j259 ()
  else
  if x20 = (x13 - 1) then
    (loopF fuel (fun z => lX7_trip_191 x13 σ23 a0 z.1 z.2) (0, 1)).bind <| fun x45 =>
    jn (fun (x46 : Int32) =>
      j275 σ23 x46 x20) fun j255 =>
    jn (fun (_ : Unit) =>
      j255 x45) fun j249 =>
    if x19 = ((-1)) then
      j249 ()
    else
    if x19 ≤ x45 then
      j255 x19
    else
    j249 ()
  else
  j259 ()

def fX7_trip (σ : St) (a0 : Nat) (a1 : Int32) : Option (Int32 × St) :=
  o_gI σ a0 5 47 fun x1 =>
  (fX7_in σ a1 0 ((1 <<< (x1 &&& 31)) - 1)).bind fun x2 =>
  if x2 = 0 then
    some ((-3), σ)
  else
  (fX7_bits σ a1).bind fun x3 =>
  if x3 ≤ 7 then
    (loopF fuel (fun z => lX7_trip_32 a0 a1 z.1 z.2.1 z.2.2) (σ, 0, 0)).bind <| un2 fun σ12 x13 =>
    if 2 ≤ x13 then
      o_gR σ12 a0 5 33 fun r14 =>
      o_sI σ12 r14 0 0 0 fun σ15 =>
      o_gR σ15 a0 5 33 fun r16 =>
      o_sI σ15 r16 0 1 0 fun σ17 =>
      (loopF fuel (fun z => lX7_trip_91 a0 x13 z.1 z.2.1 z.2.2) (σ17, (-1), 1)).bind <| un2 fun σ52 x53 =>
      some (x53, σ52)
    else
    some (0, σ12)
  else
  some ((-3), σ)

set_option maxHeartbeats 4000000 in
theorem wX7_trip {l : Launch} {s0 : State} {A0 : Array Value} {D : va_G} {ac : Nat → ClassId} (G : Gl s0 A0 D ac) {σ : St} {a0 : Nat} {a1 : Int32} {v : Int32} {σ' : St} (hf : fX7_trip σ a0 a1 = some (v, σ')) : Met l yX7_trip (ws_ yX7_trip cX7_trip 8 (some (.int))) ({ frames := 2, cells := 0, slots := 0, locals := 42 } : Room) (Pn s0 D ac [.ref a0, .int a1] σ) (Qn s0 D ac (some (.int v)) σ') 0 0 (fr s0) := by
  refine x_met (by decide) (Nat.le_of_ble_eq_true rfl) ?_
  intro p e s m args below meth c ls C hnm h hl
  have C : Cx s0 p s m args meth c cX7_trip 8 "HutForShowModel" (some (.int)) := C
  have hx := C.1
  have hb := C.2.1
  have hl : lv_has ls 8 [(0, .ref a0), (1, .int a1)] := hl
  unfold fX7_trip at hf
  refine lv_iload_n hx hb dX7_trip_0 rfl (lv_at hl 1 rfl) ?_
  refine lv_iconst (v := 0) hx hb dX7_trip_1 (by decide) ?_
  refine lv_iconst (v := 1) hx hb dX7_trip_2 (by decide) ?_
  refine lv_aload_n hx hb dX7_trip_3 rfl (lv_at hl 0 rfl) ?_
  refine x_gI (q := (RX7, TX7, 50)) (j := 47) G C h rfl (by decide) (fun _ _ _ => rfl) (lk C q1103) (fun _ z => z) dX7_trip_4 hf (fun x1 hf => ?_)
  refine lv_ishl hx hb dX7_trip_7 ?_
  refine lv_iconst (v := 1) hx hb dX7_trip_8 (by decide) ?_
  refine lv_isub hx hb dX7_trip_9 ?_
  obtain ⟨x2, hc, hf⟩ := hf_b hf
  refine x_cS (rest := []) (As := [.int a1, .int 0, .int ((1 <<< (x1 &&& 31)) - 1)]) (n := 3) (ov := (some (.int x2))) C h (wX7_in G hc) (lw_S q1211 q1212 q61 q1213) (by decide +kernel) ⟨Nat.le_of_ble_eq_true rfl, Nat.le_of_ble_eq_true rfl⟩ rfl rfl rfl hl.1 rfl (Nat.le_of_ble_eq_true rfl) dX7_trip_10 ⟨(Nat.le_of_ble_eq_true rfl), (Nat.le_of_ble_eq_true rfl)⟩ (fun H locs h => ?_)
  refine lv_if_eq (tgt := 25) hx hb dX7_trip_13 (by decide) (fun hc => ?_) (fun hc => ?_)
  · have hf := hf_t hc hf
    refine lv_bipush (v := (-3)) hx hb dX7_trip_25 (by decide) ?_
    cases hf
    refine W.widen (k := 0) (n := 0) (Nat.le_of_ble_eq_true rfl) (Nat.le_of_ble_eq_true rfl) ?_
    exact x_iret C h dX7_trip_27
  · have hf := hf_f hc hf
    refine lv_iload_n hx hb dX7_trip_16 rfl (lv_at hl 1 rfl) ?_
    obtain ⟨x3, hc, hf⟩ := hf_b hf
    refine x_cS (rest := []) (As := [.int a1]) (n := 1) (ov := (some (.int x3))) C h (wX7_bits G hc) (lw_S q1504 q1505 q61 q1506) (by decide +kernel) ⟨Nat.le_of_ble_eq_true rfl, Nat.le_of_ble_eq_true rfl⟩ rfl rfl rfl hl.1 rfl (Nat.le_of_ble_eq_true rfl) dX7_trip_17 ⟨(Nat.le_of_ble_eq_true rfl), (Nat.le_of_ble_eq_true rfl)⟩ (fun H locs h => ?_)
    refine lv_bipush (v := 7) hx hb dX7_trip_20 (by decide) ?_
    refine lv_icmp_le (tgt := 28) hx hb dX7_trip_22 (by decide) (fun hc => ?_) (fun hc => ?_)
    · have hf := hf_t hc hf
      refine lv_iconst (v := 0) hx hb dX7_trip_28 (by decide) ?_
      refine lv_istore_n (lv' := [(2, .int 0), (0, .ref a0), (1, .int a1)]) hx hb dX7_trip_29 rfl hl (by decide) rfl (fun ls hl => ?_)
      refine lv_iconst (v := 0) hx hb dX7_trip_30 (by decide) ?_
      refine lv_istore_n (lv' := [(3, .int 0), (2, .int 0), (0, .ref a0), (1, .int a1)]) hx hb dX7_trip_31 rfl hl (by decide) rfl (fun ls hl => ?_)
      obtain ⟨e32, hL, hK⟩ := hf_b hf
      have hE32_0 : ∀ (σ12 : St) (x13 : Int32), (σ12, x13) = e32 → ∀  (H : Heap) (locs : List Loc) (ls : Array Slot), Hs s0 D ac σ12 H locs → lv_has ls 8 [(0, .ref a0), (1, .int a1), (2, .int x13)] → W p l e ({ frames := 2, cells := 0, slots := 0, locals := 42 } : Room) s m args below meth c H locs 0 0 (MQ below (Qn s0 D ac (some (.int v)) σ') args s 0 0 (fr s0)) (F0 m 65 ls []) := by
        intro σ12 x13 he H locs ls h hl
        subst he
        have hf := hK
        have hf := hf_u2 hf
        refine lv_iload_n hx hb dX7_trip_65 rfl (lv_at hl 2 rfl) ?_
        refine lv_iconst (v := 2) hx hb dX7_trip_66 (by decide) ?_
        refine lv_icmp_ge (tgt := 72) hx hb dX7_trip_67 (by decide) (fun hc => ?_) (fun hc => ?_)
        · have hf := hf_t hc hf
          refine lv_iconst (v := (-1)) hx hb dX7_trip_72 (by decide) ?_
          refine lv_istore_n (lv' := [(3, .int ((-1))), (0, .ref a0), (1, .int a1), (2, .int x13)]) hx hb dX7_trip_73 rfl hl (by decide) rfl (fun ls hl => ?_)
          refine lv_iconst (v := 1) hx hb dX7_trip_74 (by decide) ?_
          refine lv_istore (lv' := [(4, .int 1), (3, .int ((-1))), (0, .ref a0), (1, .int a1), (2, .int x13)]) hx hb dX7_trip_75 hl (by decide) rfl (fun ls hl => ?_)
          refine lv_aload_n hx hb dX7_trip_77 rfl (lv_at hl 2 rfl) ?_
          refine x_gR (q := (RX7, TX7, 50)) (j := 33) G C h rfl (by decide) (fun _ _ _ => rfl) (lk C q1089) (fun _ z => z) dX7_trip_78 hf (fun r14 hf => ?_)
          refine lv_iconst (v := 0) hx hb dX7_trip_81 (by decide) ?_
          refine lv_iconst (v := 0) hx hb dX7_trip_82 (by decide) ?_
          refine x_iast G C h dX7_trip_83 hf (fun σ15 H locs h hf => ?_)
          refine lv_aload_n hx hb dX7_trip_84 rfl (lv_at hl 2 rfl) ?_
          refine x_gR (q := (RX7, TX7, 50)) (j := 33) G C h rfl (by decide) (fun _ _ _ => rfl) (lk C q1089) (fun _ z => z) dX7_trip_85 hf (fun r16 hf => ?_)
          refine lv_iconst (v := 1) hx hb dX7_trip_88 (by decide) ?_
          refine lv_iconst (v := 0) hx hb dX7_trip_89 (by decide) ?_
          refine x_iast G C h dX7_trip_90 hf (fun σ17 H locs h hf => ?_)
          obtain ⟨e91, hL, hK⟩ := hf_b hf
          have hE91_0 : ∀ (σ52 : St) (x53 : Int32), (σ52, x53) = e91 → ∀  (H : Heap) (locs : List Loc) (ls : Array Slot), Hs s0 D ac σ52 H locs → lv_has ls 8 [(0, .ref a0), (1, .int a1), (2, .int x13), (3, .int x53)] → W p l e ({ frames := 2, cells := 0, slots := 0, locals := 42 } : Room) s m args below meth c H locs 0 0 (MQ below (Qn s0 D ac (some (.int v)) σ') args s 0 0 (fr s0)) (F0 m 278 ls []) := by
            intro σ52 x53 he H locs ls h hl
            subst he
            have hf := hK
            have hf := hf_u2 hf
            refine lv_iload_n hx hb dX7_trip_278 rfl (lv_at hl 3 rfl) ?_
            cases hf
            refine W.widen (k := 0) (n := 0) (Nat.le_of_ble_eq_true rfl) (Nat.le_of_ble_eq_true rfl) ?_
            exact x_iret C h dX7_trip_279
          refine loopF_ind (P := fun z => ∀ (H : Heap) (locs : List Loc) (ls : Array Slot), Hs s0 D ac (z.1) H locs → lv_has ls 8 [(0, .ref a0), (1, .int a1), (2, .int x13), (3, .int z.2.1), (4, .int z.2.2)] → W p l e ({ frames := 2, cells := 0, slots := 0, locals := 42 } : Room) s m args below meth c H locs 0 0 (MQ below (Qn s0 D ac (some (.int v)) σ') args s 0 0 (fr s0)) (F0 m 91 ls [])) ?_ _ _ hL _ _ _ h (lv_sub hl [2, 3, 4, 1, 0] rfl)
          clear hK hL h hl hf
          intro z o hf ih hX H locs ls h hl
          obtain ⟨σ18, x19, x20⟩ := z
          have h : Hs s0 D ac σ18 H locs := h
          have hl : lv_has ls 8 [(0, .ref a0), (1, .int a1), (2, .int x13), (3, .int x19), (4, .int x20)] := hl
          have hf : lX7_trip_91 a0 x13 σ18 x19 x20 = some o := hf
          unfold lX7_trip_91 at hf
          refine lv_iload hx hb dX7_trip_91 (lv_at hl 4 rfl) ?_
          refine lv_if_le (tgt := 278) hx hb dX7_trip_93 (by decide) (fun hc => ?_) (fun hc => ?_)
          · have hf := hf_t hc hf
            cases hf
            exact hE91_0 _ _ (hX _ rfl) _ _ _ h (lv_sub hl [0, 1, 2, 3] rfl)
          · have hf := hf_f hc hf
            refine lv_aload_n hx hb dX7_trip_96 rfl (lv_at hl 0 rfl) ?_
            refine x_gR (q := (RX7, TX7, 50)) (j := 33) G C h rfl (by decide) (fun _ _ _ => rfl) (lk C q1089) (fun _ z => z) dX7_trip_97 hf (fun r21 hf => ?_)
            refine lv_iload hx hb dX7_trip_100 (lv_at hl 4 rfl) ?_
            refine lv_dup2_11 hx hb dX7_trip_102 rfl rfl ?_
            refine x_iald G C h dX7_trip_103 hf (fun x22 hf => ?_)
            refine lv_iconst (v := 1) hx hb dX7_trip_104 (by decide) ?_
            refine lv_iadd hx hb dX7_trip_105 ?_
            refine x_iast G C h dX7_trip_106 hf (fun σ23 H locs h hf => ?_)
            refine lv_iconst (v := 1) hx hb dX7_trip_107 (by decide) ?_
            refine lv_istore (lv' := [(5, .int 1), (0, .ref a0), (1, .int a1), (2, .int x13), (3, .int x19), (4, .int x20)]) hx hb dX7_trip_108 hl (by decide) rfl (fun ls hl => ?_)
            refine lv_iconst (v := 0) hx hb dX7_trip_110 (by decide) ?_
            refine lv_istore (lv' := [(6, .int 0), (5, .int 1), (0, .ref a0), (1, .int a1), (2, .int x13), (3, .int x19), (4, .int x20)]) hx hb dX7_trip_111 hl (by decide) rfl (fun ls hl => ?_)
            obtain ⟨e113, hL, hK⟩ := hf_b hf
            have hE113_0 : ∀ (x31 : Int32), x31 = e113 → ∀  (H : Heap) (locs : List Loc) (ls : Array Slot), Hs s0 D ac σ23 H locs → lv_has ls 8 [(0, .ref a0), (1, .int a1), (2, .int x13), (3, .int x19), (4, .int x20), (5, .int x31)] → W p l e ({ frames := 2, cells := 0, slots := 0, locals := 42 } : Room) s m args below meth c H locs 0 0 (MQ below (Qn s0 D ac (some (.int v)) σ') args s 0 0 (fr s0)) (F0 m 155 ls []) := by
              intro x31 he H locs ls h hl
              subst he
              have hf := hK
              refine lv_aload_n hx hb dX7_trip_155 rfl (lv_at hl 0 rfl) ?_
              refine x_gR (q := (RX7, TX7, 50)) (j := 33) G C h rfl (by decide) (fun _ _ _ => rfl) (lk C q1089) (fun _ z => z) dX7_trip_156 hf (fun r32 hf => ?_)
              refine lv_iload hx hb dX7_trip_159 (lv_at hl 4 rfl) ?_
              refine x_iald G C h dX7_trip_161 hf (fun x33 hf => ?_)
              refine lv_iload_n hx hb dX7_trip_162 rfl (lv_at hl 2 rfl) ?_
              refine jn_of (P := fun j => ∀ (σ49 : St) (x50 : Int32) (x51 : Int32), j σ49 x50 x51 = some o → ∀ (H : Heap) (locs : List Loc) (ls : Array Slot), Hs s0 D ac σ49 H locs → lv_has ls 8 [(0, .ref a0), (1, .int a1), (2, .int x13), (3, .int x50), (4, .int x51), (5, .int x31)] → W p l e ({ frames := 2, cells := 0, slots := 0, locals := 42 } : Room) s m args below meth c H locs 0 0 (MQ below (Qn s0 D ac (some (.int v)) σ') args s 0 0 (fr s0)) (F0 m 275 ls [])) hf ?_ ?_
              · intro σ49 x50 x51 hf H locs ls h hl
                refine lv_goto (tgt := 91) hx hb dX7_trip_275 (by decide) ?_
                cases hf
                exact ih _ rfl _ _ _ h (lv_sub hl [0, 1, 2, 3, 4] rfl)
              intro j275 hj275 hf
              refine lv_icmp_ne (tgt := 172) hx hb dX7_trip_163 (by decide) (fun hc => ?_) (fun hc => ?_)
              · have hf := hf_f hc hf
                refine lv_iload hx hb dX7_trip_172 (lv_at hl 5 rfl) ?_
                refine jn_of (P := fun j => ∀ (u0 : Unit), j u0 = some o → ∀ (H : Heap) (locs : List Loc) (ls : Array Slot), Hs s0 D ac σ23 H locs → lv_has ls 8 [(0, .ref a0), (1, .int a1), (2, .int x13), (3, .int x19), (4, .int x20), (5, .int x31)] → W p l e ({ frames := 2, cells := 0, slots := 0, locals := 42 } : Room) s m args below meth c H locs 0 0 (MQ below (Qn s0 D ac (some (.int v)) σ') args s 0 0 (fr s0)) (F0 m 259 ls [])) hf ?_ ?_
                · intro u0 hf H locs ls h hl
                  refine lv_iload hx hb dX7_trip_259 (lv_at hl 5 rfl) ?_
                  refine lv_if_eq (tgt := 275) hx hb dX7_trip_261 (by decide) (fun hc => ?_) (fun hc => ?_)
                  · have hf := hf_t hc hf
                    exact hj275 _ _ _ hf _ _ _ h (lv_sub hl [0, 1, 2, 3, 4, 5] rfl)
                  · have hf := hf_f hc hf
                    refine lv_iinc (v := x20 + 1) (lv' := [(4, .int (x20 + 1)), (0, .ref a0), (1, .int a1), (2, .int x13), (3, .int x19), (5, .int x31)]) hx hb dX7_trip_264 hl (k := 4) rfl rfl (by decide) rfl (fun ls hl => ?_)
                    refine lv_aload_n hx hb dX7_trip_267 rfl (lv_at hl 1 rfl) ?_
                    refine x_gR (q := (RX7, TX7, 50)) (j := 33) G C h rfl (by decide) (fun _ _ _ => rfl) (lk C q1089) (fun _ z => z) dX7_trip_268 hf (fun r47 hf => ?_)
                    refine lv_iload hx hb dX7_trip_271 (lv_at hl 0 rfl) ?_
                    refine lv_iconst (v := 0) hx hb dX7_trip_273 (by decide) ?_
                    refine x_iast G C h dX7_trip_274 hf (fun σ48 H locs h hf => ?_)
                    exact hj275 _ _ _ hf _ _ _ h (lv_sub hl [1, 2, 3, 4, 0, 5] rfl)
                intro j259 hj259 hf
                refine lv_if_eq (tgt := 259) hx hb dX7_trip_174 (by decide) (fun hc => ?_) (fun hc => ?_)
                · have hf := hf_t hc hf
                  exact hj259 () hf _ _ _ h (lv_sub hl [0, 1, 2, 3, 4, 5] rfl)
                · have hf := hf_f hc hf
                  refine lv_iload hx hb dX7_trip_177 (lv_at hl 4 rfl) ?_
                  refine lv_iload_n hx hb dX7_trip_179 rfl (lv_at hl 2 rfl) ?_
                  refine lv_iconst (v := 1) hx hb dX7_trip_180 (by decide) ?_
                  refine lv_isub hx hb dX7_trip_181 ?_
                  refine lv_icmp_ne (tgt := 259) hx hb dX7_trip_182 (by decide) (fun hc => ?_) (fun hc => ?_)
                  · have hf := hf_f hc hf
                    exact hj259 () hf _ _ _ h (lv_sub hl [0, 1, 2, 3, 4, 5] rfl)
                  · have hf := hf_t hc hf
                    refine lv_iconst (v := 0) hx hb dX7_trip_185 (by decide) ?_
                    refine lv_istore (lv' := [(6, .int 0), (0, .ref a0), (1, .int a1), (2, .int x13), (3, .int x19), (4, .int x20), (5, .int x31)]) hx hb dX7_trip_186 hl (by decide) rfl (fun ls hl => ?_)
                    refine lv_iconst (v := 1) hx hb dX7_trip_188 (by decide) ?_
                    refine lv_istore (lv' := [(7, .int 1), (6, .int 0), (0, .ref a0), (1, .int a1), (2, .int x13), (3, .int x19), (4, .int x20), (5, .int x31)]) hx hb dX7_trip_189 hl (by decide) rfl (fun ls hl => ?_)
                    obtain ⟨e191, hL, hK⟩ := hf_b hf
                    have hE191_0 : ∀ (x45 : Int32), x45 = e191 → ∀  (H : Heap) (locs : List Loc) (ls : Array Slot), Hs s0 D ac σ23 H locs → lv_has ls 8 [(0, .ref a0), (1, .int a1), (2, .int x13), (3, .int x19), (4, .int x20), (5, .int x31), (6, .int x45)] → W p l e ({ frames := 2, cells := 0, slots := 0, locals := 42 } : Room) s m args below meth c H locs 0 0 (MQ below (Qn s0 D ac (some (.int v)) σ') args s 0 0 (fr s0)) (F0 m 238 ls []) := by
                      intro x45 he H locs ls h hl
                      subst he
                      have hf := hK
                      refine lv_iload_n hx hb dX7_trip_238 rfl (lv_at hl 3 rfl) ?_
                      refine lv_iconst (v := (-1)) hx hb dX7_trip_239 (by decide) ?_
                      refine jn_of (P := fun j => ∀ (x46 : Int32), j x46 = some o → ∀ (H : Heap) (locs : List Loc) (ls : Array Slot), Hs s0 D ac σ23 H locs → lv_has ls 8 [(0, .ref a0), (1, .int a1), (2, .int x13), (3, .int x19), (4, .int x20), (5, .int x31), (6, .int x45)] → W p l e ({ frames := 2, cells := 0, slots := 0, locals := 42 } : Room) s m args below meth c H locs 0 0 (MQ below (Qn s0 D ac (some (.int v)) σ') args s 0 0 (fr s0)) (F0 m 255 ls [.int x46])) hf ?_ ?_
                      · intro x46 hf H locs ls h hl
                        refine lv_istore_n (lv' := [(3, .int x46), (0, .ref a0), (1, .int a1), (2, .int x13), (4, .int x20), (5, .int x31), (6, .int x45)]) hx hb dX7_trip_255 rfl hl (by decide) rfl (fun ls hl => ?_)
                        refine lv_goto (tgt := 275) hx hb dX7_trip_256 (by decide) ?_
                        exact hj275 _ _ _ hf _ _ _ h (lv_sub hl [1, 2, 3, 0, 4, 5] rfl)
                      intro j255 hj255 hf
                      refine jn_of (P := fun j => ∀ (u0 : Unit), j u0 = some o → ∀ (H : Heap) (locs : List Loc) (ls : Array Slot), Hs s0 D ac σ23 H locs → lv_has ls 8 [(0, .ref a0), (1, .int a1), (2, .int x13), (3, .int x19), (4, .int x20), (5, .int x31), (6, .int x45)] → W p l e ({ frames := 2, cells := 0, slots := 0, locals := 42 } : Room) s m args below meth c H locs 0 0 (MQ below (Qn s0 D ac (some (.int v)) σ') args s 0 0 (fr s0)) (F0 m 249 ls [])) hf ?_ ?_
                      · intro u0 hf H locs ls h hl
                        refine lv_iload hx hb dX7_trip_249 (lv_at hl 6 rfl) ?_
                        refine lv_goto (tgt := 255) hx hb dX7_trip_251 (by decide) ?_
                        exact hj255 _ hf _ _ _ h (lv_sub hl [0, 1, 2, 3, 4, 5, 6] rfl)
                      intro j249 hj249 hf
                      refine lv_icmp_eq (tgt := 249) hx hb dX7_trip_240 (by decide) (fun hc => ?_) (fun hc => ?_)
                      · have hf := hf_t hc hf
                        exact hj249 () hf _ _ _ h (lv_sub hl [0, 1, 2, 3, 4, 5, 6] rfl)
                      · have hf := hf_f hc hf
                        refine lv_iload hx hb dX7_trip_243 (lv_at hl 6 rfl) ?_
                        refine lv_iload_n hx hb dX7_trip_245 rfl (lv_at hl 3 rfl) ?_
                        refine lv_icmp_ge (tgt := 254) hx hb dX7_trip_246 (by decide) (fun hc => ?_) (fun hc => ?_)
                        · have hf := hf_t hc hf
                          refine lv_iload_n hx hb dX7_trip_254 rfl (lv_at hl 3 rfl) ?_
                          exact hj255 _ hf _ _ _ h (lv_sub hl [0, 1, 2, 3, 4, 5, 6] rfl)
                        · have hf := hf_f hc hf
                          exact hj249 () hf _ _ _ h (lv_sub hl [0, 1, 2, 3, 4, 5, 6] rfl)
                    refine loopF_ind (P := fun z => ∀ (H : Heap) (locs : List Loc) (ls : Array Slot), Hs s0 D ac σ23 H locs → lv_has ls 8 [(0, .ref a0), (1, .int a1), (2, .int x13), (3, .int x19), (4, .int x20), (5, .int x31), (6, .int z.1), (7, .int z.2)] → W p l e ({ frames := 2, cells := 0, slots := 0, locals := 42 } : Room) s m args below meth c H locs 0 0 (MQ below (Qn s0 D ac (some (.int v)) σ') args s 0 0 (fr s0)) (F0 m 191 ls [])) ?_ _ _ hL _ _ _ h (lv_sub hl [2, 3, 4, 5, 6, 7, 1, 0] rfl)
                    clear hK hL h hl hf
                    intro z o hf ih hX H locs ls h hl
                    obtain ⟨x34, x35⟩ := z
                    have h : Hs s0 D ac σ23 H locs := h
                    have hl : lv_has ls 8 [(0, .ref a0), (1, .int a1), (2, .int x13), (3, .int x19), (4, .int x20), (5, .int x31), (6, .int x34), (7, .int x35)] := hl
                    have hf : lX7_trip_191 x13 σ23 a0 x34 x35 = some o := hf
                    unfold lX7_trip_191 at hf
                    refine lv_iload hx hb dX7_trip_191 (lv_at hl 7 rfl) ?_
                    refine lv_iload_n hx hb dX7_trip_193 rfl (lv_at hl 2 rfl) ?_
                    refine lv_icmp_ge (tgt := 238) hx hb dX7_trip_194 (by decide) (fun hc => ?_) (fun hc => ?_)
                    · have hf := hf_t hc hf
                      cases hf
                      exact hE191_0 _ (hX _ rfl) _ _ _ h (lv_sub hl [0, 1, 2, 3, 4, 5, 6] rfl)
                    · have hf := hf_f hc hf
                      refine lv_iload hx hb dX7_trip_197 (lv_at hl 6 rfl) ?_
                      refine lv_aload_n hx hb dX7_trip_199 rfl (lv_at hl 0 rfl) ?_
                      refine lv_aload_n hx hb dX7_trip_200 rfl (lv_at hl 0 rfl) ?_
                      refine x_gR (q := (RX7, TX7, 50)) (j := 32) G C h rfl (by decide) (fun _ _ _ => rfl) (lk C q1088) (fun _ z => z) dX7_trip_201 hf (fun r36 hf => ?_)
                      refine lv_aload_n hx hb dX7_trip_204 rfl (lv_at hl 0 rfl) ?_
                      refine x_gR (q := (RX7, TX7, 50)) (j := 33) G C h rfl (by decide) (fun _ _ _ => rfl) (lk C q1089) (fun _ z => z) dX7_trip_205 hf (fun r37 hf => ?_)
                      refine lv_iload hx hb dX7_trip_208 (lv_at hl 7 rfl) ?_
                      refine lv_iconst (v := 1) hx hb dX7_trip_210 (by decide) ?_
                      refine lv_isub hx hb dX7_trip_211 ?_
                      refine x_iald G C h dX7_trip_212 hf (fun x38 hf => ?_)
                      refine x_iald G C h dX7_trip_213 hf (fun x39 hf => ?_)
                      refine lv_aload_n hx hb dX7_trip_214 rfl (lv_at hl 0 rfl) ?_
                      refine x_gR (q := (RX7, TX7, 50)) (j := 32) G C h rfl (by decide) (fun _ _ _ => rfl) (lk C q1088) (fun _ z => z) dX7_trip_215 hf (fun r40 hf => ?_)
                      refine lv_aload_n hx hb dX7_trip_218 rfl (lv_at hl 0 rfl) ?_
                      refine x_gR (q := (RX7, TX7, 50)) (j := 33) G C h rfl (by decide) (fun _ _ _ => rfl) (lk C q1089) (fun _ z => z) dX7_trip_219 hf (fun r41 hf => ?_)
                      refine lv_iload hx hb dX7_trip_222 (lv_at hl 7 rfl) ?_
                      refine x_iald G C h dX7_trip_224 hf (fun x42 hf => ?_)
                      refine x_iald G C h dX7_trip_225 hf (fun x43 hf => ?_)
                      obtain ⟨hk, hf⟩ := k_of hf
                      obtain ⟨x44, hc, hf⟩ := hf_b hf
                      refine x_cV (q := (RX7, TX7, 50)) (rest := [.int x34]) (As := [.int x39, .int x43]) (n := 2) (ov := (some (.int x44))) G C h (wX7_apart G hc) hk rfl (lw_V q1507 q1509 qs52 q61 q1510) (by decide +kernel) ⟨Nat.le_of_ble_eq_true rfl, Nat.le_of_ble_eq_true rfl⟩ rfl rfl rfl hl.1 rfl (Nat.le_of_ble_eq_true rfl) dX7_trip_226 ⟨(Nat.le_of_ble_eq_true rfl), (Nat.le_of_ble_eq_true rfl)⟩ (fun H locs h => ?_)
                      refine lv_iadd hx hb dX7_trip_229 ?_
                      refine lv_istore (lv' := [(6, .int (x34 + x44)), (0, .ref a0), (1, .int a1), (2, .int x13), (3, .int x19), (4, .int x20), (5, .int x31), (7, .int x35)]) hx hb dX7_trip_230 hl (by decide) rfl (fun ls hl => ?_)
                      refine lv_iinc (v := x35 + 1) (lv' := [(7, .int (x35 + 1)), (6, .int (x34 + x44)), (0, .ref a0), (1, .int a1), (2, .int x13), (3, .int x19), (4, .int x20), (5, .int x31)]) hx hb dX7_trip_232 hl (k := 7) rfl rfl (by decide) rfl (fun ls hl => ?_)
                      refine lv_goto (tgt := 191) hx hb dX7_trip_235 (by decide) ?_
                      cases hf
                      exact ih _ rfl _ _ _ h (lv_sub hl [2, 3, 4, 5, 6, 7, 1, 0] rfl)
              · have hf := hf_t hc hf
                refine lv_iinc (v := x20 + (-1)) (lv' := [(4, .int (x20 + (-1))), (0, .ref a0), (1, .int a1), (2, .int x13), (3, .int x19), (5, .int x31)]) hx hb dX7_trip_166 hl (k := 4) rfl rfl (by decide) rfl (fun ls hl => ?_)
                refine lv_goto (tgt := 275) hx hb dX7_trip_169 (by decide) ?_
                exact hj275 _ _ _ hf _ _ _ h (lv_sub hl [1, 2, 3, 4, 0, 5] rfl)
            refine loopF_ind (P := fun z => ∀ (H : Heap) (locs : List Loc) (ls : Array Slot), Hs s0 D ac σ23 H locs → lv_has ls 8 [(0, .ref a0), (1, .int a1), (2, .int x13), (3, .int x19), (4, .int x20), (5, .int z.1), (6, .int z.2)] → W p l e ({ frames := 2, cells := 0, slots := 0, locals := 42 } : Room) s m args below meth c H locs 0 0 (MQ below (Qn s0 D ac (some (.int v)) σ') args s 0 0 (fr s0)) (F0 m 113 ls [])) ?_ _ _ hL _ _ _ h (lv_sub hl [2, 3, 4, 5, 6, 1, 0] rfl)
            clear hK hL h hl hf
            intro z o hf ih hX H locs ls h hl
            obtain ⟨x24, x25⟩ := z
            have h : Hs s0 D ac σ23 H locs := h
            have hl : lv_has ls 8 [(0, .ref a0), (1, .int a1), (2, .int x13), (3, .int x19), (4, .int x20), (5, .int x24), (6, .int x25)] := hl
            have hf : lX7_trip_113 x20 σ23 a0 x24 x25 = some o := hf
            unfold lX7_trip_113 at hf
            refine lv_iload hx hb dX7_trip_113 (lv_at hl 6 rfl) ?_
            refine lv_iload hx hb dX7_trip_115 (lv_at hl 4 rfl) ?_
            refine lv_icmp_ge (tgt := 155) hx hb dX7_trip_117 (by decide) (fun hc => ?_) (fun hc => ?_)
            · have hf := hf_t hc hf
              cases hf
              exact hE113_0 _ (hX _ rfl) _ _ _ h (lv_sub hl [0, 1, 2, 3, 4, 5] rfl)
            · have hf := hf_f hc hf
              refine lv_iload hx hb dX7_trip_120 (lv_at hl 5 rfl) ?_
              refine jn_of (P := fun j => ∀ (x30 : Int32), j x30 = some o → ∀ (H : Heap) (locs : List Loc) (ls : Array Slot), Hs s0 D ac σ23 H locs → lv_has ls 8 [(0, .ref a0), (1, .int a1), (2, .int x13), (3, .int x19), (4, .int x20), (5, .int x24), (6, .int x25)] → W p l e ({ frames := 2, cells := 0, slots := 0, locals := 42 } : Room) s m args below meth c H locs 0 0 (MQ below (Qn s0 D ac (some (.int v)) σ') args s 0 0 (fr s0)) (F0 m 147 ls [.int x30])) hf ?_ ?_
              · intro x30 hf H locs ls h hl
                refine lv_istore (lv' := [(5, .int x30), (0, .ref a0), (1, .int a1), (2, .int x13), (3, .int x19), (4, .int x20), (6, .int x25)]) hx hb dX7_trip_147 hl (by decide) rfl (fun ls hl => ?_)
                refine lv_iinc (v := x25 + 1) (lv' := [(6, .int (x25 + 1)), (5, .int x30), (0, .ref a0), (1, .int a1), (2, .int x13), (3, .int x19), (4, .int x20)]) hx hb dX7_trip_149 hl (k := 6) rfl rfl (by decide) rfl (fun ls hl => ?_)
                refine lv_goto (tgt := 113) hx hb dX7_trip_152 (by decide) ?_
                cases hf
                exact ih _ rfl _ _ _ h (lv_sub hl [2, 3, 4, 5, 6, 1, 0] rfl)
              intro j147 hj147 hf
              refine jn_of (P := fun j => ∀ (u0 : Unit), j u0 = some o → ∀ (H : Heap) (locs : List Loc) (ls : Array Slot), Hs s0 D ac σ23 H locs → lv_has ls 8 [(0, .ref a0), (1, .int a1), (2, .int x13), (3, .int x19), (4, .int x20), (5, .int x24), (6, .int x25)] → W p l e ({ frames := 2, cells := 0, slots := 0, locals := 42 } : Room) s m args below meth c H locs 0 0 (MQ below (Qn s0 D ac (some (.int v)) σ') args s 0 0 (fr s0)) (F0 m 146 ls [])) hf ?_ ?_
              · intro u0 hf H locs ls h hl
                refine lv_iconst (v := 0) hx hb dX7_trip_146 (by decide) ?_
                exact hj147 _ hf _ _ _ h (lv_sub hl [0, 1, 2, 3, 4, 5, 6] rfl)
              intro j146 hj146 hf
              refine lv_if_eq (tgt := 146) hx hb dX7_trip_122 (by decide) (fun hc => ?_) (fun hc => ?_)
              · have hf := hf_t hc hf
                exact hj146 () hf _ _ _ h (lv_sub hl [0, 1, 2, 3, 4, 5, 6] rfl)
              · have hf := hf_f hc hf
                refine lv_aload_n hx hb dX7_trip_125 rfl (lv_at hl 0 rfl) ?_
                refine x_gR (q := (RX7, TX7, 50)) (j := 33) G C h rfl (by decide) (fun _ _ _ => rfl) (lk C q1089) (fun _ z => z) dX7_trip_126 hf (fun r26 hf => ?_)
                refine lv_iload hx hb dX7_trip_129 (lv_at hl 6 rfl) ?_
                refine x_iald G C h dX7_trip_131 hf (fun x27 hf => ?_)
                refine lv_aload_n hx hb dX7_trip_132 rfl (lv_at hl 0 rfl) ?_
                refine x_gR (q := (RX7, TX7, 50)) (j := 33) G C h rfl (by decide) (fun _ _ _ => rfl) (lk C q1089) (fun _ z => z) dX7_trip_133 hf (fun r28 hf => ?_)
                refine lv_iload hx hb dX7_trip_136 (lv_at hl 4 rfl) ?_
                refine x_iald G C h dX7_trip_138 hf (fun x29 hf => ?_)
                refine lv_icmp_eq (tgt := 146) hx hb dX7_trip_139 (by decide) (fun hc => ?_) (fun hc => ?_)
                · have hf := hf_t hc hf
                  exact hj146 () hf _ _ _ h (lv_sub hl [0, 1, 2, 3, 4, 5, 6] rfl)
                · have hf := hf_f hc hf
                  refine lv_iconst (v := 1) hx hb dX7_trip_142 (by decide) ?_
                  refine lv_goto (tgt := 147) hx hb dX7_trip_143 (by decide) ?_
                  exact hj147 _ hf _ _ _ h (lv_sub hl [0, 1, 2, 3, 4, 5, 6] rfl)
        · have hf := hf_f hc hf
          refine lv_iconst (v := 0) hx hb dX7_trip_70 (by decide) ?_
          cases hf
          refine W.widen (k := 0) (n := 0) (Nat.le_of_ble_eq_true rfl) (Nat.le_of_ble_eq_true rfl) ?_
          exact x_iret C h dX7_trip_71
      refine loopF_ind (P := fun z => ∀ (H : Heap) (locs : List Loc) (ls : Array Slot), Hs s0 D ac (z.1) H locs → lv_has ls 8 [(0, .ref a0), (1, .int a1), (2, .int z.2.1), (3, .int z.2.2)] → W p l e ({ frames := 2, cells := 0, slots := 0, locals := 42 } : Room) s m args below meth c H locs 0 0 (MQ below (Qn s0 D ac (some (.int v)) σ') args s 0 0 (fr s0)) (F0 m 32 ls [])) ?_ _ _ hL _ _ _ h (lv_sub hl [2, 3, 1, 0] rfl)
      clear hK hL h hl hf
      intro z o hf ih hX H locs ls h hl
      obtain ⟨σ4, x5, x6⟩ := z
      have h : Hs s0 D ac σ4 H locs := h
      have hl : lv_has ls 8 [(0, .ref a0), (1, .int a1), (2, .int x5), (3, .int x6)] := hl
      have hf : lX7_trip_32 a0 a1 σ4 x5 x6 = some o := hf
      unfold lX7_trip_32 at hf
      refine lv_iload_n hx hb dX7_trip_32 rfl (lv_at hl 3 rfl) ?_
      refine lv_aload_n hx hb dX7_trip_33 rfl (lv_at hl 0 rfl) ?_
      refine x_gI (q := (RX7, TX7, 50)) (j := 47) G C h rfl (by decide) (fun _ _ _ => rfl) (lk C q1103) (fun _ z => z) dX7_trip_34 hf (fun x7 hf => ?_)
      refine lv_icmp_ge (tgt := 65) hx hb dX7_trip_37 (by decide) (fun hc => ?_) (fun hc => ?_)
      · have hf := hf_t hc hf
        cases hf
        exact hE32_0 _ _ (hX _ rfl) _ _ _ h (lv_sub hl [0, 1, 2] rfl)
      · have hf := hf_f hc hf
        refine lv_iload_n hx hb dX7_trip_40 rfl (lv_at hl 1 rfl) ?_
        refine lv_iload_n hx hb dX7_trip_41 rfl (lv_at hl 3 rfl) ?_
        refine lv_ishr hx hb dX7_trip_42 ?_
        refine lv_iconst (v := 1) hx hb dX7_trip_43 (by decide) ?_
        refine lv_iand hx hb dX7_trip_44 ?_
        refine lv_iconst (v := 1) hx hb dX7_trip_45 (by decide) ?_
        refine jn_of (P := fun j => ∀ (σ10 : St) (x11 : Int32), j σ10 x11 = some o → ∀ (H : Heap) (locs : List Loc) (ls : Array Slot), Hs s0 D ac σ10 H locs → lv_has ls 8 [(0, .ref a0), (1, .int a1), (2, .int x11), (3, .int x6)] → W p l e ({ frames := 2, cells := 0, slots := 0, locals := 42 } : Room) s m args below meth c H locs 0 0 (MQ below (Qn s0 D ac (some (.int v)) σ') args s 0 0 (fr s0)) (F0 m 59 ls [])) hf ?_ ?_
        · intro σ10 x11 hf H locs ls h hl
          refine lv_iinc (v := x6 + 1) (lv' := [(3, .int (x6 + 1)), (0, .ref a0), (1, .int a1), (2, .int x11)]) hx hb dX7_trip_59 hl (k := 3) rfl rfl (by decide) rfl (fun ls hl => ?_)
          refine lv_goto (tgt := 32) hx hb dX7_trip_62 (by decide) ?_
          cases hf
          exact ih _ rfl _ _ _ h (lv_sub hl [1, 2, 3, 0] rfl)
        intro j59 hj59 hf
        refine lv_icmp_ne (tgt := 59) hx hb dX7_trip_46 (by decide) (fun hc => ?_) (fun hc => ?_)
        · have hf := hf_f hc hf
          exact hj59 _ _ hf _ _ _ h (lv_sub hl [0, 1, 2, 3] rfl)
        · have hf := hf_t hc hf
          refine lv_aload_n hx hb dX7_trip_49 rfl (lv_at hl 0 rfl) ?_
          refine x_gR (q := (RX7, TX7, 50)) (j := 32) G C h rfl (by decide) (fun _ _ _ => rfl) (lk C q1088) (fun _ z => z) dX7_trip_50 hf (fun r8 hf => ?_)
          refine lv_iload_n hx hb dX7_trip_53 rfl (lv_at hl 2 rfl) ?_
          refine lv_iload_n hx hb dX7_trip_54 rfl (lv_at hl 3 rfl) ?_
          refine x_iast G C h dX7_trip_55 hf (fun σ9 H locs h hf => ?_)
          refine lv_iinc (v := x5 + 1) (lv' := [(2, .int (x5 + 1)), (0, .ref a0), (1, .int a1), (3, .int x6)]) hx hb dX7_trip_56 hl (k := 2) rfl rfl (by decide) rfl (fun ls hl => ?_)
          exact hj59 _ _ hf _ _ _ h (lv_sub hl [1, 2, 0, 3] rfl)
    · have hf := hf_f hc hf
      refine lv_bipush (v := (-3)) hx hb dX7_trip_25 (by decide) ?_
      cases hf
      refine W.widen (k := 0) (n := 0) (Nat.le_of_ble_eq_true rfl) (Nat.le_of_ble_eq_true rfl) ?_
      exact x_iret C h dX7_trip_27

theorem dX7_count_0 : decode cX7_count 0 = .ok (.iload_n 1, 1) := by decide +kernel
theorem dX7_count_1 : decode cX7_count 1 = .ok (.tableswitch 106 0 9 #[55, 60, 65, 70, 76, 81, 86, 91, 96, 101], 55) := by decide +kernel
theorem dX7_count_56 : decode cX7_count 56 = .ok (.aload_n 0, 1) := by decide +kernel
theorem dX7_count_57 : decode cX7_count 57 = .ok (.getfield 155, 3) := by decide +kernel
theorem dX7_count_60 : decode cX7_count 60 = .ok (.ireturn, 1) := by decide +kernel
theorem dX7_count_61 : decode cX7_count 61 = .ok (.aload_n 0, 1) := by decide +kernel
theorem dX7_count_62 : decode cX7_count 62 = .ok (.getfield 110, 3) := by decide +kernel
theorem dX7_count_65 : decode cX7_count 65 = .ok (.ireturn, 1) := by decide +kernel
theorem dX7_count_66 : decode cX7_count 66 = .ok (.aload_n 0, 1) := by decide +kernel
theorem dX7_count_67 : decode cX7_count 67 = .ok (.getfield 129, 3) := by decide +kernel
theorem dX7_count_70 : decode cX7_count 70 = .ok (.ireturn, 1) := by decide +kernel
theorem dX7_count_71 : decode cX7_count 71 = .ok (.aload_n 0, 1) := by decide +kernel
theorem dX7_count_72 : decode cX7_count 72 = .ok (.iconst (-1), 1) := by decide +kernel
theorem dX7_count_73 : decode cX7_count 73 = .ok (.invokevirtual 132, 3) := by decide +kernel
theorem dX7_count_76 : decode cX7_count 76 = .ok (.ireturn, 1) := by decide +kernel
theorem dX7_count_77 : decode cX7_count 77 = .ok (.aload_n 0, 1) := by decide +kernel
theorem dX7_count_78 : decode cX7_count 78 = .ok (.getfield 162, 3) := by decide +kernel
theorem dX7_count_81 : decode cX7_count 81 = .ok (.ireturn, 1) := by decide +kernel
theorem dX7_count_82 : decode cX7_count 82 = .ok (.aload_n 0, 1) := by decide +kernel
theorem dX7_count_83 : decode cX7_count 83 = .ok (.getfield 292, 3) := by decide +kernel
theorem dX7_count_86 : decode cX7_count 86 = .ok (.ireturn, 1) := by decide +kernel
theorem dX7_count_87 : decode cX7_count 87 = .ok (.aload_n 0, 1) := by decide +kernel
theorem dX7_count_88 : decode cX7_count 88 = .ok (.getfield 321, 3) := by decide +kernel
theorem dX7_count_91 : decode cX7_count 91 = .ok (.ireturn, 1) := by decide +kernel
theorem dX7_count_92 : decode cX7_count 92 = .ok (.aload_n 0, 1) := by decide +kernel
theorem dX7_count_93 : decode cX7_count 93 = .ok (.getfield 327, 3) := by decide +kernel
theorem dX7_count_96 : decode cX7_count 96 = .ok (.ireturn, 1) := by decide +kernel
theorem dX7_count_97 : decode cX7_count 97 = .ok (.aload_n 0, 1) := by decide +kernel
theorem dX7_count_98 : decode cX7_count 98 = .ok (.getfield 330, 3) := by decide +kernel
theorem dX7_count_101 : decode cX7_count 101 = .ok (.ireturn, 1) := by decide +kernel
theorem dX7_count_102 : decode cX7_count 102 = .ok (.aload_n 0, 1) := by decide +kernel
theorem dX7_count_103 : decode cX7_count 103 = .ok (.getfield 298, 3) := by decide +kernel
theorem dX7_count_106 : decode cX7_count 106 = .ok (.ireturn, 1) := by decide +kernel
theorem dX7_count_107 : decode cX7_count 107 = .ok (.bipush (-3), 2) := by decide +kernel
theorem dX7_count_109 : decode cX7_count 109 = .ok (.ireturn, 1) := by decide +kernel
def fX7_count (σ : St) (a0 : Nat) (a1 : Int32) : Option (Int32) :=
  if a1 = 0 then
    o_gI σ a0 5 0 fun x1 =>
    some x1
  else if a1 = 1 then
    o_gI σ a0 5 1 fun x2 =>
    some x2
  else if a1 = 2 then
    o_gI σ a0 5 7 fun x3 =>
    some x3
  else if a1 = 3 then
    o_k σ a0 5 <|
    (fX7_thingsOf σ a0 ((-1))).bind fun x4 =>
    some x4
  else if a1 = 4 then
    o_gI σ a0 5 18 fun x5 =>
    some x5
  else if a1 = 5 then
    o_gI σ a0 5 35 fun x6 =>
    some x6
  else if a1 = 6 then
    o_gI σ a0 5 43 fun x7 =>
    some x7
  else if a1 = 7 then
    o_gI σ a0 5 45 fun x8 =>
    some x8
  else if a1 = 8 then
    o_gI σ a0 5 47 fun x9 =>
    some x9
  else if a1 = 9 then
    o_gI σ a0 5 38 fun x10 =>
    some x10
  else 
  some ((-3))

set_option maxHeartbeats 4000000 in
theorem wX7_count {l : Launch} {s0 : State} {A0 : Array Value} {D : va_G} {ac : Nat → ClassId} (G : Gl s0 A0 D ac) {σ : St} {a0 : Nat} {a1 : Int32} {v : Int32} (hf : fX7_count σ a0 a1 = some (v)) : Met l yX7_count (ws_ yX7_count cX7_count 2 (some (.int))) ({ frames := 1, cells := 0, slots := 0, locals := 23 } : Room) (Pn s0 D ac [.ref a0, .int a1] σ) (Qn s0 D ac (some (.int v)) σ) 0 0 (fr s0) := by
  refine x_met (by decide) (Nat.le_of_ble_eq_true rfl) ?_
  intro p e s m args below meth c ls C hnm h hl
  have C : Cx s0 p s m args meth c cX7_count 2 "HutForShowModel" (some (.int)) := C
  have hx := C.1
  have hb := C.2.1
  have hl : lv_has ls 2 [(0, .ref a0), (1, .int a1)] := hl
  unfold fX7_count at hf
  refine lv_iload_n hx hb dX7_count_0 rfl (lv_at hl 1 rfl) ?_
  by_cases hc : a1 = 0
  · have hf := hf_t hc hf
    rw [hc]
    refine lv_tableIn (tgt := 56) hx hb dX7_count_1 (by decide) (by decide) rfl (by decide) ?_
    refine lv_aload_n hx hb dX7_count_56 rfl (lv_at hl 0 rfl) ?_
    refine x_gI (q := (RX7, TX7, 50)) (j := 0) G C h rfl (by decide) (fun _ _ _ => rfl) (lk C q1056) (fun _ z => z) dX7_count_57 hf (fun x1 hf => ?_)
    cases hf
    refine W.widen (k := 0) (n := 0) (Nat.le_of_ble_eq_true rfl) (Nat.le_of_ble_eq_true rfl) ?_
    exact x_iret C h dX7_count_60
  have hf := hf_f hc hf
  have hc0 := hc
  clear hc
  by_cases hc : a1 = 1
  · have hf := hf_t hc hf
    rw [hc]
    refine lv_tableIn (tgt := 61) hx hb dX7_count_1 (by decide) (by decide) rfl (by decide) ?_
    refine lv_aload_n hx hb dX7_count_61 rfl (lv_at hl 0 rfl) ?_
    refine x_gI (q := (RX7, TX7, 50)) (j := 1) G C h rfl (by decide) (fun _ _ _ => rfl) (lk C q1057) (fun _ z => z) dX7_count_62 hf (fun x2 hf => ?_)
    cases hf
    refine W.widen (k := 0) (n := 0) (Nat.le_of_ble_eq_true rfl) (Nat.le_of_ble_eq_true rfl) ?_
    exact x_iret C h dX7_count_65
  have hf := hf_f hc hf
  have hc1 := hc
  clear hc
  by_cases hc : a1 = 2
  · have hf := hf_t hc hf
    rw [hc]
    refine lv_tableIn (tgt := 66) hx hb dX7_count_1 (by decide) (by decide) rfl (by decide) ?_
    refine lv_aload_n hx hb dX7_count_66 rfl (lv_at hl 0 rfl) ?_
    refine x_gI (q := (RX7, TX7, 50)) (j := 7) G C h rfl (by decide) (fun _ _ _ => rfl) (lk C q1063) (fun _ z => z) dX7_count_67 hf (fun x3 hf => ?_)
    cases hf
    refine W.widen (k := 0) (n := 0) (Nat.le_of_ble_eq_true rfl) (Nat.le_of_ble_eq_true rfl) ?_
    exact x_iret C h dX7_count_70
  have hf := hf_f hc hf
  have hc2 := hc
  clear hc
  by_cases hc : a1 = 3
  · have hf := hf_t hc hf
    rw [hc]
    refine lv_tableIn (tgt := 71) hx hb dX7_count_1 (by decide) (by decide) rfl (by decide) ?_
    refine lv_aload_n hx hb dX7_count_71 rfl (lv_at hl 0 rfl) ?_
    refine lv_iconst (v := (-1)) hx hb dX7_count_72 (by decide) ?_
    obtain ⟨hk, hf⟩ := k_of hf
    obtain ⟨x4, hc, hf⟩ := hf_b hf
    refine x_cV (q := (RX7, TX7, 50)) (rest := []) (As := [.int ((-1))]) (n := 1) (ov := (some (.int x4))) G C h (wX7_thingsOf G hc) hk rfl (lw_V q1233 q1235 qs24 q61 q1236) (by decide +kernel) ⟨Nat.le_of_ble_eq_true rfl, Nat.le_of_ble_eq_true rfl⟩ rfl rfl rfl hl.1 rfl (Nat.le_of_ble_eq_true rfl) dX7_count_73 ⟨(Nat.le_of_ble_eq_true rfl), (Nat.le_of_ble_eq_true rfl)⟩ (fun H locs h => ?_)
    cases hf
    refine W.widen (k := 0) (n := 0) (Nat.le_of_ble_eq_true rfl) (Nat.le_of_ble_eq_true rfl) ?_
    exact x_iret C h dX7_count_76
  have hf := hf_f hc hf
  have hc3 := hc
  clear hc
  by_cases hc : a1 = 4
  · have hf := hf_t hc hf
    rw [hc]
    refine lv_tableIn (tgt := 77) hx hb dX7_count_1 (by decide) (by decide) rfl (by decide) ?_
    refine lv_aload_n hx hb dX7_count_77 rfl (lv_at hl 0 rfl) ?_
    refine x_gI (q := (RX7, TX7, 50)) (j := 18) G C h rfl (by decide) (fun _ _ _ => rfl) (lk C q1074) (fun _ z => z) dX7_count_78 hf (fun x5 hf => ?_)
    cases hf
    refine W.widen (k := 0) (n := 0) (Nat.le_of_ble_eq_true rfl) (Nat.le_of_ble_eq_true rfl) ?_
    exact x_iret C h dX7_count_81
  have hf := hf_f hc hf
  have hc4 := hc
  clear hc
  by_cases hc : a1 = 5
  · have hf := hf_t hc hf
    rw [hc]
    refine lv_tableIn (tgt := 82) hx hb dX7_count_1 (by decide) (by decide) rfl (by decide) ?_
    refine lv_aload_n hx hb dX7_count_82 rfl (lv_at hl 0 rfl) ?_
    refine x_gI (q := (RX7, TX7, 50)) (j := 35) G C h rfl (by decide) (fun _ _ _ => rfl) (lk C q1091) (fun _ z => z) dX7_count_83 hf (fun x6 hf => ?_)
    cases hf
    refine W.widen (k := 0) (n := 0) (Nat.le_of_ble_eq_true rfl) (Nat.le_of_ble_eq_true rfl) ?_
    exact x_iret C h dX7_count_86
  have hf := hf_f hc hf
  have hc5 := hc
  clear hc
  by_cases hc : a1 = 6
  · have hf := hf_t hc hf
    rw [hc]
    refine lv_tableIn (tgt := 87) hx hb dX7_count_1 (by decide) (by decide) rfl (by decide) ?_
    refine lv_aload_n hx hb dX7_count_87 rfl (lv_at hl 0 rfl) ?_
    refine x_gI (q := (RX7, TX7, 50)) (j := 43) G C h rfl (by decide) (fun _ _ _ => rfl) (lk C q1099) (fun _ z => z) dX7_count_88 hf (fun x7 hf => ?_)
    cases hf
    refine W.widen (k := 0) (n := 0) (Nat.le_of_ble_eq_true rfl) (Nat.le_of_ble_eq_true rfl) ?_
    exact x_iret C h dX7_count_91
  have hf := hf_f hc hf
  have hc6 := hc
  clear hc
  by_cases hc : a1 = 7
  · have hf := hf_t hc hf
    rw [hc]
    refine lv_tableIn (tgt := 92) hx hb dX7_count_1 (by decide) (by decide) rfl (by decide) ?_
    refine lv_aload_n hx hb dX7_count_92 rfl (lv_at hl 0 rfl) ?_
    refine x_gI (q := (RX7, TX7, 50)) (j := 45) G C h rfl (by decide) (fun _ _ _ => rfl) (lk C q1101) (fun _ z => z) dX7_count_93 hf (fun x8 hf => ?_)
    cases hf
    refine W.widen (k := 0) (n := 0) (Nat.le_of_ble_eq_true rfl) (Nat.le_of_ble_eq_true rfl) ?_
    exact x_iret C h dX7_count_96
  have hf := hf_f hc hf
  have hc7 := hc
  clear hc
  by_cases hc : a1 = 8
  · have hf := hf_t hc hf
    rw [hc]
    refine lv_tableIn (tgt := 97) hx hb dX7_count_1 (by decide) (by decide) rfl (by decide) ?_
    refine lv_aload_n hx hb dX7_count_97 rfl (lv_at hl 0 rfl) ?_
    refine x_gI (q := (RX7, TX7, 50)) (j := 47) G C h rfl (by decide) (fun _ _ _ => rfl) (lk C q1103) (fun _ z => z) dX7_count_98 hf (fun x9 hf => ?_)
    cases hf
    refine W.widen (k := 0) (n := 0) (Nat.le_of_ble_eq_true rfl) (Nat.le_of_ble_eq_true rfl) ?_
    exact x_iret C h dX7_count_101
  have hf := hf_f hc hf
  have hc8 := hc
  clear hc
  by_cases hc : a1 = 9
  · have hf := hf_t hc hf
    rw [hc]
    refine lv_tableIn (tgt := 102) hx hb dX7_count_1 (by decide) (by decide) rfl (by decide) ?_
    refine lv_aload_n hx hb dX7_count_102 rfl (lv_at hl 0 rfl) ?_
    refine x_gI (q := (RX7, TX7, 50)) (j := 38) G C h rfl (by decide) (fun _ _ _ => rfl) (lk C q1094) (fun _ z => z) dX7_count_103 hf (fun x10 hf => ?_)
    cases hf
    refine W.widen (k := 0) (n := 0) (Nat.le_of_ble_eq_true rfl) (Nat.le_of_ble_eq_true rfl) ?_
    exact x_iret C h dX7_count_106
  have hf := hf_f hc hf
  have hc9 := hc
  clear hc
  refine lv_tableOut (tgt := 107) hx hb dX7_count_1 (sw_out10 hc0 hc1 hc2 hc3 hc4 hc5 hc6 hc7 hc8 hc9) (by decide) ?_
  refine lv_bipush (v := (-3)) hx hb dX7_count_107 (by decide) ?_
  cases hf
  refine W.widen (k := 0) (n := 0) (Nat.le_of_ble_eq_true rfl) (Nat.le_of_ble_eq_true rfl) ?_
  exact x_iret C h dX7_count_109
