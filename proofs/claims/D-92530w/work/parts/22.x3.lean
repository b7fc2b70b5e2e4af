set_option maxRecDepth 100000
theorem dX11_line_0 : decode cX11_line 0 = .ok (.aload_n 0, 1) := by decide +kernel
theorem dX11_line_1 : decode cX11_line 1 = .ok (.getfield 17, 3) := by decide +kernel
theorem dX11_line_4 : decode cX11_line 4 = .ok (.aload_n 0, 1) := by decide +kernel
theorem dX11_line_5 : decode cX11_line 5 = .ok (.getfield 30, 3) := by decide +kernel
theorem dX11_line_8 : decode cX11_line 8 = .ok (.aload_n 1, 1) := by decide +kernel
theorem dX11_line_9 : decode cX11_line 9 = .ok (.invokevirtual 34, 3) := by decide +kernel
theorem dX11_line_12 : decode cX11_line 12 = .ok (.aastore, 1) := by decide +kernel
theorem dX11_line_13 : decode cX11_line 13 = .ok (.aload_n 1, 1) := by decide +kernel
theorem dX11_line_14 : decode cX11_line 14 = .ok (.ldc 40, 2) := by decide +kernel
theorem dX11_line_16 : decode cX11_line 16 = .ok (.invokevirtual 42, 3) := by decide +kernel
theorem dX11_line_19 : decode cX11_line 19 = .ok (.istore_n 2, 1) := by decide +kernel
theorem dX11_line_20 : decode cX11_line 20 = .ok (.iload_n 2, 1) := by decide +kernel
theorem dX11_line_21 : decode cX11_line 21 = .ok (.ifCond .eq 70, 3) := by decide +kernel
theorem dX11_line_24 : decode cX11_line 24 = .ok (.aload_n 0, 1) := by decide +kernel
theorem dX11_line_25 : decode cX11_line 25 = .ok (.getfield 23, 3) := by decide +kernel
theorem dX11_line_28 : decode cX11_line 28 = .ok (.aload_n 0, 1) := by decide +kernel
theorem dX11_line_29 : decode cX11_line 29 = .ok (.getfield 30, 3) := by decide +kernel
theorem dX11_line_32 : decode cX11_line 32 = .ok (.aaload, 1) := by decide +kernel
theorem dX11_line_33 : decode cX11_line 33 = .ok (.aload_n 0, 1) := by decide +kernel
theorem dX11_line_34 : decode cX11_line 34 = .ok (.getfield 26, 3) := by decide +kernel
theorem dX11_line_37 : decode cX11_line 37 = .ok (.aload_n 0, 1) := by decide +kernel
theorem dX11_line_38 : decode cX11_line 38 = .ok (.getfield 30, 3) := by decide +kernel
theorem dX11_line_41 : decode cX11_line 41 = .ok (.iaload, 1) := by decide +kernel
theorem dX11_line_42 : decode cX11_line 42 = .ok (.aload_n 1, 1) := by decide +kernel
theorem dX11_line_43 : decode cX11_line 43 = .ok (.invokevirtual 46, 3) := by decide +kernel
theorem dX11_line_46 : decode cX11_line 46 = .ok (.aastore, 1) := by decide +kernel
theorem dX11_line_47 : decode cX11_line 47 = .ok (.aload_n 0, 1) := by decide +kernel
theorem dX11_line_48 : decode cX11_line 48 = .ok (.getfield 26, 3) := by decide +kernel
theorem dX11_line_51 : decode cX11_line 51 = .ok (.aload_n 0, 1) := by decide +kernel
theorem dX11_line_52 : decode cX11_line 52 = .ok (.getfield 30, 3) := by decide +kernel
theorem dX11_line_55 : decode cX11_line 55 = .ok (.dup2, 1) := by decide +kernel
theorem dX11_line_56 : decode cX11_line 56 = .ok (.iaload, 1) := by decide +kernel
theorem dX11_line_57 : decode cX11_line 57 = .ok (.iconst 1, 1) := by decide +kernel
theorem dX11_line_58 : decode cX11_line 58 = .ok (.iadd, 1) := by decide +kernel
theorem dX11_line_59 : decode cX11_line 59 = .ok (.iastore, 1) := by decide +kernel
theorem dX11_line_60 : decode cX11_line 60 = .ok (.aload_n 0, 1) := by decide +kernel
theorem dX11_line_61 : decode cX11_line 61 = .ok (.getfield 26, 3) := by decide +kernel
theorem dX11_line_64 : decode cX11_line 64 = .ok (.aload_n 0, 1) := by decide +kernel
theorem dX11_line_65 : decode cX11_line 65 = .ok (.getfield 30, 3) := by decide +kernel
theorem dX11_line_68 : decode cX11_line 68 = .ok (.iaload, 1) := by decide +kernel
theorem dX11_line_69 : decode cX11_line 69 = .ok (.iconst 3, 1) := by decide +kernel
theorem dX11_line_70 : decode cX11_line 70 = .ok (.if_icmp .ge 16, 3) := by decide +kernel
theorem dX11_line_73 : decode cX11_line 73 = .ok (.aload_n 1, 1) := by decide +kernel
theorem dX11_line_74 : decode cX11_line 74 = .ok (.ldc 50, 2) := by decide +kernel
theorem dX11_line_76 : decode cX11_line 76 = .ok (.invokevirtual 42, 3) := by decide +kernel
theorem dX11_line_79 : decode cX11_line 79 = .ok (.ifCond .eq 7, 3) := by decide +kernel
theorem dX11_line_82 : decode cX11_line 82 = .ok (.iconst 1, 1) := by decide +kernel
theorem dX11_line_83 : decode cX11_line 83 = .ok (.goto 4, 3) := by decide +kernel
theorem dX11_line_86 : decode cX11_line 86 = .ok (.iconst 0, 1) := by decide +kernel
theorem dX11_line_87 : decode cX11_line 87 = .ok (.istore_n 2, 1) := by decide +kernel
theorem dX11_line_88 : decode cX11_line 88 = .ok (.goto (-68), 3) := by decide +kernel
theorem dX11_line_91 : decode cX11_line 91 = .ok (.return_, 1) := by decide +kernel
def lX11_line_20 (a0 : Nat) (a1 : Nat) (σ8 : St) (x9 : Int32) : Option ((St × Int32) ⊕ ((St) ⊕ (Nat × St))) :=
  if x9 = 0 then
    some (.inr (.inl σ8))
  else
  o_gR σ8 a0 8 2 fun r10 =>
  o_gI σ8 a0 8 0 fun x11 =>
  o_aR σ8 r10 10 x11 fun r12 =>
  o_gR σ8 a0 8 3 fun r13 =>
  o_gI σ8 a0 8 0 fun x14 =>
  o_aI σ8 r13 0 x14 fun x15 =>
  o_k σ8 a1 4 <|
  (fX6_test σ8 a1).bind <| xsl fun r17 σ16 =>
  o_sR σ16 r12 9 x15 r17 fun σ18 =>
  o_gR σ18 a0 8 3 fun r19 =>
  o_gI σ18 a0 8 0 fun x20 =>
  o_aI σ18 r19 0 x20 fun x21 =>
  o_sI σ18 r19 0 x20 (x21 + 1) fun σ22 =>
  o_gR σ22 a0 8 3 fun r23 =>
  o_gI σ22 a0 8 0 fun x24 =>
  o_aI σ22 r23 0 x24 fun x25 =>
  jn (fun (σ29 : St) (x30 : Int32) =>
    some (.inl (σ29, x30))) fun j87 =>
  jn (fun (σ28 : St) =>
    j87 σ28 0) fun j86 =>
  if 3 ≤ x25 then
    j86 σ22
  else
  o_k σ22 a1 4 <|
  (fX6_skips σ22 a1 7).bind <| un2 fun x26 σ27 =>
  if x26 = 0 then
    j86 σ27
  else
  j87 σ27 1

def fX11_line (σ : St) (a0 : Nat) (a1 : Nat) : Option (Rx Unit) :=
  o_gR σ a0 8 1 fun r1 =>
  o_gI σ a0 8 0 fun x2 =>
  o_k σ a1 4 <|
  (fX6_act σ a1).bind <| xs fun r4 σ3 =>
  o_sR σ3 r1 5 x2 r4 fun σ5 =>
  o_k σ5 a1 4 <|
  (fX6_skips σ5 a1 6).bind <| un2 fun x6 σ7 =>
  (loopF 4 (fun z => lX11_line_20 a0 a1 z.1 z.2) (σ7, x6)).bind <| sm (  fun σ31 =>
    some (.inl ((), σ31))) <| fun p9 => some (.inr p9)

set_option maxHeartbeats 4000000 in
theorem wX11_line {l : Launch} {s0 : State} {A0 : Array Value} {D : va_G} {ac : Nat → ClassId} (G : Gl s0 A0 D ac) {σ : St} {a0 : Nat} {a1 : Nat} {res : Rx Unit} (hf : fX11_line σ a0 a1 = some res) : MetX l yX11_line (ws_ yX11_line cX11_line 3 none) ({ frames := 7, cells := 19, slots := 111, locals := 152 } : Room) (Pn s0 D ac [.ref a0, .ref a1] σ) (Qx s0 D ac (resO kV res) (resS res)) 19 111 (fr s0) := by
  refine x_metX (by decide) (Nat.le_of_ble_eq_true rfl) ?_
  intro p e s m args below meth c ls C hno h hl
  have C : Cx s0 p s m args meth c cX11_line 3 "HutForShow$Habit" none := C
  have hx := C.1
  have hb := C.2.1
  have hl : lv_has ls 3 [(0, .ref a0), (1, .ref a1)] := hl
  unfold fX11_line at hf
  refine lv_aload_n hx hb dX11_line_0 rfl (lv_at hl 0 rfl) ?_
  refine x_gR (q := (RX11, TY11, 5)) (j := 1) G C h rfl (by decide) (fun _ _ _ => rfl) (lk C q528) (fun _ z => z) dX11_line_1 hf (fun r1 hf => ?_)
  refine lv_aload_n hx hb dX11_line_4 rfl (lv_at hl 0 rfl) ?_
  refine x_gI (q := (RX11, TY11, 5)) (j := 0) G C h rfl (by decide) (fun _ _ _ => rfl) (lk C q532) (sf_X11 C) dX11_line_5 hf (fun x2 hf => ?_)
  refine lv_aload_n hx hb dX11_line_8 rfl (lv_at hl 1 rfl) ?_
  obtain ⟨hk, hf⟩ := k_of hf
  obtain ⟨rx, hc, hf⟩ := hf_b hf
  refine x_cVX (q := (RX6, TX6, 4)) (rest := [.int x2, .ref r1]) (As := []) (n := 0) (kA := kR) G C hno h (wX6_act G hc) hk rfl q580 q581 q582 q60 q583 (by decide +kernel) ⟨Nat.le_of_ble_eq_true rfl, Nat.le_of_ble_eq_true rfl⟩ rfl rfl rfl hl.1 rfl (Nat.le_of_ble_eq_true rfl) dX11_line_9 ⟨(Nat.le_of_ble_eq_true rfl), (Nat.le_of_ble_eq_true rfl)⟩ ⟨(Nat.le_of_ble_eq_true rfl), (Nat.le_of_ble_eq_true rfl)⟩ (fun x9 σ9 he => by subst he; cases hf; rfl) (fun r4 σ3 H locs h he => ?_)
  subst he
  have hf := hf_xs hf
  refine x_aast G C h dX11_line_12 hf (fun σ5 H locs h hf => ?_)
  refine lv_aload_n hx hb dX11_line_13 rfl (lv_at hl 1 rfl) ?_
  refine x_ldcS (i := 6) G C (by decide) rfl rfl dX11_line_14 ?_
  obtain ⟨hk, hf⟩ := k_of hf
  obtain ⟨⟨x6, σ7⟩, hc, hf⟩ := hf_b hf
  have hf := hf_u2 hf
  refine x_cV (q := (RX6, TX6, 4)) (rest := []) (As := [.ref (sA s0 6)]) (n := 1) (ov := (some (.int x6))) G C h (wX6_skips G hc) hk rfl (lw_V q743 q586 q587 q60 q588) (by decide +kernel) ⟨Nat.le_of_ble_eq_true rfl, Nat.le_of_ble_eq_true rfl⟩ rfl rfl rfl hl.1 rfl (Nat.le_of_ble_eq_true rfl) dX11_line_16 ⟨(Nat.le_of_ble_eq_true rfl), (Nat.le_of_ble_eq_true rfl)⟩ (fun H locs h => ?_)
  refine lv_istore_n (lv' := [(2, .int x6), (0, .ref a0), (1, .ref a1)]) hx hb dX11_line_19 rfl hl (by decide) rfl (fun ls hl => ?_)
  obtain ⟨e20, hL, hK⟩ := hf_b hf
  have hE20_0 : ∀ (σ31 : St), (.inl σ31) = e20 → ∀  (H : Heap) (locs : List Loc) (ls : Array Slot), Hs s0 D ac σ31 H locs → lv_has ls 3 [(0, .ref a0), (1, .ref a1)] → W p l e ({ frames := 7, cells := 19, slots := 111, locals := 152 } : Room) s m args below meth c H locs 19 111 (MQX below (Qx s0 D ac (resO kV res) (resS res)) args s 19 111 (fr s0)) (F0 m 91 ls []) := by
    intro σ31 he H locs ls h hl
    subst he
    have hf := hK
    have hf := hf_sl hf
    cases hf
    refine W.widen (k := 19) (n := 111) (Nat.le_of_ble_eq_true rfl) (Nat.le_of_ble_eq_true rfl) ?_
    exact x_vretX C h dX11_line_91
  have hT20 : ∀ (x9 : Nat) (σ9 : St), (.inr (x9, σ9)) = e20 → res = .inr (x9, σ9) := by
    intro x9 σ9 he
    subst he
    have hf := hK
    have hf := hf_sr hf
    cases hf
    rfl
  refine loopF_indN (P := fun n9 z => ∀ (H : Heap) (locs : List Loc) (ls : Array Slot) (kc ks : Nat), kc + n9 * 4 ≤ 19 → ks + n9 * 24 ≤ 111 → Hs s0 D ac (z.1) H locs → lv_has ls 3 [(0, .ref a0), (1, .ref a1), (2, .int z.2)] → W p l e ({ frames := 7, cells := 19, slots := 111, locals := 152 } : Room) s m args below meth c H locs kc ks (MQX below (Qx s0 D ac (resO kV res) (resS res)) args s 19 111 (fr s0)) (F0 m 20 ls [])) ?_ _ _ hL _ _ _ 3 15 (by decide) (by decide) h (lv_sub hl [1, 2, 0] rfl)
  clear hK hL h hl hf
  intro n9 z o hf ih hX H locs ls kc ks hkc hks h hl
  obtain ⟨σ8, x9⟩ := z
  have h : Hs s0 D ac σ8 H locs := h
  have hl : lv_has ls 3 [(0, .ref a0), (1, .ref a1), (2, .int x9)] := hl
  have hf : lX11_line_20 a0 a1 σ8 x9 = some o := hf
  unfold lX11_line_20 at hf
  refine lv_iload_n hx hb dX11_line_20 rfl (lv_at hl 2 rfl) ?_
  refine lv_if_eq (tgt := 91) hx hb dX11_line_21 (by decide) (fun hc => ?_) (fun hc => ?_)
  · have hf := hf_t hc hf
    cases hf
    refine W.widen (k := 19) (n := 111) (by omega) (by omega) ?_
    exact hE20_0 _ (hX _ rfl) _ _ _ h (lv_sub hl [0, 1] rfl)
  · have hf := hf_f hc hf
    refine lv_aload_n hx hb dX11_line_24 rfl (lv_at hl 0 rfl) ?_
    refine x_gR (q := (RX11, TY11, 5)) (j := 2) G C h rfl (by decide) (fun _ _ _ => rfl) (lk C q529) (fun _ z => z) dX11_line_25 hf (fun r10 hf => ?_)
    refine lv_aload_n hx hb dX11_line_28 rfl (lv_at hl 0 rfl) ?_
    refine x_gI (q := (RX11, TY11, 5)) (j := 0) G C h rfl (by decide) (fun _ _ _ => rfl) (lk C q532) (sf_X11 C) dX11_line_29 hf (fun x11 hf => ?_)
    refine x_aald (q := 10) rfl rfl (fun _ _ _ => rfl) G C h dX11_line_32 hf (fun r12 hf => ?_)
    refine lv_aload_n hx hb dX11_line_33 rfl (lv_at hl 0 rfl) ?_
    refine x_gR (q := (RX11, TY11, 5)) (j := 3) G C h rfl (by decide) (fun _ _ _ => rfl) (lk C q530) (fun _ z => z) dX11_line_34 hf (fun r13 hf => ?_)
    refine lv_aload_n hx hb dX11_line_37 rfl (lv_at hl 0 rfl) ?_
    refine x_gI (q := (RX11, TY11, 5)) (j := 0) G C h rfl (by decide) (fun _ _ _ => rfl) (lk C q532) (sf_X11 C) dX11_line_38 hf (fun x14 hf => ?_)
    refine x_iald G C h dX11_line_41 hf (fun x15 hf => ?_)
    refine lv_aload_n hx hb dX11_line_42 rfl (lv_at hl 1 rfl) ?_
    obtain ⟨hk, hf⟩ := k_of hf
    obtain ⟨rx, hc, hf⟩ := hf_b hf
    refine x_cVX (q := (RX6, TX6, 4)) (rest := [.int x15, .ref r12]) (As := []) (n := 0) (kA := kR) G C hno h (wX6_test G hc) hk rfl q744 q745 q746 q60 q747 (by decide +kernel) ⟨Nat.le_of_ble_eq_true rfl, Nat.le_of_ble_eq_true rfl⟩ rfl rfl rfl hl.1 rfl (Nat.le_of_ble_eq_true rfl) dX11_line_43 ⟨(by show _ ≤ 19; omega), (by show _ ≤ 111; omega)⟩ ⟨(by show _ ≤ 19; omega), (by show _ ≤ 111; omega)⟩ (fun x9 σ9 he => hT20 x9 σ9 (hX _ (by subst he; exact (Option.some.inj hf).symm))) (fun r17 σ16 H locs h he => ?_)
    subst he
    have hf := hf_xsl hf
    refine x_aast G C h dX11_line_46 hf (fun σ18 H locs h hf => ?_)
    refine lv_aload_n hx hb dX11_line_47 rfl (lv_at hl 0 rfl) ?_
    refine x_gR (q := (RX11, TY11, 5)) (j := 3) G C h rfl (by decide) (fun _ _ _ => rfl) (lk C q530) (fun _ z => z) dX11_line_48 hf (fun r19 hf => ?_)
    refine lv_aload_n hx hb dX11_line_51 rfl (lv_at hl 0 rfl) ?_
    refine x_gI (q := (RX11, TY11, 5)) (j := 0) G C h rfl (by decide) (fun _ _ _ => rfl) (lk C q532) (sf_X11 C) dX11_line_52 hf (fun x20 hf => ?_)
    refine lv_dup2_11 hx hb dX11_line_55 rfl rfl ?_
    refine x_iald G C h dX11_line_56 hf (fun x21 hf => ?_)
    refine lv_iconst (v := 1) hx hb dX11_line_57 (by decide) ?_
    refine lv_iadd hx hb dX11_line_58 ?_
    refine x_iast G C h dX11_line_59 hf (fun σ22 H locs h hf => ?_)
    refine lv_aload_n hx hb dX11_line_60 rfl (lv_at hl 0 rfl) ?_
    refine x_gR (q := (RX11, TY11, 5)) (j := 3) G C h rfl (by decide) (fun _ _ _ => rfl) (lk C q530) (fun _ z => z) dX11_line_61 hf (fun r23 hf => ?_)
    refine lv_aload_n hx hb dX11_line_64 rfl (lv_at hl 0 rfl) ?_
    refine x_gI (q := (RX11, TY11, 5)) (j := 0) G C h rfl (by decide) (fun _ _ _ => rfl) (lk C q532) (sf_X11 C) dX11_line_65 hf (fun x24 hf => ?_)
    refine x_iald G C h dX11_line_68 hf (fun x25 hf => ?_)
    refine lv_iconst (v := 3) hx hb dX11_line_69 (by decide) ?_
    refine jn_of (P := fun j => ∀ (σ29 : St) (x30 : Int32), j σ29 x30 = some o → ∀ (H : Heap) (locs : List Loc) (ls : Array Slot), Hs s0 D ac σ29 H locs → lv_has ls 3 [(0, .ref a0), (1, .ref a1), (2, .int x9)] → W p l e ({ frames := 7, cells := 19, slots := 111, locals := 152 } : Room) s m args below meth c H locs (kc + 4) (ks + 24) (MQX below (Qx s0 D ac (resO kV res) (resS res)) args s 19 111 (fr s0)) (F0 m 87 ls [.int x30])) hf ?_ ?_
    · intro σ29 x30 hf H locs ls h hl
      refine lv_istore_n (lv' := [(2, .int x30), (0, .ref a0), (1, .ref a1)]) hx hb dX11_line_87 rfl hl (by decide) rfl (fun ls hl => ?_)
      refine lv_goto (tgt := 20) hx hb dX11_line_88 (by decide) ?_
      cases hf
      exact ih _ rfl _ _ _ _ _ (by omega) (by omega) h (lv_sub hl [1, 2, 0] rfl)
    intro j87 hj87 hf
    refine jn_of (P := fun j => ∀ (σ28 : St), j σ28 = some o → ∀ (H : Heap) (locs : List Loc) (ls : Array Slot), Hs s0 D ac σ28 H locs → lv_has ls 3 [(0, .ref a0), (1, .ref a1), (2, .int x9)] → W p l e ({ frames := 7, cells := 19, slots := 111, locals := 152 } : Room) s m args below meth c H locs (kc + 4) (ks + 24) (MQX below (Qx s0 D ac (resO kV res) (resS res)) args s 19 111 (fr s0)) (F0 m 86 ls [])) hf ?_ ?_
    · intro σ28 hf H locs ls h hl
      refine lv_iconst (v := 0) hx hb dX11_line_86 (by decide) ?_
      refine W.widen (k := kc + 4) (n := ks + 24) (by omega) (by omega) ?_
      exact hj87 _ _ hf _ _ _ h (lv_sub hl [0, 1, 2] rfl)
    intro j86 hj86 hf
    refine lv_icmp_ge (tgt := 86) hx hb dX11_line_70 (by decide) (fun hc => ?_) (fun hc => ?_)
    · have hf := hf_t hc hf
      refine W.widen (k := kc + 4) (n := ks + 24) (by omega) (by omega) ?_
      exact hj86 _ hf _ _ _ h (lv_sub hl [0, 1, 2] rfl)
    · have hf := hf_f hc hf
      refine lv_aload_n hx hb dX11_line_73 rfl (lv_at hl 1 rfl) ?_
      refine x_ldcS (i := 7) G C (by decide) rfl rfl dX11_line_74 ?_
      obtain ⟨hk, hf⟩ := k_of hf
      obtain ⟨⟨x26, σ27⟩, hc, hf⟩ := hf_b hf
      have hf := hf_u2 hf
      refine x_cV (q := (RX6, TX6, 4)) (rest := []) (As := [.ref (sA s0 7)]) (n := 1) (ov := (some (.int x26))) G C h (wX6_skips G hc) hk rfl (lw_V q743 q586 q587 q60 q588) (by decide +kernel) ⟨Nat.le_of_ble_eq_true rfl, Nat.le_of_ble_eq_true rfl⟩ rfl rfl rfl hl.1 rfl (Nat.le_of_ble_eq_true rfl) dX11_line_76 ⟨(by show _ ≤ 19; omega), (by show _ ≤ 111; omega)⟩ (fun H locs h => ?_)
      refine lv_if_eq (tgt := 86) hx hb dX11_line_79 (by decide) (fun hc => ?_) (fun hc => ?_)
      · have hf := hf_t hc hf
        refine W.widen (k := kc + 4) (n := ks + 24) (by omega) (by omega) ?_
        exact hj86 _ hf _ _ _ h (lv_sub hl [0, 1, 2] rfl)
      · have hf := hf_f hc hf
        refine lv_iconst (v := 1) hx hb dX11_line_82 (by decide) ?_
        refine lv_goto (tgt := 87) hx hb dX11_line_83 (by decide) ?_
        refine W.widen (k := kc + 4) (n := ks + 24) (by omega) (by omega) ?_
        exact hj87 _ _ hf _ _ _ h (lv_sub hl [0, 1, 2] rfl)

theorem dX17_line_0 : decode cX17_line 0 = .ok (.aload_n 1, 1) := by decide +kernel
theorem dX17_line_1 : decode cX17_line 1 = .ok (.ldc 19, 2) := by decide +kernel
theorem dX17_line_3 : decode cX17_line 3 = .ok (.invokevirtual 21, 3) := by decide +kernel
theorem dX17_line_6 : decode cX17_line 6 = .ok (.ifCond .eq 16, 3) := by decide +kernel
theorem dX17_line_9 : decode cX17_line 9 = .ok (.aload_n 0, 1) := by decide +kernel
theorem dX17_line_10 : decode cX17_line 10 = .ok (.aload_n 1, 1) := by decide +kernel
theorem dX17_line_11 : decode cX17_line 11 = .ok (.bipush 99, 2) := by decide +kernel
theorem dX17_line_13 : decode cX17_line 13 = .ok (.invokevirtual 27, 3) := by decide +kernel
theorem dX17_line_16 : decode cX17_line 16 = .ok (.putfield 31, 3) := by decide +kernel
theorem dX17_line_19 : decode cX17_line 19 = .ok (.goto 97, 3) := by decide +kernel
theorem dX17_line_22 : decode cX17_line 22 = .ok (.aload_n 1, 1) := by decide +kernel
theorem dX17_line_23 : decode cX17_line 23 = .ok (.ldc 34, 2) := by decide +kernel
theorem dX17_line_25 : decode cX17_line 25 = .ok (.invokevirtual 21, 3) := by decide +kernel
theorem dX17_line_28 : decode cX17_line 28 = .ok (.ifCond .eq 24, 3) := by decide +kernel
theorem dX17_line_31 : decode cX17_line 31 = .ok (.aload_n 1, 1) := by decide +kernel
theorem dX17_line_32 : decode cX17_line 32 = .ok (.iconst 3, 1) := by decide +kernel
theorem dX17_line_33 : decode cX17_line 33 = .ok (.invokevirtual 27, 3) := by decide +kernel
theorem dX17_line_36 : decode cX17_line 36 = .ok (.istore_n 2, 1) := by decide +kernel
theorem dX17_line_37 : decode cX17_line 37 = .ok (.aload_n 0, 1) := by decide +kernel
theorem dX17_line_38 : decode cX17_line 38 = .ok (.getfield 15, 3) := by decide +kernel
theorem dX17_line_41 : decode cX17_line 41 = .ok (.iload_n 2, 1) := by decide +kernel
theorem dX17_line_42 : decode cX17_line 42 = .ok (.aload_n 1, 1) := by decide +kernel
theorem dX17_line_43 : decode cX17_line 43 = .ok (.bipush 99, 2) := by decide +kernel
theorem dX17_line_45 : decode cX17_line 45 = .ok (.invokevirtual 27, 3) := by decide +kernel
theorem dX17_line_48 : decode cX17_line 48 = .ok (.iastore, 1) := by decide +kernel
theorem dX17_line_49 : decode cX17_line 49 = .ok (.goto 67, 3) := by decide +kernel
theorem dX17_line_52 : decode cX17_line 52 = .ok (.aload_n 1, 1) := by decide +kernel
theorem dX17_line_53 : decode cX17_line 53 = .ok (.ldc 36, 2) := by decide +kernel
theorem dX17_line_55 : decode cX17_line 55 = .ok (.invokevirtual 21, 3) := by decide +kernel
theorem dX17_line_58 : decode cX17_line 58 = .ok (.ifCond .eq 16, 3) := by decide +kernel
theorem dX17_line_61 : decode cX17_line 61 = .ok (.aload_n 0, 1) := by decide +kernel
theorem dX17_line_62 : decode cX17_line 62 = .ok (.aload_n 1, 1) := by decide +kernel
theorem dX17_line_63 : decode cX17_line 63 = .ok (.bipush 99, 2) := by decide +kernel
theorem dX17_line_65 : decode cX17_line 65 = .ok (.invokevirtual 27, 3) := by decide +kernel
theorem dX17_line_68 : decode cX17_line 68 = .ok (.putfield 38, 3) := by decide +kernel
theorem dX17_line_71 : decode cX17_line 71 = .ok (.goto 45, 3) := by decide +kernel
theorem dX17_line_74 : decode cX17_line 74 = .ok (.aload_n 1, 1) := by decide +kernel
theorem dX17_line_75 : decode cX17_line 75 = .ok (.ldc 40, 2) := by decide +kernel
theorem dX17_line_77 : decode cX17_line 77 = .ok (.invokevirtual 21, 3) := by decide +kernel
theorem dX17_line_80 : decode cX17_line 80 = .ok (.ifCond .eq 16, 3) := by decide +kernel
theorem dX17_line_83 : decode cX17_line 83 = .ok (.aload_n 0, 1) := by decide +kernel
theorem dX17_line_84 : decode cX17_line 84 = .ok (.aload_n 1, 1) := by decide +kernel
theorem dX17_line_85 : decode cX17_line 85 = .ok (.bipush 99, 2) := by decide +kernel
theorem dX17_line_87 : decode cX17_line 87 = .ok (.invokevirtual 27, 3) := by decide +kernel
theorem dX17_line_90 : decode cX17_line 90 = .ok (.putfield 42, 3) := by decide +kernel
theorem dX17_line_93 : decode cX17_line 93 = .ok (.goto 23, 3) := by decide +kernel
theorem dX17_line_96 : decode cX17_line 96 = .ok (.aload_n 1, 1) := by decide +kernel
theorem dX17_line_97 : decode cX17_line 97 = .ok (.aload_n 1, 1) := by decide +kernel
theorem dX17_line_98 : decode cX17_line 98 = .ok (.ldc 44, 2) := by decide +kernel
theorem dX17_line_100 : decode cX17_line 100 = .ok (.invokevirtual 21, 3) := by decide +kernel
theorem dX17_line_103 : decode cX17_line 103 = .ok (.invokevirtual 46, 3) := by decide +kernel
theorem dX17_line_106 : decode cX17_line 106 = .ok (.aload_n 0, 1) := by decide +kernel
theorem dX17_line_107 : decode cX17_line 107 = .ok (.aload_n 1, 1) := by decide +kernel
theorem dX17_line_108 : decode cX17_line 108 = .ok (.bipush 99, 2) := by decide +kernel
theorem dX17_line_110 : decode cX17_line 110 = .ok (.invokevirtual 27, 3) := by decide +kernel
theorem dX17_line_113 : decode cX17_line 113 = .ok (.putfield 50, 3) := by decide +kernel
theorem dX17_line_116 : decode cX17_line 116 = .ok (.return_, 1) := by decide +kernel
def fX17_line (σ : St) (a0 : Nat) (a1 : Nat) : Option (Rx Unit) :=
  o_k σ a1 4 <|
  (fX6_skips σ a1 9).bind <| un2 fun x1 σ2 =>
  if x1 = 0 then
    o_k σ2 a1 4 <|
    (fX6_skips σ2 a1 10).bind <| un2 fun x3 σ4 =>
    if x3 = 0 then
      o_k σ4 a1 4 <|
      (fX6_skips σ4 a1 11).bind <| un2 fun x5 σ6 =>
      if x5 = 0 then
        o_k σ6 a1 4 <|
        (fX6_skips σ6 a1 12).bind <| un2 fun x7 σ8 =>
        if x7 = 0 then
          o_k σ8 a1 4 <|
          (fX6_skips σ8 a1 13).bind <| un2 fun x9 σ10 =>
          o_k σ10 a1 4 <|
          (fX6_need σ10 a1 x9).bind <| xs fun _ σ11 =>
          o_k σ11 a1 4 <|
          (fX6_number σ11 a1 99).bind <| xs fun x13 σ12 =>
          o_pI σ12 a0 14 5 x13 fun σ14 =>
          some (.inl ((), σ14))
        else
        o_k σ8 a1 4 <|
        (fX6_number σ8 a1 99).bind <| xs fun x16 σ15 =>
        o_pI σ15 a0 14 4 x16 fun σ17 =>
        some (.inl ((), σ17))
      else
      o_k σ6 a1 4 <|
      (fX6_number σ6 a1 99).bind <| xs fun x19 σ18 =>
      o_pI σ18 a0 14 3 x19 fun σ20 =>
      some (.inl ((), σ20))
    else
    o_k σ4 a1 4 <|
    (fX6_number σ4 a1 3).bind <| xs fun x22 σ21 =>
    o_gR σ21 a0 14 2 fun r23 =>
    o_k σ21 a1 4 <|
    (fX6_number σ21 a1 99).bind <| xs fun x25 σ24 =>
    o_sI σ24 r23 0 x22 x25 fun σ26 =>
    some (.inl ((), σ26))
  else
  o_k σ2 a1 4 <|
  (fX6_number σ2 a1 99).bind <| xs fun x28 σ27 =>
  o_pI σ27 a0 14 1 x28 fun σ29 =>
  some (.inl ((), σ29))

set_option maxHeartbeats 4000000 in
theorem wX17_line {l : Launch} {s0 : State} {A0 : Array Value} {D : va_G} {ac : Nat → ClassId} (G : Gl s0 A0 D ac) {σ : St} {a0 : Nat} {a1 : Nat} {res : Rx Unit} (hf : fX17_line σ a0 a1 = some res) : MetX l yX17_line (ws_ yX17_line cX17_line 3 none) ({ frames := 6, cells := 2, slots := 14, locals := 130 } : Room) (Pn s0 D ac [.ref a0, .ref a1] σ) (Qx s0 D ac (resO kV res) (resS res)) 2 14 (fr s0) := by
  refine x_metX (by decide) (Nat.le_of_ble_eq_true rfl) ?_
  intro p e s m args below meth c ls C hno h hl
  have C : Cx s0 p s m args meth c cX17_line 3 "HutForShow$Taste" none := C
  have hx := C.1
  have hb := C.2.1
  have hl : lv_has ls 3 [(0, .ref a0), (1, .ref a1)] := hl
  unfold fX17_line at hf
  refine lv_aload_n hx hb dX17_line_0 rfl (lv_at hl 1 rfl) ?_
  refine x_ldcS (i := 9) G C (by decide) rfl rfl dX17_line_1 ?_
  obtain ⟨hk, hf⟩ := k_of hf
  obtain ⟨⟨x1, σ2⟩, hc, hf⟩ := hf_b hf
  have hf := hf_u2 hf
  refine x_cV (q := (RX6, TX6, 4)) (rest := []) (As := [.ref (sA s0 9)]) (n := 1) (ov := (some (.int x1))) G C h (wX6_skips G hc) hk rfl (lw_V q772 q586 q587 q60 q588) (by decide +kernel) ⟨Nat.le_of_ble_eq_true rfl, Nat.le_of_ble_eq_true rfl⟩ rfl rfl rfl hl.1 rfl (Nat.le_of_ble_eq_true rfl) dX17_line_3 ⟨(Nat.le_of_ble_eq_true rfl), (Nat.le_of_ble_eq_true rfl)⟩ (fun H locs h => ?_)
  refine lv_if_eq (tgt := 22) hx hb dX17_line_6 (by decide) (fun hc => ?_) (fun hc => ?_)
  · have hf := hf_t hc hf
    refine lv_aload_n hx hb dX17_line_22 rfl (lv_at hl 1 rfl) ?_
    refine x_ldcS (i := 10) G C (by decide) rfl rfl dX17_line_23 ?_
    obtain ⟨hk, hf⟩ := k_of hf
    obtain ⟨⟨x3, σ4⟩, hc, hf⟩ := hf_b hf
    have hf := hf_u2 hf
    refine x_cV (q := (RX6, TX6, 4)) (rest := []) (As := [.ref (sA s0 10)]) (n := 1) (ov := (some (.int x3))) G C h (wX6_skips G hc) hk rfl (lw_V q772 q586 q587 q60 q588) (by decide +kernel) ⟨Nat.le_of_ble_eq_true rfl, Nat.le_of_ble_eq_true rfl⟩ rfl rfl rfl hl.1 rfl (Nat.le_of_ble_eq_true rfl) dX17_line_25 ⟨(Nat.le_of_ble_eq_true rfl), (Nat.le_of_ble_eq_true rfl)⟩ (fun H locs h => ?_)
    refine lv_if_eq (tgt := 52) hx hb dX17_line_28 (by decide) (fun hc => ?_) (fun hc => ?_)
    · have hf := hf_t hc hf
      refine lv_aload_n hx hb dX17_line_52 rfl (lv_at hl 1 rfl) ?_
      refine x_ldcS (i := 11) G C (by decide) rfl rfl dX17_line_53 ?_
      obtain ⟨hk, hf⟩ := k_of hf
      obtain ⟨⟨x5, σ6⟩, hc, hf⟩ := hf_b hf
      have hf := hf_u2 hf
      refine x_cV (q := (RX6, TX6, 4)) (rest := []) (As := [.ref (sA s0 11)]) (n := 1) (ov := (some (.int x5))) G C h (wX6_skips G hc) hk rfl (lw_V q772 q586 q587 q60 q588) (by decide +kernel) ⟨Nat.le_of_ble_eq_true rfl, Nat.le_of_ble_eq_true rfl⟩ rfl rfl rfl hl.1 rfl (Nat.le_of_ble_eq_true rfl) dX17_line_55 ⟨(Nat.le_of_ble_eq_true rfl), (Nat.le_of_ble_eq_true rfl)⟩ (fun H locs h => ?_)
      refine lv_if_eq (tgt := 74) hx hb dX17_line_58 (by decide) (fun hc => ?_) (fun hc => ?_)
      · have hf := hf_t hc hf
        refine lv_aload_n hx hb dX17_line_74 rfl (lv_at hl 1 rfl) ?_
        refine x_ldcS (i := 12) G C (by decide) rfl rfl dX17_line_75 ?_
        obtain ⟨hk, hf⟩ := k_of hf
        obtain ⟨⟨x7, σ8⟩, hc, hf⟩ := hf_b hf
        have hf := hf_u2 hf
        refine x_cV (q := (RX6, TX6, 4)) (rest := []) (As := [.ref (sA s0 12)]) (n := 1) (ov := (some (.int x7))) G C h (wX6_skips G hc) hk rfl (lw_V q772 q586 q587 q60 q588) (by decide +kernel) ⟨Nat.le_of_ble_eq_true rfl, Nat.le_of_ble_eq_true rfl⟩ rfl rfl rfl hl.1 rfl (Nat.le_of_ble_eq_true rfl) dX17_line_77 ⟨(Nat.le_of_ble_eq_true rfl), (Nat.le_of_ble_eq_true rfl)⟩ (fun H locs h => ?_)
        refine lv_if_eq (tgt := 96) hx hb dX17_line_80 (by decide) (fun hc => ?_) (fun hc => ?_)
        · have hf := hf_t hc hf
          refine lv_aload_n hx hb dX17_line_96 rfl (lv_at hl 1 rfl) ?_
          refine lv_aload_n hx hb dX17_line_97 rfl (lv_at hl 1 rfl) ?_
          refine x_ldcS (i := 13) G C (by decide) rfl rfl dX17_line_98 ?_
          obtain ⟨hk, hf⟩ := k_of hf
          obtain ⟨⟨x9, σ10⟩, hc, hf⟩ := hf_b hf
          have hf := hf_u2 hf
          refine x_cV (q := (RX6, TX6, 4)) (rest := [.ref a1]) (As := [.ref (sA s0 13)]) (n := 1) (ov := (some (.int x9))) G C h (wX6_skips G hc) hk rfl (lw_V q772 q586 q587 q60 q588) (by decide +kernel) ⟨Nat.le_of_ble_eq_true rfl, Nat.le_of_ble_eq_true rfl⟩ rfl rfl rfl hl.1 rfl (Nat.le_of_ble_eq_true rfl) dX17_line_100 ⟨(Nat.le_of_ble_eq_true rfl), (Nat.le_of_ble_eq_true rfl)⟩ (fun H locs h => ?_)
          obtain ⟨hk, hf⟩ := k_of hf
          obtain ⟨rx, hc, hf⟩ := hf_b hf
          refine x_cVX (q := (RX6, TX6, 4)) (rest := []) (As := [.int x9]) (n := 1) (kA := kV) G C hno h (wX6_need G hc) hk rfl q778 q660 q661 q60 q662 (by decide +kernel) ⟨Nat.le_of_ble_eq_true rfl, Nat.le_of_ble_eq_true rfl⟩ rfl rfl rfl hl.1 rfl (Nat.le_of_ble_eq_true rfl) dX17_line_103 ⟨(Nat.le_of_ble_eq_true rfl), (Nat.le_of_ble_eq_true rfl)⟩ ⟨(Nat.le_of_ble_eq_true rfl), (Nat.le_of_ble_eq_true rfl)⟩ (fun x9 σ9 he => by subst he; cases hf; rfl) (fun _ σ11 H locs h he => ?_)
          subst he
          have hf := hf_xs hf
          refine lv_aload_n hx hb dX17_line_106 rfl (lv_at hl 0 rfl) ?_
          refine lv_aload_n hx hb dX17_line_107 rfl (lv_at hl 1 rfl) ?_
          refine lv_bipush (v := 99) hx hb dX17_line_108 (by decide) ?_
          obtain ⟨hk, hf⟩ := k_of hf
          obtain ⟨rx, hc, hf⟩ := hf_b hf
          refine x_cVX (q := (RX6, TX6, 4)) (rest := [.ref a0]) (As := [.int 99]) (n := 1) (kA := kI) G C hno h (wX6_number G hc) hk rfl q773 q730 q731 q60 q732 (by decide +kernel) ⟨Nat.le_of_ble_eq_true rfl, Nat.le_of_ble_eq_true rfl⟩ rfl rfl rfl hl.1 rfl (Nat.le_of_ble_eq_true rfl) dX17_line_110 ⟨(Nat.le_of_ble_eq_true rfl), (Nat.le_of_ble_eq_true rfl)⟩ ⟨(Nat.le_of_ble_eq_true rfl), (Nat.le_of_ble_eq_true rfl)⟩ (fun x9 σ9 he => by subst he; cases hf; rfl) (fun x13 σ12 H locs h he => ?_)
          subst he
          have hf := hf_xs hf
          refine x_pI (q := (RX17, TY17, 7)) (j := 5) G C h rfl (by decide) rfl (lk C q798) (fun _ z => z) (Or.inl rfl) dX17_line_113 hf (fun σ14 H locs h hf => ?_)
          cases hf
          refine W.widen (k := 2) (n := 14) (Nat.le_of_ble_eq_true rfl) (Nat.le_of_ble_eq_true rfl) ?_
          exact x_vretX C h dX17_line_116
        · have hf := hf_f hc hf
          refine lv_aload_n hx hb dX17_line_83 rfl (lv_at hl 0 rfl) ?_
          refine lv_aload_n hx hb dX17_line_84 rfl (lv_at hl 1 rfl) ?_
          refine lv_bipush (v := 99) hx hb dX17_line_85 (by decide) ?_
          obtain ⟨hk, hf⟩ := k_of hf
          obtain ⟨rx, hc, hf⟩ := hf_b hf
          refine x_cVX (q := (RX6, TX6, 4)) (rest := [.ref a0]) (As := [.int 99]) (n := 1) (kA := kI) G C hno h (wX6_number G hc) hk rfl q773 q730 q731 q60 q732 (by decide +kernel) ⟨Nat.le_of_ble_eq_true rfl, Nat.le_of_ble_eq_true rfl⟩ rfl rfl rfl hl.1 rfl (Nat.le_of_ble_eq_true rfl) dX17_line_87 ⟨(Nat.le_of_ble_eq_true rfl), (Nat.le_of_ble_eq_true rfl)⟩ ⟨(Nat.le_of_ble_eq_true rfl), (Nat.le_of_ble_eq_true rfl)⟩ (fun x9 σ9 he => by subst he; cases hf; rfl) (fun x16 σ15 H locs h he => ?_)
          subst he
          have hf := hf_xs hf
          refine x_pI (q := (RX17, TY17, 7)) (j := 4) G C h rfl (by decide) rfl (lk C q797) (fun _ z => z) (Or.inl rfl) dX17_line_90 hf (fun σ17 H locs h hf => ?_)
          refine lv_goto (tgt := 116) hx hb dX17_line_93 (by decide) ?_
          cases hf
          refine W.widen (k := 2) (n := 14) (Nat.le_of_ble_eq_true rfl) (Nat.le_of_ble_eq_true rfl) ?_
          exact x_vretX C h dX17_line_116
      · have hf := hf_f hc hf
        refine lv_aload_n hx hb dX17_line_61 rfl (lv_at hl 0 rfl) ?_
        refine lv_aload_n hx hb dX17_line_62 rfl (lv_at hl 1 rfl) ?_
        refine lv_bipush (v := 99) hx hb dX17_line_63 (by decide) ?_
        obtain ⟨hk, hf⟩ := k_of hf
        obtain ⟨rx, hc, hf⟩ := hf_b hf
        refine x_cVX (q := (RX6, TX6, 4)) (rest := [.ref a0]) (As := [.int 99]) (n := 1) (kA := kI) G C hno h (wX6_number G hc) hk rfl q773 q730 q731 q60 q732 (by decide +kernel) ⟨Nat.le_of_ble_eq_true rfl, Nat.le_of_ble_eq_true rfl⟩ rfl rfl rfl hl.1 rfl (Nat.le_of_ble_eq_true rfl) dX17_line_65 ⟨(Nat.le_of_ble_eq_true rfl), (Nat.le_of_ble_eq_true rfl)⟩ ⟨(Nat.le_of_ble_eq_true rfl), (Nat.le_of_ble_eq_true rfl)⟩ (fun x9 σ9 he => by subst he; cases hf; rfl) (fun x19 σ18 H locs h he => ?_)
        subst he
        have hf := hf_xs hf
        refine x_pI (q := (RX17, TY17, 7)) (j := 3) G C h rfl (by decide) rfl (lk C q796) (fun _ z => z) (Or.inl rfl) dX17_line_68 hf (fun σ20 H locs h hf => ?_)
        refine lv_goto (tgt := 116) hx hb dX17_line_71 (by decide) ?_
        cases hf
        refine W.widen (k := 2) (n := 14) (Nat.le_of_ble_eq_true rfl) (Nat.le_of_ble_eq_true rfl) ?_
        exact x_vretX C h dX17_line_116
    · have hf := hf_f hc hf
      refine lv_aload_n hx hb dX17_line_31 rfl (lv_at hl 1 rfl) ?_
      refine lv_iconst (v := 3) hx hb dX17_line_32 (by decide) ?_
      obtain ⟨hk, hf⟩ := k_of hf
      obtain ⟨rx, hc, hf⟩ := hf_b hf
      refine x_cVX (q := (RX6, TX6, 4)) (rest := []) (As := [.int 3]) (n := 1) (kA := kI) G C hno h (wX6_number G hc) hk rfl q773 q730 q731 q60 q732 (by decide +kernel) ⟨Nat.le_of_ble_eq_true rfl, Nat.le_of_ble_eq_true rfl⟩ rfl rfl rfl hl.1 rfl (Nat.le_of_ble_eq_true rfl) dX17_line_33 ⟨(Nat.le_of_ble_eq_true rfl), (Nat.le_of_ble_eq_true rfl)⟩ ⟨(Nat.le_of_ble_eq_true rfl), (Nat.le_of_ble_eq_true rfl)⟩ (fun x9 σ9 he => by subst he; cases hf; rfl) (fun x22 σ21 H locs h he => ?_)
      subst he
      have hf := hf_xs hf
      refine lv_istore_n (lv' := [(2, .int x22), (0, .ref a0), (1, .ref a1)]) hx hb dX17_line_36 rfl hl (by decide) rfl (fun ls hl => ?_)
      refine lv_aload_n hx hb dX17_line_37 rfl (lv_at hl 1 rfl) ?_
      refine x_gR (q := (RX17, TY17, 7)) (j := 2) G C h rfl (by decide) (fun _ _ _ => rfl) (lk C q795) (fun _ z => z) dX17_line_38 hf (fun r23 hf => ?_)
      refine lv_iload_n hx hb dX17_line_41 rfl (lv_at hl 0 rfl) ?_
      refine lv_aload_n hx hb dX17_line_42 rfl (lv_at hl 2 rfl) ?_
      refine lv_bipush (v := 99) hx hb dX17_line_43 (by decide) ?_
      obtain ⟨hk, hf⟩ := k_of hf
      obtain ⟨rx, hc, hf⟩ := hf_b hf
      refine x_cVX (q := (RX6, TX6, 4)) (rest := [.int x22, .ref r23]) (As := [.int 99]) (n := 1) (kA := kI) G C hno h (wX6_number G hc) hk rfl q773 q730 q731 q60 q732 (by decide +kernel) ⟨Nat.le_of_ble_eq_true rfl, Nat.le_of_ble_eq_true rfl⟩ rfl rfl rfl hl.1 rfl (Nat.le_of_ble_eq_true rfl) dX17_line_45 ⟨(Nat.le_of_ble_eq_true rfl), (Nat.le_of_ble_eq_true rfl)⟩ ⟨(Nat.le_of_ble_eq_true rfl), (Nat.le_of_ble_eq_true rfl)⟩ (fun x9 σ9 he => by subst he; cases hf; rfl) (fun x25 σ24 H locs h he => ?_)
      subst he
      have hf := hf_xs hf
      refine x_iast G C h dX17_line_48 hf (fun σ26 H locs h hf => ?_)
      refine lv_goto (tgt := 116) hx hb dX17_line_49 (by decide) ?_
      cases hf
      refine W.widen (k := 2) (n := 14) (Nat.le_of_ble_eq_true rfl) (Nat.le_of_ble_eq_true rfl) ?_
      exact x_vretX C h dX17_line_116
  · have hf := hf_f hc hf
    refine lv_aload_n hx hb dX17_line_9 rfl (lv_at hl 0 rfl) ?_
    refine lv_aload_n hx hb dX17_line_10 rfl (lv_at hl 1 rfl) ?_
    refine lv_bipush (v := 99) hx hb dX17_line_11 (by decide) ?_
    obtain ⟨hk, hf⟩ := k_of hf
    obtain ⟨rx, hc, hf⟩ := hf_b hf
    refine x_cVX (q := (RX6, TX6, 4)) (rest := [.ref a0]) (As := [.int 99]) (n := 1) (kA := kI) G C hno h (wX6_number G hc) hk rfl q773 q730 q731 q60 q732 (by decide +kernel) ⟨Nat.le_of_ble_eq_true rfl, Nat.le_of_ble_eq_true rfl⟩ rfl rfl rfl hl.1 rfl (Nat.le_of_ble_eq_true rfl) dX17_line_13 ⟨(Nat.le_of_ble_eq_true rfl), (Nat.le_of_ble_eq_true rfl)⟩ ⟨(Nat.le_of_ble_eq_true rfl), (Nat.le_of_ble_eq_true rfl)⟩ (fun x9 σ9 he => by subst he; cases hf; rfl) (fun x28 σ27 H locs h he => ?_)
    subst he
    have hf := hf_xs hf
    refine x_pI (q := (RX17, TY17, 7)) (j := 1) G C h rfl (by decide) rfl (lk C q794) (fun _ z => z) (Or.inl rfl) dX17_line_16 hf (fun σ29 H locs h hf => ?_)
    refine lv_goto (tgt := 116) hx hb dX17_line_19 (by decide) ?_
    cases hf
    refine W.widen (k := 2) (n := 14) (Nat.le_of_ble_eq_true rfl) (Nat.le_of_ble_eq_true rfl) ?_
    exact x_vretX C h dX17_line_116

theorem dX11_most_0 : decode cX11_most 0 = .ok (.bipush 6, 2) := by decide +kernel
theorem dX11_most_2 : decode cX11_most 2 = .ok (.ireturn, 1) := by decide +kernel
def fX11_most (σ : St) (a0 : Nat) : Option (Int32) :=
  some 6

set_option maxHeartbeats 4000000 in
theorem wX11_most {l : Launch} {s0 : State} {A0 : Array Value} {D : va_G} {ac : Nat → ClassId} (G : Gl s0 A0 D ac) {σ : St} {a0 : Nat} {v : Int32} (hf : fX11_most σ a0 = some (v)) : Met l yX11_most (ws_ yX11_most cX11_most 1 (some (.int))) ({ frames := 0, cells := 0, slots := 0, locals := 0 } : Room) (Pn s0 D ac [.ref a0] σ) (Qn s0 D ac (some (.int v)) σ) 0 0 (fr s0) := by
  refine x_met (by decide) (Nat.le_of_ble_eq_true rfl) ?_
  intro p e s m args below meth c ls C hnm h hl
  have C : Cx s0 p s m args meth c cX11_most 1 "HutForShow$Habit" (some (.int)) := C
  have hx := C.1
  have hb := C.2.1
  have hl : lv_has ls 1 [(0, .ref a0)] := hl
  unfold fX11_most at hf
  refine lv_bipush (v := 6) hx hb dX11_most_0 (by decide) ?_
  cases hf
  refine W.widen (k := 0) (n := 0) (Nat.le_of_ble_eq_true rfl) (Nat.le_of_ble_eq_true rfl) ?_
  exact x_iret C h dX11_most_2

theorem dX17_most_0 : decode cX17_most 0 = .ok (.bipush 8, 2) := by decide +kernel
theorem dX17_most_2 : decode cX17_most 2 = .ok (.ireturn, 1) := by decide +kernel
def fX17_most (σ : St) (a0 : Nat) : Option (Int32) :=
  some 8

set_option maxHeartbeats 4000000 in
theorem wX17_most {l : Launch} {s0 : State} {A0 : Array Value} {D : va_G} {ac : Nat → ClassId} (G : Gl s0 A0 D ac) {σ : St} {a0 : Nat} {v : Int32} (hf : fX17_most σ a0 = some (v)) : Met l yX17_most (ws_ yX17_most cX17_most 1 (some (.int))) ({ frames := 0, cells := 0, slots := 0, locals := 0 } : Room) (Pn s0 D ac [.ref a0] σ) (Qn s0 D ac (some (.int v)) σ) 0 0 (fr s0) := by
  refine x_met (by decide) (Nat.le_of_ble_eq_true rfl) ?_
  intro p e s m args below meth c ls C hnm h hl
  have C : Cx s0 p s m args meth c cX17_most 1 "HutForShow$Taste" (some (.int)) := C
  have hx := C.1
  have hb := C.2.1
  have hl : lv_has ls 1 [(0, .ref a0)] := hl
  unfold fX17_most at hf
  refine lv_bipush (v := 8) hx hb dX17_most_0 (by decide) ?_
  cases hf
  refine W.widen (k := 0) (n := 0) (Nat.le_of_ble_eq_true rfl) (Nat.le_of_ble_eq_true rfl) ?_
  exact x_iret C h dX17_most_2

def vTold_most (σ : St) (b : Nat) : Option (Int32) :=
  if s_k σ b = some (.inl 8) then fX11_most σ b else
  if s_k σ b = some (.inl 14) then fX17_most σ b else
  none
theorem x_vTold_most {p : Program} {l : Launch} {e : Env} {R : Room} {s : State} {m : MethodId} {args : Array Value} {below : List Frame} {meth : Method} {c : Code} {H : Heap} {locs : List Loc} {cells slots : Nat} {Q : State → Prop} {s0 : State} {A0 : Array Value} {D : va_G} {ac : Nat → ClassId} {σ : St} {cc : ByteArray} {nL : Nat} {own : String} {ret : Option FieldType} {pc : Nat} {ls : Array Slot} {rest As st0 : List Value} {idx b : Nat} {v : Int32} (G : Gl s0 A0 D ac) (C : Cx s0 p s m args meth c cc nL own ret) (h : Hs s0 D ac σ H locs) (hc : vTold_most σ b = some v) (hl : Cond.methodLink own idx (⟨"HutForShow$Told", "most", "()I"⟩ : MethodName) ∈ lw_all) (hR : 1 ≤ R.frames ∧ 20 ≤ R.locals) (hsize : ls.size = nL) (hst : st0 = As.reverse ++ .ref b :: rest) (hW : (rest.map fun v => v.category).sum ≤ 8) (hdg : decode cc pc = .ok (.invokevirtual idx, 3)) (hf : cells + 0 ≤ R.cells ∧ slots + 0 ≤ R.slots) (hAs : As = [])
    (kk : ∀ (H : Heap) (locs : List Loc), Hs s0 D ac σ H locs → W p l e R s m args below meth c H locs cells slots Q (F0 m (pc + 3) ls ((some (.int v) : Option Value).toList ++ rest))) : W p l e R s m args below meth c H locs cells slots Q (F0 m pc ls st0) := by
  subst hAs
  unfold vTold_most at hc
  split at hc
  · next hk =>
    exact x_cA (q := (RX11, TY11, 5)) (owner := "HutForShow$Told") (n := 0) G C h (wX11_most G hc) hk rfl hl q782 (va_Decl.abs (va_Nw.warmD C.2.2.2.2.2.2.2 (va_Nw.of rfl (G.1 _ q781)))) q783 q784 q66 q785 (by decide +kernel) ⟨Nat.le_trans (by decide) hR.1, Nat.le_trans (by decide) hR.2⟩ rfl rfl rfl hsize hst hW hdg hf kk
  split at hc
  · next hk =>
    exact x_cA (q := (RX17, TY17, 7)) (owner := "HutForShow$Told") (n := 0) G C h (wX17_most G hc) hk rfl hl q782 (va_Decl.abs (va_Nw.warmD C.2.2.2.2.2.2.2 (va_Nw.of rfl (G.1 _ q781)))) q786 q787 q78 q788 (by decide +kernel) ⟨Nat.le_trans (by decide) hR.1, Nat.le_trans (by decide) hR.2⟩ rfl rfl rfl hsize hst hW hdg hf kk
  cases hc
def vTold_line (σ : St) (b a1 : Nat) : Option (Rx Unit) :=
  if s_k σ b = some (.inl 8) then fX11_line σ b a1 else
  if s_k σ b = some (.inl 14) then fX17_line σ b a1 else
  none
theorem x_vTold_line {p : Program} {l : Launch} {e : Env} {R : Room} {s : State} {m : MethodId} {args : Array Value} {below : List Frame} {meth : Method} {c : Code} {H : Heap} {locs : List Loc} {cells slots : Nat} {s0 : State} {A0 : Array Value} {D : va_G} {ac : Nat → ClassId} {σ : St} {cc : ByteArray} {nL : Nat} {own : String} {ret : Option FieldType} {pc : Nat} {ls : Array Slot} {rest As st0 : List Value} {idx b a1 : Nat} {B : Type} {rx : Rx Unit} {res : Rx B} {kB : B → Option Value} {mcx msx : Nat} (G : Gl s0 A0 D ac) (C : Cx s0 p s m args meth c cc nL own ret) (hno : c.exceptionTable.isEmpty = true) (h : Hs s0 D ac σ H locs) (hc : vTold_line σ b a1 = some rx) (hl : Cond.methodLink own idx (⟨"HutForShow$Told", "line", "(LHutForShow$Reader;)V"⟩ : MethodName) ∈ lw_all) (hR : 8 ≤ R.frames ∧ 174 ≤ R.locals) (hsize : ls.size = nL) (hst : st0 = As.reverse ++ .ref b :: rest) (hW : (rest.map fun v => v.category).sum ≤ 8) (hdg : decode cc pc = .ok (.invokevirtual idx, 3)) (hf : cells + 19 ≤ R.cells ∧ slots + 111 ≤ R.slots) (hw : cells + 19 ≤ mcx ∧ slots + 111 ≤ msx) (hAs : As = [.ref a1]) (ht : ∀ (x9 : Nat) (σ9 : St), rx = .inr (x9, σ9) → res = .inr (x9, σ9))
    (kk : ∀ (v : Unit) (σ : St) (H : Heap) (locs : List Loc), Hs s0 D ac σ H locs → rx = .inl (v, σ) → W p l e R s m args below meth c H locs (cells + 19) (slots + 111) (MQX below (Qx s0 D ac (resO kB res) (resS res)) args s mcx msx (fr s0)) (F0 m (pc + 3) ls ((kV v).toList ++ rest))) : W p l e R s m args below meth c H locs cells slots (MQX below (Qx s0 D ac (resO kB res) (resS res)) args s mcx msx (fr s0)) (F0 m pc ls st0) := by
  subst hAs
  unfold vTold_line at hc
  split at hc
  · next hk =>
    exact x_cAX (q := (RX11, TY11, 5)) (owner := "HutForShow$Told") (n := 1) (kA := kV) G C hno h (wX11_line G hc) hk rfl hl q576 (va_Decl.abs (va_Nw.warmD C.2.2.2.2.2.2.2 (va_Nw.of rfl (G.1 _ q575)))) q577 q578 q66 q579 (by decide +kernel) ⟨Nat.le_trans (by decide) hR.1, Nat.le_trans (by decide) hR.2⟩ rfl rfl rfl hsize hst hW hdg ⟨by have := hf.1; omega, by have := hf.2; omega⟩ ⟨by have := hw.1; omega, by have := hw.2; omega⟩ ht (fun v σ H locs h hp => W.widen (k := cells + 19) (n := slots + 111) (by omega) (by omega) (kk v σ H locs h hp))
  split at hc
  · next hk =>
    exact x_cAX (q := (RX17, TY17, 7)) (owner := "HutForShow$Told") (n := 1) (kA := kV) G C hno h (wX17_line G hc) hk rfl hl q576 (va_Decl.abs (va_Nw.warmD C.2.2.2.2.2.2.2 (va_Nw.of rfl (G.1 _ q575)))) q768 q769 q78 q770 (by decide +kernel) ⟨Nat.le_trans (by decide) hR.1, Nat.le_trans (by decide) hR.2⟩ rfl rfl rfl hsize hst hW hdg ⟨by have := hf.1; omega, by have := hf.2; omega⟩ ⟨by have := hw.1; omega, by have := hw.2; omega⟩ ht (fun v σ H locs h hp => W.widen (k := cells + 19) (n := slots + 111) (by omega) (by omega) (kk v σ H locs h hp))
  cases hc
theorem dX6_read_0 : decode cX6_read 0 = .ok (.aload_n 0, 1) := by decide +kernel
theorem dX6_read_1 : decode cX6_read 1 = .ok (.iconst 0, 1) := by decide +kernel
theorem dX6_read_2 : decode cX6_read 2 = .ok (.putfield 31, 3) := by decide +kernel
theorem dX6_read_5 : decode cX6_read 5 = .ok (.aload_n 0, 1) := by decide +kernel
theorem dX6_read_6 : decode cX6_read 6 = .ok (.invokevirtual 61, 3) := by decide +kernel
theorem dX6_read_9 : decode cX6_read 9 = .ok (.aload_n 1, 1) := by decide +kernel
theorem dX6_read_10 : decode cX6_read 10 = .ok (.aload_n 0, 1) := by decide +kernel
theorem dX6_read_11 : decode cX6_read 11 = .ok (.invokevirtual 116, 3) := by decide +kernel
theorem dX6_read_14 : decode cX6_read 14 = .ok (.aload_n 1, 1) := by decide +kernel
theorem dX6_read_15 : decode cX6_read 15 = .ok (.dup, 1) := by decide +kernel
theorem dX6_read_16 : decode cX6_read 16 = .ok (.getfield 122, 3) := by decide +kernel
theorem dX6_read_19 : decode cX6_read 19 = .ok (.iconst 1, 1) := by decide +kernel
theorem dX6_read_20 : decode cX6_read 20 = .ok (.iadd, 1) := by decide +kernel
theorem dX6_read_21 : decode cX6_read 21 = .ok (.putfield 122, 3) := by decide +kernel
theorem dX6_read_24 : decode cX6_read 24 = .ok (.aload_n 0, 1) := by decide +kernel
theorem dX6_read_25 : decode cX6_read 25 = .ok (.getfield 38, 3) := by decide +kernel
theorem dX6_read_28 : decode cX6_read 28 = .ok (.aload_n 0, 1) := by decide +kernel
theorem dX6_read_29 : decode cX6_read 29 = .ok (.getfield 3, 3) := by decide +kernel
theorem dX6_read_32 : decode cX6_read 32 = .ok (.getfield 35, 3) := by decide +kernel
theorem dX6_read_35 : decode cX6_read 35 = .ok (.if_icmp .ge 54, 3) := by decide +kernel
theorem dX6_read_38 : decode cX6_read 38 = .ok (.aload_n 0, 1) := by decide +kernel
theorem dX6_read_39 : decode cX6_read 39 = .ok (.aload_n 0, 1) := by decide +kernel
theorem dX6_read_40 : decode cX6_read 40 = .ok (.ldc 125, 2) := by decide +kernel
theorem dX6_read_42 : decode cX6_read 42 = .ok (.invokevirtual 57, 3) := by decide +kernel
theorem dX6_read_45 : decode cX6_read 45 = .ok (.ifCond .eq 18, 3) := by decide +kernel
theorem dX6_read_48 : decode cX6_read 48 = .ok (.aload_n 1, 1) := by decide +kernel
theorem dX6_read_49 : decode cX6_read 49 = .ok (.getfield 122, 3) := by decide +kernel
theorem dX6_read_52 : decode cX6_read 52 = .ok (.aload_n 1, 1) := by decide +kernel
theorem dX6_read_53 : decode cX6_read 53 = .ok (.invokevirtual 127, 3) := by decide +kernel
theorem dX6_read_56 : decode cX6_read 56 = .ok (.if_icmp .ge 7, 3) := by decide +kernel
theorem dX6_read_59 : decode cX6_read 59 = .ok (.iconst 1, 1) := by decide +kernel
theorem dX6_read_60 : decode cX6_read 60 = .ok (.goto 4, 3) := by decide +kernel
theorem dX6_read_63 : decode cX6_read 63 = .ok (.iconst 0, 1) := by decide +kernel
theorem dX6_read_64 : decode cX6_read 64 = .ok (.invokevirtual 69, 3) := by decide +kernel
theorem dX6_read_67 : decode cX6_read 67 = .ok (.aload_n 0, 1) := by decide +kernel
theorem dX6_read_68 : decode cX6_read 68 = .ok (.invokevirtual 61, 3) := by decide +kernel
theorem dX6_read_71 : decode cX6_read 71 = .ok (.aload_n 1, 1) := by decide +kernel
theorem dX6_read_72 : decode cX6_read 72 = .ok (.aload_n 0, 1) := by decide +kernel
theorem dX6_read_73 : decode cX6_read 73 = .ok (.invokevirtual 116, 3) := by decide +kernel
theorem dX6_read_76 : decode cX6_read 76 = .ok (.aload_n 1, 1) := by decide +kernel
theorem dX6_read_77 : decode cX6_read 77 = .ok (.dup, 1) := by decide +kernel
theorem dX6_read_78 : decode cX6_read 78 = .ok (.getfield 122, 3) := by decide +kernel
theorem dX6_read_81 : decode cX6_read 81 = .ok (.iconst 1, 1) := by decide +kernel
theorem dX6_read_82 : decode cX6_read 82 = .ok (.iadd, 1) := by decide +kernel
theorem dX6_read_83 : decode cX6_read 83 = .ok (.putfield 122, 3) := by decide +kernel
theorem dX6_read_86 : decode cX6_read 86 = .ok (.goto (-62), 3) := by decide +kernel
theorem dX6_read_89 : decode cX6_read 89 = .ok (.return_, 1) := by decide +kernel
def lX6_read_24 (a0 : Nat) (a1 : Nat) (σ6 : St) : Option ((St) ⊕ ((St) ⊕ (Nat × St))) :=
  o_gI σ6 a0 4 1 fun x7 =>
  o_gR σ6 a0 4 3 fun r8 =>
  o_gI σ6 r8 0 12 fun x9 =>
  if x9 ≤ x7 then
    some (.inr (.inl σ6))
  else
  o_k σ6 a0 4 <|
  (fX6_isWord σ6 a0 21).bind <| un2 fun x10 σ11 =>
  jn (fun (x14 : Int32) =>
    o_k σ11 a0 4 <|
    (fX6_need σ11 a0 x14).bind <| xsl fun _ σ15 =>
    o_k σ15 a0 4 <|
    (fX6_token σ15 a0).bind fun σ16 =>
    (vTold_line σ16 a1 a0).bind <| xsl fun _ σ17 =>
    o_gM σ17 a1 fun x18 =>
    o_pM σ17 a1 (x18 + 1) fun σ19 =>
    some (.inl σ19)) fun j64 =>
  jn (fun (_ : Unit) =>
    j64 0) fun j63 =>
  if x10 = 0 then
    j63 ()
  else
  o_gM σ11 a1 fun x12 =>
  (vTold_most σ11 a1).bind fun x13 =>
  if x13 ≤ x12 then
    j63 ()
  else
  j64 1

def fX6_read (σ : St) (a0 : Nat) (a1 : Nat) : Option (Rx Unit) :=
  o_pI σ a0 4 0 0 fun σ1 =>
  o_k σ1 a0 4 <|
  (fX6_token σ1 a0).bind fun σ2 =>
  (vTold_line σ2 a1 a0).bind <| xs fun _ σ3 =>
  o_gM σ3 a1 fun x4 =>
  o_pM σ3 a1 (x4 + 1) fun σ5 =>
  (loopF 9 (fun z => lX6_read_24 a0 a1 z) σ5).bind <| sm (  fun σ20 =>
    some (.inl ((), σ20))) <| fun p9 => some (.inr p9)

set_option maxHeartbeats 4000000 in
theorem wX6_read {l : Launch} {s0 : State} {A0 : Array Value} {D : va_G} {ac : Nat → ClassId} (G : Gl s0 A0 D ac) {σ : St} {a0 : Nat} {a1 : Nat} {res : Rx Unit} (hf : fX6_read σ a0 a1 = some res) : MetX l yX6_read (ws_ yX6_read cX6_read 2 none) ({ frames := 8, cells := 199, slots := 1173, locals := 174 } : Room) (Pn s0 D ac [.ref a0, .ref a1] σ) (Qx s0 D ac (resO kV res) (resS res)) 199 1173 (fr s0) := by
  refine x_metX (by decide) (Nat.le_of_ble_eq_true rfl) ?_
  intro p e s m args below meth c ls C hno h hl
  have C : Cx s0 p s m args meth c cX6_read 2 "HutForShow$Reader" none := C
  have hx := C.1
  have hb := C.2.1
  have hl : lv_has ls 2 [(0, .ref a0), (1, .ref a1)] := hl
  unfold fX6_read at hf
  refine lv_aload_n hx hb dX6_read_0 rfl (lv_at hl 0 rfl) ?_
  refine lv_iconst (v := 0) hx hb dX6_read_1 (by decide) ?_
  refine x_pI (q := (RX6, TX6, 4)) (j := 0) G C h rfl (by decide) rfl (lk C q176) (fun _ z => z) (Or.inl rfl) dX6_read_2 hf (fun σ1 H locs h hf => ?_)
  refine lv_aload_n hx hb dX6_read_5 rfl (lv_at hl 0 rfl) ?_
  obtain ⟨hk, hf⟩ := k_of hf
  obtain ⟨σ2, hc, hf⟩ := hf_b hf
  refine x_cV (q := (RX6, TX6, 4)) (rest := []) (As := []) (n := 0) (ov := none) G C h (wX6_token G hc) hk rfl (lw_V q561 q563 qs4 q60 q564) (by decide +kernel) ⟨Nat.le_of_ble_eq_true rfl, Nat.le_of_ble_eq_true rfl⟩ rfl rfl rfl hl.1 rfl (Nat.le_of_ble_eq_true rfl) dX6_read_6 ⟨(Nat.le_of_ble_eq_true rfl), (Nat.le_of_ble_eq_true rfl)⟩ (fun H locs h => ?_)
  refine lv_aload_n hx hb dX6_read_9 rfl (lv_at hl 1 rfl) ?_
  refine lv_aload_n hx hb dX6_read_10 rfl (lv_at hl 0 rfl) ?_
  obtain ⟨rx, hc, hf⟩ := hf_b hf
  refine x_vTold_line (rest := []) (As := [.ref a0]) G C hno h hc q574 ⟨Nat.le_of_ble_eq_true rfl, Nat.le_of_ble_eq_true rfl⟩ hl.1 rfl (Nat.le_of_ble_eq_true rfl) dX6_read_11 ⟨(Nat.le_of_ble_eq_true rfl), (Nat.le_of_ble_eq_true rfl)⟩ ⟨(Nat.le_of_ble_eq_true rfl), (Nat.le_of_ble_eq_true rfl)⟩ rfl (fun x9 σ9 he => by subst he; cases hf; rfl) (fun _ σ3 H locs h he => ?_)
  subst he
  have hf := hf_xs hf
  refine lv_aload_n hx hb dX6_read_14 rfl (lv_at hl 1 rfl) ?_
  refine lv_dup hx hb dX6_read_15 rfl ?_
  refine x_gM G C h q534 dX6_read_16 hf (fun x4 hf => ?_)
  refine lv_iconst (v := 1) hx hb dX6_read_19 (by decide) ?_
  refine lv_iadd hx hb dX6_read_20 ?_
  refine x_pM G C h q534 dX6_read_21 hf (fun σ5 H locs h hf => ?_)
  obtain ⟨e24, hL, hK⟩ := hf_b hf
  have hE24_0 : ∀ (σ20 : St), (.inl σ20) = e24 → ∀  (H : Heap) (locs : List Loc) (ls : Array Slot), Hs s0 D ac σ20 H locs → lv_has ls 2 [(0, .ref a0), (1, .ref a1)] → W p l e ({ frames := 8, cells := 199, slots := 1173, locals := 174 } : Room) s m args below meth c H locs 199 1173 (MQX below (Qx s0 D ac (resO kV res) (resS res)) args s 199 1173 (fr s0)) (F0 m 89 ls []) := by
    intro σ20 he H locs ls h hl
    subst he
    have hf := hK
    have hf := hf_sl hf
    cases hf
    refine W.widen (k := 199) (n := 1173) (Nat.le_of_ble_eq_true rfl) (Nat.le_of_ble_eq_true rfl) ?_
    exact x_vretX C h dX6_read_89
  have hT24 : ∀ (x9 : Nat) (σ9 : St), (.inr (x9, σ9)) = e24 → res = .inr (x9, σ9) := by
    intro x9 σ9 he
    subst he
    have hf := hK
    have hf := hf_sr hf
    cases hf
    rfl
  refine loopF_indN (P := fun n9 z => ∀ (H : Heap) (locs : List Loc) (ls : Array Slot) (kc ks : Nat), kc + n9 * 20 ≤ 199 → ks + n9 * 118 ≤ 1173 → Hs s0 D ac z H locs → lv_has ls 2 [(0, .ref a0), (1, .ref a1)] → W p l e ({ frames := 8, cells := 199, slots := 1173, locals := 174 } : Room) s m args below meth c H locs kc ks (MQX below (Qx s0 D ac (resO kV res) (resS res)) args s 199 1173 (fr s0)) (F0 m 24 ls [])) ?_ _ _ hL _ _ _ 19 111 (by decide) (by decide) h (lv_sub hl [0, 1] rfl)
  clear hK hL h hl hf
  intro n9 z o hf ih hX H locs ls kc ks hkc hks h hl
  obtain ⟨σ6, rfl⟩ : ∃ y, y = z := ⟨_, rfl⟩
  have h : Hs s0 D ac σ6 H locs := h
  have hl : lv_has ls 2 [(0, .ref a0), (1, .ref a1)] := hl
  have hf : lX6_read_24 a0 a1 σ6 = some o := hf
  unfold lX6_read_24 at hf
  refine lv_aload_n hx hb dX6_read_24 rfl (lv_at hl 0 rfl) ?_
  refine x_gI (q := (RX6, TX6, 4)) (j := 1) G C h rfl (by decide) (fun _ _ _ => rfl) (lk C q177) (fun _ z => z) dX6_read_25 hf (fun x7 hf => ?_)
  refine lv_aload_n hx hb dX6_read_28 rfl (lv_at hl 0 rfl) ?_
  refine x_gR (q := (RX6, TX6, 4)) (j := 3) G C h rfl (by decide) (fun _ _ _ => rfl) (lk C q179) (fun _ z => z) dX6_read_29 hf (fun r8 hf => ?_)
  refine x_gI (q := (RX0, TX0, 33)) (j := 12) G C h rfl (by decide) (fun _ _ _ => rfl) (lkn G C q220) (fun _ z => z) dX6_read_32 hf (fun x9 hf => ?_)
  refine lv_icmp_ge (tgt := 89) hx hb dX6_read_35 (by decide) (fun hc => ?_) (fun hc => ?_)
  · have hf := hf_t hc hf
    cases hf
    refine W.widen (k := 199) (n := 1173) (by omega) (by omega) ?_
    exact hE24_0 _ (hX _ rfl) _ _ _ h (lv_sub hl [0, 1] rfl)
  · have hf := hf_f hc hf
    refine lv_aload_n hx hb dX6_read_38 rfl (lv_at hl 0 rfl) ?_
    refine lv_aload_n hx hb dX6_read_39 rfl (lv_at hl 0 rfl) ?_
    refine x_ldcS (i := 21) G C (by decide) rfl rfl dX6_read_40 ?_
    obtain ⟨hk, hf⟩ := k_of hf
    obtain ⟨⟨x10, σ11⟩, hc, hf⟩ := hf_b hf
    have hf := hf_u2 hf
    refine x_cV (q := (RX6, TX6, 4)) (rest := [.ref a0]) (As := [.ref (sA s0 21)]) (n := 1) (ov := (some (.int x10))) G C h (wX6_isWord G hc) hk rfl (lw_V q589 q591 qs6 q60 q592) (by decide +kernel) ⟨Nat.le_of_ble_eq_true rfl, Nat.le_of_ble_eq_true rfl⟩ rfl rfl rfl hl.1 rfl (Nat.le_of_ble_eq_true rfl) dX6_read_42 ⟨(by show _ ≤ 199; omega), (by show _ ≤ 1173; omega)⟩ (fun H locs h => ?_)
    refine jn_of (P := fun j => ∀ (x14 : Int32), j x14 = some o → ∀ (H : Heap) (locs : List Loc) (ls : Array Slot), Hs s0 D ac σ11 H locs → lv_has ls 2 [(0, .ref a0), (1, .ref a1)] → W p l e ({ frames := 8, cells := 199, slots := 1173, locals := 174 } : Room) s m args below meth c H locs (kc + 0) (ks + 0) (MQX below (Qx s0 D ac (resO kV res) (resS res)) args s 199 1173 (fr s0)) (F0 m 64 ls [.int x14, .ref a0])) hf ?_ ?_
    · intro x14 hf H locs ls h hl
      obtain ⟨hk, hf⟩ := k_of hf
      obtain ⟨rx, hc, hf⟩ := hf_b hf
      refine x_cVX (q := (RX6, TX6, 4)) (rest := []) (As := [.int x14]) (n := 1) (kA := kV) G C hno h (wX6_need G hc) hk rfl q659 q660 q661 q60 q662 (by decide +kernel) ⟨Nat.le_of_ble_eq_true rfl, Nat.le_of_ble_eq_true rfl⟩ rfl rfl rfl hl.1 rfl (Nat.le_of_ble_eq_true rfl) dX6_read_64 ⟨(by show _ ≤ 199; omega), (by show _ ≤ 1173; omega)⟩ ⟨(by show _ ≤ 199; omega), (by show _ ≤ 1173; omega)⟩ (fun x9 σ9 he => hT24 x9 σ9 (hX _ (by subst he; exact (Option.some.inj hf).symm))) (fun _ σ15 H locs h he => ?_)
      subst he
      have hf := hf_xsl hf
      refine lv_aload_n hx hb dX6_read_67 rfl (lv_at hl 0 rfl) ?_
      obtain ⟨hk, hf⟩ := k_of hf
      obtain ⟨σ16, hc, hf⟩ := hf_b hf
      refine x_cV (q := (RX6, TX6, 4)) (rest := []) (As := []) (n := 0) (ov := none) G C h (wX6_token G hc) hk rfl (lw_V q561 q563 qs4 q60 q564) (by decide +kernel) ⟨Nat.le_of_ble_eq_true rfl, Nat.le_of_ble_eq_true rfl⟩ rfl rfl rfl hl.1 rfl (Nat.le_of_ble_eq_true rfl) dX6_read_68 ⟨(by show _ ≤ 199; omega), (by show _ ≤ 1173; omega)⟩ (fun H locs h => ?_)
      refine lv_aload_n hx hb dX6_read_71 rfl (lv_at hl 1 rfl) ?_
      refine lv_aload_n hx hb dX6_read_72 rfl (lv_at hl 0 rfl) ?_
      obtain ⟨rx, hc, hf⟩ := hf_b hf
      refine x_vTold_line (rest := []) (As := [.ref a0]) G C hno h hc q574 ⟨Nat.le_of_ble_eq_true rfl, Nat.le_of_ble_eq_true rfl⟩ hl.1 rfl (Nat.le_of_ble_eq_true rfl) dX6_read_73 ⟨(by show _ ≤ 199; omega), (by show _ ≤ 1173; omega)⟩ ⟨(by show _ ≤ 199; omega), (by show _ ≤ 1173; omega)⟩ rfl (fun x9 σ9 he => hT24 x9 σ9 (hX _ (by subst he; exact (Option.some.inj hf).symm))) (fun _ σ17 H locs h he => ?_)
      subst he
      have hf := hf_xsl hf
      refine lv_aload_n hx hb dX6_read_76 rfl (lv_at hl 1 rfl) ?_
      refine lv_dup hx hb dX6_read_77 rfl ?_
      refine x_gM G C h q534 dX6_read_78 hf (fun x18 hf => ?_)
      refine lv_iconst (v := 1) hx hb dX6_read_81 (by decide) ?_
      refine lv_iadd hx hb dX6_read_82 ?_
      refine x_pM G C h q534 dX6_read_83 hf (fun σ19 H locs h hf => ?_)
      refine lv_goto (tgt := 24) hx hb dX6_read_86 (by decide) ?_
      cases hf
      exact ih _ rfl _ _ _ _ _ (by omega) (by omega) h (lv_sub hl [0, 1] rfl)
    intro j64 hj64 hf
    refine jn_of (P := fun j => ∀ (u0 : Unit), j u0 = some o → ∀ (H : Heap) (locs : List Loc) (ls : Array Slot), Hs s0 D ac σ11 H locs → lv_has ls 2 [(0, .ref a0), (1, .ref a1)] → W p l e ({ frames := 8, cells := 199, slots := 1173, locals := 174 } : Room) s m args below meth c H locs (kc + 0) (ks + 0) (MQX below (Qx s0 D ac (resO kV res) (resS res)) args s 199 1173 (fr s0)) (F0 m 63 ls [.ref a0])) hf ?_ ?_
    · intro u0 hf H locs ls h hl
      refine lv_iconst (v := 0) hx hb dX6_read_63 (by decide) ?_
      refine W.widen (k := kc + 0) (n := ks + 0) (by omega) (by omega) ?_
      exact hj64 _ hf _ _ _ h (lv_sub hl [0, 1] rfl)
    intro j63 hj63 hf
    refine lv_if_eq (tgt := 63) hx hb dX6_read_45 (by decide) (fun hc => ?_) (fun hc => ?_)
    · have hf := hf_t hc hf
      refine W.widen (k := kc + 0) (n := ks + 0) (by omega) (by omega) ?_
      exact hj63 () hf _ _ _ h (lv_sub hl [0, 1] rfl)
    · have hf := hf_f hc hf
      refine lv_aload_n hx hb dX6_read_48 rfl (lv_at hl 1 rfl) ?_
      refine x_gM G C h q534 dX6_read_49 hf (fun x12 hf => ?_)
      refine lv_aload_n hx hb dX6_read_52 rfl (lv_at hl 1 rfl) ?_
      obtain ⟨x13, hc, hf⟩ := hf_b hf
      refine x_vTold_most (rest := [.int x12, .ref a0]) (As := []) G C h hc q780 ⟨Nat.le_of_ble_eq_true rfl, Nat.le_of_ble_eq_true rfl⟩ hl.1 rfl (Nat.le_of_ble_eq_true rfl) dX6_read_53 ⟨(by show _ ≤ 199; omega), (by show _ ≤ 1173; omega)⟩ rfl (fun H locs h => ?_)
      refine lv_icmp_ge (tgt := 63) hx hb dX6_read_56 (by decide) (fun hc => ?_) (fun hc => ?_)
      · have hf := hf_t hc hf
        refine W.widen (k := kc + 0) (n := ks + 0) (by omega) (by omega) ?_
        exact hj63 () hf _ _ _ h (lv_sub hl [0, 1] rfl)
      · have hf := hf_f hc hf
        refine lv_iconst (v := 1) hx hb dX6_read_59 (by decide) ?_
        refine lv_goto (tgt := 64) hx hb dX6_read_60 (by decide) ?_
        refine W.widen (k := kc + 0) (n := ks + 0) (by omega) (by omega) ?_
        exact hj64 _ hf _ _ _ h (lv_sub hl [0, 1] rfl)

theorem dX17_init_0 : decode cX17_init 0 = .ok (.aload_n 0, 1) := by decide +kernel
theorem dX17_init_1 : decode cX17_init 1 = .ok (.aload_n 1, 1) := by decide +kernel
theorem dX17_init_2 : decode cX17_init 2 = .ok (.putfield 3, 3) := by decide +kernel
theorem dX17_init_5 : decode cX17_init 5 = .ok (.aload_n 0, 1) := by decide +kernel
theorem dX17_init_6 : decode cX17_init 6 = .ok (.aload_n 1, 1) := by decide +kernel
theorem dX17_init_7 : decode cX17_init 7 = .ok (.invokespecial 9, 3) := by decide +kernel
theorem dX17_init_10 : decode cX17_init 10 = .ok (.aload_n 0, 1) := by decide +kernel
theorem dX17_init_11 : decode cX17_init 11 = .ok (.iconst 4, 1) := by decide +kernel
theorem dX17_init_12 : decode cX17_init 12 = .ok (.newarray .int, 2) := by decide +kernel
theorem dX17_init_14 : decode cX17_init 14 = .ok (.putfield 15, 3) := by decide +kernel
theorem dX17_init_17 : decode cX17_init 17 = .ok (.return_, 1) := by decide +kernel
def fX17_init (σ : St) (a0 : Nat) (a1 : Nat) : Option (St) :=
  o_pR σ a0 14 6 (some a1) fun σ1 =>
  (fX10_init σ1 a0 a1).bind fun _ =>
  o_newa σ1 0 4 fun r2 σ3 =>
  o_pR σ3 a0 14 2 (some r2) fun σ4 =>
  some σ4

set_option maxHeartbeats 4000000 in
theorem wX17_init {l : Launch} {s0 : State} {A0 : Array Value} {D : va_G} {ac : Nat → ClassId} (G : Gl s0 A0 D ac) {σ : St} {a0 : Nat} {a1 : Nat} {σ' : St} (hf : fX17_init σ a0 a1 = some (σ')) : Met l yX17_init (ws_ yX17_init cX17_init 2 none) ({ frames := 2, cells := 1, slots := 4, locals := 33 } : Room) (Pn s0 D ac [.ref a0, .ref a1] σ) (Qn s0 D ac none σ') 1 4 (fr s0) := by
  refine x_met (by decide) (Nat.le_of_ble_eq_true rfl) ?_
  intro p e s m args below meth c ls C hnm h hl
  have C : Cx s0 p s m args meth c cX17_init 2 "HutForShow$Taste" none := C
  have hx := C.1
  have hb := C.2.1
  have hl : lv_has ls 2 [(0, .ref a0), (1, .ref a1)] := hl
  unfold fX17_init at hf
  refine lv_aload_n hx hb dX17_init_0 rfl (lv_at hl 0 rfl) ?_
  refine lv_aload_n hx hb dX17_init_1 rfl (lv_at hl 1 rfl) ?_
  refine x_pR (q := (RX17, TY17, 7)) (j := 6) G C h rfl (by decide) rfl (lk C q799) (fun _ z => z) (Or.inr ⟨hnm, rfl⟩) dX17_init_2 hf (fun σ1 H locs h hf => ?_)
  refine lv_aload_n hx hb dX17_init_5 rfl (lv_at hl 0 rfl) ?_
  refine lv_aload_n hx hb dX17_init_6 rfl (lv_at hl 1 rfl) ?_
  obtain ⟨_, hc, hf⟩ := hf_b hf
  refine x_cIN (rest := []) (As := [.ref a1]) (n := 1) (ov := none) G C h (wX10_init G hc) q793 q521 q65 q522 rfl (by decide +kernel) ⟨Nat.le_of_ble_eq_true rfl, Nat.le_of_ble_eq_true rfl⟩ rfl rfl rfl hl.1 rfl (Nat.le_of_ble_eq_true rfl) dX17_init_7 ⟨(Nat.le_of_ble_eq_true rfl), (Nat.le_of_ble_eq_true rfl)⟩ (fun H locs h => ?_)
  refine lv_aload_n hx hb dX17_init_10 rfl (lv_at hl 0 rfl) ?_
  refine lv_iconst (v := 4) hx hb dX17_init_11 (by decide) ?_
  refine x_newa (atype := .int) (q := 0) (N := 4) G C h rfl rfl q165 (by decide) (by decide) (by decide) (Nat.le_of_ble_eq_true rfl) (Nat.le_of_ble_eq_true rfl) dX17_init_12 hf (fun r2 σ3 H h hf => ?_)
  refine x_pR (q := (RX17, TY17, 7)) (j := 2) G C h rfl (by decide) rfl (lk C q795) (fun _ z => z) (Or.inr ⟨hnm, rfl⟩) dX17_init_14 hf (fun σ4 H locs h hf => ?_)
  cases hf
  refine W.widen (k := 1) (n := 4) (Nat.le_of_ble_eq_true rfl) (Nat.le_of_ble_eq_true rfl) ?_
  exact x_vret C h dX17_init_17

theorem dX0_isVisitor_0 : decode cX0_isVisitor 0 = .ok (.iload_n 0, 1) := by decide +kernel
theorem dX0_isVisitor_1 : decode cX0_isVisitor 1 = .ok (.i2l, 1) := by decide +kernel
theorem dX0_isVisitor_2 : decode cX0_isVisitor 2 = .ok (.lconst 0, 1) := by decide +kernel
theorem dX0_isVisitor_3 : decode cX0_isVisitor 3 = .ok (.ldc2_w 152, 3) := by decide +kernel
theorem dX0_isVisitor_6 : decode cX0_isVisitor 6 = .ok (.invokestatic 127, 3) := by decide +kernel
theorem dX0_isVisitor_9 : decode cX0_isVisitor 9 = .ok (.ireturn, 1) := by decide +kernel
def fX0_isVisitor (σ : St) (a0 : Int32) : Option (Int32) :=
  (fX0_isIn σ (a0.toInt64) 0 3).bind fun x1 =>
  o_bz x1 <| some x1

set_option maxHeartbeats 4000000 in
theorem wX0_isVisitor {l : Launch} {s0 : State} {A0 : Array Value} {D : va_G} {ac : Nat → ClassId} (G : Gl s0 A0 D ac) {σ : St} {a0 : Int32} {v : Int32} (hf : fX0_isVisitor σ a0 = some (v)) : Met l yX0_isVisitor (ws_ yX0_isVisitor cX0_isVisitor 1 (some (.boolean))) ({ frames := 1, cells := 0, slots := 0, locals := 25 } : Room) (Pn s0 D ac [.int a0] σ) (Qn s0 D ac (some (.int v)) σ) 0 0 (fr s0) := by
  refine x_met (by decide) (Nat.le_of_ble_eq_true rfl) ?_
  intro p e s m args below meth c ls C hnm h hl
  have C : Cx s0 p s m args meth c cX0_isVisitor 1 "HutForShow" (some (.boolean)) := C
  have hx := C.1
  have hb := C.2.1
  have hl : lv_has ls 1 [(0, .int a0)] := hl
  unfold fX0_isVisitor at hf
  refine lv_iload_n hx hb dX0_isVisitor_0 rfl (lv_at hl 0 rfl) ?_
  refine lv_i2l hx hb dX0_isVisitor_1 rfl ?_
  refine lv_lconst (v := 0) hx hb dX0_isVisitor_2 (by decide) ?_
  refine lv_ldc2 (v := 3) hx hb C.2.2.2.1 (C.2.2.2.2.1 _ q353) dX0_isVisitor_3 ?_
  obtain ⟨x1, hc, hf⟩ := hf_b hf
  refine x_cS (rest := []) (As := [.long (a0.toInt64), .long 0, .long 3]) (n := 3) (ov := (some (.int x1))) C h (wX0_isIn G hc) (lw_S q318 q319 q54 q320) (by decide +kernel) ⟨Nat.le_of_ble_eq_true rfl, Nat.le_of_ble_eq_true rfl⟩ rfl rfl rfl hl.1 rfl (Nat.le_of_ble_eq_true rfl) dX0_isVisitor_6 ⟨(Nat.le_of_ble_eq_true rfl), (Nat.le_of_ble_eq_true rfl)⟩ (fun H locs h => ?_)
  obtain ⟨hz, hf⟩ := bz_of hf
  cases hf
  refine W.widen (k := 0) (n := 0) (Nat.le_of_ble_eq_true rfl) (Nat.le_of_ble_eq_true rfl) ?_
  exact x_zret C h hz dX0_isVisitor_9

theorem dX0_act_0 : decode cX0_act 0 = .ok (.aload_n 0, 1) := by decide +kernel
theorem dX0_act_1 : decode cX0_act 1 = .ok (.iload_n 1, 1) := by decide +kernel
theorem dX0_act_2 : decode cX0_act 2 = .ok (.invokevirtual 145, 3) := by decide +kernel
theorem dX0_act_5 : decode cX0_act 5 = .ok (.ifCond .ne 6, 3) := by decide +kernel
theorem dX0_act_8 : decode cX0_act 8 = .ok (.bipush (-2), 2) := by decide +kernel
theorem dX0_act_10 : decode cX0_act 10 = .ok (.ireturn, 1) := by decide +kernel
theorem dX0_act_11 : decode cX0_act 11 = .ok (.aload_n 0, 1) := by decide +kernel
theorem dX0_act_12 : decode cX0_act 12 = .ok (.getfield 45, 3) := by decide +kernel
theorem dX0_act_15 : decode cX0_act 15 = .ok (.iload_n 1, 1) := by decide +kernel
theorem dX0_act_16 : decode cX0_act 16 = .ok (.invokevirtual 235, 3) := by decide +kernel
theorem dX0_act_19 : decode cX0_act 19 = .ok (.astore_n 2, 1) := by decide +kernel
theorem dX0_act_20 : decode cX0_act 20 = .ok (.aload_n 2, 1) := by decide +kernel
theorem dX0_act_21 : decode cX0_act 21 = .ok (.instanceof 239, 3) := by decide +kernel
theorem dX0_act_24 : decode cX0_act 24 = .ok (.ifCond .eq 16, 3) := by decide +kernel
theorem dX0_act_27 : decode cX0_act 27 = .ok (.bipush 10, 2) := by decide +kernel
theorem dX0_act_29 : decode cX0_act 29 = .ok (.aload_n 2, 1) := by decide +kernel
theorem dX0_act_30 : decode cX0_act 30 = .ok (.checkcast 239, 3) := by decide +kernel
theorem dX0_act_33 : decode cX0_act 33 = .ok (.getfield 241, 3) := by decide +kernel
theorem dX0_act_36 : decode cX0_act 36 = .ok (.iadd, 1) := by decide +kernel
theorem dX0_act_37 : decode cX0_act 37 = .ok (.goto 7, 3) := by decide +kernel
theorem dX0_act_40 : decode cX0_act 40 = .ok (.aload_n 2, 1) := by decide +kernel
theorem dX0_act_41 : decode cX0_act 41 = .ok (.invokevirtual 244, 3) := by decide +kernel
theorem dX0_act_44 : decode cX0_act 44 = .ok (.ireturn, 1) := by decide +kernel
def fX0_act (σ : St) (a0 : Nat) (a1 : Int32) : Option (Int32) :=
  o_k σ a0 0 <|
  (fX0_isHut σ a0 a1).bind fun x1 =>
  if x1 = 0 then
    some ((-2))
  else
  o_gR σ a0 0 7 fun r2 =>
  o_k σ r2 3 <|
  (fX5_actOf σ r2 a1).bind fun r3 =>
  o_inst σ r3 fun x4 =>
  if x4 = 0 then
    (vAct_code σ r3).bind fun x5 =>
    some x5
  else
  o_k σ r3 12 <|
  o_gI σ r3 12 0 fun x6 =>
  some (10 + x6)

set_option maxHeartbeats 4000000 in
theorem wX0_act {l : Launch} {s0 : State} {A0 : Array Value} {D : va_G} {ac : Nat → ClassId} (G : Gl s0 A0 D ac) {σ : St} {a0 : Nat} {a1 : Int32} {v : Int32} (hf : fX0_act σ a0 a1 = some (v)) : Met l yX0_act (ws_ yX0_act cX0_act 3 (some (.int))) ({ frames := 5, cells := 0, slots := 0, locals := 114 } : Room) (Pn s0 D ac [.ref a0, .int a1] σ) (Qn s0 D ac (some (.int v)) σ) 0 0 (fr s0) := by
  refine x_met (by decide) (Nat.le_of_ble_eq_true rfl) ?_
  intro p e s m args below meth c ls C hnm h hl
  have C : Cx s0 p s m args meth c cX0_act 3 "HutForShow" (some (.int)) := C
  have hx := C.1
  have hb := C.2.1
  have hl : lv_has ls 3 [(0, .ref a0), (1, .int a1)] := hl
  unfold fX0_act at hf
  refine lv_aload_n hx hb dX0_act_0 rfl (lv_at hl 0 rfl) ?_
  refine lv_iload_n hx hb dX0_act_1 rfl (lv_at hl 1 rfl) ?_
  obtain ⟨hk, hf⟩ := k_of hf
  obtain ⟨x1, hc, hf⟩ := hf_b hf
  refine x_cV (q := (RX0, TX0, 33)) (rest := []) (As := [.int a1]) (n := 1) (ov := (some (.int x1))) G C h (wX0_isHut G hc) hk rfl (lw_V q338 q340 qs0 q54 q341) (by decide +kernel) ⟨Nat.le_of_ble_eq_true rfl, Nat.le_of_ble_eq_true rfl⟩ rfl rfl rfl hl.1 rfl (Nat.le_of_ble_eq_true rfl) dX0_act_2 ⟨(Nat.le_of_ble_eq_true rfl), (Nat.le_of_ble_eq_true rfl)⟩ (fun H locs h => ?_)
  refine lv_if_ne (tgt := 11) hx hb dX0_act_5 (by decide) (fun hc => ?_) (fun hc => ?_)
  · have hf := hf_f hc hf
    refine lv_aload_n hx hb dX0_act_11 rfl (lv_at hl 0 rfl) ?_
    refine x_gR (q := (RX0, TX0, 33)) (j := 7) G C h rfl (by decide) (fun _ _ _ => rfl) (lk C q213) (fun _ z => z) dX0_act_12 hf (fun r2 hf => ?_)
    refine lv_iload_n hx hb dX0_act_15 rfl (lv_at hl 1 rfl) ?_
    obtain ⟨hk, hf⟩ := k_of hf
    obtain ⟨r3, hc, hf⟩ := hf_b hf
    refine x_cV (q := (RX5, TX5, 9)) (rest := []) (As := [.int a1]) (n := 1) (ov := (some (.ref r3))) G C h (wX5_actOf G hc) hk rfl (lw_V q830 q415 q416 q59 q417) (by decide +kernel) ⟨Nat.le_of_ble_eq_true rfl, Nat.le_of_ble_eq_true rfl⟩ rfl rfl rfl hl.1 rfl (Nat.le_of_ble_eq_true rfl) dX0_act_16 ⟨(Nat.le_of_ble_eq_true rfl), (Nat.le_of_ble_eq_true rfl)⟩ (fun H locs h => ?_)
    refine lv_astore_n (lv' := [(2, .ref r3), (0, .ref a0), (1, .int a1)]) hx hb dX0_act_19 rfl hl (by decide) rfl (fun ls hl => ?_)
    refine lv_aload_n hx hb dX0_act_20 rfl (lv_at hl 0 rfl) ?_
    refine x_inst G C h q831 dX0_act_21 hf (fun x4 hf => ?_)
    refine lv_if_eq (tgt := 40) hx hb dX0_act_24 (by decide) (fun hc => ?_) (fun hc => ?_)
    · have hf := hf_t hc hf
      refine lv_aload_n hx hb dX0_act_40 rfl (lv_at hl 0 rfl) ?_
      obtain ⟨x5, hc, hf⟩ := hf_b hf
      refine x_vAct_code (rest := []) (As := []) G C h hc q832 ⟨Nat.le_of_ble_eq_true rfl, Nat.le_of_ble_eq_true rfl⟩ hl.1 rfl (Nat.le_of_ble_eq_true rfl) dX0_act_41 ⟨(Nat.le_of_ble_eq_true rfl), (Nat.le_of_ble_eq_true rfl)⟩ rfl (fun H locs h => ?_)
      cases hf
      refine W.widen (k := 0) (n := 0) (Nat.le_of_ble_eq_true rfl) (Nat.le_of_ble_eq_true rfl) ?_
      exact x_iret C h dX0_act_44
    · have hf := hf_f hc hf
      refine lv_bipush (v := 10) hx hb dX0_act_27 (by decide) ?_
      refine lv_aload_n hx hb dX0_act_29 rfl (lv_at hl 0 rfl) ?_
      obtain ⟨hk, hf⟩ := k_of hf
      refine x_cast G C h hk q831 dX0_act_30 ?_
      refine x_gI (q := (RX15, TX15, 1)) (j := 0) G C h rfl (by decide) (fun _ _ _ => rfl) (lkn G C q738) (fun _ z => z) dX0_act_33 hf (fun x6 hf => ?_)
      refine lv_iadd hx hb dX0_act_36 ?_
      refine lv_goto (tgt := 44) hx hb dX0_act_37 (by decide) ?_
      cases hf
      refine W.widen (k := 0) (n := 0) (Nat.le_of_ble_eq_true rfl) (Nat.le_of_ble_eq_true rfl) ?_
      exact x_iret C h dX0_act_44
  · have hf := hf_t hc hf
    refine lv_bipush (v := (-2)) hx hb dX0_act_8 (by decide) ?_
    cases hf
    refine W.widen (k := 0) (n := 0) (Nat.le_of_ble_eq_true rfl) (Nat.le_of_ble_eq_true rfl) ?_
    exact x_iret C h dX0_act_10

theorem dX17_worth_0 : decode cX17_worth 0 = .ok (.aload_n 1, 1) := by decide +kernel
theorem dX17_worth_1 : decode cX17_worth 1 = .ok (.getfield 52, 3) := by decide +kernel
theorem dX17_worth_4 : decode cX17_worth 4 = .ok (.iload_n 2, 1) := by decide +kernel
theorem dX17_worth_5 : decode cX17_worth 5 = .ok (.iaload, 1) := by decide +kernel
theorem dX17_worth_6 : decode cX17_worth 6 = .ok (.aload_n 0, 1) := by decide +kernel
theorem dX17_worth_7 : decode cX17_worth 7 = .ok (.getfield 31, 3) := by decide +kernel
theorem dX17_worth_10 : decode cX17_worth 10 = .ok (.imul, 1) := by decide +kernel
theorem dX17_worth_11 : decode cX17_worth 11 = .ok (.istore_n 3, 1) := by decide +kernel
theorem dX17_worth_12 : decode cX17_worth 12 = .ok (.iconst 0, 1) := by decide +kernel
theorem dX17_worth_13 : decode cX17_worth 13 = .ok (.istore 4, 2) := by decide +kernel
theorem dX17_worth_15 : decode cX17_worth 15 = .ok (.iconst 1, 1) := by decide +kernel
theorem dX17_worth_16 : decode cX17_worth 16 = .ok (.istore 5, 2) := by decide +kernel
theorem dX17_worth_18 : decode cX17_worth 18 = .ok (.iconst 0, 1) := by decide +kernel
theorem dX17_worth_19 : decode cX17_worth 19 = .ok (.istore 6, 2) := by decide +kernel
theorem dX17_worth_21 : decode cX17_worth 21 = .ok (.iload 6, 2) := by decide +kernel
theorem dX17_worth_23 : decode cX17_worth 23 = .ok (.aload_n 0, 1) := by decide +kernel
theorem dX17_worth_24 : decode cX17_worth 24 = .ok (.getfield 3, 3) := by decide +kernel
theorem dX17_worth_27 : decode cX17_worth 27 = .ok (.getfield 57, 3) := by decide +kernel
theorem dX17_worth_30 : decode cX17_worth 30 = .ok (.if_icmp .ge 105, 3) := by decide +kernel
theorem dX17_worth_33 : decode cX17_worth 33 = .ok (.aload_n 1, 1) := by decide +kernel
theorem dX17_worth_34 : decode cX17_worth 34 = .ok (.getfield 60, 3) := by decide +kernel
theorem dX17_worth_37 : decode cX17_worth 37 = .ok (.iload 6, 2) := by decide +kernel
theorem dX17_worth_39 : decode cX17_worth 39 = .ok (.iaload, 1) := by decide +kernel
theorem dX17_worth_40 : decode cX17_worth 40 = .ok (.iload_n 2, 1) := by decide +kernel
theorem dX17_worth_41 : decode cX17_worth 41 = .ok (.if_icmp .ne 88, 3) := by decide +kernel
theorem dX17_worth_44 : decode cX17_worth 44 = .ok (.iload_n 3, 1) := by decide +kernel
theorem dX17_worth_45 : decode cX17_worth 45 = .ok (.aload_n 0, 1) := by decide +kernel
theorem dX17_worth_46 : decode cX17_worth 46 = .ok (.getfield 15, 3) := by decide +kernel
theorem dX17_worth_49 : decode cX17_worth 49 = .ok (.aload_n 0, 1) := by decide +kernel
theorem dX17_worth_50 : decode cX17_worth 50 = .ok (.getfield 3, 3) := by decide +kernel
theorem dX17_worth_53 : decode cX17_worth 53 = .ok (.getfield 63, 3) := by decide +kernel
theorem dX17_worth_56 : decode cX17_worth 56 = .ok (.iload 6, 2) := by decide +kernel
theorem dX17_worth_58 : decode cX17_worth 58 = .ok (.aaload, 1) := by decide +kernel
theorem dX17_worth_59 : decode cX17_worth 59 = .ok (.getfield 67, 3) := by decide +kernel
theorem dX17_worth_62 : decode cX17_worth 62 = .ok (.iaload, 1) := by decide +kernel
theorem dX17_worth_63 : decode cX17_worth 63 = .ok (.aload_n 0, 1) := by decide +kernel
theorem dX17_worth_64 : decode cX17_worth 64 = .ok (.getfield 3, 3) := by decide +kernel
theorem dX17_worth_67 : decode cX17_worth 67 = .ok (.getfield 63, 3) := by decide +kernel
theorem dX17_worth_70 : decode cX17_worth 70 = .ok (.iload 6, 2) := by decide +kernel
theorem dX17_worth_72 : decode cX17_worth 72 = .ok (.aaload, 1) := by decide +kernel
theorem dX17_worth_73 : decode cX17_worth 73 = .ok (.getfield 71, 3) := by decide +kernel
theorem dX17_worth_76 : decode cX17_worth 76 = .ok (.aload_n 0, 1) := by decide +kernel
theorem dX17_worth_77 : decode cX17_worth 77 = .ok (.getfield 38, 3) := by decide +kernel
theorem dX17_worth_80 : decode cX17_worth 80 = .ok (.imul, 1) := by decide +kernel
theorem dX17_worth_81 : decode cX17_worth 81 = .ok (.iadd, 1) := by decide +kernel
theorem dX17_worth_82 : decode cX17_worth 82 = .ok (.iadd, 1) := by decide +kernel
theorem dX17_worth_83 : decode cX17_worth 83 = .ok (.istore_n 3, 1) := by decide +kernel
theorem dX17_worth_84 : decode cX17_worth 84 = .ok (.iload 5, 2) := by decide +kernel
theorem dX17_worth_86 : decode cX17_worth 86 = .ok (.ifCond .eq 25, 3) := by decide +kernel
theorem dX17_worth_89 : decode cX17_worth 89 = .ok (.aload_n 0, 1) := by decide +kernel
theorem dX17_worth_90 : decode cX17_worth 90 = .ok (.getfield 3, 3) := by decide +kernel
theorem dX17_worth_93 : decode cX17_worth 93 = .ok (.getfield 63, 3) := by decide +kernel
theorem dX17_worth_96 : decode cX17_worth 96 = .ok (.iload 6, 2) := by decide +kernel
theorem dX17_worth_98 : decode cX17_worth 98 = .ok (.aaload, 1) := by decide +kernel
theorem dX17_worth_99 : decode cX17_worth 99 = .ok (.getfield 71, 3) := by decide +kernel
theorem dX17_worth_102 : decode cX17_worth 102 = .ok (.iload 4, 2) := by decide +kernel
theorem dX17_worth_104 : decode cX17_worth 104 = .ok (.if_icmp .lt 7, 3) := by decide +kernel
theorem dX17_worth_107 : decode cX17_worth 107 = .ok (.iconst 1, 1) := by decide +kernel
theorem dX17_worth_108 : decode cX17_worth 108 = .ok (.goto 4, 3) := by decide +kernel
theorem dX17_worth_111 : decode cX17_worth 111 = .ok (.iconst 0, 1) := by decide +kernel
theorem dX17_worth_112 : decode cX17_worth 112 = .ok (.istore 5, 2) := by decide +kernel
theorem dX17_worth_114 : decode cX17_worth 114 = .ok (.aload_n 0, 1) := by decide +kernel
theorem dX17_worth_115 : decode cX17_worth 115 = .ok (.getfield 3, 3) := by decide +kernel
theorem dX17_worth_118 : decode cX17_worth 118 = .ok (.getfield 63, 3) := by decide +kernel
theorem dX17_worth_121 : decode cX17_worth 121 = .ok (.iload 6, 2) := by decide +kernel
theorem dX17_worth_123 : decode cX17_worth 123 = .ok (.aaload, 1) := by decide +kernel
theorem dX17_worth_124 : decode cX17_worth 124 = .ok (.getfield 71, 3) := by decide +kernel
theorem dX17_worth_127 : decode cX17_worth 127 = .ok (.istore 4, 2) := by decide +kernel
theorem dX17_worth_129 : decode cX17_worth 129 = .ok (.iinc 6 1, 3) := by decide +kernel
theorem dX17_worth_132 : decode cX17_worth 132 = .ok (.goto (-111), 3) := by decide +kernel
theorem dX17_worth_135 : decode cX17_worth 135 = .ok (.iload_n 3, 1) := by decide +kernel
theorem dX17_worth_136 : decode cX17_worth 136 = .ok (.iload 5, 2) := by decide +kernel
theorem dX17_worth_138 : decode cX17_worth 138 = .ok (.ifCond .eq 10, 3) := by decide +kernel
theorem dX17_worth_141 : decode cX17_worth 141 = .ok (.aload_n 0, 1) := by decide +kernel
theorem dX17_worth_142 : decode cX17_worth 142 = .ok (.getfield 42, 3) := by decide +kernel
theorem dX17_worth_145 : decode cX17_worth 145 = .ok (.goto 4, 3) := by decide +kernel
theorem dX17_worth_148 : decode cX17_worth 148 = .ok (.iconst 0, 1) := by decide +kernel
theorem dX17_worth_149 : decode cX17_worth 149 = .ok (.iadd, 1) := by decide +kernel
theorem dX17_worth_150 : decode cX17_worth 150 = .ok (.istore_n 3, 1) := by decide +kernel
theorem dX17_worth_151 : decode cX17_worth 151 = .ok (.iload_n 3, 1) := by decide +kernel
theorem dX17_worth_152 : decode cX17_worth 152 = .ok (.aload_n 0, 1) := by decide +kernel
theorem dX17_worth_153 : decode cX17_worth 153 = .ok (.getfield 50, 3) := by decide +kernel
theorem dX17_worth_156 : decode cX17_worth 156 = .ok (.if_icmp .ge 7, 3) := by decide +kernel
theorem dX17_worth_159 : decode cX17_worth 159 = .ok (.iconst 0, 1) := by decide +kernel
theorem dX17_worth_160 : decode cX17_worth 160 = .ok (.goto 4, 3) := by decide +kernel
theorem dX17_worth_163 : decode cX17_worth 163 = .ok (.iload_n 3, 1) := by decide +kernel
theorem dX17_worth_164 : decode cX17_worth 164 = .ok (.ireturn, 1) := by decide +kernel
def lX17_worth_21 (σ : St) (a0 : Nat) (a1 : Nat) (a2 : Int32) (x4 : Int32) (x5 : Int32) (x6 : Int32) (x7 : Int32) : Option ((Int32 × Int32 × Int32 × Int32) ⊕ (Int32 × Int32)) :=
  o_gR σ a0 14 6 fun r8 =>
  o_gI σ r8 0 5 fun x9 =>
  if x9 ≤ x7 then
    some (.inr (x4, x6))
  else
  o_gR σ a1 3 7 fun r10 =>
  o_aI σ r10 0 x7 fun x11 =>
  jn (fun (x32 : Int32) (x33 : Int32) (x34 : Int32) =>
    some (.inl (x32, x33, x34, x7 + 1))) fun j129 =>
  if x11 = a2 then
    o_gR σ a0 14 2 fun r12 =>
    o_gR σ a0 14 6 fun r13 =>
    o_gR σ r13 0 4 fun r14 =>
    o_aR σ r14 4 x7 fun r15 =>
    o_gI σ r15 7 0 fun x16 =>
    o_aI σ r12 0 x16 fun x17 =>
    o_gR σ a0 14 6 fun r18 =>
    o_gR σ r18 0 4 fun r19 =>
    o_aR σ r19 4 x7 fun r20 =>
    o_gI σ r20 7 1 fun x21 =>
    o_gI σ a0 14 3 fun x22 =>
    jn (fun (x27 : Int32) =>
      o_gR σ a0 14 6 fun r28 =>
      o_gR σ r28 0 4 fun r29 =>
      o_aR σ r29 4 x7 fun r30 =>
      o_gI σ r30 7 1 fun x31 =>
      j129 (x4 + (x17 + (x21 * x22))) x31 x27) fun j112 =>
    jn (fun (_ : Unit) =>
      j112 0) fun j111 =>
    if x6 = 0 then
      j111 ()
    else
    o_gR σ a0 14 6 fun r23 =>
    o_gR σ r23 0 4 fun r24 =>
    o_aR σ r24 4 x7 fun r25 =>
    o_gI σ r25 7 1 fun x26 =>
    if x26 < x5 then
      j111 ()
    else
    j112 1
  else
  j129 x4 x5 x6

def fX17_worth (σ : St) (a0 : Nat) (a1 : Nat) (a2 : Int32) : Option (Int32) :=
  o_gR σ a1 3 1 fun r1 =>
  o_aI σ r1 0 a2 fun x2 =>
  o_gI σ a0 14 1 fun x3 =>
  (loopF fuel (fun z => lX17_worth_21 σ a0 a1 a2 z.1 z.2.1 z.2.2.1 z.2.2.2) (x2 * x3, 0, 1, 0)).bind <| un2 fun x35 x36 =>
  jn (fun (x38 : Int32) =>
    o_gI σ a0 14 5 fun x39 =>
    if x39 ≤ (x35 + x38) then
      some (x35 + x38)
    else
    some 0) fun j149 =>
  if x36 = 0 then
    j149 0
  else
  o_gI σ a0 14 4 fun x37 =>
  j149 x37

set_option maxHeartbeats 4000000 in
theorem wX17_worth {l : Launch} {s0 : State} {A0 : Array Value} {D : va_G} {ac : Nat → ClassId} (G : Gl s0 A0 D ac) {σ : St} {a0 : Nat} {a1 : Nat} {a2 : Int32} {v : Int32} (hf : fX17_worth σ a0 a1 a2 = some (v)) : Met l yX17_worth (ws_ yX17_worth cX17_worth 7 (some (.int))) ({ frames := 0, cells := 0, slots := 0, locals := 0 } : Room) (Pn s0 D ac [.ref a0, .ref a1, .int a2] σ) (Qn s0 D ac (some (.int v)) σ) 0 0 (fr s0) := by
  refine x_met (by decide) (Nat.le_of_ble_eq_true rfl) ?_
  intro p e s m args below meth c ls C hnm h hl
  have C : Cx s0 p s m args meth c cX17_worth 7 "HutForShow$Taste" (some (.int)) := C
  have hx := C.1
  have hb := C.2.1
  have hl : lv_has ls 7 [(0, .ref a0), (1, .ref a1), (2, .int a2)] := hl
  unfold fX17_worth at hf
  refine lv_aload_n hx hb dX17_worth_0 rfl (lv_at hl 1 rfl) ?_
  refine x_gR (q := (RX5, TX5, 9)) (j := 1) G C h rfl (by decide) (fun _ _ _ => rfl) (lkn G C q128) (fun _ z => z) dX17_worth_1 hf (fun r1 hf => ?_)
  refine lv_iload_n hx hb dX17_worth_4 rfl (lv_at hl 2 rfl) ?_
  refine x_iald G C h dX17_worth_5 hf (fun x2 hf => ?_)
  refine lv_aload_n hx hb dX17_worth_6 rfl (lv_at hl 0 rfl) ?_
  refine x_gI (q := (RX17, TY17, 7)) (j := 1) G C h rfl (by decide) (fun _ _ _ => rfl) (lk C q794) (fun _ z => z) dX17_worth_7 hf (fun x3 hf => ?_)
  refine lv_imul hx hb dX17_worth_10 ?_
  refine lv_istore_n (lv' := [(3, .int (x2 * x3)), (0, .ref a0), (1, .ref a1), (2, .int a2)]) hx hb dX17_worth_11 rfl hl (by decide) rfl (fun ls hl => ?_)
  refine lv_iconst (v := 0) hx hb dX17_worth_12 (by decide) ?_
  refine lv_istore (lv' := [(4, .int 0), (3, .int (x2 * x3)), (0, .ref a0), (1, .ref a1), (2, .int a2)]) hx hb dX17_worth_13 hl (by decide) rfl (fun ls hl => ?_)
  refine lv_iconst (v := 1) hx hb dX17_worth_15 (by decide) ?_
  refine lv_istore (lv' := [(5, .int 1), (4, .int 0), (3, .int (x2 * x3)), (0, .ref a0), (1, .ref a1), (2, .int a2)]) hx hb dX17_worth_16 hl (by decide) rfl (fun ls hl => ?_)
  refine lv_iconst (v := 0) hx hb dX17_worth_18 (by decide) ?_
  refine lv_istore (lv' := [(6, .int 0), (5, .int 1), (4, .int 0), (3, .int (x2 * x3)), (0, .ref a0), (1, .ref a1), (2, .int a2)]) hx hb dX17_worth_19 hl (by decide) rfl (fun ls hl => ?_)
  obtain ⟨e21, hL, hK⟩ := hf_b hf
  have hE21_0 : ∀ (x35 : Int32) (x36 : Int32), (x35, x36) = e21 → ∀  (H : Heap) (locs : List Loc) (ls : Array Slot), Hs s0 D ac σ H locs → lv_has ls 7 [(0, .ref a0), (1, .ref a1), (2, .int a2), (3, .int x35), (5, .int x36)] → W p l e ({ frames := 0, cells := 0, slots := 0, locals := 0 } : Room) s m args below meth c H locs 0 0 (MQ below (Qn s0 D ac (some (.int v)) σ) args s 0 0 (fr s0)) (F0 m 135 ls []) := by
    intro x35 x36 he H locs ls h hl
    subst he
    have hf := hK
    have hf := hf_u2 hf
    refine lv_iload_n hx hb dX17_worth_135 rfl (lv_at hl 3 rfl) ?_
    refine lv_iload hx hb dX17_worth_136 (lv_at hl 4 rfl) ?_
    refine jn_of (P := fun j => ∀ (x38 : Int32), j x38 = some (v) → ∀ (H : Heap) (locs : List Loc) (ls : Array Slot), Hs s0 D ac σ H locs → lv_has ls 7 [(0, .ref a0), (1, .ref a1), (2, .int a2), (3, .int x35), (5, .int x36)] → W p l e ({ frames := 0, cells := 0, slots := 0, locals := 0 } : Room) s m args below meth c H locs 0 0 (MQ below (Qn s0 D ac (some (.int v)) σ) args s 0 0 (fr s0)) (F0 m 149 ls [.int x38, .int x35])) hf ?_ ?_
    · intro x38 hf H locs ls h hl
      refine lv_iadd hx hb dX17_worth_149 ?_
      refine lv_istore_n (lv' := [(3, .int (x35 + x38)), (0, .ref a0), (1, .ref a1), (2, .int a2), (5, .int x36)]) hx hb dX17_worth_150 rfl hl (by decide) rfl (fun ls hl => ?_)
      refine lv_iload_n hx hb dX17_worth_151 rfl (lv_at hl 0 rfl) ?_
      refine lv_aload_n hx hb dX17_worth_152 rfl (lv_at hl 1 rfl) ?_
      refine x_gI (q := (RX17, TY17, 7)) (j := 5) G C h rfl (by decide) (fun _ _ _ => rfl) (lk C q798) (fun _ z => z) dX17_worth_153 hf (fun x39 hf => ?_)
      refine lv_icmp_ge (tgt := 163) hx hb dX17_worth_156 (by decide) (fun hc => ?_) (fun hc => ?_)
      · have hf := hf_t hc hf
        refine lv_iload_n hx hb dX17_worth_163 rfl (lv_at hl 0 rfl) ?_
        cases hf
        refine W.widen (k := 0) (n := 0) (Nat.le_of_ble_eq_true rfl) (Nat.le_of_ble_eq_true rfl) ?_
        exact x_iret C h dX17_worth_164
      · have hf := hf_f hc hf
        refine lv_iconst (v := 0) hx hb dX17_worth_159 (by decide) ?_
        refine lv_goto (tgt := 164) hx hb dX17_worth_160 (by decide) ?_
        cases hf
        refine W.widen (k := 0) (n := 0) (Nat.le_of_ble_eq_true rfl) (Nat.le_of_ble_eq_true rfl) ?_
        exact x_iret C h dX17_worth_164
    intro j149 hj149 hf
    refine lv_if_eq (tgt := 148) hx hb dX17_worth_138 (by decide) (fun hc => ?_) (fun hc => ?_)
    · have hf := hf_t hc hf
      refine lv_iconst (v := 0) hx hb dX17_worth_148 (by decide) ?_
      exact hj149 _ hf _ _ _ h (lv_sub hl [0, 1, 2, 3, 4] rfl)
    · have hf := hf_f hc hf
      refine lv_aload_n hx hb dX17_worth_141 rfl (lv_at hl 0 rfl) ?_
      refine x_gI (q := (RX17, TY17, 7)) (j := 4) G C h rfl (by decide) (fun _ _ _ => rfl) (lk C q797) (fun _ z => z) dX17_worth_142 hf (fun x37 hf => ?_)
      refine lv_goto (tgt := 149) hx hb dX17_worth_145 (by decide) ?_
      exact hj149 _ hf _ _ _ h (lv_sub hl [0, 1, 2, 3, 4] rfl)
  refine loopF_ind (P := fun z => ∀ (H : Heap) (locs : List Loc) (ls : Array Slot), Hs s0 D ac σ H locs → lv_has ls 7 [(0, .ref a0), (1, .ref a1), (2, .int a2), (3, .int z.1), (4, .int z.2.1), (5, .int z.2.2.1), (6, .int z.2.2.2)] → W p l e ({ frames := 0, cells := 0, slots := 0, locals := 0 } : Room) s m args below meth c H locs 0 0 (MQ below (Qn s0 D ac (some (.int v)) σ) args s 0 0 (fr s0)) (F0 m 21 ls [])) ?_ _ _ hL _ _ _ h (lv_sub hl [4, 5, 6, 3, 2, 1, 0] rfl)
  clear hK hL h hl hf
  intro z o hf ih hX H locs ls h hl
  obtain ⟨x4, x5, x6, x7⟩ := z
  have h : Hs s0 D ac σ H locs := h
  have hl : lv_has ls 7 [(0, .ref a0), (1, .ref a1), (2, .int a2), (3, .int x4), (4, .int x5), (5, .int x6), (6, .int x7)] := hl
  have hf : lX17_worth_21 σ a0 a1 a2 x4 x5 x6 x7 = some o := hf
  unfold lX17_worth_21 at hf
  refine lv_iload hx hb dX17_worth_21 (lv_at hl 6 rfl) ?_
  refine lv_aload_n hx hb dX17_worth_23 rfl (lv_at hl 0 rfl) ?_
  refine x_gR (q := (RX17, TY17, 7)) (j := 6) G C h rfl (by decide) (fun _ _ _ => rfl) (lk C q799) (fun _ z => z) dX17_worth_24 hf (fun r8 hf => ?_)
  refine x_gI (q := (RX0, TX0, 33)) (j := 5) G C h rfl (by decide) (fun _ _ _ => rfl) (lkn G C q209) (fun _ z => z) dX17_worth_27 hf (fun x9 hf => ?_)
  refine lv_icmp_ge (tgt := 135) hx hb dX17_worth_30 (by decide) (fun hc => ?_) (fun hc => ?_)
  · have hf := hf_t hc hf
    cases hf
    exact hE21_0 _ _ (hX _ rfl) _ _ _ h (lv_sub hl [0, 1, 2, 3, 5] rfl)
  · have hf := hf_f hc hf
    refine lv_aload_n hx hb dX17_worth_33 rfl (lv_at hl 1 rfl) ?_
    refine x_gR (q := (RX5, TX5, 9)) (j := 7) G C h rfl (by decide) (fun _ _ _ => rfl) (lkn G C q143) (fun _ z => z) dX17_worth_34 hf (fun r10 hf => ?_)
    refine lv_iload hx hb dX17_worth_37 (lv_at hl 6 rfl) ?_
    refine x_iald G C h dX17_worth_39 hf (fun x11 hf => ?_)
    refine lv_iload_n hx hb dX17_worth_40 rfl (lv_at hl 2 rfl) ?_
    refine jn_of (P := fun j => ∀ (x32 : Int32) (x33 : Int32) (x34 : Int32), j x32 x33 x34 = some o → ∀ (H : Heap) (locs : List Loc) (ls : Array Slot), Hs s0 D ac σ H locs → lv_has ls 7 [(0, .ref a0), (1, .ref a1), (2, .int a2), (3, .int x32), (4, .int x33), (5, .int x34), (6, .int x7)] → W p l e ({ frames := 0, cells := 0, slots := 0, locals := 0 } : Room) s m args below meth c H locs 0 0 (MQ below (Qn s0 D ac (some (.int v)) σ) args s 0 0 (fr s0)) (F0 m 129 ls [])) hf ?_ ?_
    · intro x32 x33 x34 hf H locs ls h hl
      refine lv_iinc (v := x7 + 1) (lv' := [(6, .int (x7 + 1)), (0, .ref a0), (1, .ref a1), (2, .int a2), (3, .int x32), (4, .int x33), (5, .int x34)]) hx hb dX17_worth_129 hl (k := 6) rfl rfl (by decide) rfl (fun ls hl => ?_)
      refine lv_goto (tgt := 21) hx hb dX17_worth_132 (by decide) ?_
      cases hf
      exact ih _ rfl _ _ _ h (lv_sub hl [1, 2, 3, 4, 5, 6, 0] rfl)
    intro j129 hj129 hf
    refine lv_icmp_ne (tgt := 129) hx hb dX17_worth_41 (by decide) (fun hc => ?_) (fun hc => ?_)
    · have hf := hf_f hc hf
      exact hj129 _ _ _ hf _ _ _ h (lv_sub hl [0, 1, 2, 3, 4, 5, 6] rfl)
    · have hf := hf_t hc hf
      refine lv_iload_n hx hb dX17_worth_44 rfl (lv_at hl 3 rfl) ?_
      refine lv_aload_n hx hb dX17_worth_45 rfl (lv_at hl 0 rfl) ?_
      refine x_gR (q := (RX17, TY17, 7)) (j := 2) G C h rfl (by decide) (fun _ _ _ => rfl) (lk C q795) (fun _ z => z) dX17_worth_46 hf (fun r12 hf => ?_)
      refine lv_aload_n hx hb dX17_worth_49 rfl (lv_at hl 0 rfl) ?_
      refine x_gR (q := (RX17, TY17, 7)) (j := 6) G C h rfl (by decide) (fun _ _ _ => rfl) (lk C q799) (fun _ z => z) dX17_worth_50 hf (fun r13 hf => ?_)
      refine x_gR (q := (RX0, TX0, 33)) (j := 4) G C h rfl (by decide) (fun _ _ _ => rfl) (lkn G C q207) (fun _ z => z) dX17_worth_53 hf (fun r14 hf => ?_)
      refine lv_iload hx hb dX17_worth_56 (lv_at hl 6 rfl) ?_
      refine x_aald (q := 4) rfl rfl (fun _ _ _ => rfl) G C h dX17_worth_58 hf (fun r15 hf => ?_)
      refine x_gI (q := (RX9, TX9, 3)) (j := 0) G C h rfl (by decide) (fun _ _ _ => rfl) (lkn G C q367) (fun _ z => z) dX17_worth_59 hf (fun x16 hf => ?_)
      refine x_iald G C h dX17_worth_62 hf (fun x17 hf => ?_)
      refine lv_aload_n hx hb dX17_worth_63 rfl (lv_at hl 0 rfl) ?_
      refine x_gR (q := (RX17, TY17, 7)) (j := 6) G C h rfl (by decide) (fun _ _ _ => rfl) (lk C q799) (fun _ z => z) dX17_worth_64 hf (fun r18 hf => ?_)
      refine x_gR (q := (RX0, TX0, 33)) (j := 4) G C h rfl (by decide) (fun _ _ _ => rfl) (lkn G C q207) (fun _ z => z) dX17_worth_67 hf (fun r19 hf => ?_)
      refine lv_iload hx hb dX17_worth_70 (lv_at hl 6 rfl) ?_
      refine x_aald (q := 4) rfl rfl (fun _ _ _ => rfl) G C h dX17_worth_72 hf (fun r20 hf => ?_)
      refine x_gI (q := (RX9, TX9, 3)) (j := 1) G C h rfl (by decide) (fun _ _ _ => rfl) (lkn G C q370) (fun _ z => z) dX17_worth_73 hf (fun x21 hf => ?_)
      refine lv_aload_n hx hb dX17_worth_76 rfl (lv_at hl 0 rfl) ?_
      refine x_gI (q := (RX17, TY17, 7)) (j := 3) G C h rfl (by decide) (fun _ _ _ => rfl) (lk C q796) (fun _ z => z) dX17_worth_77 hf (fun x22 hf => ?_)
      refine lv_imul hx hb dX17_worth_80 ?_
      refine lv_iadd hx hb dX17_worth_81 ?_
      refine lv_iadd hx hb dX17_worth_82 ?_
      refine lv_istore_n (lv' := [(3, .int (x4 + (x17 + (x21 * x22)))), (0, .ref a0), (1, .ref a1), (2, .int a2), (4, .int x5), (5, .int x6), (6, .int x7)]) hx hb dX17_worth_83 rfl hl (by decide) rfl (fun ls hl => ?_)
      refine lv_iload hx hb dX17_worth_84 (lv_at hl 5 rfl) ?_
      refine jn_of (P := fun j => ∀ (x27 : Int32), j x27 = some o → ∀ (H : Heap) (locs : List Loc) (ls : Array Slot), Hs s0 D ac σ H locs → lv_has ls 7 [(0, .ref a0), (1, .ref a1), (2, .int a2), (3, .int (x4 + (x17 + (x21 * x22)))), (4, .int x5), (5, .int x6), (6, .int x7)] → W p l e ({ frames := 0, cells := 0, slots := 0, locals := 0 } : Room) s m args below meth c H locs 0 0 (MQ below (Qn s0 D ac (some (.int v)) σ) args s 0 0 (fr s0)) (F0 m 112 ls [.int x27])) hf ?_ ?_
      · intro x27 hf H locs ls h hl
        refine lv_istore (lv' := [(5, .int x27), (0, .ref a0), (1, .ref a1), (2, .int a2), (3, .int (x4 + (x17 + (x21 * x22)))), (4, .int x5), (6, .int x7)]) hx hb dX17_worth_112 hl (by decide) rfl (fun ls hl => ?_)
        refine lv_aload_n hx hb dX17_worth_114 rfl (lv_at hl 1 rfl) ?_
        refine x_gR (q := (RX17, TY17, 7)) (j := 6) G C h rfl (by decide) (fun _ _ _ => rfl) (lk C q799) (fun _ z => z) dX17_worth_115 hf (fun r28 hf => ?_)
        refine x_gR (q := (RX0, TX0, 33)) (j := 4) G C h rfl (by decide) (fun _ _ _ => rfl) (lkn G C q207) (fun _ z => z) dX17_worth_118 hf (fun r29 hf => ?_)
        refine lv_iload hx hb dX17_worth_121 (lv_at hl 6 rfl) ?_
        refine x_aald (q := 4) rfl rfl (fun _ _ _ => rfl) G C h dX17_worth_123 hf (fun r30 hf => ?_)
        refine x_gI (q := (RX9, TX9, 3)) (j := 1) G C h rfl (by decide) (fun _ _ _ => rfl) (lkn G C q370) (fun _ z => z) dX17_worth_124 hf (fun x31 hf => ?_)
        refine lv_istore (lv' := [(4, .int x31), (5, .int x27), (0, .ref a0), (1, .ref a1), (2, .int a2), (3, .int (x4 + (x17 + (x21 * x22)))), (6, .int x7)]) hx hb dX17_worth_127 hl (by decide) rfl (fun ls hl => ?_)
        exact hj129 _ _ _ hf _ _ _ h (lv_sub hl [2, 3, 4, 5, 0, 1, 6] rfl)
      intro j112 hj112 hf
      refine jn_of (P := fun j => ∀ (u0 : Unit), j u0 = some o → ∀ (H : Heap) (locs : List Loc) (ls : Array Slot), Hs s0 D ac σ H locs → lv_has ls 7 [(0, .ref a0), (1, .ref a1), (2, .int a2), (3, .int (x4 + (x17 + (x21 * x22)))), (4, .int x5), (5, .int x6), (6, .int x7)] → W p l e ({ frames := 0, cells := 0, slots := 0, locals := 0 } : Room) s m args below meth c H locs 0 0 (MQ below (Qn s0 D ac (some (.int v)) σ) args s 0 0 (fr s0)) (F0 m 111 ls [])) hf ?_ ?_
      · intro u0 hf H locs ls h hl
        refine lv_iconst (v := 0) hx hb dX17_worth_111 (by decide) ?_
        exact hj112 _ hf _ _ _ h (lv_sub hl [0, 1, 2, 3, 4, 5, 6] rfl)
      intro j111 hj111 hf
      refine lv_if_eq (tgt := 111) hx hb dX17_worth_86 (by decide) (fun hc => ?_) (fun hc => ?_)
      · have hf := hf_t hc hf
        exact hj111 () hf _ _ _ h (lv_sub hl [1, 2, 3, 0, 4, 5, 6] rfl)
      · have hf := hf_f hc hf
        refine lv_aload_n hx hb dX17_worth_89 rfl (lv_at hl 1 rfl) ?_
        refine x_gR (q := (RX17, TY17, 7)) (j := 6) G C h rfl (by decide) (fun _ _ _ => rfl) (lk C q799) (fun _ z => z) dX17_worth_90 hf (fun r23 hf => ?_)
        refine x_gR (q := (RX0, TX0, 33)) (j := 4) G C h rfl (by decide) (fun _ _ _ => rfl) (lkn G C q207) (fun _ z => z) dX17_worth_93 hf (fun r24 hf => ?_)
        refine lv_iload hx hb dX17_worth_96 (lv_at hl 6 rfl) ?_
        refine x_aald (q := 4) rfl rfl (fun _ _ _ => rfl) G C h dX17_worth_98 hf (fun r25 hf => ?_)
        refine x_gI (q := (RX9, TX9, 3)) (j := 1) G C h rfl (by decide) (fun _ _ _ => rfl) (lkn G C q370) (fun _ z => z) dX17_worth_99 hf (fun x26 hf => ?_)
        refine lv_iload hx hb dX17_worth_102 (lv_at hl 4 rfl) ?_
        refine lv_icmp_lt (tgt := 111) hx hb dX17_worth_104 (by decide) (fun hc => ?_) (fun hc => ?_)
        · have hf := hf_t hc hf
          exact hj111 () hf _ _ _ h (lv_sub hl [1, 2, 3, 0, 4, 5, 6] rfl)
        · have hf := hf_f hc hf
          refine lv_iconst (v := 1) hx hb dX17_worth_107 (by decide) ?_
          refine lv_goto (tgt := 112) hx hb dX17_worth_108 (by decide) ?_
          exact hj112 _ hf _ _ _ h (lv_sub hl [1, 2, 3, 0, 4, 5, 6] rfl)

theorem dX0_worthOf_0 : decode cX0_worthOf 0 = .ok (.aload_n 0, 1) := by decide +kernel
theorem dX0_worthOf_1 : decode cX0_worthOf 1 = .ok (.getfield 60, 3) := by decide +kernel
theorem dX0_worthOf_4 : decode cX0_worthOf 4 = .ok (.iload_n 1, 1) := by decide +kernel
theorem dX0_worthOf_5 : decode cX0_worthOf 5 = .ok (.aaload, 1) := by decide +kernel
theorem dX0_worthOf_6 : decode cX0_worthOf 6 = .ok (.ifnonnull 7, 3) := by decide +kernel
theorem dX0_worthOf_9 : decode cX0_worthOf 9 = .ok (.iconst 0, 1) := by decide +kernel
theorem dX0_worthOf_10 : decode cX0_worthOf 10 = .ok (.goto 14, 3) := by decide +kernel
theorem dX0_worthOf_13 : decode cX0_worthOf 13 = .ok (.aload_n 0, 1) := by decide +kernel
theorem dX0_worthOf_14 : decode cX0_worthOf 14 = .ok (.getfield 60, 3) := by decide +kernel
theorem dX0_worthOf_17 : decode cX0_worthOf 17 = .ok (.iload_n 1, 1) := by decide +kernel
theorem dX0_worthOf_18 : decode cX0_worthOf 18 = .ok (.aaload, 1) := by decide +kernel
theorem dX0_worthOf_19 : decode cX0_worthOf 19 = .ok (.aload_n 2, 1) := by decide +kernel
theorem dX0_worthOf_20 : decode cX0_worthOf 20 = .ok (.iload_n 3, 1) := by decide +kernel
theorem dX0_worthOf_21 : decode cX0_worthOf 21 = .ok (.invokevirtual 250, 3) := by decide +kernel
theorem dX0_worthOf_24 : decode cX0_worthOf 24 = .ok (.ireturn, 1) := by decide +kernel
def fX0_worthOf (σ : St) (a0 : Nat) (a1 : Int32) (a2 : Nat) (a3 : Int32) : Option (Int32) :=
  o_gR σ a0 0 10 fun r1 =>
  o_aQ σ r1 7 a1 fun o2 =>
  o_opt o2 (
    some 0) fun _ =>
  o_gR σ a0 0 10 fun r4 =>
  o_aR σ r4 7 a1 fun r5 =>
  o_k σ r5 14 <|
  (fX17_worth σ r5 a2 a3).bind fun x6 =>
  some x6

set_option maxHeartbeats 4000000 in
theorem wX0_worthOf {l : Launch} {s0 : State} {A0 : Array Value} {D : va_G} {ac : Nat → ClassId} (G : Gl s0 A0 D ac) {σ : St} {a0 : Nat} {a1 : Int32} {a2 : Nat} {a3 : Int32} {v : Int32} (hf : fX0_worthOf σ a0 a1 a2 a3 = some (v)) : Met l yX0_worthOf (ws_ yX0_worthOf cX0_worthOf 4 (some (.int))) ({ frames := 1, cells := 0, slots := 0, locals := 26 } : Room) (Pn s0 D ac [.ref a0, .int a1, .ref a2, .int a3] σ) (Qn s0 D ac (some (.int v)) σ) 0 0 (fr s0) := by
  refine x_met (by decide) (Nat.le_of_ble_eq_true rfl) ?_
  intro p e s m args below meth c ls C hnm h hl
  have C : Cx s0 p s m args meth c cX0_worthOf 4 "HutForShow" (some (.int)) := C
  have hx := C.1
  have hb := C.2.1
  have hl : lv_has ls 4 [(0, .ref a0), (1, .int a1), (2, .ref a2), (3, .int a3)] := hl
  unfold fX0_worthOf at hf
  refine lv_aload_n hx hb dX0_worthOf_0 rfl (lv_at hl 0 rfl) ?_
  refine x_gR (q := (RX0, TX0, 33)) (j := 10) G C h rfl (by decide) (fun _ _ _ => rfl) (lk C q217) (fun _ z => z) dX0_worthOf_1 hf (fun r1 hf => ?_)
  refine lv_iload_n hx hb dX0_worthOf_4 rfl (lv_at hl 1 rfl) ?_
  refine x_aaldQ (q := 7) rfl rfl (fun _ _ _ => rfl) G C h dX0_worthOf_5 hf (fun o2 hf => ?_)
  cases o2 with
  | none =>
    refine lv_ifnonnullN hx hb dX0_worthOf_6 ?_
    refine lv_iconst (v := 0) hx hb dX0_worthOf_9 (by decide) ?_
    refine lv_goto (tgt := 24) hx hb dX0_worthOf_10 (by decide) ?_
    cases hf
    refine W.widen (k := 0) (n := 0) (Nat.le_of_ble_eq_true rfl) (Nat.le_of_ble_eq_true rfl) ?_
    exact x_iret C h dX0_worthOf_24
  | some r3 =>
    refine lv_ifnonnull (tgt := 13) hx hb dX0_worthOf_6 (by decide) ?_
    refine lv_aload_n hx hb dX0_worthOf_13 rfl (lv_at hl 0 rfl) ?_
    refine x_gR (q := (RX0, TX0, 33)) (j := 10) G C h rfl (by decide) (fun _ _ _ => rfl) (lk C q217) (fun _ z => z) dX0_worthOf_14 hf (fun r4 hf => ?_)
    refine lv_iload_n hx hb dX0_worthOf_17 rfl (lv_at hl 1 rfl) ?_
    refine x_aald (q := 7) rfl rfl (fun _ _ _ => rfl) G C h dX0_worthOf_18 hf (fun r5 hf => ?_)
    refine lv_aload_n hx hb dX0_worthOf_19 rfl (lv_at hl 2 rfl) ?_
    refine lv_iload_n hx hb dX0_worthOf_20 rfl (lv_at hl 3 rfl) ?_
    obtain ⟨hk, hf⟩ := k_of hf
    obtain ⟨x6, hc, hf⟩ := hf_b hf
    refine x_cV (q := (RX17, TY17, 7)) (rest := []) (As := [.ref a2, .int a3]) (n := 2) (ov := (some (.int x6))) G C h (wX17_worth G hc) hk rfl (lw_V q841 q842 q843 q78 q844) (by decide +kernel) ⟨Nat.le_of_ble_eq_true rfl, Nat.le_of_ble_eq_true rfl⟩ rfl rfl rfl hl.1 rfl (Nat.le_of_ble_eq_true rfl) dX0_worthOf_21 ⟨(Nat.le_of_ble_eq_true rfl), (Nat.le_of_ble_eq_true rfl)⟩ (fun H locs h => ?_)
    cases hf
    refine W.widen (k := 0) (n := 0) (Nat.le_of_ble_eq_true rfl) (Nat.le_of_ble_eq_true rfl) ?_
    exact x_iret C h dX0_worthOf_24

theorem dX0_worth_0 : decode cX0_worth 0 = .ok (.iload_n 1, 1) := by decide +kernel
theorem dX0_worth_1 : decode cX0_worth 1 = .ok (.invokestatic 231, 3) := by decide +kernel
theorem dX0_worth_4 : decode cX0_worth 4 = .ok (.ifCond .eq 24, 3) := by decide +kernel
theorem dX0_worth_7 : decode cX0_worth 7 = .ok (.aload_n 0, 1) := by decide +kernel
theorem dX0_worth_8 : decode cX0_worth 8 = .ok (.iload_n 2, 1) := by decide +kernel
theorem dX0_worth_9 : decode cX0_worth 9 = .ok (.invokevirtual 145, 3) := by decide +kernel
theorem dX0_worth_12 : decode cX0_worth 12 = .ok (.ifCond .eq 16, 3) := by decide +kernel
theorem dX0_worth_15 : decode cX0_worth 15 = .ok (.aload_n 0, 1) := by decide +kernel
theorem dX0_worth_16 : decode cX0_worth 16 = .ok (.iload_n 1, 1) := by decide +kernel
theorem dX0_worth_17 : decode cX0_worth 17 = .ok (.aload_n 0, 1) := by decide +kernel
theorem dX0_worth_18 : decode cX0_worth 18 = .ok (.getfield 45, 3) := by decide +kernel
theorem dX0_worth_21 : decode cX0_worth 21 = .ok (.iload_n 2, 1) := by decide +kernel
theorem dX0_worth_22 : decode cX0_worth 22 = .ok (.invokevirtual 254, 3) := by decide +kernel
theorem dX0_worth_25 : decode cX0_worth 25 = .ok (.goto 5, 3) := by decide +kernel
theorem dX0_worth_28 : decode cX0_worth 28 = .ok (.bipush (-2), 2) := by decide +kernel
theorem dX0_worth_30 : decode cX0_worth 30 = .ok (.ireturn, 1) := by decide +kernel
def fX0_worth (σ : St) (a0 : Nat) (a1 : Int32) (a2 : Int32) : Option (Int32) :=
  (fX0_isVisitor σ a1).bind fun x1 =>
  jn (fun (_ : Unit) =>
    some ((-2))) fun j28 =>
  if x1 = 0 then
    j28 ()
  else
  o_k σ a0 0 <|
  (fX0_isHut σ a0 a2).bind fun x2 =>
  if x2 = 0 then
    j28 ()
  else
  o_gR σ a0 0 7 fun r3 =>
  o_k σ a0 0 <|
  (fX0_worthOf σ a0 a1 r3 a2).bind fun x4 =>
  some x4

set_option maxHeartbeats 4000000 in
theorem wX0_worth {l : Launch} {s0 : State} {A0 : Array Value} {D : va_G} {ac : Nat → ClassId} (G : Gl s0 A0 D ac) {σ : St} {a0 : Nat} {a1 : Int32} {a2 : Int32} {v : Int32} (hf : fX0_worth σ a0 a1 a2 = some (v)) : Met l yX0_worth (ws_ yX0_worth cX0_worth 3 (some (.int))) ({ frames := 2, cells := 0, slots := 0, locals := 49 } : Room) (Pn s0 D ac [.ref a0, .int a1, .int a2] σ) (Qn s0 D ac (some (.int v)) σ) 0 0 (fr s0) := by
  refine x_met (by decide) (Nat.le_of_ble_eq_true rfl) ?_
  intro p e s m args below meth c ls C hnm h hl
  have C : Cx s0 p s m args meth c cX0_worth 3 "HutForShow" (some (.int)) := C
  have hx := C.1
  have hb := C.2.1
  have hl : lv_has ls 3 [(0, .ref a0), (1, .int a1), (2, .int a2)] := hl
  unfold fX0_worth at hf
  refine lv_iload_n hx hb dX0_worth_0 rfl (lv_at hl 1 rfl) ?_
  obtain ⟨x1, hc, hf⟩ := hf_b hf
  refine x_cS (rest := []) (As := [.int a1]) (n := 1) (ov := (some (.int x1))) C h (wX0_isVisitor G hc) (lw_S q823 q824 q54 q825) (by decide +kernel) ⟨Nat.le_of_ble_eq_true rfl, Nat.le_of_ble_eq_true rfl⟩ rfl rfl rfl hl.1 rfl (Nat.le_of_ble_eq_true rfl) dX0_worth_1 ⟨(Nat.le_of_ble_eq_true rfl), (Nat.le_of_ble_eq_true rfl)⟩ (fun H locs h => ?_)
  refine jn_of (P := fun j => ∀ (u0 : Unit), j u0 = some (v) → ∀ (H : Heap) (locs : List Loc) (ls : Array Slot), Hs s0 D ac σ H locs → lv_has ls 3 [(0, .ref a0), (1, .int a1), (2, .int a2)] → W p l e ({ frames := 2, cells := 0, slots := 0, locals := 49 } : Room) s m args below meth c H locs 0 0 (MQ below (Qn s0 D ac (some (.int v)) σ) args s 0 0 (fr s0)) (F0 m 28 ls [])) hf ?_ ?_
  · intro u0 hf H locs ls h hl
    refine lv_bipush (v := (-2)) hx hb dX0_worth_28 (by decide) ?_
    cases hf
    refine W.widen (k := 0) (n := 0) (Nat.le_of_ble_eq_true rfl) (Nat.le_of_ble_eq_true rfl) ?_
    exact x_iret C h dX0_worth_30
  intro j28 hj28 hf
  refine lv_if_eq (tgt := 28) hx hb dX0_worth_4 (by decide) (fun hc => ?_) (fun hc => ?_)
  · have hf := hf_t hc hf
    exact hj28 () hf _ _ _ h (lv_sub hl [0, 1, 2] rfl)
  · have hf := hf_f hc hf
    refine lv_aload_n hx hb dX0_worth_7 rfl (lv_at hl 0 rfl) ?_
    refine lv_iload_n hx hb dX0_worth_8 rfl (lv_at hl 2 rfl) ?_
    obtain ⟨hk, hf⟩ := k_of hf
    obtain ⟨x2, hc, hf⟩ := hf_b hf
    refine x_cV (q := (RX0, TX0, 33)) (rest := []) (As := [.int a2]) (n := 1) (ov := (some (.int x2))) G C h (wX0_isHut G hc) hk rfl (lw_V q338 q340 qs0 q54 q341) (by decide +kernel) ⟨Nat.le_of_ble_eq_true rfl, Nat.le_of_ble_eq_true rfl⟩ rfl rfl rfl hl.1 rfl (Nat.le_of_ble_eq_true rfl) dX0_worth_9 ⟨(Nat.le_of_ble_eq_true rfl), (Nat.le_of_ble_eq_true rfl)⟩ (fun H locs h => ?_)
    refine lv_if_eq (tgt := 28) hx hb dX0_worth_12 (by decide) (fun hc => ?_) (fun hc => ?_)
    · have hf := hf_t hc hf
      exact hj28 () hf _ _ _ h (lv_sub hl [0, 1, 2] rfl)
    · have hf := hf_f hc hf
      refine lv_aload_n hx hb dX0_worth_15 rfl (lv_at hl 0 rfl) ?_
      refine lv_iload_n hx hb dX0_worth_16 rfl (lv_at hl 1 rfl) ?_
      refine lv_aload_n hx hb dX0_worth_17 rfl (lv_at hl 0 rfl) ?_
      refine x_gR (q := (RX0, TX0, 33)) (j := 7) G C h rfl (by decide) (fun _ _ _ => rfl) (lk C q213) (fun _ z => z) dX0_worth_18 hf (fun r3 hf => ?_)
      refine lv_iload_n hx hb dX0_worth_21 rfl (lv_at hl 2 rfl) ?_
      obtain ⟨hk, hf⟩ := k_of hf
      obtain ⟨x4, hc, hf⟩ := hf_b hf
      refine x_cV (q := (RX0, TX0, 33)) (rest := []) (As := [.int a1, .ref r3, .int a2]) (n := 3) (ov := (some (.int x4))) G C h (wX0_worthOf G hc) hk rfl (lw_V q837 q839 qs8 q54 q840) (by decide +kernel) ⟨Nat.le_of_ble_eq_true rfl, Nat.le_of_ble_eq_true rfl⟩ rfl rfl rfl hl.1 rfl (Nat.le_of_ble_eq_true rfl) dX0_worth_22 ⟨(Nat.le_of_ble_eq_true rfl), (Nat.le_of_ble_eq_true rfl)⟩ (fun H locs h => ?_)
      refine lv_goto (tgt := 30) hx hb dX0_worth_25 (by decide) ?_
      cases hf
      refine W.widen (k := 0) (n := 0) (Nat.le_of_ble_eq_true rfl) (Nat.le_of_ble_eq_true rfl) ?_
      exact x_iret C h dX0_worth_30

theorem dX0_choose_0 : decode cX0_choose 0 = .ok (.iload_n 1, 1) := by decide +kernel
theorem dX0_choose_1 : decode cX0_choose 1 = .ok (.invokestatic 231, 3) := by decide +kernel
theorem dX0_choose_4 : decode cX0_choose 4 = .ok (.ifCond .ne 6, 3) := by decide +kernel
theorem dX0_choose_7 : decode cX0_choose 7 = .ok (.bipush (-2), 2) := by decide +kernel
theorem dX0_choose_9 : decode cX0_choose 9 = .ok (.ireturn, 1) := by decide +kernel
theorem dX0_choose_10 : decode cX0_choose 10 = .ok (.iconst (-1), 1) := by decide +kernel
theorem dX0_choose_11 : decode cX0_choose 11 = .ok (.istore_n 2, 1) := by decide +kernel
theorem dX0_choose_12 : decode cX0_choose 12 = .ok (.iconst 0, 1) := by decide +kernel
theorem dX0_choose_13 : decode cX0_choose 13 = .ok (.istore_n 3, 1) := by decide +kernel
theorem dX0_choose_14 : decode cX0_choose 14 = .ok (.iload_n 3, 1) := by decide +kernel
theorem dX0_choose_15 : decode cX0_choose 15 = .ok (.aload_n 0, 1) := by decide +kernel
theorem dX0_choose_16 : decode cX0_choose 16 = .ok (.getfield 123, 3) := by decide +kernel
theorem dX0_choose_19 : decode cX0_choose 19 = .ok (.if_icmp .ge 52, 3) := by decide +kernel
theorem dX0_choose_22 : decode cX0_choose 22 = .ok (.aload_n 0, 1) := by decide +kernel
theorem dX0_choose_23 : decode cX0_choose 23 = .ok (.iload_n 1, 1) := by decide +kernel
theorem dX0_choose_24 : decode cX0_choose 24 = .ok (.aload_n 0, 1) := by decide +kernel
theorem dX0_choose_25 : decode cX0_choose 25 = .ok (.getfield 45, 3) := by decide +kernel
theorem dX0_choose_28 : decode cX0_choose 28 = .ok (.iload_n 3, 1) := by decide +kernel
theorem dX0_choose_29 : decode cX0_choose 29 = .ok (.invokevirtual 254, 3) := by decide +kernel
theorem dX0_choose_32 : decode cX0_choose 32 = .ok (.istore 4, 2) := by decide +kernel
theorem dX0_choose_34 : decode cX0_choose 34 = .ok (.iload 4, 2) := by decide +kernel
theorem dX0_choose_36 : decode cX0_choose 36 = .ok (.ifCond .le 27, 3) := by decide +kernel
theorem dX0_choose_39 : decode cX0_choose 39 = .ok (.iload_n 2, 1) := by decide +kernel
theorem dX0_choose_40 : decode cX0_choose 40 = .ok (.iconst (-1), 1) := by decide +kernel
theorem dX0_choose_41 : decode cX0_choose 41 = .ok (.if_icmp .eq 18, 3) := by decide +kernel
theorem dX0_choose_44 : decode cX0_choose 44 = .ok (.iload 4, 2) := by decide +kernel
theorem dX0_choose_46 : decode cX0_choose 46 = .ok (.aload_n 0, 1) := by decide +kernel
theorem dX0_choose_47 : decode cX0_choose 47 = .ok (.iload_n 1, 1) := by decide +kernel
theorem dX0_choose_48 : decode cX0_choose 48 = .ok (.aload_n 0, 1) := by decide +kernel
theorem dX0_choose_49 : decode cX0_choose 49 = .ok (.getfield 45, 3) := by decide +kernel
theorem dX0_choose_52 : decode cX0_choose 52 = .ok (.iload_n 2, 1) := by decide +kernel
theorem dX0_choose_53 : decode cX0_choose 53 = .ok (.invokevirtual 254, 3) := by decide +kernel
theorem dX0_choose_56 : decode cX0_choose 56 = .ok (.if_icmp .le 7, 3) := by decide +kernel
theorem dX0_choose_59 : decode cX0_choose 59 = .ok (.iload_n 3, 1) := by decide +kernel
theorem dX0_choose_60 : decode cX0_choose 60 = .ok (.goto 4, 3) := by decide +kernel
theorem dX0_choose_63 : decode cX0_choose 63 = .ok (.iload_n 2, 1) := by decide +kernel
theorem dX0_choose_64 : decode cX0_choose 64 = .ok (.istore_n 2, 1) := by decide +kernel
theorem dX0_choose_65 : decode cX0_choose 65 = .ok (.iinc 3 1, 3) := by decide +kernel
theorem dX0_choose_68 : decode cX0_choose 68 = .ok (.goto (-54), 3) := by decide +kernel
theorem dX0_choose_71 : decode cX0_choose 71 = .ok (.iload_n 2, 1) := by decide +kernel
theorem dX0_choose_72 : decode cX0_choose 72 = .ok (.ireturn, 1) := by decide +kernel
def lX0_choose_14 (σ : St) (a0 : Nat) (a1 : Int32) (x2 : Int32) (x3 : Int32) : Option ((Int32 × Int32) ⊕ (Int32)) :=
  o_gI σ a0 0 3 fun x4 =>
  if x4 ≤ x3 then
    some (.inr x2)
  else
  o_gR σ a0 0 7 fun r5 =>
  o_k σ a0 0 <|
  (fX0_worthOf σ a0 a1 r5 x3).bind fun x6 =>
  jn (fun (x9 : Int32) =>
    some (.inl (x9, x3 + 1))) fun j64 =>
  jn (fun (_ : Unit) =>
    j64 x2) fun j63 =>
  if x6 ≤ 0 then
    j63 ()
  else
  jn (fun (_ : Unit) =>
    j64 x3) fun j59 =>
  if x2 = ((-1)) then
    j59 ()
  else
  o_gR σ a0 0 7 fun r7 =>
  o_k σ a0 0 <|
  (fX0_worthOf σ a0 a1 r7 x2).bind fun x8 =>
  if x6 ≤ x8 then
    j63 ()
  else
  j59 ()

def fX0_choose (σ : St) (a0 : Nat) (a1 : Int32) : Option (Int32) :=
  (fX0_isVisitor σ a1).bind fun x1 =>
  if x1 = 0 then
    some ((-2))
  else
  (loopF fuel (fun z => lX0_choose_14 σ a0 a1 z.1 z.2) ((-1), 0)).bind <| fun x10 =>
  some x10

set_option maxHeartbeats 4000000 in
theorem wX0_choose {l : Launch} {s0 : State} {A0 : Array Value} {D : va_G} {ac : Nat → ClassId} (G : Gl s0 A0 D ac) {σ : St} {a0 : Nat} {a1 : Int32} {v : Int32} (hf : fX0_choose σ a0 a1 = some (v)) : Met l yX0_choose (ws_ yX0_choose cX0_choose 5 (some (.int))) ({ frames := 2, cells := 0, slots := 0, locals := 49 } : Room) (Pn s0 D ac [.ref a0, .int a1] σ) (Qn s0 D ac (some (.int v)) σ) 0 0 (fr s0) := by
  refine x_met (by decide) (Nat.le_of_ble_eq_true rfl) ?_
  intro p e s m args below meth c ls C hnm h hl
  have C : Cx s0 p s m args meth c cX0_choose 5 "HutForShow" (some (.int)) := C
  have hx := C.1
  have hb := C.2.1
  have hl : lv_has ls 5 [(0, .ref a0), (1, .int a1)] := hl
  unfold fX0_choose at hf
  refine lv_iload_n hx hb dX0_choose_0 rfl (lv_at hl 1 rfl) ?_
  obtain ⟨x1, hc, hf⟩ := hf_b hf
  refine x_cS (rest := []) (As := [.int a1]) (n := 1) (ov := (some (.int x1))) C h (wX0_isVisitor G hc) (lw_S q823 q824 q54 q825) (by decide +kernel) ⟨Nat.le_of_ble_eq_true rfl, Nat.le_of_ble_eq_true rfl⟩ rfl rfl rfl hl.1 rfl (Nat.le_of_ble_eq_true rfl) dX0_choose_1 ⟨(Nat.le_of_ble_eq_true rfl), (Nat.le_of_ble_eq_true rfl)⟩ (fun H locs h => ?_)
  refine lv_if_ne (tgt := 10) hx hb dX0_choose_4 (by decide) (fun hc => ?_) (fun hc => ?_)
  · have hf := hf_f hc hf
    refine lv_iconst (v := (-1)) hx hb dX0_choose_10 (by decide) ?_
    refine lv_istore_n (lv' := [(2, .int ((-1))), (0, .ref a0), (1, .int a1)]) hx hb dX0_choose_11 rfl hl (by decide) rfl (fun ls hl => ?_)
    refine lv_iconst (v := 0) hx hb dX0_choose_12 (by decide) ?_
    refine lv_istore_n (lv' := [(3, .int 0), (2, .int ((-1))), (0, .ref a0), (1, .int a1)]) hx hb dX0_choose_13 rfl hl (by decide) rfl (fun ls hl => ?_)
    obtain ⟨e14, hL, hK⟩ := hf_b hf
    have hE14_0 : ∀ (x10 : Int32), x10 = e14 → ∀  (H : Heap) (locs : List Loc) (ls : Array Slot), Hs s0 D ac σ H locs → lv_has ls 5 [(0, .ref a0), (1, .int a1), (2, .int x10)] → W p l e ({ frames := 2, cells := 0, slots := 0, locals := 49 } : Room) s m args below meth c H locs 0 0 (MQ below (Qn s0 D ac (some (.int v)) σ) args s 0 0 (fr s0)) (F0 m 71 ls []) := by
      intro x10 he H locs ls h hl
      subst he
      have hf := hK
      refine lv_iload_n hx hb dX0_choose_71 rfl (lv_at hl 2 rfl) ?_
      cases hf
      refine W.widen (k := 0) (n := 0) (Nat.le_of_ble_eq_true rfl) (Nat.le_of_ble_eq_true rfl) ?_
      exact x_iret C h dX0_choose_72
    refine loopF_ind (P := fun z => ∀ (H : Heap) (locs : List Loc) (ls : Array Slot), Hs s0 D ac σ H locs → lv_has ls 5 [(0, .ref a0), (1, .int a1), (2, .int z.1), (3, .int z.2)] → W p l e ({ frames := 2, cells := 0, slots := 0, locals := 49 } : Room) s m args below meth c H locs 0 0 (MQ below (Qn s0 D ac (some (.int v)) σ) args s 0 0 (fr s0)) (F0 m 14 ls [])) ?_ _ _ hL _ _ _ h (lv_sub hl [2, 3, 1, 0] rfl)
    clear hK hL h hl hf
    intro z o hf ih hX H locs ls h hl
    obtain ⟨x2, x3⟩ := z
    have h : Hs s0 D ac σ H locs := h
    have hl : lv_has ls 5 [(0, .ref a0), (1, .int a1), (2, .int x2), (3, .int x3)] := hl
    have hf : lX0_choose_14 σ a0 a1 x2 x3 = some o := hf
    unfold lX0_choose_14 at hf
    refine lv_iload_n hx hb dX0_choose_14 rfl (lv_at hl 3 rfl) ?_
    refine lv_aload_n hx hb dX0_choose_15 rfl (lv_at hl 0 rfl) ?_
    refine x_gI (q := (RX0, TX0, 33)) (j := 3) G C h rfl (by decide) (fun _ _ _ => rfl) (lk C q203) (fun _ z => z) dX0_choose_16 hf (fun x4 hf => ?_)
    refine lv_icmp_ge (tgt := 71) hx hb dX0_choose_19 (by decide) (fun hc => ?_) (fun hc => ?_)
    · have hf := hf_t hc hf
      cases hf
      exact hE14_0 _ (hX _ rfl) _ _ _ h (lv_sub hl [0, 1, 2] rfl)
    · have hf := hf_f hc hf
      refine lv_aload_n hx hb dX0_choose_22 rfl (lv_at hl 0 rfl) ?_
      refine lv_iload_n hx hb dX0_choose_23 rfl (lv_at hl 1 rfl) ?_
      refine lv_aload_n hx hb dX0_choose_24 rfl (lv_at hl 0 rfl) ?_
      refine x_gR (q := (RX0, TX0, 33)) (j := 7) G C h rfl (by decide) (fun _ _ _ => rfl) (lk C q213) (fun _ z => z) dX0_choose_25 hf (fun r5 hf => ?_)
      refine lv_iload_n hx hb dX0_choose_28 rfl (lv_at hl 3 rfl) ?_
      obtain ⟨hk, hf⟩ := k_of hf
      obtain ⟨x6, hc, hf⟩ := hf_b hf
      refine x_cV (q := (RX0, TX0, 33)) (rest := []) (As := [.int a1, .ref r5, .int x3]) (n := 3) (ov := (some (.int x6))) G C h (wX0_worthOf G hc) hk rfl (lw_V q837 q839 qs8 q54 q840) (by decide +kernel) ⟨Nat.le_of_ble_eq_true rfl, Nat.le_of_ble_eq_true rfl⟩ rfl rfl rfl hl.1 rfl (Nat.le_of_ble_eq_true rfl) dX0_choose_29 ⟨(Nat.le_of_ble_eq_true rfl), (Nat.le_of_ble_eq_true rfl)⟩ (fun H locs h => ?_)
      refine lv_istore (lv' := [(4, .int x6), (0, .ref a0), (1, .int a1), (2, .int x2), (3, .int x3)]) hx hb dX0_choose_32 hl (by decide) rfl (fun ls hl => ?_)
      refine lv_iload hx hb dX0_choose_34 (lv_at hl 0 rfl) ?_
      refine jn_of (P := fun j => ∀ (x9 : Int32), j x9 = some o → ∀ (H : Heap) (locs : List Loc) (ls : Array Slot), Hs s0 D ac σ H locs → lv_has ls 5 [(0, .ref a0), (1, .int a1), (2, .int x2), (3, .int x3), (4, .int x6)] → W p l e ({ frames := 2, cells := 0, slots := 0, locals := 49 } : Room) s m args below meth c H locs 0 0 (MQ below (Qn s0 D ac (some (.int v)) σ) args s 0 0 (fr s0)) (F0 m 64 ls [.int x9])) hf ?_ ?_
      · intro x9 hf H locs ls h hl
        refine lv_istore_n (lv' := [(2, .int x9), (0, .ref a0), (1, .int a1), (3, .int x3), (4, .int x6)]) hx hb dX0_choose_64 rfl hl (by decide) rfl (fun ls hl => ?_)
        refine lv_iinc (v := x3 + 1) (lv' := [(3, .int (x3 + 1)), (2, .int x9), (0, .ref a0), (1, .int a1), (4, .int x6)]) hx hb dX0_choose_65 hl (k := 3) rfl rfl (by decide) rfl (fun ls hl => ?_)
        refine lv_goto (tgt := 14) hx hb dX0_choose_68 (by decide) ?_
        cases hf
        exact ih _ rfl _ _ _ h (lv_sub hl [2, 3, 1, 0] rfl)
      intro j64 hj64 hf
      refine jn_of (P := fun j => ∀ (u0 : Unit), j u0 = some o → ∀ (H : Heap) (locs : List Loc) (ls : Array Slot), Hs s0 D ac σ H locs → lv_has ls 5 [(0, .ref a0), (1, .int a1), (2, .int x2), (3, .int x3), (4, .int x6)] → W p l e ({ frames := 2, cells := 0, slots := 0, locals := 49 } : Room) s m args below meth c H locs 0 0 (MQ below (Qn s0 D ac (some (.int v)) σ) args s 0 0 (fr s0)) (F0 m 63 ls [])) hf ?_ ?_
      · intro u0 hf H locs ls h hl
        refine lv_iload_n hx hb dX0_choose_63 rfl (lv_at hl 2 rfl) ?_
        exact hj64 _ hf _ _ _ h (lv_sub hl [0, 1, 2, 3, 4] rfl)
      intro j63 hj63 hf
      refine lv_if_le (tgt := 63) hx hb dX0_choose_36 (by decide) (fun hc => ?_) (fun hc => ?_)
      · have hf := hf_t hc hf
        exact hj63 () hf _ _ _ h (lv_sub hl [1, 2, 3, 4, 0] rfl)
      · have hf := hf_f hc hf
        refine lv_iload_n hx hb dX0_choose_39 rfl (lv_at hl 3 rfl) ?_
        refine lv_iconst (v := (-1)) hx hb dX0_choose_40 (by decide) ?_
        refine jn_of (P := fun j => ∀ (u0 : Unit), j u0 = some o → ∀ (H : Heap) (locs : List Loc) (ls : Array Slot), Hs s0 D ac σ H locs → lv_has ls 5 [(0, .ref a0), (1, .int a1), (2, .int x2), (3, .int x3), (4, .int x6)] → W p l e ({ frames := 2, cells := 0, slots := 0, locals := 49 } : Room) s m args below meth c H locs 0 0 (MQ below (Qn s0 D ac (some (.int v)) σ) args s 0 0 (fr s0)) (F0 m 59 ls [])) hf ?_ ?_
        · intro u0 hf H locs ls h hl
          refine lv_iload_n hx hb dX0_choose_59 rfl (lv_at hl 3 rfl) ?_
          refine lv_goto (tgt := 64) hx hb dX0_choose_60 (by decide) ?_
          exact hj64 _ hf _ _ _ h (lv_sub hl [0, 1, 2, 3, 4] rfl)
        intro j59 hj59 hf
        refine lv_icmp_eq (tgt := 59) hx hb dX0_choose_41 (by decide) (fun hc => ?_) (fun hc => ?_)
        · have hf := hf_t hc hf
          exact hj59 () hf _ _ _ h (lv_sub hl [1, 2, 3, 4, 0] rfl)
        · have hf := hf_f hc hf
          refine lv_iload hx hb dX0_choose_44 (lv_at hl 0 rfl) ?_
          refine lv_aload_n hx hb dX0_choose_46 rfl (lv_at hl 1 rfl) ?_
          refine lv_iload_n hx hb dX0_choose_47 rfl (lv_at hl 2 rfl) ?_
          refine lv_aload_n hx hb dX0_choose_48 rfl (lv_at hl 1 rfl) ?_
          refine x_gR (q := (RX0, TX0, 33)) (j := 7) G C h rfl (by decide) (fun _ _ _ => rfl) (lk C q213) (fun _ z => z) dX0_choose_49 hf (fun r7 hf => ?_)
          refine lv_iload_n hx hb dX0_choose_52 rfl (lv_at hl 3 rfl) ?_
          obtain ⟨hk, hf⟩ := k_of hf
          obtain ⟨x8, hc, hf⟩ := hf_b hf
          refine x_cV (q := (RX0, TX0, 33)) (rest := [.int x6]) (As := [.int a1, .ref r7, .int x2]) (n := 3) (ov := (some (.int x8))) G C h (wX0_worthOf G hc) hk rfl (lw_V q837 q839 qs8 q54 q840) (by decide +kernel) ⟨Nat.le_of_ble_eq_true rfl, Nat.le_of_ble_eq_true rfl⟩ rfl rfl rfl hl.1 rfl (Nat.le_of_ble_eq_true rfl) dX0_choose_53 ⟨(Nat.le_of_ble_eq_true rfl), (Nat.le_of_ble_eq_true rfl)⟩ (fun H locs h => ?_)
          refine lv_icmp_le (tgt := 63) hx hb dX0_choose_56 (by decide) (fun hc => ?_) (fun hc => ?_)
          · have hf := hf_t hc hf
            exact hj63 () hf _ _ _ h (lv_sub hl [1, 2, 3, 4, 0] rfl)
          · have hf := hf_f hc hf
            exact hj59 () hf _ _ _ h (lv_sub hl [1, 2, 3, 4, 0] rfl)
  · have hf := hf_t hc hf
    refine lv_bipush (v := (-2)) hx hb dX0_choose_7 (by decide) ?_
    cases hf
    refine W.widen (k := 0) (n := 0) (Nat.le_of_ble_eq_true rfl) (Nat.le_of_ble_eq_true rfl) ?_
    exact x_iret C h dX0_choose_9

theorem dX5_copy_0 : decode cX5_copy 0 = .ok (.aload_n 0, 1) := by decide +kernel
theorem dX5_copy_1 : decode cX5_copy 1 = .ok (.aload_n 1, 1) := by decide +kernel
theorem dX5_copy_2 : decode cX5_copy 2 = .ok (.getfield 40, 3) := by decide +kernel
theorem dX5_copy_5 : decode cX5_copy 5 = .ok (.putfield 40, 3) := by decide +kernel
theorem dX5_copy_8 : decode cX5_copy 8 = .ok (.iconst 0, 1) := by decide +kernel
theorem dX5_copy_9 : decode cX5_copy 9 = .ok (.istore_n 2, 1) := by decide +kernel
theorem dX5_copy_10 : decode cX5_copy 10 = .ok (.iload_n 2, 1) := by decide +kernel
theorem dX5_copy_11 : decode cX5_copy 11 = .ok (.bipush 6, 2) := by decide +kernel
theorem dX5_copy_13 : decode cX5_copy 13 = .ok (.if_icmp .ge 45, 3) := by decide +kernel
theorem dX5_copy_16 : decode cX5_copy 16 = .ok (.aload_n 0, 1) := by decide +kernel
theorem dX5_copy_17 : decode cX5_copy 17 = .ok (.getfield 15, 3) := by decide +kernel
theorem dX5_copy_20 : decode cX5_copy 20 = .ok (.iload_n 2, 1) := by decide +kernel
theorem dX5_copy_21 : decode cX5_copy 21 = .ok (.aload_n 1, 1) := by decide +kernel
theorem dX5_copy_22 : decode cX5_copy 22 = .ok (.getfield 15, 3) := by decide +kernel
theorem dX5_copy_25 : decode cX5_copy 25 = .ok (.iload_n 2, 1) := by decide +kernel
theorem dX5_copy_26 : decode cX5_copy 26 = .ok (.iaload, 1) := by decide +kernel
theorem dX5_copy_27 : decode cX5_copy 27 = .ok (.iastore, 1) := by decide +kernel
theorem dX5_copy_28 : decode cX5_copy 28 = .ok (.aload_n 0, 1) := by decide +kernel
theorem dX5_copy_29 : decode cX5_copy 29 = .ok (.getfield 19, 3) := by decide +kernel
theorem dX5_copy_32 : decode cX5_copy 32 = .ok (.iload_n 2, 1) := by decide +kernel
theorem dX5_copy_33 : decode cX5_copy 33 = .ok (.aload_n 1, 1) := by decide +kernel
theorem dX5_copy_34 : decode cX5_copy 34 = .ok (.getfield 19, 3) := by decide +kernel
theorem dX5_copy_37 : decode cX5_copy 37 = .ok (.iload_n 2, 1) := by decide +kernel
theorem dX5_copy_38 : decode cX5_copy 38 = .ok (.iaload, 1) := by decide +kernel
theorem dX5_copy_39 : decode cX5_copy 39 = .ok (.iastore, 1) := by decide +kernel
theorem dX5_copy_40 : decode cX5_copy 40 = .ok (.aload_n 0, 1) := by decide +kernel
theorem dX5_copy_41 : decode cX5_copy 41 = .ok (.getfield 22, 3) := by decide +kernel
theorem dX5_copy_44 : decode cX5_copy 44 = .ok (.iload_n 2, 1) := by decide +kernel
theorem dX5_copy_45 : decode cX5_copy 45 = .ok (.aload_n 1, 1) := by decide +kernel
theorem dX5_copy_46 : decode cX5_copy 46 = .ok (.getfield 22, 3) := by decide +kernel
theorem dX5_copy_49 : decode cX5_copy 49 = .ok (.iload_n 2, 1) := by decide +kernel
theorem dX5_copy_50 : decode cX5_copy 50 = .ok (.iaload, 1) := by decide +kernel
theorem dX5_copy_51 : decode cX5_copy 51 = .ok (.iastore, 1) := by decide +kernel
theorem dX5_copy_52 : decode cX5_copy 52 = .ok (.iinc 2 1, 3) := by decide +kernel
theorem dX5_copy_55 : decode cX5_copy 55 = .ok (.goto (-45), 3) := by decide +kernel
theorem dX5_copy_58 : decode cX5_copy 58 = .ok (.aload_n 1, 1) := by decide +kernel
theorem dX5_copy_59 : decode cX5_copy 59 = .ok (.getfield 37, 3) := by decide +kernel
theorem dX5_copy_62 : decode cX5_copy 62 = .ok (.iconst 0, 1) := by decide +kernel
theorem dX5_copy_63 : decode cX5_copy 63 = .ok (.aload_n 0, 1) := by decide +kernel
theorem dX5_copy_64 : decode cX5_copy 64 = .ok (.getfield 37, 3) := by decide +kernel
theorem dX5_copy_67 : decode cX5_copy 67 = .ok (.iconst 0, 1) := by decide +kernel
theorem dX5_copy_68 : decode cX5_copy 68 = .ok (.bipush 40, 2) := by decide +kernel
theorem dX5_copy_70 : decode cX5_copy 70 = .ok (.invokestatic 44, 3) := by decide +kernel
theorem dX5_copy_73 : decode cX5_copy 73 = .ok (.return_, 1) := by decide +kernel
def lX5_copy_10 (a0 : Nat) (a1 : Nat) (σ3 : St) (x4 : Int32) : Option ((St × Int32) ⊕ (St)) :=
  if 6 ≤ x4 then
    some (.inr σ3)
  else
  o_gR σ3 a0 3 1 fun r5 =>
  o_gR σ3 a1 3 1 fun r6 =>
  o_aI σ3 r6 0 x4 fun x7 =>
  o_sI σ3 r5 0 x4 x7 fun σ8 =>
  o_gR σ8 a0 3 2 fun r9 =>
  o_gR σ8 a1 3 2 fun r10 =>
  o_aI σ8 r10 0 x4 fun x11 =>
  o_sI σ8 r9 0 x4 x11 fun σ12 =>
  o_gR σ12 a0 3 3 fun r13 =>
  o_gR σ12 a1 3 3 fun r14 =>
  o_aI σ12 r14 0 x4 fun x15 =>
  o_sI σ12 r13 0 x4 x15 fun σ16 =>
  some (.inl (σ16, x4 + 1))

def fX5_copy (σ : St) (a0 : Nat) (a1 : Nat) : Option (St) :=
  o_gI σ a1 3 0 fun x1 =>
  o_pI σ a0 3 0 x1 fun σ2 =>
  (loopF fuel (fun z => lX5_copy_10 a0 a1 z.1 z.2) (σ2, 0)).bind <| fun σ17 =>
  o_gR σ17 a1 3 7 fun r18 =>
  o_gR σ17 a0 3 7 fun r19 =>
  o_cpy σ17 r18 0 r19 0 40 fun σ20 =>
  some σ20

set_option maxHeartbeats 4000000 in
theorem wX5_copy {l : Launch} {s0 : State} {A0 : Array Value} {D : va_G} {ac : Nat → ClassId} (G : Gl s0 A0 D ac) {σ : St} {a0 : Nat} {a1 : Nat} {σ' : St} (hf : fX5_copy σ a0 a1 = some (σ')) : Met l yX5_copy (ws_ yX5_copy cX5_copy 3 none) ({ frames := 1, cells := 0, slots := 0, locals := 40 } : Room) (Pn s0 D ac [.ref a0, .ref a1] σ) (Qn s0 D ac none σ') 0 0 (fr s0) := by
  refine x_met (by decide) (Nat.le_of_ble_eq_true rfl) ?_
  intro p e s m args below meth c ls C hnm h hl
  have C : Cx s0 p s m args meth c cX5_copy 3 "HutForShow$Wood" none := C
  have hx := C.1
  have hb := C.2.1
  have hl : lv_has ls 3 [(0, .ref a0), (1, .ref a1)] := hl
  unfold fX5_copy at hf
  refine lv_aload_n hx hb dX5_copy_0 rfl (lv_at hl 0 rfl) ?_
  refine lv_aload_n hx hb dX5_copy_1 rfl (lv_at hl 1 rfl) ?_
  refine x_gI (q := (RX5, TX5, 9)) (j := 0) G C h rfl (by decide) (fun _ _ _ => rfl) (lk C q122) (fun _ z => z) dX5_copy_2 hf (fun x1 hf => ?_)
  refine x_pI (q := (RX5, TX5, 9)) (j := 0) G C h rfl (by decide) rfl (lk C q122) (fun _ z => z) (Or.inl rfl) dX5_copy_5 hf (fun σ2 H locs h hf => ?_)
  refine lv_iconst (v := 0) hx hb dX5_copy_8 (by decide) ?_
  refine lv_istore_n (lv' := [(2, .int 0), (0, .ref a0), (1, .ref a1)]) hx hb dX5_copy_9 rfl hl (by decide) rfl (fun ls hl => ?_)
  obtain ⟨e10, hL, hK⟩ := hf_b hf
  have hE10_0 : ∀ (σ17 : St), σ17 = e10 → ∀  (H : Heap) (locs : List Loc) (ls : Array Slot), Hs s0 D ac σ17 H locs → lv_has ls 3 [(0, .ref a0), (1, .ref a1)] → W p l e ({ frames := 1, cells := 0, slots := 0, locals := 40 } : Room) s m args below meth c H locs 0 0 (MQ below (Qn s0 D ac none σ') args s 0 0 (fr s0)) (F0 m 58 ls []) := by
    intro σ17 he H locs ls h hl
    subst he
    have hf := hK
    refine lv_aload_n hx hb dX5_copy_58 rfl (lv_at hl 1 rfl) ?_
    refine x_gR (q := (RX5, TX5, 9)) (j := 7) G C h rfl (by decide) (fun _ _ _ => rfl) (lk C q141) (fun _ z => z) dX5_copy_59 hf (fun r18 hf => ?_)
    refine lv_iconst (v := 0) hx hb dX5_copy_62 (by decide) ?_
    refine lv_aload_n hx hb dX5_copy_63 rfl (lv_at hl 0 rfl) ?_
    refine x_gR (q := (RX5, TX5, 9)) (j := 7) G C h rfl (by decide) (fun _ _ _ => rfl) (lk C q141) (fun _ z => z) dX5_copy_64 hf (fun r19 hf => ?_)
    refine lv_iconst (v := 0) hx hb dX5_copy_67 (by decide) ?_
    refine lv_bipush (v := 40) hx hb dX5_copy_68 (by decide) ?_
    refine x_copy G C h q861 q863 q862 q79 hl.1 (Nat.le_of_ble_eq_true rfl) (by decide) dX5_copy_70 hf (fun σ20 H locs h hf => ?_)
    cases hf
    refine W.widen (k := 0) (n := 0) (Nat.le_of_ble_eq_true rfl) (Nat.le_of_ble_eq_true rfl) ?_
    exact x_vret C h dX5_copy_73
  refine loopF_ind (P := fun z => ∀ (H : Heap) (locs : List Loc) (ls : Array Slot), Hs s0 D ac (z.1) H locs → lv_has ls 3 [(0, .ref a0), (1, .ref a1), (2, .int z.2)] → W p l e ({ frames := 1, cells := 0, slots := 0, locals := 40 } : Room) s m args below meth c H locs 0 0 (MQ below (Qn s0 D ac none σ') args s 0 0 (fr s0)) (F0 m 10 ls [])) ?_ _ _ hL _ _ _ h (lv_sub hl [1, 2, 0] rfl)
  clear hK hL h hl hf
  intro z o hf ih hX H locs ls h hl
  obtain ⟨σ3, x4⟩ := z
  have h : Hs s0 D ac σ3 H locs := h
  have hl : lv_has ls 3 [(0, .ref a0), (1, .ref a1), (2, .int x4)] := hl
  have hf : lX5_copy_10 a0 a1 σ3 x4 = some o := hf
  unfold lX5_copy_10 at hf
  refine lv_iload_n hx hb dX5_copy_10 rfl (lv_at hl 2 rfl) ?_
  refine lv_bipush (v := 6) hx hb dX5_copy_11 (by decide) ?_
  refine lv_icmp_ge (tgt := 58) hx hb dX5_copy_13 (by decide) (fun hc => ?_) (fun hc => ?_)
  · have hf := hf_t hc hf
    cases hf
    exact hE10_0 _ (hX _ rfl) _ _ _ h (lv_sub hl [0, 1] rfl)
  · have hf := hf_f hc hf
    refine lv_aload_n hx hb dX5_copy_16 rfl (lv_at hl 0 rfl) ?_
    refine x_gR (q := (RX5, TX5, 9)) (j := 1) G C h rfl (by decide) (fun _ _ _ => rfl) (lk C q125) (fun _ z => z) dX5_copy_17 hf (fun r5 hf => ?_)
    refine lv_iload_n hx hb dX5_copy_20 rfl (lv_at hl 2 rfl) ?_
    refine lv_aload_n hx hb dX5_copy_21 rfl (lv_at hl 1 rfl) ?_
    refine x_gR (q := (RX5, TX5, 9)) (j := 1) G C h rfl (by decide) (fun _ _ _ => rfl) (lk C q125) (fun _ z => z) dX5_copy_22 hf (fun r6 hf => ?_)
    refine lv_iload_n hx hb dX5_copy_25 rfl (lv_at hl 2 rfl) ?_
    refine x_iald G C h dX5_copy_26 hf (fun x7 hf => ?_)
    refine x_iast G C h dX5_copy_27 hf (fun σ8 H locs h hf => ?_)
    refine lv_aload_n hx hb dX5_copy_28 rfl (lv_at hl 0 rfl) ?_
    refine x_gR (q := (RX5, TX5, 9)) (j := 2) G C h rfl (by decide) (fun _ _ _ => rfl) (lk C q130) (fun _ z => z) dX5_copy_29 hf (fun r9 hf => ?_)
    refine lv_iload_n hx hb dX5_copy_32 rfl (lv_at hl 2 rfl) ?_
    refine lv_aload_n hx hb dX5_copy_33 rfl (lv_at hl 1 rfl) ?_
    refine x_gR (q := (RX5, TX5, 9)) (j := 2) G C h rfl (by decide) (fun _ _ _ => rfl) (lk C q130) (fun _ z => z) dX5_copy_34 hf (fun r10 hf => ?_)
    refine lv_iload_n hx hb dX5_copy_37 rfl (lv_at hl 2 rfl) ?_
    refine x_iald G C h dX5_copy_38 hf (fun x11 hf => ?_)
    refine x_iast G C h dX5_copy_39 hf (fun σ12 H locs h hf => ?_)
    refine lv_aload_n hx hb dX5_copy_40 rfl (lv_at hl 0 rfl) ?_
    refine x_gR (q := (RX5, TX5, 9)) (j := 3) G C h rfl (by decide) (fun _ _ _ => rfl) (lk C q134) (fun _ z => z) dX5_copy_41 hf (fun r13 hf => ?_)
    refine lv_iload_n hx hb dX5_copy_44 rfl (lv_at hl 2 rfl) ?_
    refine lv_aload_n hx hb dX5_copy_45 rfl (lv_at hl 1 rfl) ?_
    refine x_gR (q := (RX5, TX5, 9)) (j := 3) G C h rfl (by decide) (fun _ _ _ => rfl) (lk C q134) (fun _ z => z) dX5_copy_46 hf (fun r14 hf => ?_)
    refine lv_iload_n hx hb dX5_copy_49 rfl (lv_at hl 2 rfl) ?_
    refine x_iald G C h dX5_copy_50 hf (fun x15 hf => ?_)
    refine x_iast G C h dX5_copy_51 hf (fun σ16 H locs h hf => ?_)
    refine lv_iinc (v := x4 + 1) (lv' := [(2, .int (x4 + 1)), (0, .ref a0), (1, .ref a1)]) hx hb dX5_copy_52 hl (k := 2) rfl rfl (by decide) rfl (fun ls hl => ?_)
    refine lv_goto (tgt := 10) hx hb dX5_copy_55 (by decide) ?_
    cases hf
    exact ih _ rfl _ _ _ h (lv_sub hl [1, 2, 0] rfl)

theorem dX0_live_0 : decode cX0_live 0 = .ok (.aload_n 0, 1) := by decide +kernel
theorem dX0_live_1 : decode cX0_live 1 = .ok (.getfield 49, 3) := by decide +kernel
theorem dX0_live_4 : decode cX0_live 4 = .ok (.aload_n 0, 1) := by decide +kernel
theorem dX0_live_5 : decode cX0_live 5 = .ok (.getfield 45, 3) := by decide +kernel
theorem dX0_live_8 : decode cX0_live 8 = .ok (.invokevirtual 258, 3) := by decide +kernel
theorem dX0_live_11 : decode cX0_live 11 = .ok (.iconst 0, 1) := by decide +kernel
theorem dX0_live_12 : decode cX0_live 12 = .ok (.istore_n 3, 1) := by decide +kernel
theorem dX0_live_13 : decode cX0_live 13 = .ok (.iload_n 3, 1) := by decide +kernel
theorem dX0_live_14 : decode cX0_live 14 = .ok (.iload_n 1, 1) := by decide +kernel
theorem dX0_live_15 : decode cX0_live 15 = .ok (.if_icmp .ge 17, 3) := by decide +kernel
theorem dX0_live_18 : decode cX0_live 18 = .ok (.aload_n 0, 1) := by decide +kernel
theorem dX0_live_19 : decode cX0_live 19 = .ok (.getfield 49, 3) := by decide +kernel
theorem dX0_live_22 : decode cX0_live 22 = .ok (.iload_n 2, 1) := by decide +kernel
theorem dX0_live_23 : decode cX0_live 23 = .ok (.invokevirtual 205, 3) := by decide +kernel
theorem dX0_live_26 : decode cX0_live 26 = .ok (.iinc 3 1, 3) := by decide +kernel
theorem dX0_live_29 : decode cX0_live 29 = .ok (.goto (-16), 3) := by decide +kernel
theorem dX0_live_32 : decode cX0_live 32 = .ok (.return_, 1) := by decide +kernel
def lX0_live_13 (a1 : Int32) (a0 : Nat) (a2 : Int32) (σ4 : St) (x5 : Int32) : Option ((St × Int32) ⊕ (St)) :=
  if a1 ≤ x5 then
    some (.inr σ4)
  else
  o_gR σ4 a0 0 8 fun r6 =>
  o_k σ4 r6 3 <|
  (fX5_step σ4 r6 a2).bind fun σ7 =>
  some (.inl (σ7, x5 + 1))

def fX0_live (σ : St) (a0 : Nat) (a1 : Int32) (a2 : Int32) : Option (St) :=
  o_gR σ a0 0 8 fun r1 =>
  o_gR σ a0 0 7 fun r2 =>
  o_k σ r1 3 <|
  (fX5_copy σ r1 r2).bind fun σ3 =>
  (loopF fuel (fun z => lX0_live_13 a1 a0 a2 z.1 z.2) (σ3, 0)).bind <| fun σ8 =>
  some σ8

set_option maxHeartbeats 4000000 in
theorem wX0_live {l : Launch} {s0 : State} {A0 : Array Value} {D : va_G} {ac : Nat → ClassId} (G : Gl s0 A0 D ac) {σ : St} {a0 : Nat} {a1 : Int32} {a2 : Int32} {σ' : St} (hf : fX0_live σ a0 a1 a2 = some (σ')) : Met l yX0_live (ws_ yX0_live cX0_live 4 none) ({ frames := 6, cells := 0, slots := 0, locals := 137 } : Room) (Pn s0 D ac [.ref a0, .int a1, .int a2] σ) (Qn s0 D ac none σ') 0 0 (fr s0) := by
  refine x_met (by decide) (Nat.le_of_ble_eq_true rfl) ?_
  intro p e s m args below meth c ls C hnm h hl
  have C : Cx s0 p s m args meth c cX0_live 4 "HutForShow" none := C
  have hx := C.1
  have hb := C.2.1
  have hl : lv_has ls 4 [(0, .ref a0), (1, .int a1), (2, .int a2)] := hl
  unfold fX0_live at hf
  refine lv_aload_n hx hb dX0_live_0 rfl (lv_at hl 0 rfl) ?_
  refine x_gR (q := (RX0, TX0, 33)) (j := 8) G C h rfl (by decide) (fun _ _ _ => rfl) (lk C q214) (fun _ z => z) dX0_live_1 hf (fun r1 hf => ?_)
  refine lv_aload_n hx hb dX0_live_4 rfl (lv_at hl 0 rfl) ?_
  refine x_gR (q := (RX0, TX0, 33)) (j := 7) G C h rfl (by decide) (fun _ _ _ => rfl) (lk C q213) (fun _ z => z) dX0_live_5 hf (fun r2 hf => ?_)
  obtain ⟨hk, hf⟩ := k_of hf
  obtain ⟨σ3, hc, hf⟩ := hf_b hf
  refine x_cV (q := (RX5, TX5, 9)) (rest := []) (As := [.ref r2]) (n := 1) (ov := none) G C h (wX5_copy G hc) hk rfl (lw_V q857 q858 q859 q59 q860) (by decide +kernel) ⟨Nat.le_of_ble_eq_true rfl, Nat.le_of_ble_eq_true rfl⟩ rfl rfl rfl hl.1 rfl (Nat.le_of_ble_eq_true rfl) dX0_live_8 ⟨(Nat.le_of_ble_eq_true rfl), (Nat.le_of_ble_eq_true rfl)⟩ (fun H locs h => ?_)
  refine lv_iconst (v := 0) hx hb dX0_live_11 (by decide) ?_
  refine lv_istore_n (lv' := [(3, .int 0), (0, .ref a0), (1, .int a1), (2, .int a2)]) hx hb dX0_live_12 rfl hl (by decide) rfl (fun ls hl => ?_)
  obtain ⟨e13, hL, hK⟩ := hf_b hf
  have hE13_0 : ∀ (σ8 : St), σ8 = e13 → ∀  (H : Heap) (locs : List Loc) (ls : Array Slot), Hs s0 D ac σ8 H locs → lv_has ls 4 [(0, .ref a0), (1, .int a1), (2, .int a2)] → W p l e ({ frames := 6, cells := 0, slots := 0, locals := 137 } : Room) s m args below meth c H locs 0 0 (MQ below (Qn s0 D ac none σ') args s 0 0 (fr s0)) (F0 m 32 ls []) := by
    intro σ8 he H locs ls h hl
    subst he
    have hf := hK
    cases hf
    refine W.widen (k := 0) (n := 0) (Nat.le_of_ble_eq_true rfl) (Nat.le_of_ble_eq_true rfl) ?_
    exact x_vret C h dX0_live_32
  refine loopF_ind (P := fun z => ∀ (H : Heap) (locs : List Loc) (ls : Array Slot), Hs s0 D ac (z.1) H locs → lv_has ls 4 [(0, .ref a0), (1, .int a1), (2, .int a2), (3, .int z.2)] → W p l e ({ frames := 6, cells := 0, slots := 0, locals := 137 } : Room) s m args below meth c H locs 0 0 (MQ below (Qn s0 D ac none σ') args s 0 0 (fr s0)) (F0 m 13 ls [])) ?_ _ _ hL _ _ _ h (lv_sub hl [1, 2, 3, 0] rfl)
  clear hK hL h hl hf
  intro z o hf ih hX H locs ls h hl
  obtain ⟨σ4, x5⟩ := z
  have h : Hs s0 D ac σ4 H locs := h
  have hl : lv_has ls 4 [(0, .ref a0), (1, .int a1), (2, .int a2), (3, .int x5)] := hl
  have hf : lX0_live_13 a1 a0 a2 σ4 x5 = some o := hf
  unfold lX0_live_13 at hf
  refine lv_iload_n hx hb dX0_live_13 rfl (lv_at hl 3 rfl) ?_
  refine lv_iload_n hx hb dX0_live_14 rfl (lv_at hl 1 rfl) ?_
  refine lv_icmp_ge (tgt := 32) hx hb dX0_live_15 (by decide) (fun hc => ?_) (fun hc => ?_)
  · have hf := hf_t hc hf
    cases hf
    exact hE13_0 _ (hX _ rfl) _ _ _ h (lv_sub hl [0, 1, 2] rfl)
  · have hf := hf_f hc hf
    refine lv_aload_n hx hb dX0_live_18 rfl (lv_at hl 0 rfl) ?_
    refine x_gR (q := (RX0, TX0, 33)) (j := 8) G C h rfl (by decide) (fun _ _ _ => rfl) (lk C q214) (fun _ z => z) dX0_live_19 hf (fun r6 hf => ?_)
    refine lv_iload_n hx hb dX0_live_22 rfl (lv_at hl 2 rfl) ?_
    obtain ⟨hk, hf⟩ := k_of hf
    obtain ⟨σ7, hc, hf⟩ := hf_b hf
    refine x_cV (q := (RX5, TX5, 9)) (rest := []) (As := [.int a2]) (n := 1) (ov := none) G C h (wX5_step G hc) hk rfl (lw_V q410 q411 q412 q59 q413) (by decide +kernel) ⟨Nat.le_of_ble_eq_true rfl, Nat.le_of_ble_eq_true rfl⟩ rfl rfl rfl hl.1 rfl (Nat.le_of_ble_eq_true rfl) dX0_live_23 ⟨(Nat.le_of_ble_eq_true rfl), (Nat.le_of_ble_eq_true rfl)⟩ (fun H locs h => ?_)
    refine lv_iinc (v := x5 + 1) (lv' := [(3, .int (x5 + 1)), (0, .ref a0), (1, .int a1), (2, .int a2)]) hx hb dX0_live_26 hl (k := 3) rfl rfl (by decide) rfl (fun ls hl => ?_)
    refine lv_goto (tgt := 13) hx hb dX0_live_29 (by decide) ?_
    cases hf
    exact ih _ rfl _ _ _ h (lv_sub hl [1, 2, 3, 0] rfl)

theorem dX0_would_0 : decode cX0_would 0 = .ok (.iload_n 1, 1) := by decide +kernel
theorem dX0_would_1 : decode cX0_would 1 = .ok (.invokestatic 231, 3) := by decide +kernel
theorem dX0_would_4 : decode cX0_would 4 = .ok (.ifCond .eq 11, 3) := by decide +kernel
theorem dX0_would_7 : decode cX0_would 7 = .ok (.aload_n 0, 1) := by decide +kernel
theorem dX0_would_8 : decode cX0_would 8 = .ok (.iload_n 2, 1) := by decide +kernel
theorem dX0_would_9 : decode cX0_would 9 = .ok (.invokevirtual 145, 3) := by decide +kernel
theorem dX0_would_12 : decode cX0_would 12 = .ok (.ifCond .ne 6, 3) := by decide +kernel
theorem dX0_would_15 : decode cX0_would 15 = .ok (.bipush (-2), 2) := by decide +kernel
theorem dX0_would_17 : decode cX0_would 17 = .ok (.ireturn, 1) := by decide +kernel
theorem dX0_would_18 : decode cX0_would 18 = .ok (.iload_n 3, 1) := by decide +kernel
theorem dX0_would_19 : decode cX0_would 19 = .ok (.invokestatic 199, 3) := by decide +kernel
theorem dX0_would_22 : decode cX0_would 22 = .ok (.ifCond .ne 6, 3) := by decide +kernel
theorem dX0_would_25 : decode cX0_would 25 = .ok (.bipush (-3), 2) := by decide +kernel
theorem dX0_would_27 : decode cX0_would 27 = .ok (.ireturn, 1) := by decide +kernel
theorem dX0_would_28 : decode cX0_would 28 = .ok (.aload_n 0, 1) := by decide +kernel
theorem dX0_would_29 : decode cX0_would 29 = .ok (.iload_n 3, 1) := by decide +kernel
theorem dX0_would_30 : decode cX0_would 30 = .ok (.iconst 1, 1) := by decide +kernel
theorem dX0_would_31 : decode cX0_would 31 = .ok (.invokevirtual 262, 3) := by decide +kernel
theorem dX0_would_34 : decode cX0_would 34 = .ok (.aload_n 0, 1) := by decide +kernel
theorem dX0_would_35 : decode cX0_would 35 = .ok (.iload_n 1, 1) := by decide +kernel
theorem dX0_would_36 : decode cX0_would 36 = .ok (.aload_n 0, 1) := by decide +kernel
theorem dX0_would_37 : decode cX0_would 37 = .ok (.getfield 49, 3) := by decide +kernel
theorem dX0_would_40 : decode cX0_would 40 = .ok (.iload_n 2, 1) := by decide +kernel
theorem dX0_would_41 : decode cX0_would 41 = .ok (.invokevirtual 254, 3) := by decide +kernel
theorem dX0_would_44 : decode cX0_would 44 = .ok (.ireturn, 1) := by decide +kernel
def fX0_would (σ : St) (a0 : Nat) (a1 : Int32) (a2 : Int32) (a3 : Int32) : Option (Int32 × St) :=
  (fX0_isVisitor σ a1).bind fun x1 =>
  if x1 = 0 then
    some ((-2), σ)
  else
  o_k σ a0 0 <|
  (fX0_isHut σ a0 a2).bind fun x2 =>
  if x2 = 0 then
    some ((-2), σ)
  else
  (fX0_areHours σ a3).bind fun x3 =>
  if x3 = 0 then
    some ((-3), σ)
  else
  o_k σ a0 0 <|
  (fX0_live σ a0 a3 1).bind fun σ4 =>
  o_gR σ4 a0 0 8 fun r5 =>
  o_k σ4 a0 0 <|
  (fX0_worthOf σ4 a0 a1 r5 a2).bind fun x6 =>
  some (x6, σ4)

set_option maxHeartbeats 4000000 in
theorem wX0_would {l : Launch} {s0 : State} {A0 : Array Value} {D : va_G} {ac : Nat → ClassId} (G : Gl s0 A0 D ac) {σ : St} {a0 : Nat} {a1 : Int32} {a2 : Int32} {a3 : Int32} {v : Int32} {σ' : St} (hf : fX0_would σ a0 a1 a2 a3 = some (v, σ')) : Met l yX0_would (ws_ yX0_would cX0_would 4 (some (.int))) ({ frames := 7, cells := 0, slots := 0, locals := 160 } : Room) (Pn s0 D ac [.ref a0, .int a1, .int a2, .int a3] σ) (Qn s0 D ac (some (.int v)) σ') 0 0 (fr s0) := by
  refine x_met (by decide) (Nat.le_of_ble_eq_true rfl) ?_
  intro p e s m args below meth c ls C hnm h hl
  have C : Cx s0 p s m args meth c cX0_would 4 "HutForShow" (some (.int)) := C
  have hx := C.1
  have hb := C.2.1
  have hl : lv_has ls 4 [(0, .ref a0), (1, .int a1), (2, .int a2), (3, .int a3)] := hl
  unfold fX0_would at hf
  refine lv_iload_n hx hb dX0_would_0 rfl (lv_at hl 1 rfl) ?_
  obtain ⟨x1, hc, hf⟩ := hf_b hf
  refine x_cS (rest := []) (As := [.int a1]) (n := 1) (ov := (some (.int x1))) C h (wX0_isVisitor G hc) (lw_S q823 q824 q54 q825) (by decide +kernel) ⟨Nat.le_of_ble_eq_true rfl, Nat.le_of_ble_eq_true rfl⟩ rfl rfl rfl hl.1 rfl (Nat.le_of_ble_eq_true rfl) dX0_would_1 ⟨(Nat.le_of_ble_eq_true rfl), (Nat.le_of_ble_eq_true rfl)⟩ (fun H locs h => ?_)
  refine lv_if_eq (tgt := 15) hx hb dX0_would_4 (by decide) (fun hc => ?_) (fun hc => ?_)
  · have hf := hf_t hc hf
    refine lv_bipush (v := (-2)) hx hb dX0_would_15 (by decide) ?_
    cases hf
    refine W.widen (k := 0) (n := 0) (Nat.le_of_ble_eq_true rfl) (Nat.le_of_ble_eq_true rfl) ?_
    exact x_iret C h dX0_would_17
  · have hf := hf_f hc hf
    refine lv_aload_n hx hb dX0_would_7 rfl (lv_at hl 0 rfl) ?_
    refine lv_iload_n hx hb dX0_would_8 rfl (lv_at hl 2 rfl) ?_
    obtain ⟨hk, hf⟩ := k_of hf
    obtain ⟨x2, hc, hf⟩ := hf_b hf
    refine x_cV (q := (RX0, TX0, 33)) (rest := []) (As := [.int a2]) (n := 1) (ov := (some (.int x2))) G C h (wX0_isHut G hc) hk rfl (lw_V q338 q340 qs0 q54 q341) (by decide +kernel) ⟨Nat.le_of_ble_eq_true rfl, Nat.le_of_ble_eq_true rfl⟩ rfl rfl rfl hl.1 rfl (Nat.le_of_ble_eq_true rfl) dX0_would_9 ⟨(Nat.le_of_ble_eq_true rfl), (Nat.le_of_ble_eq_true rfl)⟩ (fun H locs h => ?_)
    refine lv_if_ne (tgt := 18) hx hb dX0_would_12 (by decide) (fun hc => ?_) (fun hc => ?_)
    · have hf := hf_f hc hf
      refine lv_iload_n hx hb dX0_would_18 rfl (lv_at hl 3 rfl) ?_
      obtain ⟨x3, hc, hf⟩ := hf_b hf
      refine x_cS (rest := []) (As := [.int a3]) (n := 1) (ov := (some (.int x3))) C h (wX0_areHours G hc) (lw_S q407 q408 q54 q409) (by decide +kernel) ⟨Nat.le_of_ble_eq_true rfl, Nat.le_of_ble_eq_true rfl⟩ rfl rfl rfl hl.1 rfl (Nat.le_of_ble_eq_true rfl) dX0_would_19 ⟨(Nat.le_of_ble_eq_true rfl), (Nat.le_of_ble_eq_true rfl)⟩ (fun H locs h => ?_)
      refine lv_if_ne (tgt := 28) hx hb dX0_would_22 (by decide) (fun hc => ?_) (fun hc => ?_)
      · have hf := hf_f hc hf
        refine lv_aload_n hx hb dX0_would_28 rfl (lv_at hl 0 rfl) ?_
        refine lv_iload_n hx hb dX0_would_29 rfl (lv_at hl 3 rfl) ?_
        refine lv_iconst (v := 1) hx hb dX0_would_30 (by decide) ?_
        obtain ⟨hk, hf⟩ := k_of hf
        obtain ⟨σ4, hc, hf⟩ := hf_b hf
        refine x_cV (q := (RX0, TX0, 33)) (rest := []) (As := [.int a3, .int 1]) (n := 2) (ov := none) G C h (wX0_live G hc) hk rfl (lw_V q853 q855 qs9 q54 q856) (by decide +kernel) ⟨Nat.le_of_ble_eq_true rfl, Nat.le_of_ble_eq_true rfl⟩ rfl rfl rfl hl.1 rfl (Nat.le_of_ble_eq_true rfl) dX0_would_31 ⟨(Nat.le_of_ble_eq_true rfl), (Nat.le_of_ble_eq_true rfl)⟩ (fun H locs h => ?_)
        refine lv_aload_n hx hb dX0_would_34 rfl (lv_at hl 0 rfl) ?_
        refine lv_iload_n hx hb dX0_would_35 rfl (lv_at hl 1 rfl) ?_
        refine lv_aload_n hx hb dX0_would_36 rfl (lv_at hl 0 rfl) ?_
        refine x_gR (q := (RX0, TX0, 33)) (j := 8) G C h rfl (by decide) (fun _ _ _ => rfl) (lk C q214) (fun _ z => z) dX0_would_37 hf (fun r5 hf => ?_)
        refine lv_iload_n hx hb dX0_would_40 rfl (lv_at hl 2 rfl) ?_
        obtain ⟨hk, hf⟩ := k_of hf
        obtain ⟨x6, hc, hf⟩ := hf_b hf
        refine x_cV (q := (RX0, TX0, 33)) (rest := []) (As := [.int a1, .ref r5, .int a2]) (n := 3) (ov := (some (.int x6))) G C h (wX0_worthOf G hc) hk rfl (lw_V q837 q839 qs8 q54 q840) (by decide +kernel) ⟨Nat.le_of_ble_eq_true rfl, Nat.le_of_ble_eq_true rfl⟩ rfl rfl rfl hl.1 rfl (Nat.le_of_ble_eq_true rfl) dX0_would_41 ⟨(Nat.le_of_ble_eq_true rfl), (Nat.le_of_ble_eq_true rfl)⟩ (fun H locs h => ?_)
        cases hf
        refine W.widen (k := 0) (n := 0) (Nat.le_of_ble_eq_true rfl) (Nat.le_of_ble_eq_true rfl) ?_
        exact x_iret C h dX0_would_44
      · have hf := hf_t hc hf
        refine lv_bipush (v := (-3)) hx hb dX0_would_25 (by decide) ?_
        cases hf
        refine W.widen (k := 0) (n := 0) (Nat.le_of_ble_eq_true rfl) (Nat.le_of_ble_eq_true rfl) ?_
        exact x_iret C h dX0_would_27
    · have hf := hf_t hc hf
      refine lv_bipush (v := (-2)) hx hb dX0_would_15 (by decide) ?_
      cases hf
      refine W.widen (k := 0) (n := 0) (Nat.le_of_ble_eq_true rfl) (Nat.le_of_ble_eq_true rfl) ?_
      exact x_iret C h dX0_would_17

theorem dX5_allSticks_0 : decode cX5_allSticks 0 = .ok (.iconst 0, 1) := by decide +kernel
theorem dX5_allSticks_1 : decode cX5_allSticks 1 = .ok (.istore_n 1, 1) := by decide +kernel
theorem dX5_allSticks_2 : decode cX5_allSticks 2 = .ok (.iconst 0, 1) := by decide +kernel
theorem dX5_allSticks_3 : decode cX5_allSticks 3 = .ok (.istore_n 2, 1) := by decide +kernel
theorem dX5_allSticks_4 : decode cX5_allSticks 4 = .ok (.iload_n 2, 1) := by decide +kernel
theorem dX5_allSticks_5 : decode cX5_allSticks 5 = .ok (.aload_n 0, 1) := by decide +kernel
theorem dX5_allSticks_6 : decode cX5_allSticks 6 = .ok (.getfield 3, 3) := by decide +kernel
theorem dX5_allSticks_9 : decode cX5_allSticks 9 = .ok (.getfield 79, 3) := by decide +kernel
theorem dX5_allSticks_12 : decode cX5_allSticks 12 = .ok (.if_icmp .ge 18, 3) := by decide +kernel
theorem dX5_allSticks_15 : decode cX5_allSticks 15 = .ok (.iload_n 1, 1) := by decide +kernel
theorem dX5_allSticks_16 : decode cX5_allSticks 16 = .ok (.aload_n 0, 1) := by decide +kernel
theorem dX5_allSticks_17 : decode cX5_allSticks 17 = .ok (.getfield 15, 3) := by decide +kernel
theorem dX5_allSticks_20 : decode cX5_allSticks 20 = .ok (.iload_n 2, 1) := by decide +kernel
theorem dX5_allSticks_21 : decode cX5_allSticks 21 = .ok (.iaload, 1) := by decide +kernel
theorem dX5_allSticks_22 : decode cX5_allSticks 22 = .ok (.iadd, 1) := by decide +kernel
theorem dX5_allSticks_23 : decode cX5_allSticks 23 = .ok (.istore_n 1, 1) := by decide +kernel
theorem dX5_allSticks_24 : decode cX5_allSticks 24 = .ok (.iinc 2 1, 3) := by decide +kernel
theorem dX5_allSticks_27 : decode cX5_allSticks 27 = .ok (.goto (-23), 3) := by decide +kernel
theorem dX5_allSticks_30 : decode cX5_allSticks 30 = .ok (.iload_n 1, 1) := by decide +kernel
theorem dX5_allSticks_31 : decode cX5_allSticks 31 = .ok (.ireturn, 1) := by decide +kernel
def lX5_allSticks_4 (σ : St) (a0 : Nat) (x1 : Int32) (x2 : Int32) : Option ((Int32 × Int32) ⊕ (Int32)) :=
  o_gR σ a0 3 8 fun r3 =>
  o_gI σ r3 0 3 fun x4 =>
  if x4 ≤ x2 then
    some (.inr x1)
  else
  o_gR σ a0 3 1 fun r5 =>
  o_aI σ r5 0 x2 fun x6 =>
  some (.inl (x1 + x6, x2 + 1))

def fX5_allSticks (σ : St) (a0 : Nat) : Option (Int32) :=
  (loopF fuel (fun z => lX5_allSticks_4 σ a0 z.1 z.2) (0, 0)).bind <| fun x7 =>
  some x7

set_option maxHeartbeats 4000000 in
theorem wX5_allSticks {l : Launch} {s0 : State} {A0 : Array Value} {D : va_G} {ac : Nat → ClassId} (G : Gl s0 A0 D ac) {σ : St} {a0 : Nat} {v : Int32} (hf : fX5_allSticks σ a0 = some (v)) : Met l yX5_allSticks (ws_ yX5_allSticks cX5_allSticks 3 (some (.int))) ({ frames := 0, cells := 0, slots := 0, locals := 0 } : Room) (Pn s0 D ac [.ref a0] σ) (Qn s0 D ac (some (.int v)) σ) 0 0 (fr s0) := by
  refine x_met (by decide) (Nat.le_of_ble_eq_true rfl) ?_
  intro p e s m args below meth c ls C hnm h hl
  have C : Cx s0 p s m args meth c cX5_allSticks 3 "HutForShow$Wood" (some (.int)) := C
  have hx := C.1
  have hb := C.2.1
  have hl : lv_has ls 3 [(0, .ref a0)] := hl
  unfold fX5_allSticks at hf
  refine lv_iconst (v := 0) hx hb dX5_allSticks_0 (by decide) ?_
  refine lv_istore_n (lv' := [(1, .int 0), (0, .ref a0)]) hx hb dX5_allSticks_1 rfl hl (by decide) rfl (fun ls hl => ?_)
  refine lv_iconst (v := 0) hx hb dX5_allSticks_2 (by decide) ?_
  refine lv_istore_n (lv' := [(2, .int 0), (1, .int 0), (0, .ref a0)]) hx hb dX5_allSticks_3 rfl hl (by decide) rfl (fun ls hl => ?_)
  obtain ⟨e4, hL, hK⟩ := hf_b hf
  have hE4_0 : ∀ (x7 : Int32), x7 = e4 → ∀  (H : Heap) (locs : List Loc) (ls : Array Slot), Hs s0 D ac σ H locs → lv_has ls 3 [(0, .ref a0), (1, .int x7)] → W p l e ({ frames := 0, cells := 0, slots := 0, locals := 0 } : Room) s m args below meth c H locs 0 0 (MQ below (Qn s0 D ac (some (.int v)) σ) args s 0 0 (fr s0)) (F0 m 30 ls []) := by
    intro x7 he H locs ls h hl
    subst he
    have hf := hK
    refine lv_iload_n hx hb dX5_allSticks_30 rfl (lv_at hl 1 rfl) ?_
    cases hf
    refine W.widen (k := 0) (n := 0) (Nat.le_of_ble_eq_true rfl) (Nat.le_of_ble_eq_true rfl) ?_
    exact x_iret C h dX5_allSticks_31
  refine loopF_ind (P := fun z => ∀ (H : Heap) (locs : List Loc) (ls : Array Slot), Hs s0 D ac σ H locs → lv_has ls 3 [(0, .ref a0), (1, .int z.1), (2, .int z.2)] → W p l e ({ frames := 0, cells := 0, slots := 0, locals := 0 } : Room) s m args below meth c H locs 0 0 (MQ below (Qn s0 D ac (some (.int v)) σ) args s 0 0 (fr s0)) (F0 m 4 ls [])) ?_ _ _ hL _ _ _ h (lv_sub hl [2, 1, 0] rfl)
  clear hK hL h hl hf
  intro z o hf ih hX H locs ls h hl
  obtain ⟨x1, x2⟩ := z
  have h : Hs s0 D ac σ H locs := h
  have hl : lv_has ls 3 [(0, .ref a0), (1, .int x1), (2, .int x2)] := hl
  have hf : lX5_allSticks_4 σ a0 x1 x2 = some o := hf
  unfold lX5_allSticks_4 at hf
  refine lv_iload_n hx hb dX5_allSticks_4 rfl (lv_at hl 2 rfl) ?_
  refine lv_aload_n hx hb dX5_allSticks_5 rfl (lv_at hl 0 rfl) ?_
  refine x_gR (q := (RX5, TX5, 9)) (j := 8) G C h rfl (by decide) (fun _ _ _ => rfl) (lk C q145) (fun _ z => z) dX5_allSticks_6 hf (fun r3 hf => ?_)
  refine x_gI (q := (RX0, TX0, 33)) (j := 3) G C h rfl (by decide) (fun _ _ _ => rfl) (lkn G C q204) (fun _ z => z) dX5_allSticks_9 hf (fun x4 hf => ?_)
  refine lv_icmp_ge (tgt := 30) hx hb dX5_allSticks_12 (by decide) (fun hc => ?_) (fun hc => ?_)
  · have hf := hf_t hc hf
    cases hf
    exact hE4_0 _ (hX _ rfl) _ _ _ h (lv_sub hl [0, 1] rfl)
  · have hf := hf_f hc hf
    refine lv_iload_n hx hb dX5_allSticks_15 rfl (lv_at hl 1 rfl) ?_
    refine lv_aload_n hx hb dX5_allSticks_16 rfl (lv_at hl 0 rfl) ?_
    refine x_gR (q := (RX5, TX5, 9)) (j := 1) G C h rfl (by decide) (fun _ _ _ => rfl) (lk C q125) (fun _ z => z) dX5_allSticks_17 hf (fun r5 hf => ?_)
    refine lv_iload_n hx hb dX5_allSticks_20 rfl (lv_at hl 2 rfl) ?_
    refine x_iald G C h dX5_allSticks_21 hf (fun x6 hf => ?_)
    refine lv_iadd hx hb dX5_allSticks_22 ?_
    refine lv_istore_n (lv' := [(1, .int (x1 + x6)), (0, .ref a0), (2, .int x2)]) hx hb dX5_allSticks_23 rfl hl (by decide) rfl (fun ls hl => ?_)
    refine lv_iinc (v := x2 + 1) (lv' := [(2, .int (x2 + 1)), (1, .int (x1 + x6)), (0, .ref a0)]) hx hb dX5_allSticks_24 hl (k := 2) rfl rfl (by decide) rfl (fun ls hl => ?_)
    refine lv_goto (tgt := 4) hx hb dX5_allSticks_27 (by decide) ?_
    cases hf
    exact ih _ rfl _ _ _ h (lv_sub hl [2, 1, 0] rfl)

theorem dX0_lost_0 : decode cX0_lost 0 = .ok (.iload_n 1, 1) := by decide +kernel
theorem dX0_lost_1 : decode cX0_lost 1 = .ok (.invokestatic 199, 3) := by decide +kernel
theorem dX0_lost_4 : decode cX0_lost 4 = .ok (.ifCond .ne 6, 3) := by decide +kernel
theorem dX0_lost_7 : decode cX0_lost 7 = .ok (.bipush (-3), 2) := by decide +kernel
theorem dX0_lost_9 : decode cX0_lost 9 = .ok (.ireturn, 1) := by decide +kernel
theorem dX0_lost_10 : decode cX0_lost 10 = .ok (.aload_n 0, 1) := by decide +kernel
theorem dX0_lost_11 : decode cX0_lost 11 = .ok (.iload_n 1, 1) := by decide +kernel
theorem dX0_lost_12 : decode cX0_lost 12 = .ok (.iconst 0, 1) := by decide +kernel
theorem dX0_lost_13 : decode cX0_lost 13 = .ok (.invokevirtual 262, 3) := by decide +kernel
theorem dX0_lost_16 : decode cX0_lost 16 = .ok (.aload_n 0, 1) := by decide +kernel
theorem dX0_lost_17 : decode cX0_lost 17 = .ok (.getfield 49, 3) := by decide +kernel
theorem dX0_lost_20 : decode cX0_lost 20 = .ok (.invokevirtual 266, 3) := by decide +kernel
theorem dX0_lost_23 : decode cX0_lost 23 = .ok (.istore_n 2, 1) := by decide +kernel
theorem dX0_lost_24 : decode cX0_lost 24 = .ok (.aload_n 0, 1) := by decide +kernel
theorem dX0_lost_25 : decode cX0_lost 25 = .ok (.iload_n 1, 1) := by decide +kernel
theorem dX0_lost_26 : decode cX0_lost 26 = .ok (.iconst 1, 1) := by decide +kernel
theorem dX0_lost_27 : decode cX0_lost 27 = .ok (.invokevirtual 262, 3) := by decide +kernel
theorem dX0_lost_30 : decode cX0_lost 30 = .ok (.iload_n 2, 1) := by decide +kernel
theorem dX0_lost_31 : decode cX0_lost 31 = .ok (.aload_n 0, 1) := by decide +kernel
theorem dX0_lost_32 : decode cX0_lost 32 = .ok (.getfield 49, 3) := by decide +kernel
theorem dX0_lost_35 : decode cX0_lost 35 = .ok (.invokevirtual 266, 3) := by decide +kernel
theorem dX0_lost_38 : decode cX0_lost 38 = .ok (.isub, 1) := by decide +kernel
theorem dX0_lost_39 : decode cX0_lost 39 = .ok (.ireturn, 1) := by decide +kernel
def fX0_lost (σ : St) (a0 : Nat) (a1 : Int32) : Option (Int32 × St) :=
  (fX0_areHours σ a1).bind fun x1 =>
  if x1 = 0 then
    some ((-3), σ)
  else
  o_k σ a0 0 <|
  (fX0_live σ a0 a1 0).bind fun σ2 =>
  o_gR σ2 a0 0 8 fun r3 =>
  o_k σ2 r3 3 <|
  (fX5_allSticks σ2 r3).bind fun x4 =>
  o_k σ2 a0 0 <|
  (fX0_live σ2 a0 a1 1).bind fun σ5 =>
  o_gR σ5 a0 0 8 fun r6 =>
  o_k σ5 r6 3 <|
  (fX5_allSticks σ5 r6).bind fun x7 =>
  some (x4 - x7, σ5)

set_option maxHeartbeats 4000000 in
theorem wX0_lost {l : Launch} {s0 : State} {A0 : Array Value} {D : va_G} {ac : Nat → ClassId} (G : Gl s0 A0 D ac) {σ : St} {a0 : Nat} {a1 : Int32} {v : Int32} {σ' : St} (hf : fX0_lost σ a0 a1 = some (v, σ')) : Met l yX0_lost (ws_ yX0_lost cX0_lost 3 (some (.int))) ({ frames := 7, cells := 0, slots := 0, locals := 160 } : Room) (Pn s0 D ac [.ref a0, .int a1] σ) (Qn s0 D ac (some (.int v)) σ') 0 0 (fr s0) := by
  refine x_met (by decide) (Nat.le_of_ble_eq_true rfl) ?_
  intro p e s m args below meth c ls C hnm h hl
  have C : Cx s0 p s m args meth c cX0_lost 3 "HutForShow" (some (.int)) := C
  have hx := C.1
  have hb := C.2.1
  have hl : lv_has ls 3 [(0, .ref a0), (1, .int a1)] := hl
  unfold fX0_lost at hf
  refine lv_iload_n hx hb dX0_lost_0 rfl (lv_at hl 1 rfl) ?_
  obtain ⟨x1, hc, hf⟩ := hf_b hf
  refine x_cS (rest := []) (As := [.int a1]) (n := 1) (ov := (some (.int x1))) C h (wX0_areHours G hc) (lw_S q407 q408 q54 q409) (by decide +kernel) ⟨Nat.le_of_ble_eq_true rfl, Nat.le_of_ble_eq_true rfl⟩ rfl rfl rfl hl.1 rfl (Nat.le_of_ble_eq_true rfl) dX0_lost_1 ⟨(Nat.le_of_ble_eq_true rfl), (Nat.le_of_ble_eq_true rfl)⟩ (fun H locs h => ?_)
  refine lv_if_ne (tgt := 10) hx hb dX0_lost_4 (by decide) (fun hc => ?_) (fun hc => ?_)
  · have hf := hf_f hc hf
    refine lv_aload_n hx hb dX0_lost_10 rfl (lv_at hl 0 rfl) ?_
    refine lv_iload_n hx hb dX0_lost_11 rfl (lv_at hl 1 rfl) ?_
    refine lv_iconst (v := 0) hx hb dX0_lost_12 (by decide) ?_
    obtain ⟨hk, hf⟩ := k_of hf
    obtain ⟨σ2, hc, hf⟩ := hf_b hf
    refine x_cV (q := (RX0, TX0, 33)) (rest := []) (As := [.int a1, .int 0]) (n := 2) (ov := none) G C h (wX0_live G hc) hk rfl (lw_V q853 q855 qs9 q54 q856) (by decide +kernel) ⟨Nat.le_of_ble_eq_true rfl, Nat.le_of_ble_eq_true rfl⟩ rfl rfl rfl hl.1 rfl (Nat.le_of_ble_eq_true rfl) dX0_lost_13 ⟨(Nat.le_of_ble_eq_true rfl), (Nat.le_of_ble_eq_true rfl)⟩ (fun H locs h => ?_)
    refine lv_aload_n hx hb dX0_lost_16 rfl (lv_at hl 0 rfl) ?_
    refine x_gR (q := (RX0, TX0, 33)) (j := 8) G C h rfl (by decide) (fun _ _ _ => rfl) (lk C q214) (fun _ z => z) dX0_lost_17 hf (fun r3 hf => ?_)
    obtain ⟨hk, hf⟩ := k_of hf
    obtain ⟨x4, hc, hf⟩ := hf_b hf
    refine x_cV (q := (RX5, TX5, 9)) (rest := []) (As := []) (n := 0) (ov := (some (.int x4))) G C h (wX5_allSticks G hc) hk rfl (lw_V q868 q869 q870 q59 q871) (by decide +kernel) ⟨Nat.le_of_ble_eq_true rfl, Nat.le_of_ble_eq_true rfl⟩ rfl rfl rfl hl.1 rfl (Nat.le_of_ble_eq_true rfl) dX0_lost_20 ⟨(Nat.le_of_ble_eq_true rfl), (Nat.le_of_ble_eq_true rfl)⟩ (fun H locs h => ?_)
    refine lv_istore_n (lv' := [(2, .int x4), (0, .ref a0), (1, .int a1)]) hx hb dX0_lost_23 rfl hl (by decide) rfl (fun ls hl => ?_)
    refine lv_aload_n hx hb dX0_lost_24 rfl (lv_at hl 1 rfl) ?_
    refine lv_iload_n hx hb dX0_lost_25 rfl (lv_at hl 2 rfl) ?_
    refine lv_iconst (v := 1) hx hb dX0_lost_26 (by decide) ?_
    obtain ⟨hk, hf⟩ := k_of hf
    obtain ⟨σ5, hc, hf⟩ := hf_b hf
    refine x_cV (q := (RX0, TX0, 33)) (rest := []) (As := [.int a1, .int 1]) (n := 2) (ov := none) G C h (wX0_live G hc) hk rfl (lw_V q853 q855 qs9 q54 q856) (by decide +kernel) ⟨Nat.le_of_ble_eq_true rfl, Nat.le_of_ble_eq_true rfl⟩ rfl rfl rfl hl.1 rfl (Nat.le_of_ble_eq_true rfl) dX0_lost_27 ⟨(Nat.le_of_ble_eq_true rfl), (Nat.le_of_ble_eq_true rfl)⟩ (fun H locs h => ?_)
    refine lv_iload_n hx hb dX0_lost_30 rfl (lv_at hl 0 rfl) ?_
    refine lv_aload_n hx hb dX0_lost_31 rfl (lv_at hl 1 rfl) ?_
    refine x_gR (q := (RX0, TX0, 33)) (j := 8) G C h rfl (by decide) (fun _ _ _ => rfl) (lk C q214) (fun _ z => z) dX0_lost_32 hf (fun r6 hf => ?_)
    obtain ⟨hk, hf⟩ := k_of hf
    obtain ⟨x7, hc, hf⟩ := hf_b hf
    refine x_cV (q := (RX5, TX5, 9)) (rest := [.int x4]) (As := []) (n := 0) (ov := (some (.int x7))) G C h (wX5_allSticks G hc) hk rfl (lw_V q868 q869 q870 q59 q871) (by decide +kernel) ⟨Nat.le_of_ble_eq_true rfl, Nat.le_of_ble_eq_true rfl⟩ rfl rfl rfl hl.1 rfl (Nat.le_of_ble_eq_true rfl) dX0_lost_35 ⟨(Nat.le_of_ble_eq_true rfl), (Nat.le_of_ble_eq_true rfl)⟩ (fun H locs h => ?_)
    refine lv_isub hx hb dX0_lost_38 ?_
    cases hf
    refine W.widen (k := 0) (n := 0) (Nat.le_of_ble_eq_true rfl) (Nat.le_of_ble_eq_true rfl) ?_
    exact x_iret C h dX0_lost_39
  · have hf := hf_t hc hf
    refine lv_bipush (v := (-3)) hx hb dX0_lost_7 (by decide) ?_
    cases hf
    refine W.widen (k := 0) (n := 0) (Nat.le_of_ble_eq_true rfl) (Nat.le_of_ble_eq_true rfl) ?_
    exact x_iret C h dX0_lost_9

theorem dX0_layHand_0 : decode cX0_layHand 0 = .ok (.iload_n 3, 1) := by decide +kernel
theorem dX0_layHand_1 : decode cX0_layHand 1 = .ok (.i2l, 1) := by decide +kernel
theorem dX0_layHand_2 : decode cX0_layHand 2 = .ok (.lconst 1, 1) := by decide +kernel
theorem dX0_layHand_3 : decode cX0_layHand 3 = .ok (.ldc2_w 269, 3) := by decide +kernel
theorem dX0_layHand_6 : decode cX0_layHand 6 = .ok (.invokestatic 127, 3) := by decide +kernel
theorem dX0_layHand_9 : decode cX0_layHand 9 = .ok (.ifCond .ne 6, 3) := by decide +kernel
theorem dX0_layHand_12 : decode cX0_layHand 12 = .ok (.bipush (-3), 2) := by decide +kernel
theorem dX0_layHand_14 : decode cX0_layHand 14 = .ok (.ireturn, 1) := by decide +kernel
theorem dX0_layHand_15 : decode cX0_layHand 15 = .ok (.iconst 1, 1) := by decide +kernel
theorem dX0_layHand_16 : decode cX0_layHand 16 = .ok (.istore 4, 2) := by decide +kernel
theorem dX0_layHand_18 : decode cX0_layHand 18 = .ok (.iconst 1, 1) := by decide +kernel
theorem dX0_layHand_19 : decode cX0_layHand 19 = .ok (.istore 5, 2) := by decide +kernel
theorem dX0_layHand_21 : decode cX0_layHand 21 = .ok (.iconst 0, 1) := by decide +kernel
theorem dX0_layHand_22 : decode cX0_layHand 22 = .ok (.istore 6, 2) := by decide +kernel
theorem dX0_layHand_24 : decode cX0_layHand 24 = .ok (.iload 6, 2) := by decide +kernel
theorem dX0_layHand_26 : decode cX0_layHand 26 = .ok (.iload_n 3, 1) := by decide +kernel
theorem dX0_layHand_27 : decode cX0_layHand 27 = .ok (.if_icmp .ge 99, 3) := by decide +kernel
theorem dX0_layHand_30 : decode cX0_layHand 30 = .ok (.aload_n 0, 1) := by decide +kernel
theorem dX0_layHand_31 : decode cX0_layHand 31 = .ok (.getfield 75, 3) := by decide +kernel
theorem dX0_layHand_34 : decode cX0_layHand 34 = .ok (.iload 6, 2) := by decide +kernel
theorem dX0_layHand_36 : decode cX0_layHand 36 = .ok (.lload_n 1, 1) := by decide +kernel
theorem dX0_layHand_37 : decode cX0_layHand 37 = .ok (.bipush 6, 2) := by decide +kernel
theorem dX0_layHand_39 : decode cX0_layHand 39 = .ok (.iload 6, 2) := by decide +kernel
theorem dX0_layHand_41 : decode cX0_layHand 41 = .ok (.imul, 1) := by decide +kernel
theorem dX0_layHand_42 : decode cX0_layHand 42 = .ok (.lshr, 1) := by decide +kernel
theorem dX0_layHand_43 : decode cX0_layHand 43 = .ok (.ldc2_w 271, 3) := by decide +kernel
theorem dX0_layHand_46 : decode cX0_layHand 46 = .ok (.land, 1) := by decide +kernel
theorem dX0_layHand_47 : decode cX0_layHand 47 = .ok (.l2i, 1) := by decide +kernel
theorem dX0_layHand_48 : decode cX0_layHand 48 = .ok (.iastore, 1) := by decide +kernel
theorem dX0_layHand_49 : decode cX0_layHand 49 = .ok (.iload 4, 2) := by decide +kernel
theorem dX0_layHand_51 : decode cX0_layHand 51 = .ok (.ifCond .eq 21, 3) := by decide +kernel
theorem dX0_layHand_54 : decode cX0_layHand 54 = .ok (.aload_n 0, 1) := by decide +kernel
theorem dX0_layHand_55 : decode cX0_layHand 55 = .ok (.aload_n 0, 1) := by decide +kernel
theorem dX0_layHand_56 : decode cX0_layHand 56 = .ok (.getfield 75, 3) := by decide +kernel
theorem dX0_layHand_59 : decode cX0_layHand 59 = .ok (.iload 6, 2) := by decide +kernel
theorem dX0_layHand_61 : decode cX0_layHand 61 = .ok (.iaload, 1) := by decide +kernel
theorem dX0_layHand_62 : decode cX0_layHand 62 = .ok (.invokevirtual 171, 3) := by decide +kernel
theorem dX0_layHand_65 : decode cX0_layHand 65 = .ok (.ifCond .eq 7, 3) := by decide +kernel
theorem dX0_layHand_68 : decode cX0_layHand 68 = .ok (.iconst 1, 1) := by decide +kernel
theorem dX0_layHand_69 : decode cX0_layHand 69 = .ok (.goto 4, 3) := by decide +kernel
theorem dX0_layHand_72 : decode cX0_layHand 72 = .ok (.iconst 0, 1) := by decide +kernel
theorem dX0_layHand_73 : decode cX0_layHand 73 = .ok (.istore 4, 2) := by decide +kernel
theorem dX0_layHand_75 : decode cX0_layHand 75 = .ok (.iconst 0, 1) := by decide +kernel
theorem dX0_layHand_76 : decode cX0_layHand 76 = .ok (.istore 7, 2) := by decide +kernel
theorem dX0_layHand_78 : decode cX0_layHand 78 = .ok (.iload 7, 2) := by decide +kernel
theorem dX0_layHand_80 : decode cX0_layHand 80 = .ok (.iload 6, 2) := by decide +kernel
theorem dX0_layHand_82 : decode cX0_layHand 82 = .ok (.if_icmp .ge 38, 3) := by decide +kernel
theorem dX0_layHand_85 : decode cX0_layHand 85 = .ok (.iload 5, 2) := by decide +kernel
theorem dX0_layHand_87 : decode cX0_layHand 87 = .ok (.ifCond .eq 24, 3) := by decide +kernel
theorem dX0_layHand_90 : decode cX0_layHand 90 = .ok (.aload_n 0, 1) := by decide +kernel
theorem dX0_layHand_91 : decode cX0_layHand 91 = .ok (.getfield 75, 3) := by decide +kernel
theorem dX0_layHand_94 : decode cX0_layHand 94 = .ok (.iload 7, 2) := by decide +kernel
theorem dX0_layHand_96 : decode cX0_layHand 96 = .ok (.iaload, 1) := by decide +kernel
theorem dX0_layHand_97 : decode cX0_layHand 97 = .ok (.aload_n 0, 1) := by decide +kernel
theorem dX0_layHand_98 : decode cX0_layHand 98 = .ok (.getfield 75, 3) := by decide +kernel
theorem dX0_layHand_101 : decode cX0_layHand 101 = .ok (.iload 6, 2) := by decide +kernel
theorem dX0_layHand_103 : decode cX0_layHand 103 = .ok (.iaload, 1) := by decide +kernel
theorem dX0_layHand_104 : decode cX0_layHand 104 = .ok (.if_icmp .eq 7, 3) := by decide +kernel
theorem dX0_layHand_107 : decode cX0_layHand 107 = .ok (.iconst 1, 1) := by decide +kernel
theorem dX0_layHand_108 : decode cX0_layHand 108 = .ok (.goto 4, 3) := by decide +kernel
theorem dX0_layHand_111 : decode cX0_layHand 111 = .ok (.iconst 0, 1) := by decide +kernel
theorem dX0_layHand_112 : decode cX0_layHand 112 = .ok (.istore 5, 2) := by decide +kernel
theorem dX0_layHand_114 : decode cX0_layHand 114 = .ok (.iinc 7 1, 3) := by decide +kernel
theorem dX0_layHand_117 : decode cX0_layHand 117 = .ok (.goto (-39), 3) := by decide +kernel
theorem dX0_layHand_120 : decode cX0_layHand 120 = .ok (.iinc 6 1, 3) := by decide +kernel
theorem dX0_layHand_123 : decode cX0_layHand 123 = .ok (.goto (-99), 3) := by decide +kernel
theorem dX0_layHand_126 : decode cX0_layHand 126 = .ok (.iload 4, 2) := by decide +kernel
theorem dX0_layHand_128 : decode cX0_layHand 128 = .ok (.ifCond .ne 8, 3) := by decide +kernel
theorem dX0_layHand_131 : decode cX0_layHand 131 = .ok (.bipush (-2), 2) := by decide +kernel
theorem dX0_layHand_133 : decode cX0_layHand 133 = .ok (.goto 14, 3) := by decide +kernel
theorem dX0_layHand_136 : decode cX0_layHand 136 = .ok (.iload 5, 2) := by decide +kernel
theorem dX0_layHand_138 : decode cX0_layHand 138 = .ok (.ifCond .ne 8, 3) := by decide +kernel
theorem dX0_layHand_141 : decode cX0_layHand 141 = .ok (.bipush (-3), 2) := by decide +kernel
theorem dX0_layHand_143 : decode cX0_layHand 143 = .ok (.goto 4, 3) := by decide +kernel
theorem dX0_layHand_146 : decode cX0_layHand 146 = .ok (.iconst 0, 1) := by decide +kernel
theorem dX0_layHand_147 : decode cX0_layHand 147 = .ok (.ireturn, 1) := by decide +kernel
def lX0_layHand_78 (x5 : Int32) (σ7 : St) (a0 : Nat) (x12 : Int32) (x13 : Int32) : Option ((Int32 × Int32) ⊕ (Int32)) :=
  if x5 ≤ x13 then
    some (.inr x12)
  else
  jn (fun (x18 : Int32) =>
    some (.inl (x18, x13 + 1))) fun j112 =>
  jn (fun (_ : Unit) =>
    j112 0) fun j111 =>
  if x12 = 0 then
    j111 ()
  else
  o_gR σ7 a0 0 14 fun r14 =>
  o_aI σ7 r14 0 x13 fun x15 =>
  o_gR σ7 a0 0 14 fun r16 =>
  o_aI σ7 r16 0 x5 fun x17 =>
  if x15 = x17 then
    j111 ()
  else
  j112 1

def lX0_layHand_24 (a2 : Int32) (a0 : Nat) (a1 : Int64) (σ2 : St) (x3 : Int32) (x4 : Int32) (x5 : Int32) : Option ((St × Int32 × Int32 × Int32) ⊕ (St × Int32 × Int32)) :=
  if a2 ≤ x5 then
    some (.inr (σ2, x3, x4))
  else
  o_gR σ2 a0 0 14 fun r6 =>
  o_sI σ2 r6 0 x5 (((a1 >>> ((6 * x5).toInt64 &&& 63)) &&& 63).toInt32) fun σ7 =>
  jn (fun (x11 : Int32) =>
    (loopF fuel (fun z => lX0_layHand_78 x5 σ7 a0 z.1 z.2) (x4, 0)).bind <| fun x19 =>
    some (.inl (σ7, x11, x19, x5 + 1))) fun j73 =>
  jn (fun (_ : Unit) =>
    j73 0) fun j72 =>
  if x3 = 0 then
    j72 ()
  else
  o_gR σ7 a0 0 14 fun r8 =>
  o_aI σ7 r8 0 x5 fun x9 =>
  o_k σ7 a0 0 <|
  (fX0_isThing σ7 a0 x9).bind fun x10 =>
  if x10 = 0 then
    j72 ()
  else
  j73 1

def fX0_layHand (σ : St) (a0 : Nat) (a1 : Int64) (a2 : Int32) : Option (Int32 × St) :=
  (fX0_isIn σ (a2.toInt64) 1 7).bind fun x1 =>
  if x1 = 0 then
    some ((-3), σ)
  else
  (loopF fuel (fun z => lX0_layHand_24 a2 a0 a1 z.1 z.2.1 z.2.2.1 z.2.2.2) (σ, 1, 1, 0)).bind <| un3 fun σ20 x21 x22 =>
  if x21 = 0 then
    some ((-2), σ20)
  else
  if x22 = 0 then
    some ((-3), σ20)
  else
  some (0, σ20)

set_option maxHeartbeats 4000000 in
theorem wX0_layHand {l : Launch} {s0 : State} {A0 : Array Value} {D : va_G} {ac : Nat → ClassId} (G : Gl s0 A0 D ac) {σ : St} {a0 : Nat} {a1 : Int64} {a2 : Int32} {v : Int32} {σ' : St} (hf : fX0_layHand σ a0 a1 a2 = some (v, σ')) : Met l yX0_layHand (ws_ yX0_layHand cX0_layHand 8 (some (.int))) ({ frames := 2, cells := 0, slots := 0, locals := 46 } : Room) (Pn s0 D ac [.ref a0, .long a1, .int a2] σ) (Qn s0 D ac (some (.int v)) σ') 0 0 (fr s0) := by
  refine x_met (by decide) (Nat.le_of_ble_eq_true rfl) ?_
  intro p e s m args below meth c ls C hnm h hl
  have C : Cx s0 p s m args meth c cX0_layHand 8 "HutForShow" (some (.int)) := C
  have hx := C.1
  have hb := C.2.1
  have hl : lv_has ls 8 [(0, .ref a0), (1, .long a1), (3, .int a2)] := hl
  unfold fX0_layHand at hf
  refine lv_iload_n hx hb dX0_layHand_0 rfl (lv_at hl 2 rfl) ?_
  refine lv_i2l hx hb dX0_layHand_1 rfl ?_
  refine lv_lconst (v := 1) hx hb dX0_layHand_2 (by decide) ?_
  refine lv_ldc2 (v := 7) hx hb C.2.2.2.1 (C.2.2.2.2.1 _ q880) dX0_layHand_3 ?_
  obtain ⟨x1, hc, hf⟩ := hf_b hf
  refine x_cS (rest := []) (As := [.long (a2.toInt64), .long 1, .long 7]) (n := 3) (ov := (some (.int x1))) C h (wX0_isIn G hc) (lw_S q318 q319 q54 q320) (by decide +kernel) ⟨Nat.le_of_ble_eq_true rfl, Nat.le_of_ble_eq_true rfl⟩ rfl rfl rfl hl.1 rfl (Nat.le_of_ble_eq_true rfl) dX0_layHand_6 ⟨(Nat.le_of_ble_eq_true rfl), (Nat.le_of_ble_eq_true rfl)⟩ (fun H locs h => ?_)
  refine lv_if_ne (tgt := 15) hx hb dX0_layHand_9 (by decide) (fun hc => ?_) (fun hc => ?_)
  · have hf := hf_f hc hf
    refine lv_iconst (v := 1) hx hb dX0_layHand_15 (by decide) ?_
    refine lv_istore (lv' := [(4, .int 1), (0, .ref a0), (1, .long a1), (3, .int a2)]) hx hb dX0_layHand_16 hl (by decide) rfl (fun ls hl => ?_)
    refine lv_iconst (v := 1) hx hb dX0_layHand_18 (by decide) ?_
    refine lv_istore (lv' := [(5, .int 1), (4, .int 1), (0, .ref a0), (1, .long a1), (3, .int a2)]) hx hb dX0_layHand_19 hl (by decide) rfl (fun ls hl => ?_)
    refine lv_iconst (v := 0) hx hb dX0_layHand_21 (by decide) ?_
    refine lv_istore (lv' := [(6, .int 0), (5, .int 1), (4, .int 1), (0, .ref a0), (1, .long a1), (3, .int a2)]) hx hb dX0_layHand_22 hl (by decide) rfl (fun ls hl => ?_)
    obtain ⟨e24, hL, hK⟩ := hf_b hf
    have hE24_0 : ∀ (σ20 : St) (x21 : Int32) (x22 : Int32), (σ20, x21, x22) = e24 → ∀  (H : Heap) (locs : List Loc) (ls : Array Slot), Hs s0 D ac σ20 H locs → lv_has ls 8 [(0, .ref a0), (1, .long a1), (3, .int a2), (4, .int x21), (5, .int x22)] → W p l e ({ frames := 2, cells := 0, slots := 0, locals := 46 } : Room) s m args below meth c H locs 0 0 (MQ below (Qn s0 D ac (some (.int v)) σ') args s 0 0 (fr s0)) (F0 m 126 ls []) := by
      intro σ20 x21 x22 he H locs ls h hl
      subst he
      have hf := hK
      have hf := hf_u3 hf
      refine lv_iload hx hb dX0_layHand_126 (lv_at hl 3 rfl) ?_
      refine lv_if_ne (tgt := 136) hx hb dX0_layHand_128 (by decide) (fun hc => ?_) (fun hc => ?_)
      · have hf := hf_f hc hf
        refine lv_iload hx hb dX0_layHand_136 (lv_at hl 4 rfl) ?_
        refine lv_if_ne (tgt := 146) hx hb dX0_layHand_138 (by decide) (fun hc => ?_) (fun hc => ?_)
        · have hf := hf_f hc hf
          refine lv_iconst (v := 0) hx hb dX0_layHand_146 (by decide) ?_
          cases hf
          refine W.widen (k := 0) (n := 0) (Nat.le_of_ble_eq_true rfl) (Nat.le_of_ble_eq_true rfl) ?_
          exact x_iret C h dX0_layHand_147
        · have hf := hf_t hc hf
          refine lv_bipush (v := (-3)) hx hb dX0_layHand_141 (by decide) ?_
          refine lv_goto (tgt := 147) hx hb dX0_layHand_143 (by decide) ?_
          cases hf
          refine W.widen (k := 0) (n := 0) (Nat.le_of_ble_eq_true rfl) (Nat.le_of_ble_eq_true rfl) ?_
          exact x_iret C h dX0_layHand_147
      · have hf := hf_t hc hf
        refine lv_bipush (v := (-2)) hx hb dX0_layHand_131 (by decide) ?_
        refine lv_goto (tgt := 147) hx hb dX0_layHand_133 (by decide) ?_
        cases hf
        refine W.widen (k := 0) (n := 0) (Nat.le_of_ble_eq_true rfl) (Nat.le_of_ble_eq_true rfl) ?_
        exact x_iret C h dX0_layHand_147
    refine loopF_ind (P := fun z => ∀ (H : Heap) (locs : List Loc) (ls : Array Slot), Hs s0 D ac (z.1) H locs → lv_has ls 8 [(0, .ref a0), (1, .long a1), (3, .int a2), (4, .int z.2.1), (5, .int z.2.2.1), (6, .int z.2.2.2)] → W p l e ({ frames := 2, cells := 0, slots := 0, locals := 46 } : Room) s m args below meth c H locs 0 0 (MQ below (Qn s0 D ac (some (.int v)) σ') args s 0 0 (fr s0)) (F0 m 24 ls [])) ?_ _ _ hL _ _ _ h (lv_sub hl [3, 4, 5, 2, 1, 0] rfl)
    clear hK hL h hl hf
    intro z o hf ih hX H locs ls h hl
    obtain ⟨σ2, x3, x4, x5⟩ := z
    have h : Hs s0 D ac σ2 H locs := h
    have hl : lv_has ls 8 [(0, .ref a0), (1, .long a1), (3, .int a2), (4, .int x3), (5, .int x4), (6, .int x5)] := hl
    have hf : lX0_layHand_24 a2 a0 a1 σ2 x3 x4 x5 = some o := hf
    unfold lX0_layHand_24 at hf
    refine lv_iload hx hb dX0_layHand_24 (lv_at hl 5 rfl) ?_
    refine lv_iload_n hx hb dX0_layHand_26 rfl (lv_at hl 2 rfl) ?_
    refine lv_icmp_ge (tgt := 126) hx hb dX0_layHand_27 (by decide) (fun hc => ?_) (fun hc => ?_)
    · have hf := hf_t hc hf
      cases hf
      exact hE24_0 _ _ _ (hX _ rfl) _ _ _ h (lv_sub hl [0, 1, 2, 3, 4] rfl)
    · have hf := hf_f hc hf
      refine lv_aload_n hx hb dX0_layHand_30 rfl (lv_at hl 0 rfl) ?_
      refine x_gR (q := (RX0, TX0, 33)) (j := 14) G C h rfl (by decide) (fun _ _ _ => rfl) (lk C q223) (fun _ z => z) dX0_layHand_31 hf (fun r6 hf => ?_)
      refine lv_iload hx hb dX0_layHand_34 (lv_at hl 5 rfl) ?_
      refine lv_lload_n hx hb dX0_layHand_36 rfl (lv_at hl 1 rfl) ?_
      refine lv_bipush (v := 6) hx hb dX0_layHand_37 (by decide) ?_
      refine lv_iload hx hb dX0_layHand_39 (lv_at hl 5 rfl) ?_
      refine lv_imul hx hb dX0_layHand_41 ?_
      refine lv_lshr hx hb dX0_layHand_42 rfl ?_
      refine lv_ldc2 (v := 63) hx hb C.2.2.2.1 (C.2.2.2.2.1 _ q881) dX0_layHand_43 ?_
      refine lv_land hx hb dX0_layHand_46 ?_
      refine lv_l2i hx hb dX0_layHand_47 rfl ?_
      refine x_iast G C h dX0_layHand_48 hf (fun σ7 H locs h hf => ?_)
      refine lv_iload hx hb dX0_layHand_49 (lv_at hl 3 rfl) ?_
      refine jn_of (P := fun j => ∀ (x11 : Int32), j x11 = some o → ∀ (H : Heap) (locs : List Loc) (ls : Array Slot), Hs s0 D ac σ7 H locs → lv_has ls 8 [(0, .ref a0), (1, .long a1), (3, .int a2), (4, .int x3), (5, .int x4), (6, .int x5)] → W p l e ({ frames := 2, cells := 0, slots := 0, locals := 46 } : Room) s m args below meth c H locs 0 0 (MQ below (Qn s0 D ac (some (.int v)) σ') args s 0 0 (fr s0)) (F0 m 73 ls [.int x11])) hf ?_ ?_
      · intro x11 hf H locs ls h hl
        refine lv_istore (lv' := [(4, .int x11), (0, .ref a0), (1, .long a1), (3, .int a2), (5, .int x4), (6, .int x5)]) hx hb dX0_layHand_73 hl (by decide) rfl (fun ls hl => ?_)
        refine lv_iconst (v := 0) hx hb dX0_layHand_75 (by decide) ?_
        refine lv_istore (lv' := [(7, .int 0), (4, .int x11), (0, .ref a0), (1, .long a1), (3, .int a2), (5, .int x4), (6, .int x5)]) hx hb dX0_layHand_76 hl (by decide) rfl (fun ls hl => ?_)
        obtain ⟨e78, hL, hK⟩ := hf_b hf
        have hE78_0 : ∀ (x19 : Int32), x19 = e78 → ∀  (H : Heap) (locs : List Loc) (ls : Array Slot), Hs s0 D ac σ7 H locs → lv_has ls 8 [(0, .ref a0), (1, .long a1), (3, .int a2), (4, .int x11), (5, .int x19), (6, .int x5)] → W p l e ({ frames := 2, cells := 0, slots := 0, locals := 46 } : Room) s m args below meth c H locs 0 0 (MQ below (Qn s0 D ac (some (.int v)) σ') args s 0 0 (fr s0)) (F0 m 120 ls []) := by
          intro x19 he H locs ls h hl
          subst he
          have hf := hK
          refine lv_iinc (v := x5 + 1) (lv' := [(6, .int (x5 + 1)), (0, .ref a0), (1, .long a1), (3, .int a2), (4, .int x11), (5, .int x19)]) hx hb dX0_layHand_120 hl (k := 5) rfl rfl (by decide) rfl (fun ls hl => ?_)
          refine lv_goto (tgt := 24) hx hb dX0_layHand_123 (by decide) ?_
          cases hf
          exact ih _ rfl _ _ _ h (lv_sub hl [1, 2, 3, 4, 5, 0] rfl)
        refine loopF_ind (P := fun z => ∀ (H : Heap) (locs : List Loc) (ls : Array Slot), Hs s0 D ac σ7 H locs → lv_has ls 8 [(0, .ref a0), (1, .long a1), (3, .int a2), (4, .int x11), (5, .int z.1), (6, .int x5), (7, .int z.2)] → W p l e ({ frames := 2, cells := 0, slots := 0, locals := 46 } : Room) s m args below meth c H locs 0 0 (MQ below (Qn s0 D ac (some (.int v)) σ') args s 0 0 (fr s0)) (F0 m 78 ls [])) ?_ _ _ hL _ _ _ h (lv_sub hl [2, 3, 4, 1, 5, 6, 0] rfl)
        clear hK hL h hl hf
        intro z o hf ih hX H locs ls h hl
        obtain ⟨x12, x13⟩ := z
        have h : Hs s0 D ac σ7 H locs := h
        have hl : lv_has ls 8 [(0, .ref a0), (1, .long a1), (3, .int a2), (4, .int x11), (5, .int x12), (6, .int x5), (7, .int x13)] := hl
        have hf : lX0_layHand_78 x5 σ7 a0 x12 x13 = some o := hf
        unfold lX0_layHand_78 at hf
        refine lv_iload hx hb dX0_layHand_78 (lv_at hl 6 rfl) ?_
        refine lv_iload hx hb dX0_layHand_80 (lv_at hl 5 rfl) ?_
        refine lv_icmp_ge (tgt := 120) hx hb dX0_layHand_82 (by decide) (fun hc => ?_) (fun hc => ?_)
        · have hf := hf_t hc hf
          cases hf
          exact hE78_0 _ (hX _ rfl) _ _ _ h (lv_sub hl [0, 1, 2, 3, 4, 5] rfl)
        · have hf := hf_f hc hf
          refine lv_iload hx hb dX0_layHand_85 (lv_at hl 4 rfl) ?_
          refine jn_of (P := fun j => ∀ (x18 : Int32), j x18 = some o → ∀ (H : Heap) (locs : List Loc) (ls : Array Slot), Hs s0 D ac σ7 H locs → lv_has ls 8 [(0, .ref a0), (1, .long a1), (3, .int a2), (4, .int x11), (5, .int x12), (6, .int x5), (7, .int x13)] → W p l e ({ frames := 2, cells := 0, slots := 0, locals := 46 } : Room) s m args below meth c H locs 0 0 (MQ below (Qn s0 D ac (some (.int v)) σ') args s 0 0 (fr s0)) (F0 m 112 ls [.int x18])) hf ?_ ?_
          · intro x18 hf H locs ls h hl
            refine lv_istore (lv' := [(5, .int x18), (0, .ref a0), (1, .long a1), (3, .int a2), (4, .int x11), (6, .int x5), (7, .int x13)]) hx hb dX0_layHand_112 hl (by decide) rfl (fun ls hl => ?_)
            refine lv_iinc (v := x13 + 1) (lv' := [(7, .int (x13 + 1)), (5, .int x18), (0, .ref a0), (1, .long a1), (3, .int a2), (4, .int x11), (6, .int x5)]) hx hb dX0_layHand_114 hl (k := 6) rfl rfl (by decide) rfl (fun ls hl => ?_)
            refine lv_goto (tgt := 78) hx hb dX0_layHand_117 (by decide) ?_
            cases hf
            exact ih _ rfl _ _ _ h (lv_sub hl [2, 3, 4, 5, 1, 6, 0] rfl)
          intro j112 hj112 hf
          refine jn_of (P := fun j => ∀ (u0 : Unit), j u0 = some o → ∀ (H : Heap) (locs : List Loc) (ls : Array Slot), Hs s0 D ac σ7 H locs → lv_has ls 8 [(0, .ref a0), (1, .long a1), (3, .int a2), (4, .int x11), (5, .int x12), (6, .int x5), (7, .int x13)] → W p l e ({ frames := 2, cells := 0, slots := 0, locals := 46 } : Room) s m args below meth c H locs 0 0 (MQ below (Qn s0 D ac (some (.int v)) σ') args s 0 0 (fr s0)) (F0 m 111 ls [])) hf ?_ ?_
          · intro u0 hf H locs ls h hl
            refine lv_iconst (v := 0) hx hb dX0_layHand_111 (by decide) ?_
            exact hj112 _ hf _ _ _ h (lv_sub hl [0, 1, 2, 3, 4, 5, 6] rfl)
          intro j111 hj111 hf
          refine lv_if_eq (tgt := 111) hx hb dX0_layHand_87 (by decide) (fun hc => ?_) (fun hc => ?_)
          · have hf := hf_t hc hf
            exact hj111 () hf _ _ _ h (lv_sub hl [0, 1, 2, 3, 4, 5, 6] rfl)
          · have hf := hf_f hc hf
            refine lv_aload_n hx hb dX0_layHand_90 rfl (lv_at hl 0 rfl) ?_
            refine x_gR (q := (RX0, TX0, 33)) (j := 14) G C h rfl (by decide) (fun _ _ _ => rfl) (lk C q223) (fun _ z => z) dX0_layHand_91 hf (fun r14 hf => ?_)
            refine lv_iload hx hb dX0_layHand_94 (lv_at hl 6 rfl) ?_
            refine x_iald G C h dX0_layHand_96 hf (fun x15 hf => ?_)
            refine lv_aload_n hx hb dX0_layHand_97 rfl (lv_at hl 0 rfl) ?_
            refine x_gR (q := (RX0, TX0, 33)) (j := 14) G C h rfl (by decide) (fun _ _ _ => rfl) (lk C q223) (fun _ z => z) dX0_layHand_98 hf (fun r16 hf => ?_)
            refine lv_iload hx hb dX0_layHand_101 (lv_at hl 5 rfl) ?_
            refine x_iald G C h dX0_layHand_103 hf (fun x17 hf => ?_)
            refine lv_icmp_eq (tgt := 111) hx hb dX0_layHand_104 (by decide) (fun hc => ?_) (fun hc => ?_)
            · have hf := hf_t hc hf
              exact hj111 () hf _ _ _ h (lv_sub hl [0, 1, 2, 3, 4, 5, 6] rfl)
            · have hf := hf_f hc hf
              refine lv_iconst (v := 1) hx hb dX0_layHand_107 (by decide) ?_
              refine lv_goto (tgt := 112) hx hb dX0_layHand_108 (by decide) ?_
              exact hj112 _ hf _ _ _ h (lv_sub hl [0, 1, 2, 3, 4, 5, 6] rfl)
      intro j73 hj73 hf
      refine jn_of (P := fun j => ∀ (u0 : Unit), j u0 = some o → ∀ (H : Heap) (locs : List Loc) (ls : Array Slot), Hs s0 D ac σ7 H locs → lv_has ls 8 [(0, .ref a0), (1, .long a1), (3, .int a2), (4, .int x3), (5, .int x4), (6, .int x5)] → W p l e ({ frames := 2, cells := 0, slots := 0, locals := 46 } : Room) s m args below meth c H locs 0 0 (MQ below (Qn s0 D ac (some (.int v)) σ') args s 0 0 (fr s0)) (F0 m 72 ls [])) hf ?_ ?_
      · intro u0 hf H locs ls h hl
        refine lv_iconst (v := 0) hx hb dX0_layHand_72 (by decide) ?_
        exact hj73 _ hf _ _ _ h (lv_sub hl [0, 1, 2, 3, 4, 5] rfl)
      intro j72 hj72 hf
      refine lv_if_eq (tgt := 72) hx hb dX0_layHand_51 (by decide) (fun hc => ?_) (fun hc => ?_)
      · have hf := hf_t hc hf
        exact hj72 () hf _ _ _ h (lv_sub hl [0, 1, 2, 3, 4, 5] rfl)
      · have hf := hf_f hc hf
        refine lv_aload_n hx hb dX0_layHand_54 rfl (lv_at hl 0 rfl) ?_
        refine lv_aload_n hx hb dX0_layHand_55 rfl (lv_at hl 0 rfl) ?_
        refine x_gR (q := (RX0, TX0, 33)) (j := 14) G C h rfl (by decide) (fun _ _ _ => rfl) (lk C q223) (fun _ z => z) dX0_layHand_56 hf (fun r8 hf => ?_)
        refine lv_iload hx hb dX0_layHand_59 (lv_at hl 5 rfl) ?_
        refine x_iald G C h dX0_layHand_61 hf (fun x9 hf => ?_)
        obtain ⟨hk, hf⟩ := k_of hf
        obtain ⟨x10, hc, hf⟩ := hf_b hf
        refine x_cV (q := (RX0, TX0, 33)) (rest := []) (As := [.int x9]) (n := 1) (ov := (some (.int x10))) G C h (wX0_isThing G hc) hk rfl (lw_V q385 q387 qs1 q54 q388) (by decide +kernel) ⟨Nat.le_of_ble_eq_true rfl, Nat.le_of_ble_eq_true rfl⟩ rfl rfl rfl hl.1 rfl (Nat.le_of_ble_eq_true rfl) dX0_layHand_62 ⟨(Nat.le_of_ble_eq_true rfl), (Nat.le_of_ble_eq_true rfl)⟩ (fun H locs h => ?_)
        refine lv_if_eq (tgt := 72) hx hb dX0_layHand_65 (by decide) (fun hc => ?_) (fun hc => ?_)
        · have hf := hf_t hc hf
          exact hj72 () hf _ _ _ h (lv_sub hl [0, 1, 2, 3, 4, 5] rfl)
        · have hf := hf_f hc hf
          refine lv_iconst (v := 1) hx hb dX0_layHand_68 (by decide) ?_
          refine lv_goto (tgt := 73) hx hb dX0_layHand_69 (by decide) ?_
          exact hj73 _ hf _ _ _ h (lv_sub hl [0, 1, 2, 3, 4, 5] rfl)
  · have hf := hf_t hc hf
    refine lv_bipush (v := (-3)) hx hb dX0_layHand_12 (by decide) ?_
    cases hf
    refine W.widen (k := 0) (n := 0) (Nat.le_of_ble_eq_true rfl) (Nat.le_of_ble_eq_true rfl) ?_
    exact x_iret C h dX0_layHand_14

theorem dX0_looks_0 : decode cX0_looks 0 = .ok (.aload_n 0, 1) := by decide +kernel
theorem dX0_looks_1 : decode cX0_looks 1 = .ok (.getfield 32, 3) := by decide +kernel
theorem dX0_looks_4 : decode cX0_looks 4 = .ok (.iload_n 1, 1) := by decide +kernel
theorem dX0_looks_5 : decode cX0_looks 5 = .ok (.aaload, 1) := by decide +kernel
theorem dX0_looks_6 : decode cX0_looks 6 = .ok (.getfield 177, 3) := by decide +kernel
theorem dX0_looks_9 : decode cX0_looks 9 = .ok (.sipush 420, 3) := by decide +kernel
theorem dX0_looks_12 : decode cX0_looks 12 = .ok (.iload_n 2, 1) := by decide +kernel
theorem dX0_looks_13 : decode cX0_looks 13 = .ok (.iconst 1, 1) := by decide +kernel
theorem dX0_looks_14 : decode cX0_looks 14 = .ok (.iadd, 1) := by decide +kernel
theorem dX0_looks_15 : decode cX0_looks 15 = .ok (.idiv, 1) := by decide +kernel
theorem dX0_looks_16 : decode cX0_looks 16 = .ok (.imul, 1) := by decide +kernel
theorem dX0_looks_17 : decode cX0_looks 17 = .ok (.ireturn, 1) := by decide +kernel
def fX0_looks (σ : St) (a0 : Nat) (a1 : Int32) (a2 : Int32) : Option (Int32) :=
  o_gR σ a0 0 4 fun r1 =>
  o_aR σ r1 4 a1 fun r2 =>
  o_gI σ r2 7 1 fun x3 =>
  o_nz (a2 + 1) <|
  some (x3 * (420 / (a2 + 1)))

set_option maxHeartbeats 4000000 in
theorem wX0_looks {l : Launch} {s0 : State} {A0 : Array Value} {D : va_G} {ac : Nat → ClassId} (G : Gl s0 A0 D ac) {σ : St} {a0 : Nat} {a1 : Int32} {a2 : Int32} {v : Int32} (hf : fX0_looks σ a0 a1 a2 = some (v)) : Met l yX0_looks (ws_ yX0_looks cX0_looks 3 (some (.int))) ({ frames := 0, cells := 0, slots := 0, locals := 0 } : Room) (Pn s0 D ac [.ref a0, .int a1, .int a2] σ) (Qn s0 D ac (some (.int v)) σ) 0 0 (fr s0) := by
  refine x_met (by decide) (Nat.le_of_ble_eq_true rfl) ?_
  intro p e s m args below meth c ls C hnm h hl
  have C : Cx s0 p s m args meth c cX0_looks 3 "HutForShow" (some (.int)) := C
  have hx := C.1
  have hb := C.2.1
  have hl : lv_has ls 3 [(0, .ref a0), (1, .int a1), (2, .int a2)] := hl
  unfold fX0_looks at hf
  refine lv_aload_n hx hb dX0_looks_0 rfl (lv_at hl 0 rfl) ?_
  refine x_gR (q := (RX0, TX0, 33)) (j := 4) G C h rfl (by decide) (fun _ _ _ => rfl) (lk C q205) (fun _ z => z) dX0_looks_1 hf (fun r1 hf => ?_)
  refine lv_iload_n hx hb dX0_looks_4 rfl (lv_at hl 1 rfl) ?_
  refine x_aald (q := 4) rfl rfl (fun _ _ _ => rfl) G C h dX0_looks_5 hf (fun r2 hf => ?_)
  refine x_gI (q := (RX9, TX9, 3)) (j := 1) G C h rfl (by decide) (fun _ _ _ => rfl) (lkn G C q371) (fun _ z => z) dX0_looks_6 hf (fun x3 hf => ?_)
  refine lv_sipush (v := 420) hx hb dX0_looks_9 (by decide) ?_
  refine lv_iload_n hx hb dX0_looks_12 rfl (lv_at hl 2 rfl) ?_
  refine lv_iconst (v := 1) hx hb dX0_looks_13 (by decide) ?_
  refine lv_iadd hx hb dX0_looks_14 ?_
  obtain ⟨hnz, hf⟩ := nz_of hf
  refine lv_idiv hx hb dX0_looks_15 hnz ?_
  refine lv_imul hx hb dX0_looks_16 ?_
  cases hf
  refine W.widen (k := 0) (n := 0) (Nat.le_of_ble_eq_true rfl) (Nat.le_of_ble_eq_true rfl) ?_
  exact x_iret C h dX0_looks_17

theorem dX0_unevenOf_0 : decode cX0_unevenOf 0 = .ok (.iconst 0, 1) := by decide +kernel
theorem dX0_unevenOf_1 : decode cX0_unevenOf 1 = .ok (.istore_n 3, 1) := by decide +kernel
theorem dX0_unevenOf_2 : decode cX0_unevenOf 2 = .ok (.iconst 1, 1) := by decide +kernel
theorem dX0_unevenOf_3 : decode cX0_unevenOf 3 = .ok (.istore 4, 2) := by decide +kernel
theorem dX0_unevenOf_5 : decode cX0_unevenOf 5 = .ok (.iload 4, 2) := by decide +kernel
theorem dX0_unevenOf_7 : decode cX0_unevenOf 7 = .ok (.iload_n 2, 1) := by decide +kernel
theorem dX0_unevenOf_8 : decode cX0_unevenOf 8 = .ok (.if_icmp .ge 40, 3) := by decide +kernel
theorem dX0_unevenOf_11 : decode cX0_unevenOf 11 = .ok (.iload_n 3, 1) := by decide +kernel
theorem dX0_unevenOf_12 : decode cX0_unevenOf 12 = .ok (.aload_n 0, 1) := by decide +kernel
theorem dX0_unevenOf_13 : decode cX0_unevenOf 13 = .ok (.aload_n 1, 1) := by decide +kernel
theorem dX0_unevenOf_14 : decode cX0_unevenOf 14 = .ok (.iload 4, 2) := by decide +kernel
theorem dX0_unevenOf_16 : decode cX0_unevenOf 16 = .ok (.iaload, 1) := by decide +kernel
theorem dX0_unevenOf_17 : decode cX0_unevenOf 17 = .ok (.iload 4, 2) := by decide +kernel
theorem dX0_unevenOf_19 : decode cX0_unevenOf 19 = .ok (.invokevirtual 273, 3) := by decide +kernel
theorem dX0_unevenOf_22 : decode cX0_unevenOf 22 = .ok (.aload_n 0, 1) := by decide +kernel
theorem dX0_unevenOf_23 : decode cX0_unevenOf 23 = .ok (.aload_n 1, 1) := by decide +kernel
theorem dX0_unevenOf_24 : decode cX0_unevenOf 24 = .ok (.iload 4, 2) := by decide +kernel
theorem dX0_unevenOf_26 : decode cX0_unevenOf 26 = .ok (.iconst 1, 1) := by decide +kernel
theorem dX0_unevenOf_27 : decode cX0_unevenOf 27 = .ok (.isub, 1) := by decide +kernel
theorem dX0_unevenOf_28 : decode cX0_unevenOf 28 = .ok (.iaload, 1) := by decide +kernel
theorem dX0_unevenOf_29 : decode cX0_unevenOf 29 = .ok (.iload 4, 2) := by decide +kernel
theorem dX0_unevenOf_31 : decode cX0_unevenOf 31 = .ok (.iconst 1, 1) := by decide +kernel
theorem dX0_unevenOf_32 : decode cX0_unevenOf 32 = .ok (.isub, 1) := by decide +kernel
theorem dX0_unevenOf_33 : decode cX0_unevenOf 33 = .ok (.invokevirtual 273, 3) := by decide +kernel
theorem dX0_unevenOf_36 : decode cX0_unevenOf 36 = .ok (.isub, 1) := by decide +kernel
theorem dX0_unevenOf_37 : decode cX0_unevenOf 37 = .ok (.invokestatic 277, 3) := by decide +kernel
theorem dX0_unevenOf_40 : decode cX0_unevenOf 40 = .ok (.iadd, 1) := by decide +kernel
theorem dX0_unevenOf_41 : decode cX0_unevenOf 41 = .ok (.istore_n 3, 1) := by decide +kernel
theorem dX0_unevenOf_42 : decode cX0_unevenOf 42 = .ok (.iinc 4 1, 3) := by decide +kernel
theorem dX0_unevenOf_45 : decode cX0_unevenOf 45 = .ok (.goto (-40), 3) := by decide +kernel
theorem dX0_unevenOf_48 : decode cX0_unevenOf 48 = .ok (.iload_n 3, 1) := by decide +kernel
theorem dX0_unevenOf_49 : decode cX0_unevenOf 49 = .ok (.ireturn, 1) := by decide +kernel
def lX0_unevenOf_5 (a2 : Int32) (σ : St) (a1 : Nat) (a0 : Nat) (x1 : Int32) (x2 : Int32) : Option ((Int32 × Int32) ⊕ (Int32)) :=
  if a2 ≤ x2 then
    some (.inr x1)
  else
  o_aI σ a1 0 x2 fun x3 =>
  o_k σ a0 0 <|
  (fX0_looks σ a0 x3 x2).bind fun x4 =>
  o_aI σ a1 0 (x2 - 1) fun x5 =>
  o_k σ a0 0 <|
  (fX0_looks σ a0 x5 (x2 - 1)).bind fun x6 =>
  o_let (jabs (x4 - x6)) fun x7 =>
  some (.inl (x1 + x7, x2 + 1))

def fX0_unevenOf (σ : St) (a0 : Nat) (a1 : Nat) (a2 : Int32) : Option (Int32) :=
  (loopF fuel (fun z => lX0_unevenOf_5 a2 σ a1 a0 z.1 z.2) (0, 1)).bind <| fun x8 =>
  some x8

set_option maxHeartbeats 4000000 in
theorem wX0_unevenOf {l : Launch} {s0 : State} {A0 : Array Value} {D : va_G} {ac : Nat → ClassId} (G : Gl s0 A0 D ac) {σ : St} {a0 : Nat} {a1 : Nat} {a2 : Int32} {v : Int32} (hf : fX0_unevenOf σ a0 a1 a2 = some (v)) : Met l yX0_unevenOf (ws_ yX0_unevenOf cX0_unevenOf 5 (some (.int))) ({ frames := 1, cells := 0, slots := 0, locals := 22 } : Room) (Pn s0 D ac [.ref a0, .ref a1, .int a2] σ) (Qn s0 D ac (some (.int v)) σ) 0 0 (fr s0) := by
  refine x_met (by decide) (Nat.le_of_ble_eq_true rfl) ?_
  intro p e s m args below meth c ls C hnm h hl
  have C : Cx s0 p s m args meth c cX0_unevenOf 5 "HutForShow" (some (.int)) := C
  have hx := C.1
  have hb := C.2.1
  have hl : lv_has ls 5 [(0, .ref a0), (1, .ref a1), (2, .int a2)] := hl
  unfold fX0_unevenOf at hf
  refine lv_iconst (v := 0) hx hb dX0_unevenOf_0 (by decide) ?_
  refine lv_istore_n (lv' := [(3, .int 0), (0, .ref a0), (1, .ref a1), (2, .int a2)]) hx hb dX0_unevenOf_1 rfl hl (by decide) rfl (fun ls hl => ?_)
  refine lv_iconst (v := 1) hx hb dX0_unevenOf_2 (by decide) ?_
  refine lv_istore (lv' := [(4, .int 1), (3, .int 0), (0, .ref a0), (1, .ref a1), (2, .int a2)]) hx hb dX0_unevenOf_3 hl (by decide) rfl (fun ls hl => ?_)
  obtain ⟨e5, hL, hK⟩ := hf_b hf
  have hE5_0 : ∀ (x8 : Int32), x8 = e5 → ∀  (H : Heap) (locs : List Loc) (ls : Array Slot), Hs s0 D ac σ H locs → lv_has ls 5 [(0, .ref a0), (1, .ref a1), (2, .int a2), (3, .int x8)] → W p l e ({ frames := 1, cells := 0, slots := 0, locals := 22 } : Room) s m args below meth c H locs 0 0 (MQ below (Qn s0 D ac (some (.int v)) σ) args s 0 0 (fr s0)) (F0 m 48 ls []) := by
    intro x8 he H locs ls h hl
    subst he
    have hf := hK
    refine lv_iload_n hx hb dX0_unevenOf_48 rfl (lv_at hl 3 rfl) ?_
    cases hf
    refine W.widen (k := 0) (n := 0) (Nat.le_of_ble_eq_true rfl) (Nat.le_of_ble_eq_true rfl) ?_
    exact x_iret C h dX0_unevenOf_49
  refine loopF_ind (P := fun z => ∀ (H : Heap) (locs : List Loc) (ls : Array Slot), Hs s0 D ac σ H locs → lv_has ls 5 [(0, .ref a0), (1, .ref a1), (2, .int a2), (3, .int z.1), (4, .int z.2)] → W p l e ({ frames := 1, cells := 0, slots := 0, locals := 22 } : Room) s m args below meth c H locs 0 0 (MQ below (Qn s0 D ac (some (.int v)) σ) args s 0 0 (fr s0)) (F0 m 5 ls [])) ?_ _ _ hL _ _ _ h (lv_sub hl [2, 3, 4, 1, 0] rfl)
  clear hK hL h hl hf
  intro z o hf ih hX H locs ls h hl
  obtain ⟨x1, x2⟩ := z
  have h : Hs s0 D ac σ H locs := h
  have hl : lv_has ls 5 [(0, .ref a0), (1, .ref a1), (2, .int a2), (3, .int x1), (4, .int x2)] := hl
  have hf : lX0_unevenOf_5 a2 σ a1 a0 x1 x2 = some o := hf
  unfold lX0_unevenOf_5 at hf
  refine lv_iload hx hb dX0_unevenOf_5 (lv_at hl 4 rfl) ?_
  refine lv_iload_n hx hb dX0_unevenOf_7 rfl (lv_at hl 2 rfl) ?_
  refine lv_icmp_ge (tgt := 48) hx hb dX0_unevenOf_8 (by decide) (fun hc => ?_) (fun hc => ?_)
  · have hf := hf_t hc hf
    cases hf
    exact hE5_0 _ (hX _ rfl) _ _ _ h (lv_sub hl [0, 1, 2, 3] rfl)
  · have hf := hf_f hc hf
    refine lv_iload_n hx hb dX0_unevenOf_11 rfl (lv_at hl 3 rfl) ?_
    refine lv_aload_n hx hb dX0_unevenOf_12 rfl (lv_at hl 0 rfl) ?_
    refine lv_aload_n hx hb dX0_unevenOf_13 rfl (lv_at hl 1 rfl) ?_
    refine lv_iload hx hb dX0_unevenOf_14 (lv_at hl 4 rfl) ?_
    refine x_iald G C h dX0_unevenOf_16 hf (fun x3 hf => ?_)
    refine lv_iload hx hb dX0_unevenOf_17 (lv_at hl 4 rfl) ?_
    obtain ⟨hk, hf⟩ := k_of hf
    obtain ⟨x4, hc, hf⟩ := hf_b hf
    refine x_cV (q := (RX0, TX0, 33)) (rest := [.int x1]) (As := [.int x3, .int x2]) (n := 2) (ov := (some (.int x4))) G C h (wX0_looks G hc) hk rfl (lw_V q886 q888 qs12 q54 q889) (by decide +kernel) ⟨Nat.le_of_ble_eq_true rfl, Nat.le_of_ble_eq_true rfl⟩ rfl rfl rfl hl.1 rfl (Nat.le_of_ble_eq_true rfl) dX0_unevenOf_19 ⟨(Nat.le_of_ble_eq_true rfl), (Nat.le_of_ble_eq_true rfl)⟩ (fun H locs h => ?_)
    refine lv_aload_n hx hb dX0_unevenOf_22 rfl (lv_at hl 0 rfl) ?_
    refine lv_aload_n hx hb dX0_unevenOf_23 rfl (lv_at hl 1 rfl) ?_
    refine lv_iload hx hb dX0_unevenOf_24 (lv_at hl 4 rfl) ?_
    refine lv_iconst (v := 1) hx hb dX0_unevenOf_26 (by decide) ?_
    refine lv_isub hx hb dX0_unevenOf_27 ?_
    refine x_iald G C h dX0_unevenOf_28 hf (fun x5 hf => ?_)
    refine lv_iload hx hb dX0_unevenOf_29 (lv_at hl 4 rfl) ?_
    refine lv_iconst (v := 1) hx hb dX0_unevenOf_31 (by decide) ?_
    refine lv_isub hx hb dX0_unevenOf_32 ?_
    obtain ⟨hk, hf⟩ := k_of hf
    obtain ⟨x6, hc, hf⟩ := hf_b hf
    refine x_cV (q := (RX0, TX0, 33)) (rest := [.int x4, .int x1]) (As := [.int x5, .int (x2 - 1)]) (n := 2) (ov := (some (.int x6))) G C h (wX0_looks G hc) hk rfl (lw_V q886 q888 qs12 q54 q889) (by decide +kernel) ⟨Nat.le_of_ble_eq_true rfl, Nat.le_of_ble_eq_true rfl⟩ rfl rfl rfl hl.1 rfl (Nat.le_of_ble_eq_true rfl) dX0_unevenOf_33 ⟨(Nat.le_of_ble_eq_true rfl), (Nat.le_of_ble_eq_true rfl)⟩ (fun H locs h => ?_)
    refine lv_isub hx hb dX0_unevenOf_36 ?_
    refine x_abs C hl.1 q890 q347 q63 q348 (Nat.le_of_ble_eq_true rfl) (Nat.le_of_ble_eq_true rfl) (Nat.le_of_ble_eq_true rfl) (Nat.le_of_ble_eq_true rfl) dX0_unevenOf_37 ?_
    refine x_letI hf (fun x7 hf => ?_)
    refine lv_iadd hx hb dX0_unevenOf_40 ?_
    refine lv_istore_n (lv' := [(3, .int (x1 + x7)), (0, .ref a0), (1, .ref a1), (2, .int a2), (4, .int x2)]) hx hb dX0_unevenOf_41 rfl hl (by decide) rfl (fun ls hl => ?_)
    refine lv_iinc (v := x2 + 1) (lv' := [(4, .int (x2 + 1)), (3, .int (x1 + x7)), (0, .ref a0), (1, .ref a1), (2, .int a2)]) hx hb dX0_unevenOf_42 hl (k := 4) rfl rfl (by decide) rfl (fun ls hl => ?_)
    refine lv_goto (tgt := 5) hx hb dX0_unevenOf_45 (by decide) ?_
    cases hf
    exact ih _ rfl _ _ _ h (lv_sub hl [2, 3, 4, 1, 0] rfl)

theorem dX0_uneven_0 : decode cX0_uneven 0 = .ok (.aload_n 0, 1) := by decide +kernel
theorem dX0_uneven_1 : decode cX0_uneven 1 = .ok (.lload_n 1, 1) := by decide +kernel
theorem dX0_uneven_2 : decode cX0_uneven 2 = .ok (.iload_n 3, 1) := by decide +kernel
theorem dX0_uneven_3 : decode cX0_uneven 3 = .ok (.invokevirtual 282, 3) := by decide +kernel
theorem dX0_uneven_6 : decode cX0_uneven 6 = .ok (.istore 4, 2) := by decide +kernel
theorem dX0_uneven_8 : decode cX0_uneven 8 = .ok (.iload 4, 2) := by decide +kernel
theorem dX0_uneven_10 : decode cX0_uneven 10 = .ok (.ifCond .eq 8, 3) := by decide +kernel
theorem dX0_uneven_13 : decode cX0_uneven 13 = .ok (.iload 4, 2) := by decide +kernel
theorem dX0_uneven_15 : decode cX0_uneven 15 = .ok (.goto 12, 3) := by decide +kernel
theorem dX0_uneven_18 : decode cX0_uneven 18 = .ok (.aload_n 0, 1) := by decide +kernel
theorem dX0_uneven_19 : decode cX0_uneven 19 = .ok (.aload_n 0, 1) := by decide +kernel
theorem dX0_uneven_20 : decode cX0_uneven 20 = .ok (.getfield 75, 3) := by decide +kernel
theorem dX0_uneven_23 : decode cX0_uneven 23 = .ok (.iload_n 3, 1) := by decide +kernel
theorem dX0_uneven_24 : decode cX0_uneven 24 = .ok (.invokevirtual 286, 3) := by decide +kernel
theorem dX0_uneven_27 : decode cX0_uneven 27 = .ok (.ireturn, 1) := by decide +kernel
def fX0_uneven (σ : St) (a0 : Nat) (a1 : Int64) (a2 : Int32) : Option (Int32 × St) :=
  o_k σ a0 0 <|
  (fX0_layHand σ a0 a1 a2).bind <| un2 fun x1 σ2 =>
  if x1 = 0 then
    o_gR σ2 a0 0 14 fun r3 =>
    o_k σ2 a0 0 <|
    (fX0_unevenOf σ2 a0 r3 a2).bind fun x4 =>
    some (x4, σ2)
  else
  some (x1, σ2)

set_option maxHeartbeats 4000000 in
theorem wX0_uneven {l : Launch} {s0 : State} {A0 : Array Value} {D : va_G} {ac : Nat → ClassId} (G : Gl s0 A0 D ac) {σ : St} {a0 : Nat} {a1 : Int64} {a2 : Int32} {v : Int32} {σ' : St} (hf : fX0_uneven σ a0 a1 a2 = some (v, σ')) : Met l yX0_uneven (ws_ yX0_uneven cX0_uneven 5 (some (.int))) ({ frames := 3, cells := 0, slots := 0, locals := 73 } : Room) (Pn s0 D ac [.ref a0, .long a1, .int a2] σ) (Qn s0 D ac (some (.int v)) σ') 0 0 (fr s0) := by
  refine x_met (by decide) (Nat.le_of_ble_eq_true rfl) ?_
  intro p e s m args below meth c ls C hnm h hl
  have C : Cx s0 p s m args meth c cX0_uneven 5 "HutForShow" (some (.int)) := C
  have hx := C.1
  have hb := C.2.1
  have hl : lv_has ls 5 [(0, .ref a0), (1, .long a1), (3, .int a2)] := hl
  unfold fX0_uneven at hf
  refine lv_aload_n hx hb dX0_uneven_0 rfl (lv_at hl 0 rfl) ?_
  refine lv_lload_n hx hb dX0_uneven_1 rfl (lv_at hl 1 rfl) ?_
  refine lv_iload_n hx hb dX0_uneven_2 rfl (lv_at hl 2 rfl) ?_
  obtain ⟨hk, hf⟩ := k_of hf
  obtain ⟨⟨x1, σ2⟩, hc, hf⟩ := hf_b hf
  have hf := hf_u2 hf
  refine x_cV (q := (RX0, TX0, 33)) (rest := []) (As := [.long a1, .int a2]) (n := 2) (ov := (some (.int x1))) G C h (wX0_layHand G hc) hk rfl (lw_V q876 q878 qs10 q54 q879) (by decide +kernel) ⟨Nat.le_of_ble_eq_true rfl, Nat.le_of_ble_eq_true rfl⟩ rfl rfl rfl hl.1 rfl (Nat.le_of_ble_eq_true rfl) dX0_uneven_3 ⟨(Nat.le_of_ble_eq_true rfl), (Nat.le_of_ble_eq_true rfl)⟩ (fun H locs h => ?_)
  refine lv_istore (lv' := [(4, .int x1), (0, .ref a0), (1, .long a1), (3, .int a2)]) hx hb dX0_uneven_6 hl (by decide) rfl (fun ls hl => ?_)
  refine lv_iload hx hb dX0_uneven_8 (lv_at hl 0 rfl) ?_
  refine lv_if_eq (tgt := 18) hx hb dX0_uneven_10 (by decide) (fun hc => ?_) (fun hc => ?_)
  · have hf := hf_t hc hf
    refine lv_aload_n hx hb dX0_uneven_18 rfl (lv_at hl 1 rfl) ?_
    refine lv_aload_n hx hb dX0_uneven_19 rfl (lv_at hl 1 rfl) ?_
    refine x_gR (q := (RX0, TX0, 33)) (j := 14) G C h rfl (by decide) (fun _ _ _ => rfl) (lk C q223) (fun _ z => z) dX0_uneven_20 hf (fun r3 hf => ?_)
    refine lv_iload_n hx hb dX0_uneven_23 rfl (lv_at hl 3 rfl) ?_
    obtain ⟨hk, hf⟩ := k_of hf
    obtain ⟨x4, hc, hf⟩ := hf_b hf
    refine x_cV (q := (RX0, TX0, 33)) (rest := []) (As := [.ref r3, .int a2]) (n := 2) (ov := (some (.int x4))) G C h (wX0_unevenOf G hc) hk rfl (lw_V q882 q884 qs11 q54 q885) (by decide +kernel) ⟨Nat.le_of_ble_eq_true rfl, Nat.le_of_ble_eq_true rfl⟩ rfl rfl rfl hl.1 rfl (Nat.le_of_ble_eq_true rfl) dX0_uneven_24 ⟨(Nat.le_of_ble_eq_true rfl), (Nat.le_of_ble_eq_true rfl)⟩ (fun H locs h => ?_)
    cases hf
    refine W.widen (k := 0) (n := 0) (Nat.le_of_ble_eq_true rfl) (Nat.le_of_ble_eq_true rfl) ?_
    exact x_iret C h dX0_uneven_27
  · have hf := hf_f hc hf
    refine lv_iload hx hb dX0_uneven_13 (lv_at hl 0 rfl) ?_
    refine lv_goto (tgt := 27) hx hb dX0_uneven_15 (by decide) ?_
    cases hf
    refine W.widen (k := 0) (n := 0) (Nat.le_of_ble_eq_true rfl) (Nat.le_of_ble_eq_true rfl) ?_
    exact x_iret C h dX0_uneven_27

theorem dX0_isInHand_0 : decode cX0_isInHand 0 = .ok (.iconst 0, 1) := by decide +kernel
theorem dX0_isInHand_1 : decode cX0_isInHand 1 = .ok (.istore_n 3, 1) := by decide +kernel
theorem dX0_isInHand_2 : decode cX0_isInHand 2 = .ok (.iload_n 3, 1) := by decide +kernel
theorem dX0_isInHand_3 : decode cX0_isInHand 3 = .ok (.iload_n 2, 1) := by decide +kernel
theorem dX0_isInHand_4 : decode cX0_isInHand 4 = .ok (.if_icmp .ge 21, 3) := by decide +kernel
theorem dX0_isInHand_7 : decode cX0_isInHand 7 = .ok (.aload_n 0, 1) := by decide +kernel
theorem dX0_isInHand_8 : decode cX0_isInHand 8 = .ok (.getfield 75, 3) := by decide +kernel
theorem dX0_isInHand_11 : decode cX0_isInHand 11 = .ok (.iload_n 3, 1) := by decide +kernel
theorem dX0_isInHand_12 : decode cX0_isInHand 12 = .ok (.iaload, 1) := by decide +kernel
theorem dX0_isInHand_13 : decode cX0_isInHand 13 = .ok (.iload_n 1, 1) := by decide +kernel
theorem dX0_isInHand_14 : decode cX0_isInHand 14 = .ok (.if_icmp .ne 5, 3) := by decide +kernel
theorem dX0_isInHand_17 : decode cX0_isInHand 17 = .ok (.iconst 1, 1) := by decide +kernel
theorem dX0_isInHand_18 : decode cX0_isInHand 18 = .ok (.ireturn, 1) := by decide +kernel
theorem dX0_isInHand_19 : decode cX0_isInHand 19 = .ok (.iinc 3 1, 3) := by decide +kernel
theorem dX0_isInHand_22 : decode cX0_isInHand 22 = .ok (.goto (-20), 3) := by decide +kernel
theorem dX0_isInHand_25 : decode cX0_isInHand 25 = .ok (.iconst 0, 1) := by decide +kernel
theorem dX0_isInHand_26 : decode cX0_isInHand 26 = .ok (.ireturn, 1) := by decide +kernel
def lX0_isInHand_2 (a2 : Int32) (σ : St) (a0 : Nat) (a1 : Int32) (x1 : Int32) : Option ((Int32) ⊕ ((Unit) ⊕ (Unit))) :=
  if a2 ≤ x1 then
    some (.inr (.inr ()))
  else
  o_gR σ a0 0 14 fun r2 =>
  o_aI σ r2 0 x1 fun x3 =>
  if x3 = a1 then
    some (.inr (.inl ()))
  else
  some (.inl (x1 + 1))

def fX0_isInHand (σ : St) (a0 : Nat) (a1 : Int32) (a2 : Int32) : Option (Int32) :=
  (loopF fuel (fun z => lX0_isInHand_2 a2 σ a0 a1 z) 0).bind <| sm (  fun (_ : Unit) =>
    some 1) <| fun (_ : Unit) =>
  some 0

set_option maxHeartbeats 4000000 in
theorem wX0_isInHand {l : Launch} {s0 : State} {A0 : Array Value} {D : va_G} {ac : Nat → ClassId} (G : Gl s0 A0 D ac) {σ : St} {a0 : Nat} {a1 : Int32} {a2 : Int32} {v : Int32} (hf : fX0_isInHand σ a0 a1 a2 = some (v)) : Met l yX0_isInHand (ws_ yX0_isInHand cX0_isInHand 4 (some (.boolean))) ({ frames := 0, cells := 0, slots := 0, locals := 0 } : Room) (Pn s0 D ac [.ref a0, .int a1, .int a2] σ) (Qn s0 D ac (some (.int v)) σ) 0 0 (fr s0) := by
  refine x_met (by decide) (Nat.le_of_ble_eq_true rfl) ?_
  intro p e s m args below meth c ls C hnm h hl
  have C : Cx s0 p s m args meth c cX0_isInHand 4 "HutForShow" (some (.boolean)) := C
  have hx := C.1
  have hb := C.2.1
  have hl : lv_has ls 4 [(0, .ref a0), (1, .int a1), (2, .int a2)] := hl
  unfold fX0_isInHand at hf
  refine lv_iconst (v := 0) hx hb dX0_isInHand_0 (by decide) ?_
  refine lv_istore_n (lv' := [(3, .int 0), (0, .ref a0), (1, .int a1), (2, .int a2)]) hx hb dX0_isInHand_1 rfl hl (by decide) rfl (fun ls hl => ?_)
  obtain ⟨e2, hL, hK⟩ := hf_b hf
  have hE2_0 : (.inl ()) = e2 → ∀  (H : Heap) (locs : List Loc) (ls : Array Slot), Hs s0 D ac σ H locs → lv_has ls 4 [(0, .ref a0), (1, .int a1), (2, .int a2)] → W p l e ({ frames := 0, cells := 0, slots := 0, locals := 0 } : Room) s m args below meth c H locs 0 0 (MQ below (Qn s0 D ac (some (.int v)) σ) args s 0 0 (fr s0)) (F0 m 17 ls []) := by
    intro he H locs ls h hl
    subst he
    have hf := hK
    have hf := hf_sl hf
    refine lv_iconst (v := 1) hx hb dX0_isInHand_17 (by decide) ?_
    cases hf
    refine W.widen (k := 0) (n := 0) (Nat.le_of_ble_eq_true rfl) (Nat.le_of_ble_eq_true rfl) ?_
    exact x_zret C h (by decide) dX0_isInHand_18
  have hE2_1 : (.inr ()) = e2 → ∀  (H : Heap) (locs : List Loc) (ls : Array Slot), Hs s0 D ac σ H locs → lv_has ls 4 [(0, .ref a0), (1, .int a1), (2, .int a2)] → W p l e ({ frames := 0, cells := 0, slots := 0, locals := 0 } : Room) s m args below meth c H locs 0 0 (MQ below (Qn s0 D ac (some (.int v)) σ) args s 0 0 (fr s0)) (F0 m 25 ls []) := by
    intro he H locs ls h hl
    subst he
    have hf := hK
    have hf := hf_sr hf
    refine lv_iconst (v := 0) hx hb dX0_isInHand_25 (by decide) ?_
    cases hf
    refine W.widen (k := 0) (n := 0) (Nat.le_of_ble_eq_true rfl) (Nat.le_of_ble_eq_true rfl) ?_
    exact x_zret C h (by decide) dX0_isInHand_26
  refine loopF_ind (P := fun z => ∀ (H : Heap) (locs : List Loc) (ls : Array Slot), Hs s0 D ac σ H locs → lv_has ls 4 [(0, .ref a0), (1, .int a1), (2, .int a2), (3, .int z)] → W p l e ({ frames := 0, cells := 0, slots := 0, locals := 0 } : Room) s m args below meth c H locs 0 0 (MQ below (Qn s0 D ac (some (.int v)) σ) args s 0 0 (fr s0)) (F0 m 2 ls [])) ?_ _ _ hL _ _ _ h (lv_sub hl [1, 2, 3, 0] rfl)
  clear hK hL h hl hf
  intro z o hf ih hX H locs ls h hl
  obtain ⟨x1, rfl⟩ : ∃ y, y = z := ⟨_, rfl⟩
  have h : Hs s0 D ac σ H locs := h
  have hl : lv_has ls 4 [(0, .ref a0), (1, .int a1), (2, .int a2), (3, .int x1)] := hl
  have hf : lX0_isInHand_2 a2 σ a0 a1 x1 = some o := hf
  unfold lX0_isInHand_2 at hf
  refine lv_iload_n hx hb dX0_isInHand_2 rfl (lv_at hl 3 rfl) ?_
  refine lv_iload_n hx hb dX0_isInHand_3 rfl (lv_at hl 2 rfl) ?_
  refine lv_icmp_ge (tgt := 25) hx hb dX0_isInHand_4 (by decide) (fun hc => ?_) (fun hc => ?_)
  · have hf := hf_t hc hf
    cases hf
    exact hE2_1 (hX _ rfl) _ _ _ h (lv_sub hl [0, 1, 2] rfl)
  · have hf := hf_f hc hf
    refine lv_aload_n hx hb dX0_isInHand_7 rfl (lv_at hl 0 rfl) ?_
    refine x_gR (q := (RX0, TX0, 33)) (j := 14) G C h rfl (by decide) (fun _ _ _ => rfl) (lk C q223) (fun _ z => z) dX0_isInHand_8 hf (fun r2 hf => ?_)
    refine lv_iload_n hx hb dX0_isInHand_11 rfl (lv_at hl 3 rfl) ?_
    refine x_iald G C h dX0_isInHand_12 hf (fun x3 hf => ?_)
    refine lv_iload_n hx hb dX0_isInHand_13 rfl (lv_at hl 1 rfl) ?_
    refine lv_icmp_ne (tgt := 19) hx hb dX0_isInHand_14 (by decide) (fun hc => ?_) (fun hc => ?_)
    · have hf := hf_f hc hf
      refine lv_iinc (v := x1 + 1) (lv' := [(3, .int (x1 + 1)), (0, .ref a0), (1, .int a1), (2, .int a2)]) hx hb dX0_isInHand_19 hl (k := 3) rfl rfl (by decide) rfl (fun ls hl => ?_)
      refine lv_goto (tgt := 2) hx hb dX0_isInHand_22 (by decide) ?_
      cases hf
      exact ih _ rfl _ _ _ h (lv_sub hl [1, 2, 3, 0] rfl)
    · have hf := hf_t hc hf
      cases hf
      exact hE2_0 (hX _ rfl) _ _ _ h (lv_sub hl [0, 1, 2] rfl)

theorem dX0_hasAhead_0 : decode cX0_hasAhead 0 = .ok (.iconst 0, 1) := by decide +kernel
theorem dX0_hasAhead_1 : decode cX0_hasAhead 1 = .ok (.istore_n 2, 1) := by decide +kernel
theorem dX0_hasAhead_2 : decode cX0_hasAhead 2 = .ok (.iload_n 2, 1) := by decide +kernel
theorem dX0_hasAhead_3 : decode cX0_hasAhead 3 = .ok (.iload_n 1, 1) := by decide +kernel
theorem dX0_hasAhead_4 : decode cX0_hasAhead 4 = .ok (.if_icmp .ge 20, 3) := by decide +kernel
theorem dX0_hasAhead_7 : decode cX0_hasAhead 7 = .ok (.aload_n 0, 1) := by decide +kernel
theorem dX0_hasAhead_8 : decode cX0_hasAhead 8 = .ok (.iload_n 2, 1) := by decide +kernel
theorem dX0_hasAhead_9 : decode cX0_hasAhead 9 = .ok (.iaload, 1) := by decide +kernel
theorem dX0_hasAhead_10 : decode cX0_hasAhead 10 = .ok (.aload_n 0, 1) := by decide +kernel
theorem dX0_hasAhead_11 : decode cX0_hasAhead 11 = .ok (.iload_n 1, 1) := by decide +kernel
theorem dX0_hasAhead_12 : decode cX0_hasAhead 12 = .ok (.iaload, 1) := by decide +kernel
theorem dX0_hasAhead_13 : decode cX0_hasAhead 13 = .ok (.if_icmp .ne 5, 3) := by decide +kernel
theorem dX0_hasAhead_16 : decode cX0_hasAhead 16 = .ok (.iconst 1, 1) := by decide +kernel
theorem dX0_hasAhead_17 : decode cX0_hasAhead 17 = .ok (.ireturn, 1) := by decide +kernel
theorem dX0_hasAhead_18 : decode cX0_hasAhead 18 = .ok (.iinc 2 1, 3) := by decide +kernel
theorem dX0_hasAhead_21 : decode cX0_hasAhead 21 = .ok (.goto (-19), 3) := by decide +kernel
theorem dX0_hasAhead_24 : decode cX0_hasAhead 24 = .ok (.iconst 0, 1) := by decide +kernel
theorem dX0_hasAhead_25 : decode cX0_hasAhead 25 = .ok (.ireturn, 1) := by decide +kernel
def lX0_hasAhead_2 (a1 : Int32) (σ : St) (a0 : Nat) (x1 : Int32) : Option ((Int32) ⊕ ((Unit) ⊕ (Unit))) :=
  if a1 ≤ x1 then
    some (.inr (.inr ()))
  else
  o_aI σ a0 0 x1 fun x2 =>
  o_aI σ a0 0 a1 fun x3 =>
  if x2 = x3 then
    some (.inr (.inl ()))
  else
  some (.inl (x1 + 1))

def fX0_hasAhead (σ : St) (a0 : Nat) (a1 : Int32) : Option (Int32) :=
  (loopF fuel (fun z => lX0_hasAhead_2 a1 σ a0 z) 0).bind <| sm (  fun (_ : Unit) =>
    some 1) <| fun (_ : Unit) =>
  some 0

set_option maxHeartbeats 4000000 in
theorem wX0_hasAhead {l : Launch} {s0 : State} {A0 : Array Value} {D : va_G} {ac : Nat → ClassId} (G : Gl s0 A0 D ac) {σ : St} {a0 : Nat} {a1 : Int32} {v : Int32} (hf : fX0_hasAhead σ a0 a1 = some (v)) : Met l yX0_hasAhead (ws_ yX0_hasAhead cX0_hasAhead 3 (some (.boolean))) ({ frames := 0, cells := 0, slots := 0, locals := 0 } : Room) (Pn s0 D ac [.ref a0, .int a1] σ) (Qn s0 D ac (some (.int v)) σ) 0 0 (fr s0) := by
  refine x_met (by decide) (Nat.le_of_ble_eq_true rfl) ?_
  intro p e s m args below meth c ls C hnm h hl
  have C : Cx s0 p s m args meth c cX0_hasAhead 3 "HutForShow" (some (.boolean)) := C
  have hx := C.1
  have hb := C.2.1
  have hl : lv_has ls 3 [(0, .ref a0), (1, .int a1)] := hl
  unfold fX0_hasAhead at hf
  refine lv_iconst (v := 0) hx hb dX0_hasAhead_0 (by decide) ?_
  refine lv_istore_n (lv' := [(2, .int 0), (0, .ref a0), (1, .int a1)]) hx hb dX0_hasAhead_1 rfl hl (by decide) rfl (fun ls hl => ?_)
  obtain ⟨e2, hL, hK⟩ := hf_b hf
  have hE2_0 : (.inl ()) = e2 → ∀  (H : Heap) (locs : List Loc) (ls : Array Slot), Hs s0 D ac σ H locs → lv_has ls 3 [(0, .ref a0), (1, .int a1)] → W p l e ({ frames := 0, cells := 0, slots := 0, locals := 0 } : Room) s m args below meth c H locs 0 0 (MQ below (Qn s0 D ac (some (.int v)) σ) args s 0 0 (fr s0)) (F0 m 16 ls []) := by
    intro he H locs ls h hl
    subst he
    have hf := hK
    have hf := hf_sl hf
    refine lv_iconst (v := 1) hx hb dX0_hasAhead_16 (by decide) ?_
    cases hf
    refine W.widen (k := 0) (n := 0) (Nat.le_of_ble_eq_true rfl) (Nat.le_of_ble_eq_true rfl) ?_
    exact x_zret C h (by decide) dX0_hasAhead_17
  have hE2_1 : (.inr ()) = e2 → ∀  (H : Heap) (locs : List Loc) (ls : Array Slot), Hs s0 D ac σ H locs → lv_has ls 3 [(0, .ref a0), (1, .int a1)] → W p l e ({ frames := 0, cells := 0, slots := 0, locals := 0 } : Room) s m args below meth c H locs 0 0 (MQ below (Qn s0 D ac (some (.int v)) σ) args s 0 0 (fr s0)) (F0 m 24 ls []) := by
    intro he H locs ls h hl
    subst he
    have hf := hK
    have hf := hf_sr hf
    refine lv_iconst (v := 0) hx hb dX0_hasAhead_24 (by decide) ?_
    cases hf
    refine W.widen (k := 0) (n := 0) (Nat.le_of_ble_eq_true rfl) (Nat.le_of_ble_eq_true rfl) ?_
    exact x_zret C h (by decide) dX0_hasAhead_25
  refine loopF_ind (P := fun z => ∀ (H : Heap) (locs : List Loc) (ls : Array Slot), Hs s0 D ac σ H locs → lv_has ls 3 [(0, .ref a0), (1, .int a1), (2, .int z)] → W p l e ({ frames := 0, cells := 0, slots := 0, locals := 0 } : Room) s m args below meth c H locs 0 0 (MQ below (Qn s0 D ac (some (.int v)) σ) args s 0 0 (fr s0)) (F0 m 2 ls [])) ?_ _ _ hL _ _ _ h (lv_sub hl [1, 2, 0] rfl)
  clear hK hL h hl hf
  intro z o hf ih hX H locs ls h hl
  obtain ⟨x1, rfl⟩ : ∃ y, y = z := ⟨_, rfl⟩
  have h : Hs s0 D ac σ H locs := h
  have hl : lv_has ls 3 [(0, .ref a0), (1, .int a1), (2, .int x1)] := hl
  have hf : lX0_hasAhead_2 a1 σ a0 x1 = some o := hf
  unfold lX0_hasAhead_2 at hf
  refine lv_iload_n hx hb dX0_hasAhead_2 rfl (lv_at hl 2 rfl) ?_
  refine lv_iload_n hx hb dX0_hasAhead_3 rfl (lv_at hl 1 rfl) ?_
  refine lv_icmp_ge (tgt := 24) hx hb dX0_hasAhead_4 (by decide) (fun hc => ?_) (fun hc => ?_)
  · have hf := hf_t hc hf
    cases hf
    exact hE2_1 (hX _ rfl) _ _ _ h (lv_sub hl [0, 1] rfl)
  · have hf := hf_f hc hf
    refine lv_aload_n hx hb dX0_hasAhead_7 rfl (lv_at hl 0 rfl) ?_
    refine lv_iload_n hx hb dX0_hasAhead_8 rfl (lv_at hl 2 rfl) ?_
    refine x_iald G C h dX0_hasAhead_9 hf (fun x2 hf => ?_)
    refine lv_aload_n hx hb dX0_hasAhead_10 rfl (lv_at hl 0 rfl) ?_
    refine lv_iload_n hx hb dX0_hasAhead_11 rfl (lv_at hl 1 rfl) ?_
    refine x_iald G C h dX0_hasAhead_12 hf (fun x3 hf => ?_)
    refine lv_icmp_ne (tgt := 18) hx hb dX0_hasAhead_13 (by decide) (fun hc => ?_) (fun hc => ?_)
    · have hf := hf_f hc hf
      refine lv_iinc (v := x1 + 1) (lv' := [(2, .int (x1 + 1)), (0, .ref a0), (1, .int a1)]) hx hb dX0_hasAhead_18 hl (k := 2) rfl rfl (by decide) rfl (fun ls hl => ?_)
      refine lv_goto (tgt := 2) hx hb dX0_hasAhead_21 (by decide) ?_
      cases hf
      exact ih _ rfl _ _ _ h (lv_sub hl [1, 2, 0] rfl)
    · have hf := hf_t hc hf
      cases hf
      exact hE2_0 (hX _ rfl) _ _ _ h (lv_sub hl [0, 1] rfl)
