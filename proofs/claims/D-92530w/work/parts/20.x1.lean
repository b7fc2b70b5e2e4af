set_option maxRecDepth 100000
theorem dX1_init_0 : decode cX1_init 0 = .ok (.aload_n 0, 1) := by decide +kernel
theorem dX1_init_1 : decode cX1_init 1 = .ok (.invokespecial 1, 3) := by decide +kernel
theorem dX1_init_4 : decode cX1_init 4 = .ok (.return_, 1) := by decide +kernel
def fX1_init (σ : St) (a0 : Nat) : Option (Unit) :=
  some ()

set_option maxHeartbeats 4000000 in
theorem wX1_init {l : Launch} {s0 : State} {A0 : Array Value} {D : va_G} {ac : Nat → ClassId} (G : Gl s0 A0 D ac) {σ : St} {a0 : Nat}  (hf : fX1_init σ a0 = some (())) : Met l yX1_init (ws_ yX1_init cX1_init 1 none) ({ frames := 1, cells := 0, slots := 0, locals := 12 } : Room) (Pn s0 D ac [.ref a0] σ) (Qn s0 D ac none σ) 0 0 (fr s0) := by
  refine x_met (by decide) (Nat.le_of_ble_eq_true rfl) ?_
  intro p e s m args below meth c ls C hnm h hl
  have C : Cx s0 p s m args meth c cX1_init 1 "HutForShow$Act" none := C
  have hx := C.1
  have hb := C.2.1
  have hl : lv_has ls 1 [(0, .ref a0)] := hl
  unfold fX1_init at hf
  refine lv_aload_n hx hb dX1_init_0 rfl (lv_at hl 0 rfl) ?_
  refine W.objInit hx hb C.2.2.2.1 (C.2.2.2.2.1 _ q98) (C.2.2.2.2.1 _ q88) (C.2.2.2.2.1 _ q89) rfl (by rw [C.2.2.1]; exact hl.1) rfl dX1_init_1 (Nat.le_of_ble_eq_true rfl) (Nat.le_of_ble_eq_true rfl) ?_
  refine W.eq (g2 := F0 m 4 ls []) rfl ?_
  cases hf
  refine W.widen (k := 0) (n := 0) (Nat.le_of_ble_eq_true rfl) (Nat.le_of_ble_eq_true rfl) ?_
  exact x_vret C h dX1_init_4

theorem dX2_init_0 : decode cX2_init 0 = .ok (.aload_n 0, 1) := by decide +kernel
theorem dX2_init_1 : decode cX2_init 1 = .ok (.invokespecial 3, 3) := by decide +kernel
theorem dX2_init_4 : decode cX2_init 4 = .ok (.return_, 1) := by decide +kernel
def fX2_init (σ : St) (a0 : Nat) : Option (Unit) :=
  (fX1_init σ a0).bind fun _ =>
  some ()

set_option maxHeartbeats 4000000 in
theorem wX2_init {l : Launch} {s0 : State} {A0 : Array Value} {D : va_G} {ac : Nat → ClassId} (G : Gl s0 A0 D ac) {σ : St} {a0 : Nat}  (hf : fX2_init σ a0 = some (())) : Met l yX2_init (ws_ yX2_init cX2_init 1 none) ({ frames := 2, cells := 0, slots := 0, locals := 32 } : Room) (Pn s0 D ac [.ref a0] σ) (Qn s0 D ac none σ) 0 0 (fr s0) := by
  refine x_met (by decide) (Nat.le_of_ble_eq_true rfl) ?_
  intro p e s m args below meth c ls C hnm h hl
  have C : Cx s0 p s m args meth c cX2_init 1 "HutForShow$Guard" none := C
  have hx := C.1
  have hb := C.2.1
  have hl : lv_has ls 1 [(0, .ref a0)] := hl
  unfold fX2_init at hf
  refine lv_aload_n hx hb dX2_init_0 rfl (lv_at hl 0 rfl) ?_
  obtain ⟨_, hc, hf⟩ := hf_b hf
  refine x_cIN (rest := []) (As := []) (n := 0) (ov := none) G C h (wX1_init G hc) q95 q96 q55 q97 rfl (by decide +kernel) ⟨Nat.le_of_ble_eq_true rfl, Nat.le_of_ble_eq_true rfl⟩ rfl rfl rfl hl.1 rfl (Nat.le_of_ble_eq_true rfl) dX2_init_1 ⟨(Nat.le_of_ble_eq_true rfl), (Nat.le_of_ble_eq_true rfl)⟩ (fun H locs h => ?_)
  cases hf
  refine W.widen (k := 0) (n := 0) (Nat.le_of_ble_eq_true rfl) (Nat.le_of_ble_eq_true rfl) ?_
  exact x_vret C h dX2_init_4

theorem dX3_init_0 : decode cX3_init 0 = .ok (.aload_n 0, 1) := by decide +kernel
theorem dX3_init_1 : decode cX3_init 1 = .ok (.invokespecial 1, 3) := by decide +kernel
theorem dX3_init_4 : decode cX3_init 4 = .ok (.return_, 1) := by decide +kernel
def fX3_init (σ : St) (a0 : Nat) : Option (Unit) :=
  (fX1_init σ a0).bind fun _ =>
  some ()

set_option maxHeartbeats 4000000 in
theorem wX3_init {l : Launch} {s0 : State} {A0 : Array Value} {D : va_G} {ac : Nat → ClassId} (G : Gl s0 A0 D ac) {σ : St} {a0 : Nat}  (hf : fX3_init σ a0 = some (())) : Met l yX3_init (ws_ yX3_init cX3_init 1 none) ({ frames := 2, cells := 0, slots := 0, locals := 32 } : Room) (Pn s0 D ac [.ref a0] σ) (Qn s0 D ac none σ) 0 0 (fr s0) := by
  refine x_met (by decide) (Nat.le_of_ble_eq_true rfl) ?_
  intro p e s m args below meth c ls C hnm h hl
  have C : Cx s0 p s m args meth c cX3_init 1 "HutForShow$Away" none := C
  have hx := C.1
  have hb := C.2.1
  have hl : lv_has ls 1 [(0, .ref a0)] := hl
  unfold fX3_init at hf
  refine lv_aload_n hx hb dX3_init_0 rfl (lv_at hl 0 rfl) ?_
  obtain ⟨_, hc, hf⟩ := hf_b hf
  refine x_cIN (rest := []) (As := []) (n := 0) (ov := none) G C h (wX1_init G hc) q108 q96 q55 q97 rfl (by decide +kernel) ⟨Nat.le_of_ble_eq_true rfl, Nat.le_of_ble_eq_true rfl⟩ rfl rfl rfl hl.1 rfl (Nat.le_of_ble_eq_true rfl) dX3_init_1 ⟨(Nat.le_of_ble_eq_true rfl), (Nat.le_of_ble_eq_true rfl)⟩ (fun H locs h => ?_)
  cases hf
  refine W.widen (k := 0) (n := 0) (Nat.le_of_ble_eq_true rfl) (Nat.le_of_ble_eq_true rfl) ?_
  exact x_vret C h dX3_init_4

theorem dX4_init_0 : decode cX4_init 0 = .ok (.aload_n 0, 1) := by decide +kernel
theorem dX4_init_1 : decode cX4_init 1 = .ok (.invokespecial 3, 3) := by decide +kernel
theorem dX4_init_4 : decode cX4_init 4 = .ok (.return_, 1) := by decide +kernel
def fX4_init (σ : St) (a0 : Nat) : Option (Unit) :=
  (fX3_init σ a0).bind fun _ =>
  some ()

set_option maxHeartbeats 4000000 in
theorem wX4_init {l : Launch} {s0 : State} {A0 : Array Value} {D : va_G} {ac : Nat → ClassId} (G : Gl s0 A0 D ac) {σ : St} {a0 : Nat}  (hf : fX4_init σ a0 = some (())) : Met l yX4_init (ws_ yX4_init cX4_init 1 none) ({ frames := 3, cells := 0, slots := 0, locals := 52 } : Room) (Pn s0 D ac [.ref a0] σ) (Qn s0 D ac none σ) 0 0 (fr s0) := by
  refine x_met (by decide) (Nat.le_of_ble_eq_true rfl) ?_
  intro p e s m args below meth c ls C hnm h hl
  have C : Cx s0 p s m args meth c cX4_init 1 "HutForShow$Feed" none := C
  have hx := C.1
  have hb := C.2.1
  have hl : lv_has ls 1 [(0, .ref a0)] := hl
  unfold fX4_init at hf
  refine lv_aload_n hx hb dX4_init_0 rfl (lv_at hl 0 rfl) ?_
  obtain ⟨_, hc, hf⟩ := hf_b hf
  refine x_cIN (rest := []) (As := []) (n := 0) (ov := none) G C h (wX3_init G hc) q105 q106 q57 q107 rfl (by decide +kernel) ⟨Nat.le_of_ble_eq_true rfl, Nat.le_of_ble_eq_true rfl⟩ rfl rfl rfl hl.1 rfl (Nat.le_of_ble_eq_true rfl) dX4_init_1 ⟨(Nat.le_of_ble_eq_true rfl), (Nat.le_of_ble_eq_true rfl)⟩ (fun H locs h => ?_)
  cases hf
  refine W.widen (k := 0) (n := 0) (Nat.le_of_ble_eq_true rfl) (Nat.le_of_ble_eq_true rfl) ?_
  exact x_vret C h dX4_init_4

theorem dX5_init_0 : decode cX5_init 0 = .ok (.aload_n 0, 1) := by decide +kernel
theorem dX5_init_1 : decode cX5_init 1 = .ok (.aload_n 1, 1) := by decide +kernel
theorem dX5_init_2 : decode cX5_init 2 = .ok (.putfield 3, 3) := by decide +kernel
theorem dX5_init_5 : decode cX5_init 5 = .ok (.aload_n 0, 1) := by decide +kernel
theorem dX5_init_6 : decode cX5_init 6 = .ok (.invokespecial 9, 3) := by decide +kernel
theorem dX5_init_9 : decode cX5_init 9 = .ok (.aload_n 0, 1) := by decide +kernel
theorem dX5_init_10 : decode cX5_init 10 = .ok (.bipush 6, 2) := by decide +kernel
theorem dX5_init_12 : decode cX5_init 12 = .ok (.newarray .int, 2) := by decide +kernel
theorem dX5_init_14 : decode cX5_init 14 = .ok (.putfield 15, 3) := by decide +kernel
theorem dX5_init_17 : decode cX5_init 17 = .ok (.aload_n 0, 1) := by decide +kernel
theorem dX5_init_18 : decode cX5_init 18 = .ok (.bipush 6, 2) := by decide +kernel
theorem dX5_init_20 : decode cX5_init 20 = .ok (.newarray .int, 2) := by decide +kernel
theorem dX5_init_22 : decode cX5_init 22 = .ok (.putfield 19, 3) := by decide +kernel
theorem dX5_init_25 : decode cX5_init 25 = .ok (.aload_n 0, 1) := by decide +kernel
theorem dX5_init_26 : decode cX5_init 26 = .ok (.bipush 6, 2) := by decide +kernel
theorem dX5_init_28 : decode cX5_init 28 = .ok (.newarray .int, 2) := by decide +kernel
theorem dX5_init_30 : decode cX5_init 30 = .ok (.putfield 22, 3) := by decide +kernel
theorem dX5_init_33 : decode cX5_init 33 = .ok (.aload_n 0, 1) := by decide +kernel
theorem dX5_init_34 : decode cX5_init 34 = .ok (.bipush 6, 2) := by decide +kernel
theorem dX5_init_36 : decode cX5_init 36 = .ok (.newarray .int, 2) := by decide +kernel
theorem dX5_init_38 : decode cX5_init 38 = .ok (.putfield 25, 3) := by decide +kernel
theorem dX5_init_41 : decode cX5_init 41 = .ok (.aload_n 0, 1) := by decide +kernel
theorem dX5_init_42 : decode cX5_init 42 = .ok (.bipush 6, 2) := by decide +kernel
theorem dX5_init_44 : decode cX5_init 44 = .ok (.newarray .int, 2) := by decide +kernel
theorem dX5_init_46 : decode cX5_init 46 = .ok (.dup, 1) := by decide +kernel
theorem dX5_init_47 : decode cX5_init 47 = .ok (.iconst 0, 1) := by decide +kernel
theorem dX5_init_48 : decode cX5_init 48 = .ok (.iconst (-1), 1) := by decide +kernel
theorem dX5_init_49 : decode cX5_init 49 = .ok (.iastore, 1) := by decide +kernel
theorem dX5_init_50 : decode cX5_init 50 = .ok (.dup, 1) := by decide +kernel
theorem dX5_init_51 : decode cX5_init 51 = .ok (.iconst 1, 1) := by decide +kernel
theorem dX5_init_52 : decode cX5_init 52 = .ok (.iconst (-1), 1) := by decide +kernel
theorem dX5_init_53 : decode cX5_init 53 = .ok (.iastore, 1) := by decide +kernel
theorem dX5_init_54 : decode cX5_init 54 = .ok (.dup, 1) := by decide +kernel
theorem dX5_init_55 : decode cX5_init 55 = .ok (.iconst 2, 1) := by decide +kernel
theorem dX5_init_56 : decode cX5_init 56 = .ok (.iconst (-1), 1) := by decide +kernel
theorem dX5_init_57 : decode cX5_init 57 = .ok (.iastore, 1) := by decide +kernel
theorem dX5_init_58 : decode cX5_init 58 = .ok (.dup, 1) := by decide +kernel
theorem dX5_init_59 : decode cX5_init 59 = .ok (.iconst 3, 1) := by decide +kernel
theorem dX5_init_60 : decode cX5_init 60 = .ok (.iconst (-1), 1) := by decide +kernel
theorem dX5_init_61 : decode cX5_init 61 = .ok (.iastore, 1) := by decide +kernel
theorem dX5_init_62 : decode cX5_init 62 = .ok (.dup, 1) := by decide +kernel
theorem dX5_init_63 : decode cX5_init 63 = .ok (.iconst 4, 1) := by decide +kernel
theorem dX5_init_64 : decode cX5_init 64 = .ok (.iconst (-1), 1) := by decide +kernel
theorem dX5_init_65 : decode cX5_init 65 = .ok (.iastore, 1) := by decide +kernel
theorem dX5_init_66 : decode cX5_init 66 = .ok (.dup, 1) := by decide +kernel
theorem dX5_init_67 : decode cX5_init 67 = .ok (.iconst 5, 1) := by decide +kernel
theorem dX5_init_68 : decode cX5_init 68 = .ok (.iconst (-1), 1) := by decide +kernel
theorem dX5_init_69 : decode cX5_init 69 = .ok (.iastore, 1) := by decide +kernel
theorem dX5_init_70 : decode cX5_init 70 = .ok (.putfield 28, 3) := by decide +kernel
theorem dX5_init_73 : decode cX5_init 73 = .ok (.aload_n 0, 1) := by decide +kernel
theorem dX5_init_74 : decode cX5_init 74 = .ok (.bipush 6, 2) := by decide +kernel
theorem dX5_init_76 : decode cX5_init 76 = .ok (.anewarray 31, 3) := by decide +kernel
theorem dX5_init_79 : decode cX5_init 79 = .ok (.putfield 33, 3) := by decide +kernel
theorem dX5_init_82 : decode cX5_init 82 = .ok (.aload_n 0, 1) := by decide +kernel
theorem dX5_init_83 : decode cX5_init 83 = .ok (.bipush 40, 2) := by decide +kernel
theorem dX5_init_85 : decode cX5_init 85 = .ok (.newarray .int, 2) := by decide +kernel
theorem dX5_init_87 : decode cX5_init 87 = .ok (.putfield 37, 3) := by decide +kernel
theorem dX5_init_90 : decode cX5_init 90 = .ok (.return_, 1) := by decide +kernel
def fX5_init (σ : St) (a0 : Nat) (a1 : Nat) : Option (St) :=
  o_pR σ a0 3 8 (some a1) fun σ1 =>
  o_newa σ1 0 6 fun r2 σ3 =>
  o_pR σ3 a0 3 1 (some r2) fun σ4 =>
  o_newa σ4 0 6 fun r5 σ6 =>
  o_pR σ6 a0 3 2 (some r5) fun σ7 =>
  o_newa σ7 0 6 fun r8 σ9 =>
  o_pR σ9 a0 3 3 (some r8) fun σ10 =>
  o_newa σ10 0 6 fun r11 σ12 =>
  o_pR σ12 a0 3 4 (some r11) fun σ13 =>
  o_newa σ13 0 6 fun r14 σ15 =>
  o_sI σ15 r14 0 0 ((-1)) fun σ16 =>
  o_sI σ16 r14 0 1 ((-1)) fun σ17 =>
  o_sI σ17 r14 0 2 ((-1)) fun σ18 =>
  o_sI σ18 r14 0 3 ((-1)) fun σ19 =>
  o_sI σ19 r14 0 4 ((-1)) fun σ20 =>
  o_sI σ20 r14 0 5 ((-1)) fun σ21 =>
  o_pR σ21 a0 3 5 (some r14) fun σ22 =>
  o_newa σ22 5 6 fun r23 σ24 =>
  o_pR σ24 a0 3 6 (some r23) fun σ25 =>
  o_newa σ25 0 40 fun r26 σ27 =>
  o_pR σ27 a0 3 7 (some r26) fun σ28 =>
  some σ28

set_option maxHeartbeats 4000000 in
theorem wX5_init {l : Launch} {s0 : State} {A0 : Array Value} {D : va_G} {ac : Nat → ClassId} (G : Gl s0 A0 D ac) {σ : St} {a0 : Nat} {a1 : Nat} {σ' : St} (hf : fX5_init σ a0 a1 = some (σ')) : Met l yX5_init (ws_ yX5_init cX5_init 2 none) ({ frames := 1, cells := 7, slots := 76, locals := 12 } : Room) (Pn s0 D ac [.ref a0, .ref a1] σ) (Qn s0 D ac none σ') 7 76 (fr s0) := by
  refine x_met (by decide) (Nat.le_of_ble_eq_true rfl) ?_
  intro p e s m args below meth c ls C hnm h hl
  have C : Cx s0 p s m args meth c cX5_init 2 "HutForShow$Wood" none := C
  have hx := C.1
  have hb := C.2.1
  have hl : lv_has ls 2 [(0, .ref a0), (1, .ref a1)] := hl
  unfold fX5_init at hf
  refine lv_aload_n hx hb dX5_init_0 rfl (lv_at hl 0 rfl) ?_
  refine lv_aload_n hx hb dX5_init_1 rfl (lv_at hl 1 rfl) ?_
  refine x_pR (q := (RX5, TX5, 9)) (j := 8) G C h rfl (by decide) rfl (lk C q145) (fun _ z => z) (Or.inr ⟨hnm, rfl⟩) dX5_init_2 hf (fun σ1 H locs h hf => ?_)
  refine lv_aload_n hx hb dX5_init_5 rfl (lv_at hl 0 rfl) ?_
  refine W.objInit hx hb C.2.2.2.1 (C.2.2.2.2.1 _ q119) (C.2.2.2.2.1 _ q88) (C.2.2.2.2.1 _ q89) rfl (by rw [C.2.2.1]; exact hl.1) rfl dX5_init_6 (Nat.le_of_ble_eq_true rfl) (Nat.le_of_ble_eq_true rfl) ?_
  refine W.eq (g2 := F0 m 9 ls []) rfl ?_
  refine lv_aload_n hx hb dX5_init_9 rfl (lv_at hl 0 rfl) ?_
  refine lv_bipush (v := 6) hx hb dX5_init_10 (by decide) ?_
  refine x_newa (atype := .int) (q := 0) (N := 6) G C h rfl rfl q165 (by decide) (by decide) (by decide) (Nat.le_of_ble_eq_true rfl) (Nat.le_of_ble_eq_true rfl) dX5_init_12 hf (fun r2 σ3 H h hf => ?_)
  refine x_pR (q := (RX5, TX5, 9)) (j := 1) G C h rfl (by decide) rfl (lk C q125) (fun _ z => z) (Or.inr ⟨hnm, rfl⟩) dX5_init_14 hf (fun σ4 H locs h hf => ?_)
  refine lv_aload_n hx hb dX5_init_17 rfl (lv_at hl 0 rfl) ?_
  refine lv_bipush (v := 6) hx hb dX5_init_18 (by decide) ?_
  refine x_newa (atype := .int) (q := 0) (N := 6) G C h rfl rfl q165 (by decide) (by decide) (by decide) (Nat.le_of_ble_eq_true rfl) (Nat.le_of_ble_eq_true rfl) dX5_init_20 hf (fun r5 σ6 H h hf => ?_)
  refine x_pR (q := (RX5, TX5, 9)) (j := 2) G C h rfl (by decide) rfl (lk C q130) (fun _ z => z) (Or.inr ⟨hnm, rfl⟩) dX5_init_22 hf (fun σ7 H locs h hf => ?_)
  refine lv_aload_n hx hb dX5_init_25 rfl (lv_at hl 0 rfl) ?_
  refine lv_bipush (v := 6) hx hb dX5_init_26 (by decide) ?_
  refine x_newa (atype := .int) (q := 0) (N := 6) G C h rfl rfl q165 (by decide) (by decide) (by decide) (Nat.le_of_ble_eq_true rfl) (Nat.le_of_ble_eq_true rfl) dX5_init_28 hf (fun r8 σ9 H h hf => ?_)
  refine x_pR (q := (RX5, TX5, 9)) (j := 3) G C h rfl (by decide) rfl (lk C q134) (fun _ z => z) (Or.inr ⟨hnm, rfl⟩) dX5_init_30 hf (fun σ10 H locs h hf => ?_)
  refine lv_aload_n hx hb dX5_init_33 rfl (lv_at hl 0 rfl) ?_
  refine lv_bipush (v := 6) hx hb dX5_init_34 (by decide) ?_
  refine x_newa (atype := .int) (q := 0) (N := 6) G C h rfl rfl q165 (by decide) (by decide) (by decide) (Nat.le_of_ble_eq_true rfl) (Nat.le_of_ble_eq_true rfl) dX5_init_36 hf (fun r11 σ12 H h hf => ?_)
  refine x_pR (q := (RX5, TX5, 9)) (j := 4) G C h rfl (by decide) rfl (lk C q137) (fun _ z => z) (Or.inr ⟨hnm, rfl⟩) dX5_init_38 hf (fun σ13 H locs h hf => ?_)
  refine lv_aload_n hx hb dX5_init_41 rfl (lv_at hl 0 rfl) ?_
  refine lv_bipush (v := 6) hx hb dX5_init_42 (by decide) ?_
  refine x_newa (atype := .int) (q := 0) (N := 6) G C h rfl rfl q165 (by decide) (by decide) (by decide) (Nat.le_of_ble_eq_true rfl) (Nat.le_of_ble_eq_true rfl) dX5_init_44 hf (fun r14 σ15 H h hf => ?_)
  refine lv_dup hx hb dX5_init_46 rfl ?_
  refine lv_iconst (v := 0) hx hb dX5_init_47 (by decide) ?_
  refine lv_iconst (v := (-1)) hx hb dX5_init_48 (by decide) ?_
  refine x_iast G C h dX5_init_49 hf (fun σ16 H locs h hf => ?_)
  refine lv_dup hx hb dX5_init_50 rfl ?_
  refine lv_iconst (v := 1) hx hb dX5_init_51 (by decide) ?_
  refine lv_iconst (v := (-1)) hx hb dX5_init_52 (by decide) ?_
  refine x_iast G C h dX5_init_53 hf (fun σ17 H locs h hf => ?_)
  refine lv_dup hx hb dX5_init_54 rfl ?_
  refine lv_iconst (v := 2) hx hb dX5_init_55 (by decide) ?_
  refine lv_iconst (v := (-1)) hx hb dX5_init_56 (by decide) ?_
  refine x_iast G C h dX5_init_57 hf (fun σ18 H locs h hf => ?_)
  refine lv_dup hx hb dX5_init_58 rfl ?_
  refine lv_iconst (v := 3) hx hb dX5_init_59 (by decide) ?_
  refine lv_iconst (v := (-1)) hx hb dX5_init_60 (by decide) ?_
  refine x_iast G C h dX5_init_61 hf (fun σ19 H locs h hf => ?_)
  refine lv_dup hx hb dX5_init_62 rfl ?_
  refine lv_iconst (v := 4) hx hb dX5_init_63 (by decide) ?_
  refine lv_iconst (v := (-1)) hx hb dX5_init_64 (by decide) ?_
  refine x_iast G C h dX5_init_65 hf (fun σ20 H locs h hf => ?_)
  refine lv_dup hx hb dX5_init_66 rfl ?_
  refine lv_iconst (v := 5) hx hb dX5_init_67 (by decide) ?_
  refine lv_iconst (v := (-1)) hx hb dX5_init_68 (by decide) ?_
  refine x_iast G C h dX5_init_69 hf (fun σ21 H locs h hf => ?_)
  refine x_pR (q := (RX5, TX5, 9)) (j := 5) G C h rfl (by decide) rfl (lk C q138) (fun _ z => z) (Or.inr ⟨hnm, rfl⟩) dX5_init_70 hf (fun σ22 H locs h hf => ?_)
  refine lv_aload_n hx hb dX5_init_73 rfl (lv_at hl 0 rfl) ?_
  refine lv_bipush (v := 6) hx hb dX5_init_74 (by decide) ?_
  refine x_anew (q := 5) (N := 6) G C h rfl q120 q121 (by decide) (by decide) (by decide) (Nat.le_of_ble_eq_true rfl) (Nat.le_of_ble_eq_true rfl) dX5_init_76 hf (fun r23 σ24 H h hf => ?_)
  refine x_pR (q := (RX5, TX5, 9)) (j := 6) G C h rfl (by decide) rfl (lk C q140) (fun _ z => z) (Or.inr ⟨hnm, rfl⟩) dX5_init_79 hf (fun σ25 H locs h hf => ?_)
  refine lv_aload_n hx hb dX5_init_82 rfl (lv_at hl 0 rfl) ?_
  refine lv_bipush (v := 40) hx hb dX5_init_83 (by decide) ?_
  refine x_newa (atype := .int) (q := 0) (N := 40) G C h rfl rfl q165 (by decide) (by decide) (by decide) (Nat.le_of_ble_eq_true rfl) (Nat.le_of_ble_eq_true rfl) dX5_init_85 hf (fun r26 σ27 H h hf => ?_)
  refine x_pR (q := (RX5, TX5, 9)) (j := 7) G C h rfl (by decide) rfl (lk C q141) (fun _ z => z) (Or.inr ⟨hnm, rfl⟩) dX5_init_87 hf (fun σ28 H locs h hf => ?_)
  cases hf
  refine W.widen (k := 7) (n := 76) (Nat.le_of_ble_eq_true rfl) (Nat.le_of_ble_eq_true rfl) ?_
  exact x_vret C h dX5_init_90

theorem dX6_init_0 : decode cX6_init 0 = .ok (.aload_n 0, 1) := by decide +kernel
theorem dX6_init_1 : decode cX6_init 1 = .ok (.aload_n 1, 1) := by decide +kernel
theorem dX6_init_2 : decode cX6_init 2 = .ok (.putfield 3, 3) := by decide +kernel
theorem dX6_init_5 : decode cX6_init 5 = .ok (.aload_n 0, 1) := by decide +kernel
theorem dX6_init_6 : decode cX6_init 6 = .ok (.invokespecial 9, 3) := by decide +kernel
theorem dX6_init_9 : decode cX6_init 9 = .ok (.return_, 1) := by decide +kernel
def fX6_init (σ : St) (a0 : Nat) (a1 : Nat) : Option (St) :=
  o_pR σ a0 4 3 (some a1) fun σ1 =>
  some σ1

set_option maxHeartbeats 4000000 in
theorem wX6_init {l : Launch} {s0 : State} {A0 : Array Value} {D : va_G} {ac : Nat → ClassId} (G : Gl s0 A0 D ac) {σ : St} {a0 : Nat} {a1 : Nat} {σ' : St} (hf : fX6_init σ a0 a1 = some (σ')) : Met l yX6_init (ws_ yX6_init cX6_init 2 none) ({ frames := 1, cells := 0, slots := 0, locals := 12 } : Room) (Pn s0 D ac [.ref a0, .ref a1] σ) (Qn s0 D ac none σ') 0 0 (fr s0) := by
  refine x_met (by decide) (Nat.le_of_ble_eq_true rfl) ?_
  intro p e s m args below meth c ls C hnm h hl
  have C : Cx s0 p s m args meth c cX6_init 2 "HutForShow$Reader" none := C
  have hx := C.1
  have hb := C.2.1
  have hl : lv_has ls 2 [(0, .ref a0), (1, .ref a1)] := hl
  unfold fX6_init at hf
  refine lv_aload_n hx hb dX6_init_0 rfl (lv_at hl 0 rfl) ?_
  refine lv_aload_n hx hb dX6_init_1 rfl (lv_at hl 1 rfl) ?_
  refine x_pR (q := (RX6, TX6, 4)) (j := 3) G C h rfl (by decide) rfl (lk C q179) (fun _ z => z) (Or.inr ⟨hnm, rfl⟩) dX6_init_2 hf (fun σ1 H locs h hf => ?_)
  refine lv_aload_n hx hb dX6_init_5 rfl (lv_at hl 0 rfl) ?_
  refine W.objInit hx hb C.2.2.2.1 (C.2.2.2.2.1 _ q175) (C.2.2.2.2.1 _ q88) (C.2.2.2.2.1 _ q89) rfl (by rw [C.2.2.1]; exact hl.1) rfl dX6_init_6 (Nat.le_of_ble_eq_true rfl) (Nat.le_of_ble_eq_true rfl) ?_
  refine W.eq (g2 := F0 m 9 ls []) rfl ?_
  cases hf
  refine W.widen (k := 0) (n := 0) (Nat.le_of_ble_eq_true rfl) (Nat.le_of_ble_eq_true rfl) ?_
  exact x_vret C h dX6_init_9

theorem dX0_isIn_0 : decode cX0_isIn 0 = .ok (.lload_n 0, 1) := by decide +kernel
theorem dX0_isIn_1 : decode cX0_isIn 1 = .ok (.lload_n 2, 1) := by decide +kernel
theorem dX0_isIn_2 : decode cX0_isIn 2 = .ok (.lcmp, 1) := by decide +kernel
theorem dX0_isIn_3 : decode cX0_isIn 3 = .ok (.ifCond .lt 14, 3) := by decide +kernel
theorem dX0_isIn_6 : decode cX0_isIn 6 = .ok (.lload_n 0, 1) := by decide +kernel
theorem dX0_isIn_7 : decode cX0_isIn 7 = .ok (.lload 4, 2) := by decide +kernel
theorem dX0_isIn_9 : decode cX0_isIn 9 = .ok (.lcmp, 1) := by decide +kernel
theorem dX0_isIn_10 : decode cX0_isIn 10 = .ok (.ifCond .gt 7, 3) := by decide +kernel
theorem dX0_isIn_13 : decode cX0_isIn 13 = .ok (.iconst 1, 1) := by decide +kernel
theorem dX0_isIn_14 : decode cX0_isIn 14 = .ok (.goto 4, 3) := by decide +kernel
theorem dX0_isIn_17 : decode cX0_isIn 17 = .ok (.iconst 0, 1) := by decide +kernel
theorem dX0_isIn_18 : decode cX0_isIn 18 = .ok (.ireturn, 1) := by decide +kernel
def fX0_isIn (σ : St) (a0 : Int64) (a1 : Int64) (a2 : Int64) : Option (Int32) :=
  jn (fun (_ : Unit) =>
    some 0) fun j17 =>
  if (lg_cmp a0 a1) < 0 then
    j17 ()
  else
  if 0 < (lg_cmp a0 a2) then
    j17 ()
  else
  some 1

set_option maxHeartbeats 4000000 in
theorem wX0_isIn {l : Launch} {s0 : State} {A0 : Array Value} {D : va_G} {ac : Nat → ClassId} (G : Gl s0 A0 D ac) {σ : St} {a0 : Int64} {a1 : Int64} {a2 : Int64} {v : Int32} (hf : fX0_isIn σ a0 a1 a2 = some (v)) : Met l yX0_isIn (ws_ yX0_isIn cX0_isIn 6 (some (.boolean))) ({ frames := 0, cells := 0, slots := 0, locals := 0 } : Room) (Pn s0 D ac [.long a0, .long a1, .long a2] σ) (Qn s0 D ac (some (.int v)) σ) 0 0 (fr s0) := by
  refine x_met (by decide) (Nat.le_of_ble_eq_true rfl) ?_
  intro p e s m args below meth c ls C hnm h hl
  have C : Cx s0 p s m args meth c cX0_isIn 6 "HutForShow" (some (.boolean)) := C
  have hx := C.1
  have hb := C.2.1
  have hl : lv_has ls 6 [(0, .long a0), (2, .long a1), (4, .long a2)] := hl
  unfold fX0_isIn at hf
  refine lv_lload_n hx hb dX0_isIn_0 rfl (lv_at hl 0 rfl) ?_
  refine lv_lload_n hx hb dX0_isIn_1 rfl (lv_at hl 1 rfl) ?_
  refine W.lcmp hx hb dX0_isIn_2 ?_
  refine jn_of (P := fun j => ∀ (u0 : Unit), j u0 = some (v) → ∀ (H : Heap) (locs : List Loc) (ls : Array Slot), Hs s0 D ac σ H locs → lv_has ls 6 [(0, .long a0), (2, .long a1), (4, .long a2)] → W p l e ({ frames := 0, cells := 0, slots := 0, locals := 0 } : Room) s m args below meth c H locs 0 0 (MQ below (Qn s0 D ac (some (.int v)) σ) args s 0 0 (fr s0)) (F0 m 17 ls [])) hf ?_ ?_
  · intro u0 hf H locs ls h hl
    refine lv_iconst (v := 0) hx hb dX0_isIn_17 (by decide) ?_
    cases hf
    refine W.widen (k := 0) (n := 0) (Nat.le_of_ble_eq_true rfl) (Nat.le_of_ble_eq_true rfl) ?_
    exact x_zret C h (by decide) dX0_isIn_18
  intro j17 hj17 hf
  refine lv_if_lt (tgt := 17) hx hb dX0_isIn_3 (by decide) (fun hc => ?_) (fun hc => ?_)
  · have hf := hf_t hc hf
    exact hj17 () hf _ _ _ h (lv_sub hl [0, 1, 2] rfl)
  · have hf := hf_f hc hf
    refine lv_lload_n hx hb dX0_isIn_6 rfl (lv_at hl 0 rfl) ?_
    refine lv_lload hx hb dX0_isIn_7 (lv_at hl 2 rfl) ?_
    refine W.lcmp hx hb dX0_isIn_9 ?_
    refine lv_if_gt (tgt := 17) hx hb dX0_isIn_10 (by decide) (fun hc => ?_) (fun hc => ?_)
    · have hf := hf_t hc hf
      exact hj17 () hf _ _ _ h (lv_sub hl [0, 1, 2] rfl)
    · have hf := hf_f hc hf
      refine lv_iconst (v := 1) hx hb dX0_isIn_13 (by decide) ?_
      refine lv_goto (tgt := 18) hx hb dX0_isIn_14 (by decide) ?_
      cases hf
      refine W.widen (k := 0) (n := 0) (Nat.le_of_ble_eq_true rfl) (Nat.le_of_ble_eq_true rfl) ?_
      exact x_zret C h (by decide) dX0_isIn_18

theorem dX0_isSpan_0 : decode cX0_isSpan 0 = .ok (.iload_n 0, 1) := by decide +kernel
theorem dX0_isSpan_1 : decode cX0_isSpan 1 = .ok (.i2l, 1) := by decide +kernel
theorem dX0_isSpan_2 : decode cX0_isSpan 2 = .ok (.lconst 0, 1) := by decide +kernel
theorem dX0_isSpan_3 : decode cX0_isSpan 3 = .ok (.ldc2_w 131, 3) := by decide +kernel
theorem dX0_isSpan_6 : decode cX0_isSpan 6 = .ok (.invokestatic 127, 3) := by decide +kernel
theorem dX0_isSpan_9 : decode cX0_isSpan 9 = .ok (.ireturn, 1) := by decide +kernel
def fX0_isSpan (σ : St) (a0 : Int32) : Option (Int32) :=
  (fX0_isIn σ (a0.toInt64) 0 30).bind fun x1 =>
  o_bz x1 <| some x1

set_option maxHeartbeats 4000000 in
theorem wX0_isSpan {l : Launch} {s0 : State} {A0 : Array Value} {D : va_G} {ac : Nat → ClassId} (G : Gl s0 A0 D ac) {σ : St} {a0 : Int32} {v : Int32} (hf : fX0_isSpan σ a0 = some (v)) : Met l yX0_isSpan (ws_ yX0_isSpan cX0_isSpan 1 (some (.boolean))) ({ frames := 1, cells := 0, slots := 0, locals := 25 } : Room) (Pn s0 D ac [.int a0] σ) (Qn s0 D ac (some (.int v)) σ) 0 0 (fr s0) := by
  refine x_met (by decide) (Nat.le_of_ble_eq_true rfl) ?_
  intro p e s m args below meth c ls C hnm h hl
  have C : Cx s0 p s m args meth c cX0_isSpan 1 "HutForShow" (some (.boolean)) := C
  have hx := C.1
  have hb := C.2.1
  have hl : lv_has ls 1 [(0, .int a0)] := hl
  unfold fX0_isSpan at hf
  refine lv_iload_n hx hb dX0_isSpan_0 rfl (lv_at hl 0 rfl) ?_
  refine lv_i2l hx hb dX0_isSpan_1 rfl ?_
  refine lv_lconst (v := 0) hx hb dX0_isSpan_2 (by decide) ?_
  refine lv_ldc2 (v := 30) hx hb C.2.2.2.1 (C.2.2.2.2.1 _ q317) dX0_isSpan_3 ?_
  obtain ⟨x1, hc, hf⟩ := hf_b hf
  refine x_cS (rest := []) (As := [.long (a0.toInt64), .long 0, .long 30]) (n := 3) (ov := (some (.int x1))) C h (wX0_isIn G hc) (lw_S q318 q319 q54 q320) (by decide +kernel) ⟨Nat.le_of_ble_eq_true rfl, Nat.le_of_ble_eq_true rfl⟩ rfl rfl rfl hl.1 rfl (Nat.le_of_ble_eq_true rfl) dX0_isSpan_6 ⟨(Nat.le_of_ble_eq_true rfl), (Nat.le_of_ble_eq_true rfl)⟩ (fun H locs h => ?_)
  obtain ⟨hz, hf⟩ := bz_of hf
  cases hf
  refine W.widen (k := 0) (n := 0) (Nat.le_of_ble_eq_true rfl) (Nat.le_of_ble_eq_true rfl) ?_
  exact x_zret C h hz dX0_isSpan_9

theorem dX8_init_0 : decode cX8_init 0 = .ok (.aload_n 0, 1) := by decide +kernel
theorem dX8_init_1 : decode cX8_init 1 = .ok (.invokespecial 1, 3) := by decide +kernel
theorem dX8_init_4 : decode cX8_init 4 = .ok (.aload_n 0, 1) := by decide +kernel
theorem dX8_init_5 : decode cX8_init 5 = .ok (.iload_n 1, 1) := by decide +kernel
theorem dX8_init_6 : decode cX8_init 6 = .ok (.putfield 7, 3) := by decide +kernel
theorem dX8_init_9 : decode cX8_init 9 = .ok (.aload_n 0, 1) := by decide +kernel
theorem dX8_init_10 : decode cX8_init 10 = .ok (.iload_n 2, 1) := by decide +kernel
theorem dX8_init_11 : decode cX8_init 11 = .ok (.putfield 13, 3) := by decide +kernel
theorem dX8_init_14 : decode cX8_init 14 = .ok (.return_, 1) := by decide +kernel
def fX8_init (σ : St) (a0 : Nat) (a1 : Int32) (a2 : Int32) : Option (St) :=
  o_pI σ a0 6 0 a1 fun σ1 =>
  o_pI σ1 a0 6 1 a2 fun σ2 =>
  some σ2

set_option maxHeartbeats 4000000 in
theorem wX8_init {l : Launch} {s0 : State} {A0 : Array Value} {D : va_G} {ac : Nat → ClassId} (G : Gl s0 A0 D ac) {σ : St} {a0 : Nat} {a1 : Int32} {a2 : Int32} {σ' : St} (hf : fX8_init σ a0 a1 a2 = some (σ')) : Met l yX8_init (ws_ yX8_init cX8_init 3 none) ({ frames := 1, cells := 0, slots := 0, locals := 12 } : Room) (Pn s0 D ac [.ref a0, .int a1, .int a2] σ) (Qn s0 D ac none σ') 0 0 (fr s0) := by
  refine x_met (by decide) (Nat.le_of_ble_eq_true rfl) ?_
  intro p e s m args below meth c ls C hnm h hl
  have C : Cx s0 p s m args meth c cX8_init 3 "HutForShow$Place" none := C
  have hx := C.1
  have hb := C.2.1
  have hl : lv_has ls 3 [(0, .ref a0), (1, .int a1), (2, .int a2)] := hl
  unfold fX8_init at hf
  refine lv_aload_n hx hb dX8_init_0 rfl (lv_at hl 0 rfl) ?_
  refine W.objInit hx hb C.2.2.2.1 (C.2.2.2.2.1 _ q326) (C.2.2.2.2.1 _ q88) (C.2.2.2.2.1 _ q89) rfl (by rw [C.2.2.1]; exact hl.1) rfl dX8_init_1 (Nat.le_of_ble_eq_true rfl) (Nat.le_of_ble_eq_true rfl) ?_
  refine W.eq (g2 := F0 m 4 ls []) rfl ?_
  refine lv_aload_n hx hb dX8_init_4 rfl (lv_at hl 0 rfl) ?_
  refine lv_iload_n hx hb dX8_init_5 rfl (lv_at hl 1 rfl) ?_
  refine x_pI (q := (RX8, TX8, 2)) (j := 0) G C h rfl (by decide) rfl (lk C q327) (fun _ z => z) (Or.inr ⟨hnm, rfl⟩) dX8_init_6 hf (fun σ1 H locs h hf => ?_)
  refine lv_aload_n hx hb dX8_init_9 rfl (lv_at hl 0 rfl) ?_
  refine lv_iload_n hx hb dX8_init_10 rfl (lv_at hl 2 rfl) ?_
  refine x_pI (q := (RX8, TX8, 2)) (j := 1) G C h rfl (by decide) rfl (lk C q328) (fun _ z => z) (Or.inr ⟨hnm, rfl⟩) dX8_init_11 hf (fun σ2 H locs h hf => ?_)
  cases hf
  refine W.widen (k := 0) (n := 0) (Nat.le_of_ble_eq_true rfl) (Nat.le_of_ble_eq_true rfl) ?_
  exact x_vret C h dX8_init_14

theorem dX0_hut_0 : decode cX0_hut 0 = .ok (.iload_n 1, 1) := by decide +kernel
theorem dX0_hut_1 : decode cX0_hut 1 = .ok (.invokestatic 133, 3) := by decide +kernel
theorem dX0_hut_4 : decode cX0_hut 4 = .ok (.ifCond .eq 22, 3) := by decide +kernel
theorem dX0_hut_7 : decode cX0_hut 7 = .ok (.iload_n 2, 1) := by decide +kernel
theorem dX0_hut_8 : decode cX0_hut 8 = .ok (.invokestatic 133, 3) := by decide +kernel
theorem dX0_hut_11 : decode cX0_hut 11 = .ok (.ifCond .eq 15, 3) := by decide +kernel
theorem dX0_hut_14 : decode cX0_hut 14 = .ok (.iload_n 3, 1) := by decide +kernel
theorem dX0_hut_15 : decode cX0_hut 15 = .ok (.i2l, 1) := by decide +kernel
theorem dX0_hut_16 : decode cX0_hut 16 = .ok (.lconst 0, 1) := by decide +kernel
theorem dX0_hut_17 : decode cX0_hut 17 = .ok (.ldc2_w 137, 3) := by decide +kernel
theorem dX0_hut_20 : decode cX0_hut 20 = .ok (.invokestatic 127, 3) := by decide +kernel
theorem dX0_hut_23 : decode cX0_hut 23 = .ok (.ifCond .ne 6, 3) := by decide +kernel
theorem dX0_hut_26 : decode cX0_hut 26 = .ok (.bipush (-3), 2) := by decide +kernel
theorem dX0_hut_28 : decode cX0_hut 28 = .ok (.ireturn, 1) := by decide +kernel
theorem dX0_hut_29 : decode cX0_hut 29 = .ok (.aload_n 0, 1) := by decide +kernel
theorem dX0_hut_30 : decode cX0_hut 30 = .ok (.getfield 123, 3) := by decide +kernel
theorem dX0_hut_33 : decode cX0_hut 33 = .ok (.bipush 6, 2) := by decide +kernel
theorem dX0_hut_35 : decode cX0_hut 35 = .ok (.if_icmp .ne 6, 3) := by decide +kernel
theorem dX0_hut_38 : decode cX0_hut 38 = .ok (.bipush (-5), 2) := by decide +kernel
theorem dX0_hut_40 : decode cX0_hut 40 = .ok (.ireturn, 1) := by decide +kernel
theorem dX0_hut_41 : decode cX0_hut 41 = .ok (.aload_n 0, 1) := by decide +kernel
theorem dX0_hut_42 : decode cX0_hut 42 = .ok (.getfield 26, 3) := by decide +kernel
theorem dX0_hut_45 : decode cX0_hut 45 = .ok (.aload_n 0, 1) := by decide +kernel
theorem dX0_hut_46 : decode cX0_hut 46 = .ok (.getfield 123, 3) := by decide +kernel
theorem dX0_hut_49 : decode cX0_hut 49 = .ok (.new 24, 3) := by decide +kernel
theorem dX0_hut_52 : decode cX0_hut 52 = .ok (.dup, 1) := by decide +kernel
theorem dX0_hut_53 : decode cX0_hut 53 = .ok (.iload_n 1, 1) := by decide +kernel
theorem dX0_hut_54 : decode cX0_hut 54 = .ok (.iload_n 2, 1) := by decide +kernel
theorem dX0_hut_55 : decode cX0_hut 55 = .ok (.invokespecial 139, 3) := by decide +kernel
theorem dX0_hut_58 : decode cX0_hut 58 = .ok (.aastore, 1) := by decide +kernel
theorem dX0_hut_59 : decode cX0_hut 59 = .ok (.aload_n 0, 1) := by decide +kernel
theorem dX0_hut_60 : decode cX0_hut 60 = .ok (.getfield 45, 3) := by decide +kernel
theorem dX0_hut_63 : decode cX0_hut 63 = .ok (.getfield 142, 3) := by decide +kernel
theorem dX0_hut_66 : decode cX0_hut 66 = .ok (.aload_n 0, 1) := by decide +kernel
theorem dX0_hut_67 : decode cX0_hut 67 = .ok (.getfield 123, 3) := by decide +kernel
theorem dX0_hut_70 : decode cX0_hut 70 = .ok (.iload_n 3, 1) := by decide +kernel
theorem dX0_hut_71 : decode cX0_hut 71 = .ok (.iastore, 1) := by decide +kernel
theorem dX0_hut_72 : decode cX0_hut 72 = .ok (.aload_n 0, 1) := by decide +kernel
theorem dX0_hut_73 : decode cX0_hut 73 = .ok (.dup, 1) := by decide +kernel
theorem dX0_hut_74 : decode cX0_hut 74 = .ok (.getfield 123, 3) := by decide +kernel
theorem dX0_hut_77 : decode cX0_hut 77 = .ok (.iconst 1, 1) := by decide +kernel
theorem dX0_hut_78 : decode cX0_hut 78 = .ok (.iadd, 1) := by decide +kernel
theorem dX0_hut_79 : decode cX0_hut 79 = .ok (.putfield 123, 3) := by decide +kernel
theorem dX0_hut_82 : decode cX0_hut 82 = .ok (.aload_n 0, 1) := by decide +kernel
theorem dX0_hut_83 : decode cX0_hut 83 = .ok (.getfield 123, 3) := by decide +kernel
theorem dX0_hut_86 : decode cX0_hut 86 = .ok (.iconst 1, 1) := by decide +kernel
theorem dX0_hut_87 : decode cX0_hut 87 = .ok (.isub, 1) := by decide +kernel
theorem dX0_hut_88 : decode cX0_hut 88 = .ok (.ireturn, 1) := by decide +kernel
def fX0_hut (σ : St) (a0 : Nat) (a1 : Int32) (a2 : Int32) (a3 : Int32) : Option (Int32 × St) :=
  (fX0_isSpan σ a1).bind fun x1 =>
  if x1 = 0 then
    some ((-3), σ)
  else
  (fX0_isSpan σ a2).bind fun x2 =>
  if x2 = 0 then
    some ((-3), σ)
  else
  (fX0_isIn σ (a3.toInt64) 0 99).bind fun x3 =>
  if x3 = 0 then
    some ((-3), σ)
  else
  o_gI σ a0 0 3 fun x4 =>
  if x4 = 6 then
    some ((-5), σ)
  else
  o_gR σ a0 0 2 fun r5 =>
  o_gI σ a0 0 3 fun x6 =>
  o_new σ 6 fun r7 σ8 =>
  (fX8_init σ8 r7 a1 a2).bind fun σ9 =>
  o_sR σ9 r5 3 x6 r7 fun σ10 =>
  o_gR σ10 a0 0 7 fun r11 =>
  o_gR σ10 r11 3 1 fun r12 =>
  o_gI σ10 a0 0 3 fun x13 =>
  o_sI σ10 r12 0 x13 a3 fun σ14 =>
  o_gI σ14 a0 0 3 fun x15 =>
  o_pI σ14 a0 0 3 (x15 + 1) fun σ16 =>
  o_gI σ16 a0 0 3 fun x17 =>
  some (x17 - 1, σ16)

set_option maxHeartbeats 4000000 in
theorem wX0_hut {l : Launch} {s0 : State} {A0 : Array Value} {D : va_G} {ac : Nat → ClassId} (G : Gl s0 A0 D ac) {σ : St} {a0 : Nat} {a1 : Int32} {a2 : Int32} {a3 : Int32} {v : Int32} {σ' : St} (hf : fX0_hut σ a0 a1 a2 a3 = some (v, σ')) : Met l yX0_hut (ws_ yX0_hut cX0_hut 4 (some (.int))) ({ frames := 2, cells := 1, slots := 2, locals := 45 } : Room) (Pn s0 D ac [.ref a0, .int a1, .int a2, .int a3] σ) (Qn s0 D ac (some (.int v)) σ') 1 2 (fr s0) := by
  refine x_met (by decide) (Nat.le_of_ble_eq_true rfl) ?_
  intro p e s m args below meth c ls C hnm h hl
  have C : Cx s0 p s m args meth c cX0_hut 4 "HutForShow" (some (.int)) := C
  have hx := C.1
  have hb := C.2.1
  have hl : lv_has ls 4 [(0, .ref a0), (1, .int a1), (2, .int a2), (3, .int a3)] := hl
  unfold fX0_hut at hf
  refine lv_iload_n hx hb dX0_hut_0 rfl (lv_at hl 1 rfl) ?_
  obtain ⟨x1, hc, hf⟩ := hf_b hf
  refine x_cS (rest := []) (As := [.int a1]) (n := 1) (ov := (some (.int x1))) C h (wX0_isSpan G hc) (lw_S q314 q315 q54 q316) (by decide +kernel) ⟨Nat.le_of_ble_eq_true rfl, Nat.le_of_ble_eq_true rfl⟩ rfl rfl rfl hl.1 rfl (Nat.le_of_ble_eq_true rfl) dX0_hut_1 ⟨(Nat.le_of_ble_eq_true rfl), (Nat.le_of_ble_eq_true rfl)⟩ (fun H locs h => ?_)
  refine lv_if_eq (tgt := 26) hx hb dX0_hut_4 (by decide) (fun hc => ?_) (fun hc => ?_)
  · have hf := hf_t hc hf
    refine lv_bipush (v := (-3)) hx hb dX0_hut_26 (by decide) ?_
    cases hf
    refine W.widen (k := 1) (n := 2) (Nat.le_of_ble_eq_true rfl) (Nat.le_of_ble_eq_true rfl) ?_
    exact x_iret C h dX0_hut_28
  · have hf := hf_f hc hf
    refine lv_iload_n hx hb dX0_hut_7 rfl (lv_at hl 2 rfl) ?_
    obtain ⟨x2, hc, hf⟩ := hf_b hf
    refine x_cS (rest := []) (As := [.int a2]) (n := 1) (ov := (some (.int x2))) C h (wX0_isSpan G hc) (lw_S q314 q315 q54 q316) (by decide +kernel) ⟨Nat.le_of_ble_eq_true rfl, Nat.le_of_ble_eq_true rfl⟩ rfl rfl rfl hl.1 rfl (Nat.le_of_ble_eq_true rfl) dX0_hut_8 ⟨(Nat.le_of_ble_eq_true rfl), (Nat.le_of_ble_eq_true rfl)⟩ (fun H locs h => ?_)
    refine lv_if_eq (tgt := 26) hx hb dX0_hut_11 (by decide) (fun hc => ?_) (fun hc => ?_)
    · have hf := hf_t hc hf
      refine lv_bipush (v := (-3)) hx hb dX0_hut_26 (by decide) ?_
      cases hf
      refine W.widen (k := 1) (n := 2) (Nat.le_of_ble_eq_true rfl) (Nat.le_of_ble_eq_true rfl) ?_
      exact x_iret C h dX0_hut_28
    · have hf := hf_f hc hf
      refine lv_iload_n hx hb dX0_hut_14 rfl (lv_at hl 3 rfl) ?_
      refine lv_i2l hx hb dX0_hut_15 rfl ?_
      refine lv_lconst (v := 0) hx hb dX0_hut_16 (by decide) ?_
      refine lv_ldc2 (v := 99) hx hb C.2.2.2.1 (C.2.2.2.2.1 _ q321) dX0_hut_17 ?_
      obtain ⟨x3, hc, hf⟩ := hf_b hf
      refine x_cS (rest := []) (As := [.long (a3.toInt64), .long 0, .long 99]) (n := 3) (ov := (some (.int x3))) C h (wX0_isIn G hc) (lw_S q318 q319 q54 q320) (by decide +kernel) ⟨Nat.le_of_ble_eq_true rfl, Nat.le_of_ble_eq_true rfl⟩ rfl rfl rfl hl.1 rfl (Nat.le_of_ble_eq_true rfl) dX0_hut_20 ⟨(Nat.le_of_ble_eq_true rfl), (Nat.le_of_ble_eq_true rfl)⟩ (fun H locs h => ?_)
      refine lv_if_ne (tgt := 29) hx hb dX0_hut_23 (by decide) (fun hc => ?_) (fun hc => ?_)
      · have hf := hf_f hc hf
        refine lv_aload_n hx hb dX0_hut_29 rfl (lv_at hl 0 rfl) ?_
        refine x_gI (q := (RX0, TX0, 33)) (j := 3) G C h rfl (by decide) (fun _ _ _ => rfl) (lk C q203) (fun _ z => z) dX0_hut_30 hf (fun x4 hf => ?_)
        refine lv_bipush (v := 6) hx hb dX0_hut_33 (by decide) ?_
        refine lv_icmp_ne (tgt := 41) hx hb dX0_hut_35 (by decide) (fun hc => ?_) (fun hc => ?_)
        · have hf := hf_f hc hf
          refine lv_aload_n hx hb dX0_hut_41 rfl (lv_at hl 0 rfl) ?_
          refine x_gR (q := (RX0, TX0, 33)) (j := 2) G C h rfl (by decide) (fun _ _ _ => rfl) (lk C q201) (fun _ z => z) dX0_hut_42 hf (fun r5 hf => ?_)
          refine lv_aload_n hx hb dX0_hut_45 rfl (lv_at hl 0 rfl) ?_
          refine x_gI (q := (RX0, TX0, 33)) (j := 3) G C h rfl (by decide) (fun _ _ _ => rfl) (lk C q203) (fun _ z => z) dX0_hut_46 hf (fun x6 hf => ?_)
          refine x_new (q := (RX8, TX8, 2)) G C h rfl (fun j _ => nf_all 6 j) q110 q322 q62 (Nat.le_of_ble_eq_true rfl) (Nat.le_of_ble_eq_true rfl) dX0_hut_49 hf (fun r7 σ8 H h hf => ?_)
          refine lv_dup hx hb dX0_hut_52 rfl ?_
          refine lv_iload_n hx hb dX0_hut_53 rfl (lv_at hl 1 rfl) ?_
          refine lv_iload_n hx hb dX0_hut_54 rfl (lv_at hl 2 rfl) ?_
          obtain ⟨σ9, hc, hf⟩ := hf_b hf
          refine x_cI (rest := [.ref r7, .int x6, .ref r5]) (As := [.int a1, .int a2]) (n := 2) (ov := none) C h (wX8_init G hc) q323 q324 q62 q325 rfl (by decide +kernel) ⟨Nat.le_of_ble_eq_true rfl, Nat.le_of_ble_eq_true rfl⟩ rfl rfl rfl hl.1 rfl (Nat.le_of_ble_eq_true rfl) dX0_hut_55 ⟨(Nat.le_of_ble_eq_true rfl), (Nat.le_of_ble_eq_true rfl)⟩ (fun H locs h => ?_)
          refine x_aast G C h dX0_hut_58 hf (fun σ10 H locs h hf => ?_)
          refine lv_aload_n hx hb dX0_hut_59 rfl (lv_at hl 0 rfl) ?_
          refine x_gR (q := (RX0, TX0, 33)) (j := 7) G C h rfl (by decide) (fun _ _ _ => rfl) (lk C q213) (fun _ z => z) dX0_hut_60 hf (fun r11 hf => ?_)
          refine x_gR (q := (RX5, TX5, 9)) (j := 1) G C h rfl (by decide) (fun _ _ _ => rfl) (lkn G C q129) (fun _ z => z) dX0_hut_63 hf (fun r12 hf => ?_)
          refine lv_aload_n hx hb dX0_hut_66 rfl (lv_at hl 0 rfl) ?_
          refine x_gI (q := (RX0, TX0, 33)) (j := 3) G C h rfl (by decide) (fun _ _ _ => rfl) (lk C q203) (fun _ z => z) dX0_hut_67 hf (fun x13 hf => ?_)
          refine lv_iload_n hx hb dX0_hut_70 rfl (lv_at hl 3 rfl) ?_
          refine x_iast G C h dX0_hut_71 hf (fun σ14 H locs h hf => ?_)
          refine lv_aload_n hx hb dX0_hut_72 rfl (lv_at hl 0 rfl) ?_
          refine lv_dup hx hb dX0_hut_73 rfl ?_
          refine x_gI (q := (RX0, TX0, 33)) (j := 3) G C h rfl (by decide) (fun _ _ _ => rfl) (lk C q203) (fun _ z => z) dX0_hut_74 hf (fun x15 hf => ?_)
          refine lv_iconst (v := 1) hx hb dX0_hut_77 (by decide) ?_
          refine lv_iadd hx hb dX0_hut_78 ?_
          refine x_pI (q := (RX0, TX0, 33)) (j := 3) G C h rfl (by decide) rfl (lk C q203) (fun _ z => z) (Or.inl rfl) dX0_hut_79 hf (fun σ16 H locs h hf => ?_)
          refine lv_aload_n hx hb dX0_hut_82 rfl (lv_at hl 0 rfl) ?_
          refine x_gI (q := (RX0, TX0, 33)) (j := 3) G C h rfl (by decide) (fun _ _ _ => rfl) (lk C q203) (fun _ z => z) dX0_hut_83 hf (fun x17 hf => ?_)
          refine lv_iconst (v := 1) hx hb dX0_hut_86 (by decide) ?_
          refine lv_isub hx hb dX0_hut_87 ?_
          cases hf
          refine W.widen (k := 1) (n := 2) (Nat.le_of_ble_eq_true rfl) (Nat.le_of_ble_eq_true rfl) ?_
          exact x_iret C h dX0_hut_88
        · have hf := hf_t hc hf
          refine lv_bipush (v := (-5)) hx hb dX0_hut_38 (by decide) ?_
          cases hf
          refine W.widen (k := 1) (n := 2) (Nat.le_of_ble_eq_true rfl) (Nat.le_of_ble_eq_true rfl) ?_
          exact x_iret C h dX0_hut_40
      · have hf := hf_t hc hf
        refine lv_bipush (v := (-3)) hx hb dX0_hut_26 (by decide) ?_
        cases hf
        refine W.widen (k := 1) (n := 2) (Nat.le_of_ble_eq_true rfl) (Nat.le_of_ble_eq_true rfl) ?_
        exact x_iret C h dX0_hut_28

theorem dX0_isHut_0 : decode cX0_isHut 0 = .ok (.iload_n 1, 1) := by decide +kernel
theorem dX0_isHut_1 : decode cX0_isHut 1 = .ok (.i2l, 1) := by decide +kernel
theorem dX0_isHut_2 : decode cX0_isHut 2 = .ok (.lconst 0, 1) := by decide +kernel
theorem dX0_isHut_3 : decode cX0_isHut 3 = .ok (.aload_n 0, 1) := by decide +kernel
theorem dX0_isHut_4 : decode cX0_isHut 4 = .ok (.getfield 123, 3) := by decide +kernel
theorem dX0_isHut_7 : decode cX0_isHut 7 = .ok (.iconst 1, 1) := by decide +kernel
theorem dX0_isHut_8 : decode cX0_isHut 8 = .ok (.isub, 1) := by decide +kernel
theorem dX0_isHut_9 : decode cX0_isHut 9 = .ok (.i2l, 1) := by decide +kernel
theorem dX0_isHut_10 : decode cX0_isHut 10 = .ok (.invokestatic 127, 3) := by decide +kernel
theorem dX0_isHut_13 : decode cX0_isHut 13 = .ok (.ireturn, 1) := by decide +kernel
def fX0_isHut (σ : St) (a0 : Nat) (a1 : Int32) : Option (Int32) :=
  o_gI σ a0 0 3 fun x1 =>
  (fX0_isIn σ (a1.toInt64) 0 ((x1 - 1).toInt64)).bind fun x2 =>
  o_bz x2 <| some x2

set_option maxHeartbeats 4000000 in
theorem wX0_isHut {l : Launch} {s0 : State} {A0 : Array Value} {D : va_G} {ac : Nat → ClassId} (G : Gl s0 A0 D ac) {σ : St} {a0 : Nat} {a1 : Int32} {v : Int32} (hf : fX0_isHut σ a0 a1 = some (v)) : Met l yX0_isHut (ws_ yX0_isHut cX0_isHut 2 (some (.boolean))) ({ frames := 1, cells := 0, slots := 0, locals := 25 } : Room) (Pn s0 D ac [.ref a0, .int a1] σ) (Qn s0 D ac (some (.int v)) σ) 0 0 (fr s0) := by
  refine x_met (by decide) (Nat.le_of_ble_eq_true rfl) ?_
  intro p e s m args below meth c ls C hnm h hl
  have C : Cx s0 p s m args meth c cX0_isHut 2 "HutForShow" (some (.boolean)) := C
  have hx := C.1
  have hb := C.2.1
  have hl : lv_has ls 2 [(0, .ref a0), (1, .int a1)] := hl
  unfold fX0_isHut at hf
  refine lv_iload_n hx hb dX0_isHut_0 rfl (lv_at hl 1 rfl) ?_
  refine lv_i2l hx hb dX0_isHut_1 rfl ?_
  refine lv_lconst (v := 0) hx hb dX0_isHut_2 (by decide) ?_
  refine lv_aload_n hx hb dX0_isHut_3 rfl (lv_at hl 0 rfl) ?_
  refine x_gI (q := (RX0, TX0, 33)) (j := 3) G C h rfl (by decide) (fun _ _ _ => rfl) (lk C q203) (fun _ z => z) dX0_isHut_4 hf (fun x1 hf => ?_)
  refine lv_iconst (v := 1) hx hb dX0_isHut_7 (by decide) ?_
  refine lv_isub hx hb dX0_isHut_8 ?_
  refine lv_i2l hx hb dX0_isHut_9 rfl ?_
  obtain ⟨x2, hc, hf⟩ := hf_b hf
  refine x_cS (rest := []) (As := [.long (a1.toInt64), .long 0, .long ((x1 - 1).toInt64)]) (n := 3) (ov := (some (.int x2))) C h (wX0_isIn G hc) (lw_S q318 q319 q54 q320) (by decide +kernel) ⟨Nat.le_of_ble_eq_true rfl, Nat.le_of_ble_eq_true rfl⟩ rfl rfl rfl hl.1 rfl (Nat.le_of_ble_eq_true rfl) dX0_isHut_10 ⟨(Nat.le_of_ble_eq_true rfl), (Nat.le_of_ble_eq_true rfl)⟩ (fun H locs h => ?_)
  obtain ⟨hz, hf⟩ := bz_of hf
  cases hf
  refine W.widen (k := 0) (n := 0) (Nat.le_of_ble_eq_true rfl) (Nat.le_of_ble_eq_true rfl) ?_
  exact x_zret C h hz dX0_isHut_13

theorem dX8_far_0 : decode cX8_far 0 = .ok (.aload_n 0, 1) := by decide +kernel
theorem dX8_far_1 : decode cX8_far 1 = .ok (.getfield 7, 3) := by decide +kernel
theorem dX8_far_4 : decode cX8_far 4 = .ok (.aload_n 1, 1) := by decide +kernel
theorem dX8_far_5 : decode cX8_far 5 = .ok (.getfield 7, 3) := by decide +kernel
theorem dX8_far_8 : decode cX8_far 8 = .ok (.isub, 1) := by decide +kernel
theorem dX8_far_9 : decode cX8_far 9 = .ok (.invokestatic 16, 3) := by decide +kernel
theorem dX8_far_12 : decode cX8_far 12 = .ok (.aload_n 0, 1) := by decide +kernel
theorem dX8_far_13 : decode cX8_far 13 = .ok (.getfield 13, 3) := by decide +kernel
theorem dX8_far_16 : decode cX8_far 16 = .ok (.aload_n 1, 1) := by decide +kernel
theorem dX8_far_17 : decode cX8_far 17 = .ok (.getfield 13, 3) := by decide +kernel
theorem dX8_far_20 : decode cX8_far 20 = .ok (.isub, 1) := by decide +kernel
theorem dX8_far_21 : decode cX8_far 21 = .ok (.invokestatic 16, 3) := by decide +kernel
theorem dX8_far_24 : decode cX8_far 24 = .ok (.iadd, 1) := by decide +kernel
theorem dX8_far_25 : decode cX8_far 25 = .ok (.ireturn, 1) := by decide +kernel
def fX8_far (σ : St) (a0 : Nat) (a1 : Nat) : Option (Int32) :=
  o_gI σ a0 6 0 fun x1 =>
  o_gI σ a1 6 0 fun x2 =>
  o_let (jabs (x1 - x2)) fun x3 =>
  o_gI σ a0 6 1 fun x4 =>
  o_gI σ a1 6 1 fun x5 =>
  o_let (jabs (x4 - x5)) fun x6 =>
  some (x3 + x6)

set_option maxHeartbeats 4000000 in
theorem wX8_far {l : Launch} {s0 : State} {A0 : Array Value} {D : va_G} {ac : Nat → ClassId} (G : Gl s0 A0 D ac) {σ : St} {a0 : Nat} {a1 : Nat} {v : Int32} (hf : fX8_far σ a0 a1 = some (v)) : Met l yX8_far (ws_ yX8_far cX8_far 2 (some (.int))) ({ frames := 1, cells := 0, slots := 0, locals := 21 } : Room) (Pn s0 D ac [.ref a0, .ref a1] σ) (Qn s0 D ac (some (.int v)) σ) 0 0 (fr s0) := by
  refine x_met (by decide) (Nat.le_of_ble_eq_true rfl) ?_
  intro p e s m args below meth c ls C hnm h hl
  have C : Cx s0 p s m args meth c cX8_far 2 "HutForShow$Place" (some (.int)) := C
  have hx := C.1
  have hb := C.2.1
  have hl : lv_has ls 2 [(0, .ref a0), (1, .ref a1)] := hl
  unfold fX8_far at hf
  refine lv_aload_n hx hb dX8_far_0 rfl (lv_at hl 0 rfl) ?_
  refine x_gI (q := (RX8, TX8, 2)) (j := 0) G C h rfl (by decide) (fun _ _ _ => rfl) (lk C q327) (fun _ z => z) dX8_far_1 hf (fun x1 hf => ?_)
  refine lv_aload_n hx hb dX8_far_4 rfl (lv_at hl 1 rfl) ?_
  refine x_gI (q := (RX8, TX8, 2)) (j := 0) G C h rfl (by decide) (fun _ _ _ => rfl) (lk C q327) (fun _ z => z) dX8_far_5 hf (fun x2 hf => ?_)
  refine lv_isub hx hb dX8_far_8 ?_
  refine x_abs C hl.1 q346 q347 q63 q348 (Nat.le_of_ble_eq_true rfl) (Nat.le_of_ble_eq_true rfl) (Nat.le_of_ble_eq_true rfl) (Nat.le_of_ble_eq_true rfl) dX8_far_9 ?_
  refine x_letI hf (fun x3 hf => ?_)
  refine lv_aload_n hx hb dX8_far_12 rfl (lv_at hl 0 rfl) ?_
  refine x_gI (q := (RX8, TX8, 2)) (j := 1) G C h rfl (by decide) (fun _ _ _ => rfl) (lk C q328) (fun _ z => z) dX8_far_13 hf (fun x4 hf => ?_)
  refine lv_aload_n hx hb dX8_far_16 rfl (lv_at hl 1 rfl) ?_
  refine x_gI (q := (RX8, TX8, 2)) (j := 1) G C h rfl (by decide) (fun _ _ _ => rfl) (lk C q328) (fun _ z => z) dX8_far_17 hf (fun x5 hf => ?_)
  refine lv_isub hx hb dX8_far_20 ?_
  refine x_abs C hl.1 q346 q347 q63 q348 (Nat.le_of_ble_eq_true rfl) (Nat.le_of_ble_eq_true rfl) (Nat.le_of_ble_eq_true rfl) (Nat.le_of_ble_eq_true rfl) dX8_far_21 ?_
  refine x_letI hf (fun x6 hf => ?_)
  refine lv_iadd hx hb dX8_far_24 ?_
  cases hf
  refine W.widen (k := 0) (n := 0) (Nat.le_of_ble_eq_true rfl) (Nat.le_of_ble_eq_true rfl) ?_
  exact x_iret C h dX8_far_25

theorem dX0_far_0 : decode cX0_far 0 = .ok (.aload_n 0, 1) := by decide +kernel
theorem dX0_far_1 : decode cX0_far 1 = .ok (.iload_n 1, 1) := by decide +kernel
theorem dX0_far_2 : decode cX0_far 2 = .ok (.invokevirtual 145, 3) := by decide +kernel
theorem dX0_far_5 : decode cX0_far 5 = .ok (.ifCond .eq 29, 3) := by decide +kernel
theorem dX0_far_8 : decode cX0_far 8 = .ok (.aload_n 0, 1) := by decide +kernel
theorem dX0_far_9 : decode cX0_far 9 = .ok (.iload_n 2, 1) := by decide +kernel
theorem dX0_far_10 : decode cX0_far 10 = .ok (.invokevirtual 145, 3) := by decide +kernel
theorem dX0_far_13 : decode cX0_far 13 = .ok (.ifCond .eq 21, 3) := by decide +kernel
theorem dX0_far_16 : decode cX0_far 16 = .ok (.aload_n 0, 1) := by decide +kernel
theorem dX0_far_17 : decode cX0_far 17 = .ok (.getfield 26, 3) := by decide +kernel
theorem dX0_far_20 : decode cX0_far 20 = .ok (.iload_n 1, 1) := by decide +kernel
theorem dX0_far_21 : decode cX0_far 21 = .ok (.aaload, 1) := by decide +kernel
theorem dX0_far_22 : decode cX0_far 22 = .ok (.aload_n 0, 1) := by decide +kernel
theorem dX0_far_23 : decode cX0_far 23 = .ok (.getfield 26, 3) := by decide +kernel
theorem dX0_far_26 : decode cX0_far 26 = .ok (.iload_n 2, 1) := by decide +kernel
theorem dX0_far_27 : decode cX0_far 27 = .ok (.aaload, 1) := by decide +kernel
theorem dX0_far_28 : decode cX0_far 28 = .ok (.invokevirtual 148, 3) := by decide +kernel
theorem dX0_far_31 : decode cX0_far 31 = .ok (.goto 5, 3) := by decide +kernel
theorem dX0_far_34 : decode cX0_far 34 = .ok (.bipush (-2), 2) := by decide +kernel
theorem dX0_far_36 : decode cX0_far 36 = .ok (.ireturn, 1) := by decide +kernel
def fX0_far (σ : St) (a0 : Nat) (a1 : Int32) (a2 : Int32) : Option (Int32) :=
  o_k σ a0 0 <|
  (fX0_isHut σ a0 a1).bind fun x1 =>
  jn (fun (_ : Unit) =>
    some ((-2))) fun j34 =>
  if x1 = 0 then
    j34 ()
  else
  o_k σ a0 0 <|
  (fX0_isHut σ a0 a2).bind fun x2 =>
  if x2 = 0 then
    j34 ()
  else
  o_gR σ a0 0 2 fun r3 =>
  o_aR σ r3 3 a1 fun r4 =>
  o_gR σ a0 0 2 fun r5 =>
  o_aR σ r5 3 a2 fun r6 =>
  o_k σ r4 6 <|
  (fX8_far σ r4 r6).bind fun x7 =>
  some x7

set_option maxHeartbeats 4000000 in
theorem wX0_far {l : Launch} {s0 : State} {A0 : Array Value} {D : va_G} {ac : Nat → ClassId} (G : Gl s0 A0 D ac) {σ : St} {a0 : Nat} {a1 : Int32} {a2 : Int32} {v : Int32} (hf : fX0_far σ a0 a1 a2 = some (v)) : Met l yX0_far (ws_ yX0_far cX0_far 3 (some (.int))) ({ frames := 2, cells := 0, slots := 0, locals := 46 } : Room) (Pn s0 D ac [.ref a0, .int a1, .int a2] σ) (Qn s0 D ac (some (.int v)) σ) 0 0 (fr s0) := by
  refine x_met (by decide) (Nat.le_of_ble_eq_true rfl) ?_
  intro p e s m args below meth c ls C hnm h hl
  have C : Cx s0 p s m args meth c cX0_far 3 "HutForShow" (some (.int)) := C
  have hx := C.1
  have hb := C.2.1
  have hl : lv_has ls 3 [(0, .ref a0), (1, .int a1), (2, .int a2)] := hl
  unfold fX0_far at hf
  refine lv_aload_n hx hb dX0_far_0 rfl (lv_at hl 0 rfl) ?_
  refine lv_iload_n hx hb dX0_far_1 rfl (lv_at hl 1 rfl) ?_
  obtain ⟨hk, hf⟩ := k_of hf
  obtain ⟨x1, hc, hf⟩ := hf_b hf
  refine x_cV (q := (RX0, TX0, 33)) (rest := []) (As := [.int a1]) (n := 1) (ov := (some (.int x1))) G C h (wX0_isHut G hc) hk rfl (lw_V q338 q340 qs0 q54 q341) (by decide +kernel) ⟨Nat.le_of_ble_eq_true rfl, Nat.le_of_ble_eq_true rfl⟩ rfl rfl rfl hl.1 rfl (Nat.le_of_ble_eq_true rfl) dX0_far_2 ⟨(Nat.le_of_ble_eq_true rfl), (Nat.le_of_ble_eq_true rfl)⟩ (fun H locs h => ?_)
  refine jn_of (P := fun j => ∀ (u0 : Unit), j u0 = some (v) → ∀ (H : Heap) (locs : List Loc) (ls : Array Slot), Hs s0 D ac σ H locs → lv_has ls 3 [(0, .ref a0), (1, .int a1), (2, .int a2)] → W p l e ({ frames := 2, cells := 0, slots := 0, locals := 46 } : Room) s m args below meth c H locs 0 0 (MQ below (Qn s0 D ac (some (.int v)) σ) args s 0 0 (fr s0)) (F0 m 34 ls [])) hf ?_ ?_
  · intro u0 hf H locs ls h hl
    refine lv_bipush (v := (-2)) hx hb dX0_far_34 (by decide) ?_
    cases hf
    refine W.widen (k := 0) (n := 0) (Nat.le_of_ble_eq_true rfl) (Nat.le_of_ble_eq_true rfl) ?_
    exact x_iret C h dX0_far_36
  intro j34 hj34 hf
  refine lv_if_eq (tgt := 34) hx hb dX0_far_5 (by decide) (fun hc => ?_) (fun hc => ?_)
  · have hf := hf_t hc hf
    exact hj34 () hf _ _ _ h (lv_sub hl [0, 1, 2] rfl)
  · have hf := hf_f hc hf
    refine lv_aload_n hx hb dX0_far_8 rfl (lv_at hl 0 rfl) ?_
    refine lv_iload_n hx hb dX0_far_9 rfl (lv_at hl 2 rfl) ?_
    obtain ⟨hk, hf⟩ := k_of hf
    obtain ⟨x2, hc, hf⟩ := hf_b hf
    refine x_cV (q := (RX0, TX0, 33)) (rest := []) (As := [.int a2]) (n := 1) (ov := (some (.int x2))) G C h (wX0_isHut G hc) hk rfl (lw_V q338 q340 qs0 q54 q341) (by decide +kernel) ⟨Nat.le_of_ble_eq_true rfl, Nat.le_of_ble_eq_true rfl⟩ rfl rfl rfl hl.1 rfl (Nat.le_of_ble_eq_true rfl) dX0_far_10 ⟨(Nat.le_of_ble_eq_true rfl), (Nat.le_of_ble_eq_true rfl)⟩ (fun H locs h => ?_)
    refine lv_if_eq (tgt := 34) hx hb dX0_far_13 (by decide) (fun hc => ?_) (fun hc => ?_)
    · have hf := hf_t hc hf
      exact hj34 () hf _ _ _ h (lv_sub hl [0, 1, 2] rfl)
    · have hf := hf_f hc hf
      refine lv_aload_n hx hb dX0_far_16 rfl (lv_at hl 0 rfl) ?_
      refine x_gR (q := (RX0, TX0, 33)) (j := 2) G C h rfl (by decide) (fun _ _ _ => rfl) (lk C q201) (fun _ z => z) dX0_far_17 hf (fun r3 hf => ?_)
      refine lv_iload_n hx hb dX0_far_20 rfl (lv_at hl 1 rfl) ?_
      refine x_aald (q := 3) rfl rfl (fun _ _ _ => rfl) G C h dX0_far_21 hf (fun r4 hf => ?_)
      refine lv_aload_n hx hb dX0_far_22 rfl (lv_at hl 0 rfl) ?_
      refine x_gR (q := (RX0, TX0, 33)) (j := 2) G C h rfl (by decide) (fun _ _ _ => rfl) (lk C q201) (fun _ z => z) dX0_far_23 hf (fun r5 hf => ?_)
      refine lv_iload_n hx hb dX0_far_26 rfl (lv_at hl 2 rfl) ?_
      refine x_aald (q := 3) rfl rfl (fun _ _ _ => rfl) G C h dX0_far_27 hf (fun r6 hf => ?_)
      obtain ⟨hk, hf⟩ := k_of hf
      obtain ⟨x7, hc, hf⟩ := hf_b hf
      refine x_cV (q := (RX8, TX8, 2)) (rest := []) (As := [.ref r6]) (n := 1) (ov := (some (.int x7))) G C h (wX8_far G hc) hk rfl (lw_V q342 q343 q344 q62 q345) (by decide +kernel) ⟨Nat.le_of_ble_eq_true rfl, Nat.le_of_ble_eq_true rfl⟩ rfl rfl rfl hl.1 rfl (Nat.le_of_ble_eq_true rfl) dX0_far_28 ⟨(Nat.le_of_ble_eq_true rfl), (Nat.le_of_ble_eq_true rfl)⟩ (fun H locs h => ?_)
      refine lv_goto (tgt := 36) hx hb dX0_far_31 (by decide) ?_
      cases hf
      refine W.widen (k := 0) (n := 0) (Nat.le_of_ble_eq_true rfl) (Nat.le_of_ble_eq_true rfl) ?_
      exact x_iret C h dX0_far_36

theorem dX5_many_0 : decode cX5_many 0 = .ok (.iconst 0, 1) := by decide +kernel
theorem dX5_many_1 : decode cX5_many 1 = .ok (.istore_n 2, 1) := by decide +kernel
theorem dX5_many_2 : decode cX5_many 2 = .ok (.iconst 0, 1) := by decide +kernel
theorem dX5_many_3 : decode cX5_many 3 = .ok (.istore_n 3, 1) := by decide +kernel
theorem dX5_many_4 : decode cX5_many 4 = .ok (.iload_n 3, 1) := by decide +kernel
theorem dX5_many_5 : decode cX5_many 5 = .ok (.aload_n 0, 1) := by decide +kernel
theorem dX5_many_6 : decode cX5_many 6 = .ok (.getfield 3, 3) := by decide +kernel
theorem dX5_many_9 : decode cX5_many 9 = .ok (.getfield 50, 3) := by decide +kernel
theorem dX5_many_12 : decode cX5_many 12 = .ok (.if_icmp .ge 27, 3) := by decide +kernel
theorem dX5_many_15 : decode cX5_many 15 = .ok (.iload_n 2, 1) := by decide +kernel
theorem dX5_many_16 : decode cX5_many 16 = .ok (.aload_n 0, 1) := by decide +kernel
theorem dX5_many_17 : decode cX5_many 17 = .ok (.getfield 37, 3) := by decide +kernel
theorem dX5_many_20 : decode cX5_many 20 = .ok (.iload_n 3, 1) := by decide +kernel
theorem dX5_many_21 : decode cX5_many 21 = .ok (.iaload, 1) := by decide +kernel
theorem dX5_many_22 : decode cX5_many 22 = .ok (.iload_n 1, 1) := by decide +kernel
theorem dX5_many_23 : decode cX5_many 23 = .ok (.if_icmp .ne 7, 3) := by decide +kernel
theorem dX5_many_26 : decode cX5_many 26 = .ok (.iconst 1, 1) := by decide +kernel
theorem dX5_many_27 : decode cX5_many 27 = .ok (.goto 4, 3) := by decide +kernel
theorem dX5_many_30 : decode cX5_many 30 = .ok (.iconst 0, 1) := by decide +kernel
theorem dX5_many_31 : decode cX5_many 31 = .ok (.iadd, 1) := by decide +kernel
theorem dX5_many_32 : decode cX5_many 32 = .ok (.istore_n 2, 1) := by decide +kernel
theorem dX5_many_33 : decode cX5_many 33 = .ok (.iinc 3 1, 3) := by decide +kernel
theorem dX5_many_36 : decode cX5_many 36 = .ok (.goto (-32), 3) := by decide +kernel
theorem dX5_many_39 : decode cX5_many 39 = .ok (.iload_n 2, 1) := by decide +kernel
theorem dX5_many_40 : decode cX5_many 40 = .ok (.ireturn, 1) := by decide +kernel
def lX5_many_4 (σ : St) (a0 : Nat) (a1 : Int32) (x1 : Int32) (x2 : Int32) : Option ((Int32 × Int32) ⊕ (Int32)) :=
  o_gR σ a0 3 8 fun r3 =>
  o_gI σ r3 0 5 fun x4 =>
  if x4 ≤ x2 then
    some (.inr x1)
  else
  o_gR σ a0 3 7 fun r5 =>
  o_aI σ r5 0 x2 fun x6 =>
  jn (fun (x7 : Int32) =>
    some (.inl (x1 + x7, x2 + 1))) fun j31 =>
  if x6 = a1 then
    j31 1
  else
  j31 0

def fX5_many (σ : St) (a0 : Nat) (a1 : Int32) : Option (Int32) :=
  (loopF fuel (fun z => lX5_many_4 σ a0 a1 z.1 z.2) (0, 0)).bind <| fun x8 =>
  some x8

set_option maxHeartbeats 4000000 in
theorem wX5_many {l : Launch} {s0 : State} {A0 : Array Value} {D : va_G} {ac : Nat → ClassId} (G : Gl s0 A0 D ac) {σ : St} {a0 : Nat} {a1 : Int32} {v : Int32} (hf : fX5_many σ a0 a1 = some (v)) : Met l yX5_many (ws_ yX5_many cX5_many 4 (some (.int))) ({ frames := 0, cells := 0, slots := 0, locals := 0 } : Room) (Pn s0 D ac [.ref a0, .int a1] σ) (Qn s0 D ac (some (.int v)) σ) 0 0 (fr s0) := by
  refine x_met (by decide) (Nat.le_of_ble_eq_true rfl) ?_
  intro p e s m args below meth c ls C hnm h hl
  have C : Cx s0 p s m args meth c cX5_many 4 "HutForShow$Wood" (some (.int)) := C
  have hx := C.1
  have hb := C.2.1
  have hl : lv_has ls 4 [(0, .ref a0), (1, .int a1)] := hl
  unfold fX5_many at hf
  refine lv_iconst (v := 0) hx hb dX5_many_0 (by decide) ?_
  refine lv_istore_n (lv' := [(2, .int 0), (0, .ref a0), (1, .int a1)]) hx hb dX5_many_1 rfl hl (by decide) rfl (fun ls hl => ?_)
  refine lv_iconst (v := 0) hx hb dX5_many_2 (by decide) ?_
  refine lv_istore_n (lv' := [(3, .int 0), (2, .int 0), (0, .ref a0), (1, .int a1)]) hx hb dX5_many_3 rfl hl (by decide) rfl (fun ls hl => ?_)
  obtain ⟨e4, hL, hK⟩ := hf_b hf
  have hE4_0 : ∀ (x8 : Int32), x8 = e4 → ∀  (H : Heap) (locs : List Loc) (ls : Array Slot), Hs s0 D ac σ H locs → lv_has ls 4 [(0, .ref a0), (1, .int a1), (2, .int x8)] → W p l e ({ frames := 0, cells := 0, slots := 0, locals := 0 } : Room) s m args below meth c H locs 0 0 (MQ below (Qn s0 D ac (some (.int v)) σ) args s 0 0 (fr s0)) (F0 m 39 ls []) := by
    intro x8 he H locs ls h hl
    subst he
    have hf := hK
    refine lv_iload_n hx hb dX5_many_39 rfl (lv_at hl 2 rfl) ?_
    cases hf
    refine W.widen (k := 0) (n := 0) (Nat.le_of_ble_eq_true rfl) (Nat.le_of_ble_eq_true rfl) ?_
    exact x_iret C h dX5_many_40
  refine loopF_ind (P := fun z => ∀ (H : Heap) (locs : List Loc) (ls : Array Slot), Hs s0 D ac σ H locs → lv_has ls 4 [(0, .ref a0), (1, .int a1), (2, .int z.1), (3, .int z.2)] → W p l e ({ frames := 0, cells := 0, slots := 0, locals := 0 } : Room) s m args below meth c H locs 0 0 (MQ below (Qn s0 D ac (some (.int v)) σ) args s 0 0 (fr s0)) (F0 m 4 ls [])) ?_ _ _ hL _ _ _ h (lv_sub hl [2, 3, 1, 0] rfl)
  clear hK hL h hl hf
  intro z o hf ih hX H locs ls h hl
  obtain ⟨x1, x2⟩ := z
  have h : Hs s0 D ac σ H locs := h
  have hl : lv_has ls 4 [(0, .ref a0), (1, .int a1), (2, .int x1), (3, .int x2)] := hl
  have hf : lX5_many_4 σ a0 a1 x1 x2 = some o := hf
  unfold lX5_many_4 at hf
  refine lv_iload_n hx hb dX5_many_4 rfl (lv_at hl 3 rfl) ?_
  refine lv_aload_n hx hb dX5_many_5 rfl (lv_at hl 0 rfl) ?_
  refine x_gR (q := (RX5, TX5, 9)) (j := 8) G C h rfl (by decide) (fun _ _ _ => rfl) (lk C q145) (fun _ z => z) dX5_many_6 hf (fun r3 hf => ?_)
  refine x_gI (q := (RX0, TX0, 33)) (j := 5) G C h rfl (by decide) (fun _ _ _ => rfl) (lkn G C q208) (fun _ z => z) dX5_many_9 hf (fun x4 hf => ?_)
  refine lv_icmp_ge (tgt := 39) hx hb dX5_many_12 (by decide) (fun hc => ?_) (fun hc => ?_)
  · have hf := hf_t hc hf
    cases hf
    exact hE4_0 _ (hX _ rfl) _ _ _ h (lv_sub hl [0, 1, 2] rfl)
  · have hf := hf_f hc hf
    refine lv_iload_n hx hb dX5_many_15 rfl (lv_at hl 2 rfl) ?_
    refine lv_aload_n hx hb dX5_many_16 rfl (lv_at hl 0 rfl) ?_
    refine x_gR (q := (RX5, TX5, 9)) (j := 7) G C h rfl (by decide) (fun _ _ _ => rfl) (lk C q141) (fun _ z => z) dX5_many_17 hf (fun r5 hf => ?_)
    refine lv_iload_n hx hb dX5_many_20 rfl (lv_at hl 3 rfl) ?_
    refine x_iald G C h dX5_many_21 hf (fun x6 hf => ?_)
    refine lv_iload_n hx hb dX5_many_22 rfl (lv_at hl 1 rfl) ?_
    refine jn_of (P := fun j => ∀ (x7 : Int32), j x7 = some o → ∀ (H : Heap) (locs : List Loc) (ls : Array Slot), Hs s0 D ac σ H locs → lv_has ls 4 [(0, .ref a0), (1, .int a1), (2, .int x1), (3, .int x2)] → W p l e ({ frames := 0, cells := 0, slots := 0, locals := 0 } : Room) s m args below meth c H locs 0 0 (MQ below (Qn s0 D ac (some (.int v)) σ) args s 0 0 (fr s0)) (F0 m 31 ls [.int x7, .int x1])) hf ?_ ?_
    · intro x7 hf H locs ls h hl
      refine lv_iadd hx hb dX5_many_31 ?_
      refine lv_istore_n (lv' := [(2, .int (x1 + x7)), (0, .ref a0), (1, .int a1), (3, .int x2)]) hx hb dX5_many_32 rfl hl (by decide) rfl (fun ls hl => ?_)
      refine lv_iinc (v := x2 + 1) (lv' := [(3, .int (x2 + 1)), (2, .int (x1 + x7)), (0, .ref a0), (1, .int a1)]) hx hb dX5_many_33 hl (k := 3) rfl rfl (by decide) rfl (fun ls hl => ?_)
      refine lv_goto (tgt := 4) hx hb dX5_many_36 (by decide) ?_
      cases hf
      exact ih _ rfl _ _ _ h (lv_sub hl [2, 3, 1, 0] rfl)
    intro j31 hj31 hf
    refine lv_icmp_ne (tgt := 30) hx hb dX5_many_23 (by decide) (fun hc => ?_) (fun hc => ?_)
    · have hf := hf_f hc hf
      refine lv_iconst (v := 0) hx hb dX5_many_30 (by decide) ?_
      exact hj31 _ hf _ _ _ h (lv_sub hl [0, 1, 2, 3] rfl)
    · have hf := hf_t hc hf
      refine lv_iconst (v := 1) hx hb dX5_many_26 (by decide) ?_
      refine lv_goto (tgt := 31) hx hb dX5_many_27 (by decide) ?_
      exact hj31 _ hf _ _ _ h (lv_sub hl [0, 1, 2, 3] rfl)

theorem dX9_init_0 : decode cX9_init 0 = .ok (.aload_n 0, 1) := by decide +kernel
theorem dX9_init_1 : decode cX9_init 1 = .ok (.invokespecial 1, 3) := by decide +kernel
theorem dX9_init_4 : decode cX9_init 4 = .ok (.aload_n 0, 1) := by decide +kernel
theorem dX9_init_5 : decode cX9_init 5 = .ok (.iload_n 1, 1) := by decide +kernel
theorem dX9_init_6 : decode cX9_init 6 = .ok (.putfield 7, 3) := by decide +kernel
theorem dX9_init_9 : decode cX9_init 9 = .ok (.aload_n 0, 1) := by decide +kernel
theorem dX9_init_10 : decode cX9_init 10 = .ok (.iload_n 2, 1) := by decide +kernel
theorem dX9_init_11 : decode cX9_init 11 = .ok (.putfield 13, 3) := by decide +kernel
theorem dX9_init_14 : decode cX9_init 14 = .ok (.aload_n 0, 1) := by decide +kernel
theorem dX9_init_15 : decode cX9_init 15 = .ok (.iload_n 3, 1) := by decide +kernel
theorem dX9_init_16 : decode cX9_init 16 = .ok (.putfield 16, 3) := by decide +kernel
theorem dX9_init_19 : decode cX9_init 19 = .ok (.return_, 1) := by decide +kernel
def fX9_init (σ : St) (a0 : Nat) (a1 : Int32) (a2 : Int32) (a3 : Int32) : Option (St) :=
  o_pI σ a0 7 0 a1 fun σ1 =>
  o_pI σ1 a0 7 1 a2 fun σ2 =>
  o_pI σ2 a0 7 2 a3 fun σ3 =>
  some σ3

set_option maxHeartbeats 4000000 in
theorem wX9_init {l : Launch} {s0 : State} {A0 : Array Value} {D : va_G} {ac : Nat → ClassId} (G : Gl s0 A0 D ac) {σ : St} {a0 : Nat} {a1 : Int32} {a2 : Int32} {a3 : Int32} {σ' : St} (hf : fX9_init σ a0 a1 a2 a3 = some (σ')) : Met l yX9_init (ws_ yX9_init cX9_init 4 none) ({ frames := 1, cells := 0, slots := 0, locals := 12 } : Room) (Pn s0 D ac [.ref a0, .int a1, .int a2, .int a3] σ) (Qn s0 D ac none σ') 0 0 (fr s0) := by
  refine x_met (by decide) (Nat.le_of_ble_eq_true rfl) ?_
  intro p e s m args below meth c ls C hnm h hl
  have C : Cx s0 p s m args meth c cX9_init 4 "HutForShow$Thing" none := C
  have hx := C.1
  have hb := C.2.1
  have hl : lv_has ls 4 [(0, .ref a0), (1, .int a1), (2, .int a2), (3, .int a3)] := hl
  unfold fX9_init at hf
  refine lv_aload_n hx hb dX9_init_0 rfl (lv_at hl 0 rfl) ?_
  refine W.objInit hx hb C.2.2.2.1 (C.2.2.2.2.1 _ q364) (C.2.2.2.2.1 _ q88) (C.2.2.2.2.1 _ q89) rfl (by rw [C.2.2.1]; exact hl.1) rfl dX9_init_1 (Nat.le_of_ble_eq_true rfl) (Nat.le_of_ble_eq_true rfl) ?_
  refine W.eq (g2 := F0 m 4 ls []) rfl ?_
  refine lv_aload_n hx hb dX9_init_4 rfl (lv_at hl 0 rfl) ?_
  refine lv_iload_n hx hb dX9_init_5 rfl (lv_at hl 1 rfl) ?_
  refine x_pI (q := (RX9, TX9, 3)) (j := 0) G C h rfl (by decide) rfl (lk C q365) (fun _ z => z) (Or.inr ⟨hnm, rfl⟩) dX9_init_6 hf (fun σ1 H locs h hf => ?_)
  refine lv_aload_n hx hb dX9_init_9 rfl (lv_at hl 0 rfl) ?_
  refine lv_iload_n hx hb dX9_init_10 rfl (lv_at hl 2 rfl) ?_
  refine x_pI (q := (RX9, TX9, 3)) (j := 1) G C h rfl (by decide) rfl (lk C q369) (fun _ z => z) (Or.inr ⟨hnm, rfl⟩) dX9_init_11 hf (fun σ2 H locs h hf => ?_)
  refine lv_aload_n hx hb dX9_init_14 rfl (lv_at hl 0 rfl) ?_
  refine lv_iload_n hx hb dX9_init_15 rfl (lv_at hl 3 rfl) ?_
  refine x_pI (q := (RX9, TX9, 3)) (j := 2) G C h rfl (by decide) rfl (lk C q372) (fun _ z => z) (Or.inr ⟨hnm, rfl⟩) dX9_init_16 hf (fun σ3 H locs h hf => ?_)
  cases hf
  refine W.widen (k := 0) (n := 0) (Nat.le_of_ble_eq_true rfl) (Nat.le_of_ble_eq_true rfl) ?_
  exact x_vret C h dX9_init_19

theorem dX0_thing_0 : decode cX0_thing 0 = .ok (.iload_n 1, 1) := by decide +kernel
theorem dX0_thing_1 : decode cX0_thing 1 = .ok (.iconst (-1), 1) := by decide +kernel
theorem dX0_thing_2 : decode cX0_thing 2 = .ok (.if_icmp .eq 14, 3) := by decide +kernel
theorem dX0_thing_5 : decode cX0_thing 5 = .ok (.aload_n 0, 1) := by decide +kernel
theorem dX0_thing_6 : decode cX0_thing 6 = .ok (.iload_n 1, 1) := by decide +kernel
theorem dX0_thing_7 : decode cX0_thing 7 = .ok (.invokevirtual 145, 3) := by decide +kernel
theorem dX0_thing_10 : decode cX0_thing 10 = .ok (.ifCond .ne 6, 3) := by decide +kernel
theorem dX0_thing_13 : decode cX0_thing 13 = .ok (.bipush (-2), 2) := by decide +kernel
theorem dX0_thing_15 : decode cX0_thing 15 = .ok (.ireturn, 1) := by decide +kernel
theorem dX0_thing_16 : decode cX0_thing 16 = .ok (.iload_n 2, 1) := by decide +kernel
theorem dX0_thing_17 : decode cX0_thing 17 = .ok (.i2l, 1) := by decide +kernel
theorem dX0_thing_18 : decode cX0_thing 18 = .ok (.lconst 0, 1) := by decide +kernel
theorem dX0_thing_19 : decode cX0_thing 19 = .ok (.ldc2_w 152, 3) := by decide +kernel
theorem dX0_thing_22 : decode cX0_thing 22 = .ok (.invokestatic 127, 3) := by decide +kernel
theorem dX0_thing_25 : decode cX0_thing 25 = .ok (.ifCond .eq 28, 3) := by decide +kernel
theorem dX0_thing_28 : decode cX0_thing 28 = .ok (.iload_n 3, 1) := by decide +kernel
theorem dX0_thing_29 : decode cX0_thing 29 = .ok (.i2l, 1) := by decide +kernel
theorem dX0_thing_30 : decode cX0_thing 30 = .ok (.lconst 1, 1) := by decide +kernel
theorem dX0_thing_31 : decode cX0_thing 31 = .ok (.ldc2_w 154, 3) := by decide +kernel
theorem dX0_thing_34 : decode cX0_thing 34 = .ok (.invokestatic 127, 3) := by decide +kernel
theorem dX0_thing_37 : decode cX0_thing 37 = .ok (.ifCond .eq 16, 3) := by decide +kernel
theorem dX0_thing_40 : decode cX0_thing 40 = .ok (.iload 4, 2) := by decide +kernel
theorem dX0_thing_42 : decode cX0_thing 42 = .ok (.i2l, 1) := by decide +kernel
theorem dX0_thing_43 : decode cX0_thing 43 = .ok (.lconst 0, 1) := by decide +kernel
theorem dX0_thing_44 : decode cX0_thing 44 = .ok (.ldc2_w 156, 3) := by decide +kernel
theorem dX0_thing_47 : decode cX0_thing 47 = .ok (.invokestatic 127, 3) := by decide +kernel
theorem dX0_thing_50 : decode cX0_thing 50 = .ok (.ifCond .ne 6, 3) := by decide +kernel
theorem dX0_thing_53 : decode cX0_thing 53 = .ok (.bipush (-3), 2) := by decide +kernel
theorem dX0_thing_55 : decode cX0_thing 55 = .ok (.ireturn, 1) := by decide +kernel
theorem dX0_thing_56 : decode cX0_thing 56 = .ok (.iload_n 1, 1) := by decide +kernel
theorem dX0_thing_57 : decode cX0_thing 57 = .ok (.iconst (-1), 1) := by decide +kernel
theorem dX0_thing_58 : decode cX0_thing 58 = .ok (.if_icmp .eq 19, 3) := by decide +kernel
theorem dX0_thing_61 : decode cX0_thing 61 = .ok (.aload_n 0, 1) := by decide +kernel
theorem dX0_thing_62 : decode cX0_thing 62 = .ok (.getfield 45, 3) := by decide +kernel
theorem dX0_thing_65 : decode cX0_thing 65 = .ok (.iload_n 1, 1) := by decide +kernel
theorem dX0_thing_66 : decode cX0_thing 66 = .ok (.invokevirtual 158, 3) := by decide +kernel
theorem dX0_thing_69 : decode cX0_thing 69 = .ok (.bipush 12, 2) := by decide +kernel
theorem dX0_thing_71 : decode cX0_thing 71 = .ok (.if_icmp .ne 6, 3) := by decide +kernel
theorem dX0_thing_74 : decode cX0_thing 74 = .ok (.bipush (-4), 2) := by decide +kernel
theorem dX0_thing_76 : decode cX0_thing 76 = .ok (.ireturn, 1) := by decide +kernel
theorem dX0_thing_77 : decode cX0_thing 77 = .ok (.aload_n 0, 1) := by decide +kernel
theorem dX0_thing_78 : decode cX0_thing 78 = .ok (.getfield 162, 3) := by decide +kernel
theorem dX0_thing_81 : decode cX0_thing 81 = .ok (.bipush 40, 2) := by decide +kernel
theorem dX0_thing_83 : decode cX0_thing 83 = .ok (.if_icmp .ne 6, 3) := by decide +kernel
theorem dX0_thing_86 : decode cX0_thing 86 = .ok (.bipush (-5), 2) := by decide +kernel
theorem dX0_thing_88 : decode cX0_thing 88 = .ok (.ireturn, 1) := by decide +kernel
theorem dX0_thing_89 : decode cX0_thing 89 = .ok (.aload_n 0, 1) := by decide +kernel
theorem dX0_thing_90 : decode cX0_thing 90 = .ok (.getfield 32, 3) := by decide +kernel
theorem dX0_thing_93 : decode cX0_thing 93 = .ok (.aload_n 0, 1) := by decide +kernel
theorem dX0_thing_94 : decode cX0_thing 94 = .ok (.getfield 162, 3) := by decide +kernel
theorem dX0_thing_97 : decode cX0_thing 97 = .ok (.new 30, 3) := by decide +kernel
theorem dX0_thing_100 : decode cX0_thing 100 = .ok (.dup, 1) := by decide +kernel
theorem dX0_thing_101 : decode cX0_thing 101 = .ok (.iload_n 2, 1) := by decide +kernel
theorem dX0_thing_102 : decode cX0_thing 102 = .ok (.iload_n 3, 1) := by decide +kernel
theorem dX0_thing_103 : decode cX0_thing 103 = .ok (.iload 4, 2) := by decide +kernel
theorem dX0_thing_105 : decode cX0_thing 105 = .ok (.invokespecial 165, 3) := by decide +kernel
theorem dX0_thing_108 : decode cX0_thing 108 = .ok (.aastore, 1) := by decide +kernel
theorem dX0_thing_109 : decode cX0_thing 109 = .ok (.aload_n 0, 1) := by decide +kernel
theorem dX0_thing_110 : decode cX0_thing 110 = .ok (.getfield 45, 3) := by decide +kernel
theorem dX0_thing_113 : decode cX0_thing 113 = .ok (.getfield 168, 3) := by decide +kernel
theorem dX0_thing_116 : decode cX0_thing 116 = .ok (.aload_n 0, 1) := by decide +kernel
theorem dX0_thing_117 : decode cX0_thing 117 = .ok (.getfield 162, 3) := by decide +kernel
theorem dX0_thing_120 : decode cX0_thing 120 = .ok (.iload_n 1, 1) := by decide +kernel
theorem dX0_thing_121 : decode cX0_thing 121 = .ok (.iastore, 1) := by decide +kernel
theorem dX0_thing_122 : decode cX0_thing 122 = .ok (.aload_n 0, 1) := by decide +kernel
theorem dX0_thing_123 : decode cX0_thing 123 = .ok (.dup, 1) := by decide +kernel
theorem dX0_thing_124 : decode cX0_thing 124 = .ok (.getfield 162, 3) := by decide +kernel
theorem dX0_thing_127 : decode cX0_thing 127 = .ok (.iconst 1, 1) := by decide +kernel
theorem dX0_thing_128 : decode cX0_thing 128 = .ok (.iadd, 1) := by decide +kernel
theorem dX0_thing_129 : decode cX0_thing 129 = .ok (.putfield 162, 3) := by decide +kernel
theorem dX0_thing_132 : decode cX0_thing 132 = .ok (.aload_n 0, 1) := by decide +kernel
theorem dX0_thing_133 : decode cX0_thing 133 = .ok (.getfield 162, 3) := by decide +kernel
theorem dX0_thing_136 : decode cX0_thing 136 = .ok (.iconst 1, 1) := by decide +kernel
theorem dX0_thing_137 : decode cX0_thing 137 = .ok (.isub, 1) := by decide +kernel
theorem dX0_thing_138 : decode cX0_thing 138 = .ok (.ireturn, 1) := by decide +kernel
def fX0_thing (σ : St) (a0 : Nat) (a1 : Int32) (a2 : Int32) (a3 : Int32) (a4 : Int32) : Option (Int32 × St) :=
  jn (fun (_ : Unit) =>
    (fX0_isIn σ (a2.toInt64) 0 3).bind fun x2 =>
    if x2 = 0 then
      some ((-3), σ)
    else
    (fX0_isIn σ (a3.toInt64) 1 9).bind fun x3 =>
    if x3 = 0 then
      some ((-3), σ)
    else
    (fX0_isIn σ (a4.toInt64) 0 15).bind fun x4 =>
    if x4 = 0 then
      some ((-3), σ)
    else
    jn (fun (_ : Unit) =>
      o_gI σ a0 0 5 fun x7 =>
      if x7 = 40 then
        some ((-5), σ)
      else
      o_gR σ a0 0 4 fun r8 =>
      o_gI σ a0 0 5 fun x9 =>
      o_new σ 7 fun r10 σ11 =>
      (fX9_init σ11 r10 a2 a3 a4).bind fun σ12 =>
      o_sR σ12 r8 4 x9 r10 fun σ13 =>
      o_gR σ13 a0 0 7 fun r14 =>
      o_gR σ13 r14 3 7 fun r15 =>
      o_gI σ13 a0 0 5 fun x16 =>
      o_sI σ13 r15 0 x16 a1 fun σ17 =>
      o_gI σ17 a0 0 5 fun x18 =>
      o_pI σ17 a0 0 5 (x18 + 1) fun σ19 =>
      o_gI σ19 a0 0 5 fun x20 =>
      some (x20 - 1, σ19)) fun j77 =>
    if a1 = ((-1)) then
      j77 ()
    else
    o_gR σ a0 0 7 fun r5 =>
    o_k σ r5 3 <|
    (fX5_many σ r5 a1).bind fun x6 =>
    if x6 = 12 then
      some ((-4), σ)
    else
    j77 ()) fun j16 =>
  if a1 = ((-1)) then
    j16 ()
  else
  o_k σ a0 0 <|
  (fX0_isHut σ a0 a1).bind fun x1 =>
  if x1 = 0 then
    some ((-2), σ)
  else
  j16 ()

set_option maxHeartbeats 4000000 in
theorem wX0_thing {l : Launch} {s0 : State} {A0 : Array Value} {D : va_G} {ac : Nat → ClassId} (G : Gl s0 A0 D ac) {σ : St} {a0 : Nat} {a1 : Int32} {a2 : Int32} {a3 : Int32} {a4 : Int32} {v : Int32} {σ' : St} (hf : fX0_thing σ a0 a1 a2 a3 a4 = some (v, σ')) : Met l yX0_thing (ws_ yX0_thing cX0_thing 5 (some (.int))) ({ frames := 2, cells := 1, slots := 3, locals := 46 } : Room) (Pn s0 D ac [.ref a0, .int a1, .int a2, .int a3, .int a4] σ) (Qn s0 D ac (some (.int v)) σ') 1 3 (fr s0) := by
  refine x_met (by decide) (Nat.le_of_ble_eq_true rfl) ?_
  intro p e s m args below meth c ls C hnm h hl
  have C : Cx s0 p s m args meth c cX0_thing 5 "HutForShow" (some (.int)) := C
  have hx := C.1
  have hb := C.2.1
  have hl : lv_has ls 5 [(0, .ref a0), (1, .int a1), (2, .int a2), (3, .int a3), (4, .int a4)] := hl
  unfold fX0_thing at hf
  refine lv_iload_n hx hb dX0_thing_0 rfl (lv_at hl 1 rfl) ?_
  refine lv_iconst (v := (-1)) hx hb dX0_thing_1 (by decide) ?_
  refine jn_of (P := fun j => ∀ (u0 : Unit), j u0 = some (v, σ') → ∀ (H : Heap) (locs : List Loc) (ls : Array Slot), Hs s0 D ac σ H locs → lv_has ls 5 [(0, .ref a0), (1, .int a1), (2, .int a2), (3, .int a3), (4, .int a4)] → W p l e ({ frames := 2, cells := 1, slots := 3, locals := 46 } : Room) s m args below meth c H locs 0 0 (MQ below (Qn s0 D ac (some (.int v)) σ') args s 1 3 (fr s0)) (F0 m 16 ls [])) hf ?_ ?_
  · intro u0 hf H locs ls h hl
    refine lv_iload_n hx hb dX0_thing_16 rfl (lv_at hl 2 rfl) ?_
    refine lv_i2l hx hb dX0_thing_17 rfl ?_
    refine lv_lconst (v := 0) hx hb dX0_thing_18 (by decide) ?_
    refine lv_ldc2 (v := 3) hx hb C.2.2.2.1 (C.2.2.2.2.1 _ q353) dX0_thing_19 ?_
    obtain ⟨x2, hc, hf⟩ := hf_b hf
    refine x_cS (rest := []) (As := [.long (a2.toInt64), .long 0, .long 3]) (n := 3) (ov := (some (.int x2))) C h (wX0_isIn G hc) (lw_S q318 q319 q54 q320) (by decide +kernel) ⟨Nat.le_of_ble_eq_true rfl, Nat.le_of_ble_eq_true rfl⟩ rfl rfl rfl hl.1 rfl (Nat.le_of_ble_eq_true rfl) dX0_thing_22 ⟨(Nat.le_of_ble_eq_true rfl), (Nat.le_of_ble_eq_true rfl)⟩ (fun H locs h => ?_)
    refine lv_if_eq (tgt := 53) hx hb dX0_thing_25 (by decide) (fun hc => ?_) (fun hc => ?_)
    · have hf := hf_t hc hf
      refine lv_bipush (v := (-3)) hx hb dX0_thing_53 (by decide) ?_
      cases hf
      refine W.widen (k := 1) (n := 3) (Nat.le_of_ble_eq_true rfl) (Nat.le_of_ble_eq_true rfl) ?_
      exact x_iret C h dX0_thing_55
    · have hf := hf_f hc hf
      refine lv_iload_n hx hb dX0_thing_28 rfl (lv_at hl 3 rfl) ?_
      refine lv_i2l hx hb dX0_thing_29 rfl ?_
      refine lv_lconst (v := 1) hx hb dX0_thing_30 (by decide) ?_
      refine lv_ldc2 (v := 9) hx hb C.2.2.2.1 (C.2.2.2.2.1 _ q354) dX0_thing_31 ?_
      obtain ⟨x3, hc, hf⟩ := hf_b hf
      refine x_cS (rest := []) (As := [.long (a3.toInt64), .long 1, .long 9]) (n := 3) (ov := (some (.int x3))) C h (wX0_isIn G hc) (lw_S q318 q319 q54 q320) (by decide +kernel) ⟨Nat.le_of_ble_eq_true rfl, Nat.le_of_ble_eq_true rfl⟩ rfl rfl rfl hl.1 rfl (Nat.le_of_ble_eq_true rfl) dX0_thing_34 ⟨(Nat.le_of_ble_eq_true rfl), (Nat.le_of_ble_eq_true rfl)⟩ (fun H locs h => ?_)
      refine lv_if_eq (tgt := 53) hx hb dX0_thing_37 (by decide) (fun hc => ?_) (fun hc => ?_)
      · have hf := hf_t hc hf
        refine lv_bipush (v := (-3)) hx hb dX0_thing_53 (by decide) ?_
        cases hf
        refine W.widen (k := 1) (n := 3) (Nat.le_of_ble_eq_true rfl) (Nat.le_of_ble_eq_true rfl) ?_
        exact x_iret C h dX0_thing_55
      · have hf := hf_f hc hf
        refine lv_iload hx hb dX0_thing_40 (lv_at hl 4 rfl) ?_
        refine lv_i2l hx hb dX0_thing_42 rfl ?_
        refine lv_lconst (v := 0) hx hb dX0_thing_43 (by decide) ?_
        refine lv_ldc2 (v := 15) hx hb C.2.2.2.1 (C.2.2.2.2.1 _ q355) dX0_thing_44 ?_
        obtain ⟨x4, hc, hf⟩ := hf_b hf
        refine x_cS (rest := []) (As := [.long (a4.toInt64), .long 0, .long 15]) (n := 3) (ov := (some (.int x4))) C h (wX0_isIn G hc) (lw_S q318 q319 q54 q320) (by decide +kernel) ⟨Nat.le_of_ble_eq_true rfl, Nat.le_of_ble_eq_true rfl⟩ rfl rfl rfl hl.1 rfl (Nat.le_of_ble_eq_true rfl) dX0_thing_47 ⟨(Nat.le_of_ble_eq_true rfl), (Nat.le_of_ble_eq_true rfl)⟩ (fun H locs h => ?_)
        refine lv_if_ne (tgt := 56) hx hb dX0_thing_50 (by decide) (fun hc => ?_) (fun hc => ?_)
        · have hf := hf_f hc hf
          refine lv_iload_n hx hb dX0_thing_56 rfl (lv_at hl 1 rfl) ?_
          refine lv_iconst (v := (-1)) hx hb dX0_thing_57 (by decide) ?_
          refine jn_of (P := fun j => ∀ (u0 : Unit), j u0 = some (v, σ') → ∀ (H : Heap) (locs : List Loc) (ls : Array Slot), Hs s0 D ac σ H locs → lv_has ls 5 [(0, .ref a0), (1, .int a1), (2, .int a2), (3, .int a3), (4, .int a4)] → W p l e ({ frames := 2, cells := 1, slots := 3, locals := 46 } : Room) s m args below meth c H locs 0 0 (MQ below (Qn s0 D ac (some (.int v)) σ') args s 1 3 (fr s0)) (F0 m 77 ls [])) hf ?_ ?_
          · intro u0 hf H locs ls h hl
            refine lv_aload_n hx hb dX0_thing_77 rfl (lv_at hl 0 rfl) ?_
            refine x_gI (q := (RX0, TX0, 33)) (j := 5) G C h rfl (by decide) (fun _ _ _ => rfl) (lk C q210) (fun _ z => z) dX0_thing_78 hf (fun x7 hf => ?_)
            refine lv_bipush (v := 40) hx hb dX0_thing_81 (by decide) ?_
            refine lv_icmp_ne (tgt := 89) hx hb dX0_thing_83 (by decide) (fun hc => ?_) (fun hc => ?_)
            · have hf := hf_f hc hf
              refine lv_aload_n hx hb dX0_thing_89 rfl (lv_at hl 0 rfl) ?_
              refine x_gR (q := (RX0, TX0, 33)) (j := 4) G C h rfl (by decide) (fun _ _ _ => rfl) (lk C q205) (fun _ z => z) dX0_thing_90 hf (fun r8 hf => ?_)
              refine lv_aload_n hx hb dX0_thing_93 rfl (lv_at hl 0 rfl) ?_
              refine x_gI (q := (RX0, TX0, 33)) (j := 5) G C h rfl (by decide) (fun _ _ _ => rfl) (lk C q210) (fun _ z => z) dX0_thing_94 hf (fun x9 hf => ?_)
              refine x_new (q := (RX9, TX9, 3)) G C h rfl (fun j _ => nf_all 7 j) q112 q360 q64 (Nat.le_of_ble_eq_true rfl) (Nat.le_of_ble_eq_true rfl) dX0_thing_97 hf (fun r10 σ11 H h hf => ?_)
              refine lv_dup hx hb dX0_thing_100 rfl ?_
              refine lv_iload_n hx hb dX0_thing_101 rfl (lv_at hl 2 rfl) ?_
              refine lv_iload_n hx hb dX0_thing_102 rfl (lv_at hl 3 rfl) ?_
              refine lv_iload hx hb dX0_thing_103 (lv_at hl 4 rfl) ?_
              obtain ⟨σ12, hc, hf⟩ := hf_b hf
              refine x_cI (rest := [.ref r10, .int x9, .ref r8]) (As := [.int a2, .int a3, .int a4]) (n := 3) (ov := none) C h (wX9_init G hc) q361 q362 q64 q363 rfl (by decide +kernel) ⟨Nat.le_of_ble_eq_true rfl, Nat.le_of_ble_eq_true rfl⟩ rfl rfl rfl hl.1 rfl (Nat.le_of_ble_eq_true rfl) dX0_thing_105 ⟨(Nat.le_of_ble_eq_true rfl), (Nat.le_of_ble_eq_true rfl)⟩ (fun H locs h => ?_)
              refine x_aast G C h dX0_thing_108 hf (fun σ13 H locs h hf => ?_)
              refine lv_aload_n hx hb dX0_thing_109 rfl (lv_at hl 0 rfl) ?_
              refine x_gR (q := (RX0, TX0, 33)) (j := 7) G C h rfl (by decide) (fun _ _ _ => rfl) (lk C q213) (fun _ z => z) dX0_thing_110 hf (fun r14 hf => ?_)
              refine x_gR (q := (RX5, TX5, 9)) (j := 7) G C h rfl (by decide) (fun _ _ _ => rfl) (lkn G C q144) (fun _ z => z) dX0_thing_113 hf (fun r15 hf => ?_)
              refine lv_aload_n hx hb dX0_thing_116 rfl (lv_at hl 0 rfl) ?_
              refine x_gI (q := (RX0, TX0, 33)) (j := 5) G C h rfl (by decide) (fun _ _ _ => rfl) (lk C q210) (fun _ z => z) dX0_thing_117 hf (fun x16 hf => ?_)
              refine lv_iload_n hx hb dX0_thing_120 rfl (lv_at hl 1 rfl) ?_
              refine x_iast G C h dX0_thing_121 hf (fun σ17 H locs h hf => ?_)
              refine lv_aload_n hx hb dX0_thing_122 rfl (lv_at hl 0 rfl) ?_
              refine lv_dup hx hb dX0_thing_123 rfl ?_
              refine x_gI (q := (RX0, TX0, 33)) (j := 5) G C h rfl (by decide) (fun _ _ _ => rfl) (lk C q210) (fun _ z => z) dX0_thing_124 hf (fun x18 hf => ?_)
              refine lv_iconst (v := 1) hx hb dX0_thing_127 (by decide) ?_
              refine lv_iadd hx hb dX0_thing_128 ?_
              refine x_pI (q := (RX0, TX0, 33)) (j := 5) G C h rfl (by decide) rfl (lk C q210) (fun _ z => z) (Or.inl rfl) dX0_thing_129 hf (fun σ19 H locs h hf => ?_)
              refine lv_aload_n hx hb dX0_thing_132 rfl (lv_at hl 0 rfl) ?_
              refine x_gI (q := (RX0, TX0, 33)) (j := 5) G C h rfl (by decide) (fun _ _ _ => rfl) (lk C q210) (fun _ z => z) dX0_thing_133 hf (fun x20 hf => ?_)
              refine lv_iconst (v := 1) hx hb dX0_thing_136 (by decide) ?_
              refine lv_isub hx hb dX0_thing_137 ?_
              cases hf
              refine W.widen (k := 1) (n := 3) (Nat.le_of_ble_eq_true rfl) (Nat.le_of_ble_eq_true rfl) ?_
              exact x_iret C h dX0_thing_138
            · have hf := hf_t hc hf
              refine lv_bipush (v := (-5)) hx hb dX0_thing_86 (by decide) ?_
              cases hf
              refine W.widen (k := 1) (n := 3) (Nat.le_of_ble_eq_true rfl) (Nat.le_of_ble_eq_true rfl) ?_
              exact x_iret C h dX0_thing_88
          intro j77 hj77 hf
          refine lv_icmp_eq (tgt := 77) hx hb dX0_thing_58 (by decide) (fun hc => ?_) (fun hc => ?_)
          · have hf := hf_t hc hf
            exact hj77 () hf _ _ _ h (lv_sub hl [0, 1, 2, 3, 4] rfl)
          · have hf := hf_f hc hf
            refine lv_aload_n hx hb dX0_thing_61 rfl (lv_at hl 0 rfl) ?_
            refine x_gR (q := (RX0, TX0, 33)) (j := 7) G C h rfl (by decide) (fun _ _ _ => rfl) (lk C q213) (fun _ z => z) dX0_thing_62 hf (fun r5 hf => ?_)
            refine lv_iload_n hx hb dX0_thing_65 rfl (lv_at hl 1 rfl) ?_
            obtain ⟨hk, hf⟩ := k_of hf
            obtain ⟨x6, hc, hf⟩ := hf_b hf
            refine x_cV (q := (RX5, TX5, 9)) (rest := []) (As := [.int a1]) (n := 1) (ov := (some (.int x6))) G C h (wX5_many G hc) hk rfl (lw_V q356 q357 q358 q59 q359) (by decide +kernel) ⟨Nat.le_of_ble_eq_true rfl, Nat.le_of_ble_eq_true rfl⟩ rfl rfl rfl hl.1 rfl (Nat.le_of_ble_eq_true rfl) dX0_thing_66 ⟨(Nat.le_of_ble_eq_true rfl), (Nat.le_of_ble_eq_true rfl)⟩ (fun H locs h => ?_)
            refine lv_bipush (v := 12) hx hb dX0_thing_69 (by decide) ?_
            refine lv_icmp_ne (tgt := 77) hx hb dX0_thing_71 (by decide) (fun hc => ?_) (fun hc => ?_)
            · have hf := hf_f hc hf
              exact hj77 () hf _ _ _ h (lv_sub hl [0, 1, 2, 3, 4] rfl)
            · have hf := hf_t hc hf
              refine lv_bipush (v := (-4)) hx hb dX0_thing_74 (by decide) ?_
              cases hf
              refine W.widen (k := 1) (n := 3) (Nat.le_of_ble_eq_true rfl) (Nat.le_of_ble_eq_true rfl) ?_
              exact x_iret C h dX0_thing_76
        · have hf := hf_t hc hf
          refine lv_bipush (v := (-3)) hx hb dX0_thing_53 (by decide) ?_
          cases hf
          refine W.widen (k := 1) (n := 3) (Nat.le_of_ble_eq_true rfl) (Nat.le_of_ble_eq_true rfl) ?_
          exact x_iret C h dX0_thing_55
  intro j16 hj16 hf
  refine lv_icmp_eq (tgt := 16) hx hb dX0_thing_2 (by decide) (fun hc => ?_) (fun hc => ?_)
  · have hf := hf_t hc hf
    exact hj16 () hf _ _ _ h (lv_sub hl [0, 1, 2, 3, 4] rfl)
  · have hf := hf_f hc hf
    refine lv_aload_n hx hb dX0_thing_5 rfl (lv_at hl 0 rfl) ?_
    refine lv_iload_n hx hb dX0_thing_6 rfl (lv_at hl 1 rfl) ?_
    obtain ⟨hk, hf⟩ := k_of hf
    obtain ⟨x1, hc, hf⟩ := hf_b hf
    refine x_cV (q := (RX0, TX0, 33)) (rest := []) (As := [.int a1]) (n := 1) (ov := (some (.int x1))) G C h (wX0_isHut G hc) hk rfl (lw_V q338 q340 qs0 q54 q341) (by decide +kernel) ⟨Nat.le_of_ble_eq_true rfl, Nat.le_of_ble_eq_true rfl⟩ rfl rfl rfl hl.1 rfl (Nat.le_of_ble_eq_true rfl) dX0_thing_7 ⟨(Nat.le_of_ble_eq_true rfl), (Nat.le_of_ble_eq_true rfl)⟩ (fun H locs h => ?_)
    refine lv_if_ne (tgt := 16) hx hb dX0_thing_10 (by decide) (fun hc => ?_) (fun hc => ?_)
    · have hf := hf_f hc hf
      exact hj16 () hf _ _ _ h (lv_sub hl [0, 1, 2, 3, 4] rfl)
    · have hf := hf_t hc hf
      refine lv_bipush (v := (-2)) hx hb dX0_thing_13 (by decide) ?_
      cases hf
      refine W.widen (k := 1) (n := 3) (Nat.le_of_ble_eq_true rfl) (Nat.le_of_ble_eq_true rfl) ?_
      exact x_iret C h dX0_thing_15

theorem dX0_isThing_0 : decode cX0_isThing 0 = .ok (.iload_n 1, 1) := by decide +kernel
theorem dX0_isThing_1 : decode cX0_isThing 1 = .ok (.i2l, 1) := by decide +kernel
theorem dX0_isThing_2 : decode cX0_isThing 2 = .ok (.lconst 0, 1) := by decide +kernel
theorem dX0_isThing_3 : decode cX0_isThing 3 = .ok (.aload_n 0, 1) := by decide +kernel
theorem dX0_isThing_4 : decode cX0_isThing 4 = .ok (.getfield 162, 3) := by decide +kernel
theorem dX0_isThing_7 : decode cX0_isThing 7 = .ok (.iconst 1, 1) := by decide +kernel
theorem dX0_isThing_8 : decode cX0_isThing 8 = .ok (.isub, 1) := by decide +kernel
theorem dX0_isThing_9 : decode cX0_isThing 9 = .ok (.i2l, 1) := by decide +kernel
theorem dX0_isThing_10 : decode cX0_isThing 10 = .ok (.invokestatic 127, 3) := by decide +kernel
theorem dX0_isThing_13 : decode cX0_isThing 13 = .ok (.ireturn, 1) := by decide +kernel
def fX0_isThing (σ : St) (a0 : Nat) (a1 : Int32) : Option (Int32) :=
  o_gI σ a0 0 5 fun x1 =>
  (fX0_isIn σ (a1.toInt64) 0 ((x1 - 1).toInt64)).bind fun x2 =>
  o_bz x2 <| some x2

set_option maxHeartbeats 4000000 in
theorem wX0_isThing {l : Launch} {s0 : State} {A0 : Array Value} {D : va_G} {ac : Nat → ClassId} (G : Gl s0 A0 D ac) {σ : St} {a0 : Nat} {a1 : Int32} {v : Int32} (hf : fX0_isThing σ a0 a1 = some (v)) : Met l yX0_isThing (ws_ yX0_isThing cX0_isThing 2 (some (.boolean))) ({ frames := 1, cells := 0, slots := 0, locals := 25 } : Room) (Pn s0 D ac [.ref a0, .int a1] σ) (Qn s0 D ac (some (.int v)) σ) 0 0 (fr s0) := by
  refine x_met (by decide) (Nat.le_of_ble_eq_true rfl) ?_
  intro p e s m args below meth c ls C hnm h hl
  have C : Cx s0 p s m args meth c cX0_isThing 2 "HutForShow" (some (.boolean)) := C
  have hx := C.1
  have hb := C.2.1
  have hl : lv_has ls 2 [(0, .ref a0), (1, .int a1)] := hl
  unfold fX0_isThing at hf
  refine lv_iload_n hx hb dX0_isThing_0 rfl (lv_at hl 1 rfl) ?_
  refine lv_i2l hx hb dX0_isThing_1 rfl ?_
  refine lv_lconst (v := 0) hx hb dX0_isThing_2 (by decide) ?_
  refine lv_aload_n hx hb dX0_isThing_3 rfl (lv_at hl 0 rfl) ?_
  refine x_gI (q := (RX0, TX0, 33)) (j := 5) G C h rfl (by decide) (fun _ _ _ => rfl) (lk C q210) (fun _ z => z) dX0_isThing_4 hf (fun x1 hf => ?_)
  refine lv_iconst (v := 1) hx hb dX0_isThing_7 (by decide) ?_
  refine lv_isub hx hb dX0_isThing_8 ?_
  refine lv_i2l hx hb dX0_isThing_9 rfl ?_
  obtain ⟨x2, hc, hf⟩ := hf_b hf
  refine x_cS (rest := []) (As := [.long (a1.toInt64), .long 0, .long ((x1 - 1).toInt64)]) (n := 3) (ov := (some (.int x2))) C h (wX0_isIn G hc) (lw_S q318 q319 q54 q320) (by decide +kernel) ⟨Nat.le_of_ble_eq_true rfl, Nat.le_of_ble_eq_true rfl⟩ rfl rfl rfl hl.1 rfl (Nat.le_of_ble_eq_true rfl) dX0_isThing_10 ⟨(Nat.le_of_ble_eq_true rfl), (Nat.le_of_ble_eq_true rfl)⟩ (fun H locs h => ?_)
  obtain ⟨hz, hf⟩ := bz_of hf
  cases hf
  refine W.widen (k := 0) (n := 0) (Nat.le_of_ble_eq_true rfl) (Nat.le_of_ble_eq_true rfl) ?_
  exact x_zret C h hz dX0_isThing_13

theorem dX0_at_0 : decode cX0_at 0 = .ok (.aload_n 0, 1) := by decide +kernel
theorem dX0_at_1 : decode cX0_at 1 = .ok (.iload_n 1, 1) := by decide +kernel
theorem dX0_at_2 : decode cX0_at 2 = .ok (.invokevirtual 171, 3) := by decide +kernel
theorem dX0_at_5 : decode cX0_at 5 = .ok (.ifCond .ne 6, 3) := by decide +kernel
theorem dX0_at_8 : decode cX0_at 8 = .ok (.bipush (-2), 2) := by decide +kernel
theorem dX0_at_10 : decode cX0_at 10 = .ok (.ireturn, 1) := by decide +kernel
theorem dX0_at_11 : decode cX0_at 11 = .ok (.iload_n 2, 1) := by decide +kernel
theorem dX0_at_12 : decode cX0_at 12 = .ok (.tableswitch 72 0 3 #[32, 42, 52, 62], 32) := by decide +kernel
theorem dX0_at_44 : decode cX0_at 44 = .ok (.aload_n 0, 1) := by decide +kernel
theorem dX0_at_45 : decode cX0_at 45 = .ok (.getfield 45, 3) := by decide +kernel
theorem dX0_at_48 : decode cX0_at 48 = .ok (.getfield 168, 3) := by decide +kernel
theorem dX0_at_51 : decode cX0_at 51 = .ok (.iload_n 1, 1) := by decide +kernel
theorem dX0_at_52 : decode cX0_at 52 = .ok (.iaload, 1) := by decide +kernel
theorem dX0_at_53 : decode cX0_at 53 = .ok (.ireturn, 1) := by decide +kernel
theorem dX0_at_54 : decode cX0_at 54 = .ok (.aload_n 0, 1) := by decide +kernel
theorem dX0_at_55 : decode cX0_at 55 = .ok (.getfield 32, 3) := by decide +kernel
theorem dX0_at_58 : decode cX0_at 58 = .ok (.iload_n 1, 1) := by decide +kernel
theorem dX0_at_59 : decode cX0_at 59 = .ok (.aaload, 1) := by decide +kernel
theorem dX0_at_60 : decode cX0_at 60 = .ok (.getfield 174, 3) := by decide +kernel
theorem dX0_at_63 : decode cX0_at 63 = .ok (.ireturn, 1) := by decide +kernel
theorem dX0_at_64 : decode cX0_at 64 = .ok (.aload_n 0, 1) := by decide +kernel
theorem dX0_at_65 : decode cX0_at 65 = .ok (.getfield 32, 3) := by decide +kernel
theorem dX0_at_68 : decode cX0_at 68 = .ok (.iload_n 1, 1) := by decide +kernel
theorem dX0_at_69 : decode cX0_at 69 = .ok (.aaload, 1) := by decide +kernel
theorem dX0_at_70 : decode cX0_at 70 = .ok (.getfield 177, 3) := by decide +kernel
theorem dX0_at_73 : decode cX0_at 73 = .ok (.ireturn, 1) := by decide +kernel
theorem dX0_at_74 : decode cX0_at 74 = .ok (.aload_n 0, 1) := by decide +kernel
theorem dX0_at_75 : decode cX0_at 75 = .ok (.getfield 32, 3) := by decide +kernel
theorem dX0_at_78 : decode cX0_at 78 = .ok (.iload_n 1, 1) := by decide +kernel
theorem dX0_at_79 : decode cX0_at 79 = .ok (.aaload, 1) := by decide +kernel
theorem dX0_at_80 : decode cX0_at 80 = .ok (.getfield 180, 3) := by decide +kernel
theorem dX0_at_83 : decode cX0_at 83 = .ok (.ireturn, 1) := by decide +kernel
theorem dX0_at_84 : decode cX0_at 84 = .ok (.bipush (-3), 2) := by decide +kernel
theorem dX0_at_86 : decode cX0_at 86 = .ok (.ireturn, 1) := by decide +kernel
def fX0_at (σ : St) (a0 : Nat) (a1 : Int32) (a2 : Int32) : Option (Int32) :=
  o_k σ a0 0 <|
  (fX0_isThing σ a0 a1).bind fun x1 =>
  if x1 = 0 then
    some ((-2))
  else
  if a2 = 0 then
    o_gR σ a0 0 7 fun r2 =>
    o_gR σ r2 3 7 fun r3 =>
    o_aI σ r3 0 a1 fun x4 =>
    some x4
  else if a2 = 1 then
    o_gR σ a0 0 4 fun r5 =>
    o_aR σ r5 4 a1 fun r6 =>
    o_gI σ r6 7 0 fun x7 =>
    some x7
  else if a2 = 2 then
    o_gR σ a0 0 4 fun r8 =>
    o_aR σ r8 4 a1 fun r9 =>
    o_gI σ r9 7 1 fun x10 =>
    some x10
  else if a2 = 3 then
    o_gR σ a0 0 4 fun r11 =>
    o_aR σ r11 4 a1 fun r12 =>
    o_gI σ r12 7 2 fun x13 =>
    some x13
  else 
  some ((-3))

set_option maxHeartbeats 4000000 in
theorem wX0_at {l : Launch} {s0 : State} {A0 : Array Value} {D : va_G} {ac : Nat → ClassId} (G : Gl s0 A0 D ac) {σ : St} {a0 : Nat} {a1 : Int32} {a2 : Int32} {v : Int32} (hf : fX0_at σ a0 a1 a2 = some (v)) : Met l yX0_at (ws_ yX0_at cX0_at 3 (some (.int))) ({ frames := 2, cells := 0, slots := 0, locals := 46 } : Room) (Pn s0 D ac [.ref a0, .int a1, .int a2] σ) (Qn s0 D ac (some (.int v)) σ) 0 0 (fr s0) := by
  refine x_met (by decide) (Nat.le_of_ble_eq_true rfl) ?_
  intro p e s m args below meth c ls C hnm h hl
  have C : Cx s0 p s m args meth c cX0_at 3 "HutForShow" (some (.int)) := C
  have hx := C.1
  have hb := C.2.1
  have hl : lv_has ls 3 [(0, .ref a0), (1, .int a1), (2, .int a2)] := hl
  unfold fX0_at at hf
  refine lv_aload_n hx hb dX0_at_0 rfl (lv_at hl 0 rfl) ?_
  refine lv_iload_n hx hb dX0_at_1 rfl (lv_at hl 1 rfl) ?_
  obtain ⟨hk, hf⟩ := k_of hf
  obtain ⟨x1, hc, hf⟩ := hf_b hf
  refine x_cV (q := (RX0, TX0, 33)) (rest := []) (As := [.int a1]) (n := 1) (ov := (some (.int x1))) G C h (wX0_isThing G hc) hk rfl (lw_V q385 q387 qs1 q54 q388) (by decide +kernel) ⟨Nat.le_of_ble_eq_true rfl, Nat.le_of_ble_eq_true rfl⟩ rfl rfl rfl hl.1 rfl (Nat.le_of_ble_eq_true rfl) dX0_at_2 ⟨(Nat.le_of_ble_eq_true rfl), (Nat.le_of_ble_eq_true rfl)⟩ (fun H locs h => ?_)
  refine lv_if_ne (tgt := 11) hx hb dX0_at_5 (by decide) (fun hc => ?_) (fun hc => ?_)
  · have hf := hf_f hc hf
    refine lv_iload_n hx hb dX0_at_11 rfl (lv_at hl 2 rfl) ?_
    by_cases hc : a2 = 0
    · have hf := hf_t hc hf
      rw [hc]
      refine lv_tableIn (tgt := 44) hx hb dX0_at_12 (by decide) (by decide) rfl (by decide) ?_
      refine lv_aload_n hx hb dX0_at_44 rfl (lv_at hl 0 rfl) ?_
      refine x_gR (q := (RX0, TX0, 33)) (j := 7) G C h rfl (by decide) (fun _ _ _ => rfl) (lk C q213) (fun _ z => z) dX0_at_45 hf (fun r2 hf => ?_)
      refine x_gR (q := (RX5, TX5, 9)) (j := 7) G C h rfl (by decide) (fun _ _ _ => rfl) (lkn G C q144) (fun _ z => z) dX0_at_48 hf (fun r3 hf => ?_)
      refine lv_iload_n hx hb dX0_at_51 rfl (lv_at hl 1 rfl) ?_
      refine x_iald G C h dX0_at_52 hf (fun x4 hf => ?_)
      cases hf
      refine W.widen (k := 0) (n := 0) (Nat.le_of_ble_eq_true rfl) (Nat.le_of_ble_eq_true rfl) ?_
      exact x_iret C h dX0_at_53
    have hf := hf_f hc hf
    have hc0 := hc
    clear hc
    by_cases hc : a2 = 1
    · have hf := hf_t hc hf
      rw [hc]
      refine lv_tableIn (tgt := 54) hx hb dX0_at_12 (by decide) (by decide) rfl (by decide) ?_
      refine lv_aload_n hx hb dX0_at_54 rfl (lv_at hl 0 rfl) ?_
      refine x_gR (q := (RX0, TX0, 33)) (j := 4) G C h rfl (by decide) (fun _ _ _ => rfl) (lk C q205) (fun _ z => z) dX0_at_55 hf (fun r5 hf => ?_)
      refine lv_iload_n hx hb dX0_at_58 rfl (lv_at hl 1 rfl) ?_
      refine x_aald (q := 4) rfl rfl (fun _ _ _ => rfl) G C h dX0_at_59 hf (fun r6 hf => ?_)
      refine x_gI (q := (RX9, TX9, 3)) (j := 0) G C h rfl (by decide) (fun _ _ _ => rfl) (lkn G C q368) (fun _ z => z) dX0_at_60 hf (fun x7 hf => ?_)
      cases hf
      refine W.widen (k := 0) (n := 0) (Nat.le_of_ble_eq_true rfl) (Nat.le_of_ble_eq_true rfl) ?_
      exact x_iret C h dX0_at_63
    have hf := hf_f hc hf
    have hc1 := hc
    clear hc
    by_cases hc : a2 = 2
    · have hf := hf_t hc hf
      rw [hc]
      refine lv_tableIn (tgt := 64) hx hb dX0_at_12 (by decide) (by decide) rfl (by decide) ?_
      refine lv_aload_n hx hb dX0_at_64 rfl (lv_at hl 0 rfl) ?_
      refine x_gR (q := (RX0, TX0, 33)) (j := 4) G C h rfl (by decide) (fun _ _ _ => rfl) (lk C q205) (fun _ z => z) dX0_at_65 hf (fun r8 hf => ?_)
      refine lv_iload_n hx hb dX0_at_68 rfl (lv_at hl 1 rfl) ?_
      refine x_aald (q := 4) rfl rfl (fun _ _ _ => rfl) G C h dX0_at_69 hf (fun r9 hf => ?_)
      refine x_gI (q := (RX9, TX9, 3)) (j := 1) G C h rfl (by decide) (fun _ _ _ => rfl) (lkn G C q371) (fun _ z => z) dX0_at_70 hf (fun x10 hf => ?_)
      cases hf
      refine W.widen (k := 0) (n := 0) (Nat.le_of_ble_eq_true rfl) (Nat.le_of_ble_eq_true rfl) ?_
      exact x_iret C h dX0_at_73
    have hf := hf_f hc hf
    have hc2 := hc
    clear hc
    by_cases hc : a2 = 3
    · have hf := hf_t hc hf
      rw [hc]
      refine lv_tableIn (tgt := 74) hx hb dX0_at_12 (by decide) (by decide) rfl (by decide) ?_
      refine lv_aload_n hx hb dX0_at_74 rfl (lv_at hl 0 rfl) ?_
      refine x_gR (q := (RX0, TX0, 33)) (j := 4) G C h rfl (by decide) (fun _ _ _ => rfl) (lk C q205) (fun _ z => z) dX0_at_75 hf (fun r11 hf => ?_)
      refine lv_iload_n hx hb dX0_at_78 rfl (lv_at hl 1 rfl) ?_
      refine x_aald (q := 4) rfl rfl (fun _ _ _ => rfl) G C h dX0_at_79 hf (fun r12 hf => ?_)
      refine x_gI (q := (RX9, TX9, 3)) (j := 2) G C h rfl (by decide) (fun _ _ _ => rfl) (lkn G C q373) (fun _ z => z) dX0_at_80 hf (fun x13 hf => ?_)
      cases hf
      refine W.widen (k := 0) (n := 0) (Nat.le_of_ble_eq_true rfl) (Nat.le_of_ble_eq_true rfl) ?_
      exact x_iret C h dX0_at_83
    have hf := hf_f hc hf
    have hc3 := hc
    clear hc
    refine lv_tableOut (tgt := 84) hx hb dX0_at_12 (sw_out4 hc0 hc1 hc2 hc3) (by decide) ?_
    refine lv_bipush (v := (-3)) hx hb dX0_at_84 (by decide) ?_
    cases hf
    refine W.widen (k := 0) (n := 0) (Nat.le_of_ble_eq_true rfl) (Nat.le_of_ble_eq_true rfl) ?_
    exact x_iret C h dX0_at_86
  · have hf := hf_t hc hf
    refine lv_bipush (v := (-2)) hx hb dX0_at_8 (by decide) ?_
    cases hf
    refine W.widen (k := 0) (n := 0) (Nat.le_of_ble_eq_true rfl) (Nat.le_of_ble_eq_true rfl) ?_
    exact x_iret C h dX0_at_10

theorem dX5_blue_0 : decode cX5_blue 0 = .ok (.iconst 0, 1) := by decide +kernel
theorem dX5_blue_1 : decode cX5_blue 1 = .ok (.istore_n 2, 1) := by decide +kernel
theorem dX5_blue_2 : decode cX5_blue 2 = .ok (.iconst 0, 1) := by decide +kernel
theorem dX5_blue_3 : decode cX5_blue 3 = .ok (.istore_n 3, 1) := by decide +kernel
theorem dX5_blue_4 : decode cX5_blue 4 = .ok (.iload_n 3, 1) := by decide +kernel
theorem dX5_blue_5 : decode cX5_blue 5 = .ok (.aload_n 0, 1) := by decide +kernel
theorem dX5_blue_6 : decode cX5_blue 6 = .ok (.getfield 3, 3) := by decide +kernel
theorem dX5_blue_9 : decode cX5_blue 9 = .ok (.getfield 50, 3) := by decide +kernel
theorem dX5_blue_12 : decode cX5_blue 12 = .ok (.if_icmp .ge 42, 3) := by decide +kernel
theorem dX5_blue_15 : decode cX5_blue 15 = .ok (.iload_n 2, 1) := by decide +kernel
theorem dX5_blue_16 : decode cX5_blue 16 = .ok (.aload_n 0, 1) := by decide +kernel
theorem dX5_blue_17 : decode cX5_blue 17 = .ok (.getfield 37, 3) := by decide +kernel
theorem dX5_blue_20 : decode cX5_blue 20 = .ok (.iload_n 3, 1) := by decide +kernel
theorem dX5_blue_21 : decode cX5_blue 21 = .ok (.iaload, 1) := by decide +kernel
theorem dX5_blue_22 : decode cX5_blue 22 = .ok (.iload_n 1, 1) := by decide +kernel
theorem dX5_blue_23 : decode cX5_blue 23 = .ok (.if_icmp .ne 22, 3) := by decide +kernel
theorem dX5_blue_26 : decode cX5_blue 26 = .ok (.aload_n 0, 1) := by decide +kernel
theorem dX5_blue_27 : decode cX5_blue 27 = .ok (.getfield 3, 3) := by decide +kernel
theorem dX5_blue_30 : decode cX5_blue 30 = .ok (.getfield 53, 3) := by decide +kernel
theorem dX5_blue_33 : decode cX5_blue 33 = .ok (.iload_n 3, 1) := by decide +kernel
theorem dX5_blue_34 : decode cX5_blue 34 = .ok (.aaload, 1) := by decide +kernel
theorem dX5_blue_35 : decode cX5_blue 35 = .ok (.getfield 57, 3) := by decide +kernel
theorem dX5_blue_38 : decode cX5_blue 38 = .ok (.ifCond .ne 7, 3) := by decide +kernel
theorem dX5_blue_41 : decode cX5_blue 41 = .ok (.iconst 1, 1) := by decide +kernel
theorem dX5_blue_42 : decode cX5_blue 42 = .ok (.goto 4, 3) := by decide +kernel
theorem dX5_blue_45 : decode cX5_blue 45 = .ok (.iconst 0, 1) := by decide +kernel
theorem dX5_blue_46 : decode cX5_blue 46 = .ok (.iadd, 1) := by decide +kernel
theorem dX5_blue_47 : decode cX5_blue 47 = .ok (.istore_n 2, 1) := by decide +kernel
theorem dX5_blue_48 : decode cX5_blue 48 = .ok (.iinc 3 1, 3) := by decide +kernel
theorem dX5_blue_51 : decode cX5_blue 51 = .ok (.goto (-47), 3) := by decide +kernel
theorem dX5_blue_54 : decode cX5_blue 54 = .ok (.iload_n 2, 1) := by decide +kernel
theorem dX5_blue_55 : decode cX5_blue 55 = .ok (.ireturn, 1) := by decide +kernel
def lX5_blue_4 (σ : St) (a0 : Nat) (a1 : Int32) (x1 : Int32) (x2 : Int32) : Option ((Int32 × Int32) ⊕ (Int32)) :=
  o_gR σ a0 3 8 fun r3 =>
  o_gI σ r3 0 5 fun x4 =>
  if x4 ≤ x2 then
    some (.inr x1)
  else
  o_gR σ a0 3 7 fun r5 =>
  o_aI σ r5 0 x2 fun x6 =>
  jn (fun (x11 : Int32) =>
    some (.inl (x1 + x11, x2 + 1))) fun j46 =>
  jn (fun (_ : Unit) =>
    j46 0) fun j45 =>
  if x6 = a1 then
    o_gR σ a0 3 8 fun r7 =>
    o_gR σ r7 0 4 fun r8 =>
    o_aR σ r8 4 x2 fun r9 =>
    o_gI σ r9 7 0 fun x10 =>
    if x10 = 0 then
      j46 1
    else
    j45 ()
  else
  j45 ()

def fX5_blue (σ : St) (a0 : Nat) (a1 : Int32) : Option (Int32) :=
  (loopF fuel (fun z => lX5_blue_4 σ a0 a1 z.1 z.2) (0, 0)).bind <| fun x12 =>
  some x12

set_option maxHeartbeats 4000000 in
theorem wX5_blue {l : Launch} {s0 : State} {A0 : Array Value} {D : va_G} {ac : Nat → ClassId} (G : Gl s0 A0 D ac) {σ : St} {a0 : Nat} {a1 : Int32} {v : Int32} (hf : fX5_blue σ a0 a1 = some (v)) : Met l yX5_blue (ws_ yX5_blue cX5_blue 4 (some (.int))) ({ frames := 0, cells := 0, slots := 0, locals := 0 } : Room) (Pn s0 D ac [.ref a0, .int a1] σ) (Qn s0 D ac (some (.int v)) σ) 0 0 (fr s0) := by
  refine x_met (by decide) (Nat.le_of_ble_eq_true rfl) ?_
  intro p e s m args below meth c ls C hnm h hl
  have C : Cx s0 p s m args meth c cX5_blue 4 "HutForShow$Wood" (some (.int)) := C
  have hx := C.1
  have hb := C.2.1
  have hl : lv_has ls 4 [(0, .ref a0), (1, .int a1)] := hl
  unfold fX5_blue at hf
  refine lv_iconst (v := 0) hx hb dX5_blue_0 (by decide) ?_
  refine lv_istore_n (lv' := [(2, .int 0), (0, .ref a0), (1, .int a1)]) hx hb dX5_blue_1 rfl hl (by decide) rfl (fun ls hl => ?_)
  refine lv_iconst (v := 0) hx hb dX5_blue_2 (by decide) ?_
  refine lv_istore_n (lv' := [(3, .int 0), (2, .int 0), (0, .ref a0), (1, .int a1)]) hx hb dX5_blue_3 rfl hl (by decide) rfl (fun ls hl => ?_)
  obtain ⟨e4, hL, hK⟩ := hf_b hf
  have hE4_0 : ∀ (x12 : Int32), x12 = e4 → ∀  (H : Heap) (locs : List Loc) (ls : Array Slot), Hs s0 D ac σ H locs → lv_has ls 4 [(0, .ref a0), (1, .int a1), (2, .int x12)] → W p l e ({ frames := 0, cells := 0, slots := 0, locals := 0 } : Room) s m args below meth c H locs 0 0 (MQ below (Qn s0 D ac (some (.int v)) σ) args s 0 0 (fr s0)) (F0 m 54 ls []) := by
    intro x12 he H locs ls h hl
    subst he
    have hf := hK
    refine lv_iload_n hx hb dX5_blue_54 rfl (lv_at hl 2 rfl) ?_
    cases hf
    refine W.widen (k := 0) (n := 0) (Nat.le_of_ble_eq_true rfl) (Nat.le_of_ble_eq_true rfl) ?_
    exact x_iret C h dX5_blue_55
  refine loopF_ind (P := fun z => ∀ (H : Heap) (locs : List Loc) (ls : Array Slot), Hs s0 D ac σ H locs → lv_has ls 4 [(0, .ref a0), (1, .int a1), (2, .int z.1), (3, .int z.2)] → W p l e ({ frames := 0, cells := 0, slots := 0, locals := 0 } : Room) s m args below meth c H locs 0 0 (MQ below (Qn s0 D ac (some (.int v)) σ) args s 0 0 (fr s0)) (F0 m 4 ls [])) ?_ _ _ hL _ _ _ h (lv_sub hl [2, 3, 1, 0] rfl)
  clear hK hL h hl hf
  intro z o hf ih hX H locs ls h hl
  obtain ⟨x1, x2⟩ := z
  have h : Hs s0 D ac σ H locs := h
  have hl : lv_has ls 4 [(0, .ref a0), (1, .int a1), (2, .int x1), (3, .int x2)] := hl
  have hf : lX5_blue_4 σ a0 a1 x1 x2 = some o := hf
  unfold lX5_blue_4 at hf
  refine lv_iload_n hx hb dX5_blue_4 rfl (lv_at hl 3 rfl) ?_
  refine lv_aload_n hx hb dX5_blue_5 rfl (lv_at hl 0 rfl) ?_
  refine x_gR (q := (RX5, TX5, 9)) (j := 8) G C h rfl (by decide) (fun _ _ _ => rfl) (lk C q145) (fun _ z => z) dX5_blue_6 hf (fun r3 hf => ?_)
  refine x_gI (q := (RX0, TX0, 33)) (j := 5) G C h rfl (by decide) (fun _ _ _ => rfl) (lkn G C q208) (fun _ z => z) dX5_blue_9 hf (fun x4 hf => ?_)
  refine lv_icmp_ge (tgt := 54) hx hb dX5_blue_12 (by decide) (fun hc => ?_) (fun hc => ?_)
  · have hf := hf_t hc hf
    cases hf
    exact hE4_0 _ (hX _ rfl) _ _ _ h (lv_sub hl [0, 1, 2] rfl)
  · have hf := hf_f hc hf
    refine lv_iload_n hx hb dX5_blue_15 rfl (lv_at hl 2 rfl) ?_
    refine lv_aload_n hx hb dX5_blue_16 rfl (lv_at hl 0 rfl) ?_
    refine x_gR (q := (RX5, TX5, 9)) (j := 7) G C h rfl (by decide) (fun _ _ _ => rfl) (lk C q141) (fun _ z => z) dX5_blue_17 hf (fun r5 hf => ?_)
    refine lv_iload_n hx hb dX5_blue_20 rfl (lv_at hl 3 rfl) ?_
    refine x_iald G C h dX5_blue_21 hf (fun x6 hf => ?_)
    refine lv_iload_n hx hb dX5_blue_22 rfl (lv_at hl 1 rfl) ?_
    refine jn_of (P := fun j => ∀ (x11 : Int32), j x11 = some o → ∀ (H : Heap) (locs : List Loc) (ls : Array Slot), Hs s0 D ac σ H locs → lv_has ls 4 [(0, .ref a0), (1, .int a1), (2, .int x1), (3, .int x2)] → W p l e ({ frames := 0, cells := 0, slots := 0, locals := 0 } : Room) s m args below meth c H locs 0 0 (MQ below (Qn s0 D ac (some (.int v)) σ) args s 0 0 (fr s0)) (F0 m 46 ls [.int x11, .int x1])) hf ?_ ?_
    · intro x11 hf H locs ls h hl
      refine lv_iadd hx hb dX5_blue_46 ?_
      refine lv_istore_n (lv' := [(2, .int (x1 + x11)), (0, .ref a0), (1, .int a1), (3, .int x2)]) hx hb dX5_blue_47 rfl hl (by decide) rfl (fun ls hl => ?_)
      refine lv_iinc (v := x2 + 1) (lv' := [(3, .int (x2 + 1)), (2, .int (x1 + x11)), (0, .ref a0), (1, .int a1)]) hx hb dX5_blue_48 hl (k := 3) rfl rfl (by decide) rfl (fun ls hl => ?_)
      refine lv_goto (tgt := 4) hx hb dX5_blue_51 (by decide) ?_
      cases hf
      exact ih _ rfl _ _ _ h (lv_sub hl [2, 3, 1, 0] rfl)
    intro j46 hj46 hf
    refine jn_of (P := fun j => ∀ (u0 : Unit), j u0 = some o → ∀ (H : Heap) (locs : List Loc) (ls : Array Slot), Hs s0 D ac σ H locs → lv_has ls 4 [(0, .ref a0), (1, .int a1), (2, .int x1), (3, .int x2)] → W p l e ({ frames := 0, cells := 0, slots := 0, locals := 0 } : Room) s m args below meth c H locs 0 0 (MQ below (Qn s0 D ac (some (.int v)) σ) args s 0 0 (fr s0)) (F0 m 45 ls [.int x1])) hf ?_ ?_
    · intro u0 hf H locs ls h hl
      refine lv_iconst (v := 0) hx hb dX5_blue_45 (by decide) ?_
      exact hj46 _ hf _ _ _ h (lv_sub hl [0, 1, 2, 3] rfl)
    intro j45 hj45 hf
    refine lv_icmp_ne (tgt := 45) hx hb dX5_blue_23 (by decide) (fun hc => ?_) (fun hc => ?_)
    · have hf := hf_f hc hf
      exact hj45 () hf _ _ _ h (lv_sub hl [0, 1, 2, 3] rfl)
    · have hf := hf_t hc hf
      refine lv_aload_n hx hb dX5_blue_26 rfl (lv_at hl 0 rfl) ?_
      refine x_gR (q := (RX5, TX5, 9)) (j := 8) G C h rfl (by decide) (fun _ _ _ => rfl) (lk C q145) (fun _ z => z) dX5_blue_27 hf (fun r7 hf => ?_)
      refine x_gR (q := (RX0, TX0, 33)) (j := 4) G C h rfl (by decide) (fun _ _ _ => rfl) (lkn G C q206) (fun _ z => z) dX5_blue_30 hf (fun r8 hf => ?_)
      refine lv_iload_n hx hb dX5_blue_33 rfl (lv_at hl 3 rfl) ?_
      refine x_aald (q := 4) rfl rfl (fun _ _ _ => rfl) G C h dX5_blue_34 hf (fun r9 hf => ?_)
      refine x_gI (q := (RX9, TX9, 3)) (j := 0) G C h rfl (by decide) (fun _ _ _ => rfl) (lkn G C q366) (fun _ z => z) dX5_blue_35 hf (fun x10 hf => ?_)
      refine lv_if_ne (tgt := 45) hx hb dX5_blue_38 (by decide) (fun hc => ?_) (fun hc => ?_)
      · have hf := hf_f hc hf
        exact hj45 () hf _ _ _ h (lv_sub hl [0, 1, 2, 3] rfl)
      · have hf := hf_t hc hf
        refine lv_iconst (v := 1) hx hb dX5_blue_41 (by decide) ?_
        refine lv_goto (tgt := 46) hx hb dX5_blue_42 (by decide) ?_
        exact hj46 _ hf _ _ _ h (lv_sub hl [0, 1, 2, 3] rfl)

theorem dX0_of_0 : decode cX0_of 0 = .ok (.aload_n 0, 1) := by decide +kernel
theorem dX0_of_1 : decode cX0_of 1 = .ok (.iload_n 1, 1) := by decide +kernel
theorem dX0_of_2 : decode cX0_of 2 = .ok (.invokevirtual 145, 3) := by decide +kernel
theorem dX0_of_5 : decode cX0_of 5 = .ok (.ifCond .ne 6, 3) := by decide +kernel
theorem dX0_of_8 : decode cX0_of 8 = .ok (.bipush (-2), 2) := by decide +kernel
theorem dX0_of_10 : decode cX0_of 10 = .ok (.ireturn, 1) := by decide +kernel
theorem dX0_of_11 : decode cX0_of 11 = .ok (.iload_n 2, 1) := by decide +kernel
theorem dX0_of_12 : decode cX0_of 12 = .ok (.tableswitch 98 0 5 #[40, 50, 59, 68, 78, 88], 40) := by decide +kernel
theorem dX0_of_52 : decode cX0_of 52 = .ok (.aload_n 0, 1) := by decide +kernel
theorem dX0_of_53 : decode cX0_of 53 = .ok (.getfield 45, 3) := by decide +kernel
theorem dX0_of_56 : decode cX0_of 56 = .ok (.getfield 142, 3) := by decide +kernel
theorem dX0_of_59 : decode cX0_of 59 = .ok (.iload_n 1, 1) := by decide +kernel
theorem dX0_of_60 : decode cX0_of 60 = .ok (.iaload, 1) := by decide +kernel
theorem dX0_of_61 : decode cX0_of 61 = .ok (.ireturn, 1) := by decide +kernel
theorem dX0_of_62 : decode cX0_of 62 = .ok (.aload_n 0, 1) := by decide +kernel
theorem dX0_of_63 : decode cX0_of 63 = .ok (.getfield 45, 3) := by decide +kernel
theorem dX0_of_66 : decode cX0_of 66 = .ok (.iload_n 1, 1) := by decide +kernel
theorem dX0_of_67 : decode cX0_of 67 = .ok (.invokevirtual 158, 3) := by decide +kernel
theorem dX0_of_70 : decode cX0_of 70 = .ok (.ireturn, 1) := by decide +kernel
theorem dX0_of_71 : decode cX0_of 71 = .ok (.aload_n 0, 1) := by decide +kernel
theorem dX0_of_72 : decode cX0_of 72 = .ok (.getfield 45, 3) := by decide +kernel
theorem dX0_of_75 : decode cX0_of 75 = .ok (.iload_n 1, 1) := by decide +kernel
theorem dX0_of_76 : decode cX0_of 76 = .ok (.invokevirtual 183, 3) := by decide +kernel
theorem dX0_of_79 : decode cX0_of 79 = .ok (.ireturn, 1) := by decide +kernel
theorem dX0_of_80 : decode cX0_of 80 = .ok (.aload_n 0, 1) := by decide +kernel
theorem dX0_of_81 : decode cX0_of 81 = .ok (.getfield 45, 3) := by decide +kernel
theorem dX0_of_84 : decode cX0_of 84 = .ok (.getfield 186, 3) := by decide +kernel
theorem dX0_of_87 : decode cX0_of 87 = .ok (.iload_n 1, 1) := by decide +kernel
theorem dX0_of_88 : decode cX0_of 88 = .ok (.iaload, 1) := by decide +kernel
theorem dX0_of_89 : decode cX0_of 89 = .ok (.ireturn, 1) := by decide +kernel
theorem dX0_of_90 : decode cX0_of 90 = .ok (.aload_n 0, 1) := by decide +kernel
theorem dX0_of_91 : decode cX0_of 91 = .ok (.getfield 45, 3) := by decide +kernel
theorem dX0_of_94 : decode cX0_of 94 = .ok (.getfield 189, 3) := by decide +kernel
theorem dX0_of_97 : decode cX0_of 97 = .ok (.iload_n 1, 1) := by decide +kernel
theorem dX0_of_98 : decode cX0_of 98 = .ok (.iaload, 1) := by decide +kernel
theorem dX0_of_99 : decode cX0_of 99 = .ok (.ireturn, 1) := by decide +kernel
theorem dX0_of_100 : decode cX0_of 100 = .ok (.aload_n 0, 1) := by decide +kernel
theorem dX0_of_101 : decode cX0_of 101 = .ok (.getfield 45, 3) := by decide +kernel
theorem dX0_of_104 : decode cX0_of 104 = .ok (.getfield 192, 3) := by decide +kernel
theorem dX0_of_107 : decode cX0_of 107 = .ok (.iload_n 1, 1) := by decide +kernel
theorem dX0_of_108 : decode cX0_of 108 = .ok (.iaload, 1) := by decide +kernel
theorem dX0_of_109 : decode cX0_of 109 = .ok (.ireturn, 1) := by decide +kernel
theorem dX0_of_110 : decode cX0_of 110 = .ok (.bipush (-3), 2) := by decide +kernel
theorem dX0_of_112 : decode cX0_of 112 = .ok (.ireturn, 1) := by decide +kernel
def fX0_of (σ : St) (a0 : Nat) (a1 : Int32) (a2 : Int32) : Option (Int32) :=
  o_k σ a0 0 <|
  (fX0_isHut σ a0 a1).bind fun x1 =>
  if x1 = 0 then
    some ((-2))
  else
  if a2 = 0 then
    o_gR σ a0 0 7 fun r2 =>
    o_gR σ r2 3 1 fun r3 =>
    o_aI σ r3 0 a1 fun x4 =>
    some x4
  else if a2 = 1 then
    o_gR σ a0 0 7 fun r5 =>
    o_k σ r5 3 <|
    (fX5_many σ r5 a1).bind fun x6 =>
    some x6
  else if a2 = 2 then
    o_gR σ a0 0 7 fun r7 =>
    o_k σ r7 3 <|
    (fX5_blue σ r7 a1).bind fun x8 =>
    some x8
  else if a2 = 3 then
    o_gR σ a0 0 7 fun r9 =>
    o_gR σ r9 3 2 fun r10 =>
    o_aI σ r10 0 a1 fun x11 =>
    some x11
  else if a2 = 4 then
    o_gR σ a0 0 7 fun r12 =>
    o_gR σ r12 3 3 fun r13 =>
    o_aI σ r13 0 a1 fun x14 =>
    some x14
  else if a2 = 5 then
    o_gR σ a0 0 7 fun r15 =>
    o_gR σ r15 3 5 fun r16 =>
    o_aI σ r16 0 a1 fun x17 =>
    some x17
  else 
  some ((-3))

set_option maxHeartbeats 4000000 in
theorem wX0_of {l : Launch} {s0 : State} {A0 : Array Value} {D : va_G} {ac : Nat → ClassId} (G : Gl s0 A0 D ac) {σ : St} {a0 : Nat} {a1 : Int32} {a2 : Int32} {v : Int32} (hf : fX0_of σ a0 a1 a2 = some (v)) : Met l yX0_of (ws_ yX0_of cX0_of 3 (some (.int))) ({ frames := 2, cells := 0, slots := 0, locals := 46 } : Room) (Pn s0 D ac [.ref a0, .int a1, .int a2] σ) (Qn s0 D ac (some (.int v)) σ) 0 0 (fr s0) := by
  refine x_met (by decide) (Nat.le_of_ble_eq_true rfl) ?_
  intro p e s m args below meth c ls C hnm h hl
  have C : Cx s0 p s m args meth c cX0_of 3 "HutForShow" (some (.int)) := C
  have hx := C.1
  have hb := C.2.1
  have hl : lv_has ls 3 [(0, .ref a0), (1, .int a1), (2, .int a2)] := hl
  unfold fX0_of at hf
  refine lv_aload_n hx hb dX0_of_0 rfl (lv_at hl 0 rfl) ?_
  refine lv_iload_n hx hb dX0_of_1 rfl (lv_at hl 1 rfl) ?_
  obtain ⟨hk, hf⟩ := k_of hf
  obtain ⟨x1, hc, hf⟩ := hf_b hf
  refine x_cV (q := (RX0, TX0, 33)) (rest := []) (As := [.int a1]) (n := 1) (ov := (some (.int x1))) G C h (wX0_isHut G hc) hk rfl (lw_V q338 q340 qs0 q54 q341) (by decide +kernel) ⟨Nat.le_of_ble_eq_true rfl, Nat.le_of_ble_eq_true rfl⟩ rfl rfl rfl hl.1 rfl (Nat.le_of_ble_eq_true rfl) dX0_of_2 ⟨(Nat.le_of_ble_eq_true rfl), (Nat.le_of_ble_eq_true rfl)⟩ (fun H locs h => ?_)
  refine lv_if_ne (tgt := 11) hx hb dX0_of_5 (by decide) (fun hc => ?_) (fun hc => ?_)
  · have hf := hf_f hc hf
    refine lv_iload_n hx hb dX0_of_11 rfl (lv_at hl 2 rfl) ?_
    by_cases hc : a2 = 0
    · have hf := hf_t hc hf
      rw [hc]
      refine lv_tableIn (tgt := 52) hx hb dX0_of_12 (by decide) (by decide) rfl (by decide) ?_
      refine lv_aload_n hx hb dX0_of_52 rfl (lv_at hl 0 rfl) ?_
      refine x_gR (q := (RX0, TX0, 33)) (j := 7) G C h rfl (by decide) (fun _ _ _ => rfl) (lk C q213) (fun _ z => z) dX0_of_53 hf (fun r2 hf => ?_)
      refine x_gR (q := (RX5, TX5, 9)) (j := 1) G C h rfl (by decide) (fun _ _ _ => rfl) (lkn G C q129) (fun _ z => z) dX0_of_56 hf (fun r3 hf => ?_)
      refine lv_iload_n hx hb dX0_of_59 rfl (lv_at hl 1 rfl) ?_
      refine x_iald G C h dX0_of_60 hf (fun x4 hf => ?_)
      cases hf
      refine W.widen (k := 0) (n := 0) (Nat.le_of_ble_eq_true rfl) (Nat.le_of_ble_eq_true rfl) ?_
      exact x_iret C h dX0_of_61
    have hf := hf_f hc hf
    have hc0 := hc
    clear hc
    by_cases hc : a2 = 1
    · have hf := hf_t hc hf
      rw [hc]
      refine lv_tableIn (tgt := 62) hx hb dX0_of_12 (by decide) (by decide) rfl (by decide) ?_
      refine lv_aload_n hx hb dX0_of_62 rfl (lv_at hl 0 rfl) ?_
      refine x_gR (q := (RX0, TX0, 33)) (j := 7) G C h rfl (by decide) (fun _ _ _ => rfl) (lk C q213) (fun _ z => z) dX0_of_63 hf (fun r5 hf => ?_)
      refine lv_iload_n hx hb dX0_of_66 rfl (lv_at hl 1 rfl) ?_
      obtain ⟨hk, hf⟩ := k_of hf
      obtain ⟨x6, hc, hf⟩ := hf_b hf
      refine x_cV (q := (RX5, TX5, 9)) (rest := []) (As := [.int a1]) (n := 1) (ov := (some (.int x6))) G C h (wX5_many G hc) hk rfl (lw_V q356 q357 q358 q59 q359) (by decide +kernel) ⟨Nat.le_of_ble_eq_true rfl, Nat.le_of_ble_eq_true rfl⟩ rfl rfl rfl hl.1 rfl (Nat.le_of_ble_eq_true rfl) dX0_of_67 ⟨(Nat.le_of_ble_eq_true rfl), (Nat.le_of_ble_eq_true rfl)⟩ (fun H locs h => ?_)
      cases hf
      refine W.widen (k := 0) (n := 0) (Nat.le_of_ble_eq_true rfl) (Nat.le_of_ble_eq_true rfl) ?_
      exact x_iret C h dX0_of_70
    have hf := hf_f hc hf
    have hc1 := hc
    clear hc
    by_cases hc : a2 = 2
    · have hf := hf_t hc hf
      rw [hc]
      refine lv_tableIn (tgt := 71) hx hb dX0_of_12 (by decide) (by decide) rfl (by decide) ?_
      refine lv_aload_n hx hb dX0_of_71 rfl (lv_at hl 0 rfl) ?_
      refine x_gR (q := (RX0, TX0, 33)) (j := 7) G C h rfl (by decide) (fun _ _ _ => rfl) (lk C q213) (fun _ z => z) dX0_of_72 hf (fun r7 hf => ?_)
      refine lv_iload_n hx hb dX0_of_75 rfl (lv_at hl 1 rfl) ?_
      obtain ⟨hk, hf⟩ := k_of hf
      obtain ⟨x8, hc, hf⟩ := hf_b hf
      refine x_cV (q := (RX5, TX5, 9)) (rest := []) (As := [.int a1]) (n := 1) (ov := (some (.int x8))) G C h (wX5_blue G hc) hk rfl (lw_V q393 q394 q395 q59 q396) (by decide +kernel) ⟨Nat.le_of_ble_eq_true rfl, Nat.le_of_ble_eq_true rfl⟩ rfl rfl rfl hl.1 rfl (Nat.le_of_ble_eq_true rfl) dX0_of_76 ⟨(Nat.le_of_ble_eq_true rfl), (Nat.le_of_ble_eq_true rfl)⟩ (fun H locs h => ?_)
      cases hf
      refine W.widen (k := 0) (n := 0) (Nat.le_of_ble_eq_true rfl) (Nat.le_of_ble_eq_true rfl) ?_
      exact x_iret C h dX0_of_79
    have hf := hf_f hc hf
    have hc2 := hc
    clear hc
    by_cases hc : a2 = 3
    · have hf := hf_t hc hf
      rw [hc]
      refine lv_tableIn (tgt := 80) hx hb dX0_of_12 (by decide) (by decide) rfl (by decide) ?_
      refine lv_aload_n hx hb dX0_of_80 rfl (lv_at hl 0 rfl) ?_
      refine x_gR (q := (RX0, TX0, 33)) (j := 7) G C h rfl (by decide) (fun _ _ _ => rfl) (lk C q213) (fun _ z => z) dX0_of_81 hf (fun r9 hf => ?_)
      refine x_gR (q := (RX5, TX5, 9)) (j := 2) G C h rfl (by decide) (fun _ _ _ => rfl) (lkn G C q133) (fun _ z => z) dX0_of_84 hf (fun r10 hf => ?_)
      refine lv_iload_n hx hb dX0_of_87 rfl (lv_at hl 1 rfl) ?_
      refine x_iald G C h dX0_of_88 hf (fun x11 hf => ?_)
      cases hf
      refine W.widen (k := 0) (n := 0) (Nat.le_of_ble_eq_true rfl) (Nat.le_of_ble_eq_true rfl) ?_
      exact x_iret C h dX0_of_89
    have hf := hf_f hc hf
    have hc3 := hc
    clear hc
    by_cases hc : a2 = 4
    · have hf := hf_t hc hf
      rw [hc]
      refine lv_tableIn (tgt := 90) hx hb dX0_of_12 (by decide) (by decide) rfl (by decide) ?_
      refine lv_aload_n hx hb dX0_of_90 rfl (lv_at hl 0 rfl) ?_
      refine x_gR (q := (RX0, TX0, 33)) (j := 7) G C h rfl (by decide) (fun _ _ _ => rfl) (lk C q213) (fun _ z => z) dX0_of_91 hf (fun r12 hf => ?_)
      refine x_gR (q := (RX5, TX5, 9)) (j := 3) G C h rfl (by decide) (fun _ _ _ => rfl) (lkn G C q136) (fun _ z => z) dX0_of_94 hf (fun r13 hf => ?_)
      refine lv_iload_n hx hb dX0_of_97 rfl (lv_at hl 1 rfl) ?_
      refine x_iald G C h dX0_of_98 hf (fun x14 hf => ?_)
      cases hf
      refine W.widen (k := 0) (n := 0) (Nat.le_of_ble_eq_true rfl) (Nat.le_of_ble_eq_true rfl) ?_
      exact x_iret C h dX0_of_99
    have hf := hf_f hc hf
    have hc4 := hc
    clear hc
    by_cases hc : a2 = 5
    · have hf := hf_t hc hf
      rw [hc]
      refine lv_tableIn (tgt := 100) hx hb dX0_of_12 (by decide) (by decide) rfl (by decide) ?_
      refine lv_aload_n hx hb dX0_of_100 rfl (lv_at hl 0 rfl) ?_
      refine x_gR (q := (RX0, TX0, 33)) (j := 7) G C h rfl (by decide) (fun _ _ _ => rfl) (lk C q213) (fun _ z => z) dX0_of_101 hf (fun r15 hf => ?_)
      refine x_gR (q := (RX5, TX5, 9)) (j := 5) G C h rfl (by decide) (fun _ _ _ => rfl) (lkn G C q139) (fun _ z => z) dX0_of_104 hf (fun r16 hf => ?_)
      refine lv_iload_n hx hb dX0_of_107 rfl (lv_at hl 1 rfl) ?_
      refine x_iald G C h dX0_of_108 hf (fun x17 hf => ?_)
      cases hf
      refine W.widen (k := 0) (n := 0) (Nat.le_of_ble_eq_true rfl) (Nat.le_of_ble_eq_true rfl) ?_
      exact x_iret C h dX0_of_109
    have hf := hf_f hc hf
    have hc5 := hc
    clear hc
    refine lv_tableOut (tgt := 110) hx hb dX0_of_12 (sw_out6 hc0 hc1 hc2 hc3 hc4 hc5) (by decide) ?_
    refine lv_bipush (v := (-3)) hx hb dX0_of_110 (by decide) ?_
    cases hf
    refine W.widen (k := 0) (n := 0) (Nat.le_of_ble_eq_true rfl) (Nat.le_of_ble_eq_true rfl) ?_
    exact x_iret C h dX0_of_112
  · have hf := hf_t hc hf
    refine lv_bipush (v := (-2)) hx hb dX0_of_8 (by decide) ?_
    cases hf
    refine W.widen (k := 0) (n := 0) (Nat.le_of_ble_eq_true rfl) (Nat.le_of_ble_eq_true rfl) ?_
    exact x_iret C h dX0_of_10

theorem dX0_set_0 : decode cX0_set 0 = .ok (.iload_n 1, 1) := by decide +kernel
theorem dX0_set_1 : decode cX0_set 1 = .ok (.i2l, 1) := by decide +kernel
theorem dX0_set_2 : decode cX0_set 2 = .ok (.lconst 0, 1) := by decide +kernel
theorem dX0_set_3 : decode cX0_set 3 = .ok (.ldc2_w 195, 3) := by decide +kernel
theorem dX0_set_6 : decode cX0_set 6 = .ok (.invokestatic 127, 3) := by decide +kernel
theorem dX0_set_9 : decode cX0_set 9 = .ok (.ifCond .eq 36, 3) := by decide +kernel
theorem dX0_set_12 : decode cX0_set 12 = .ok (.iload_n 2, 1) := by decide +kernel
theorem dX0_set_13 : decode cX0_set 13 = .ok (.i2l, 1) := by decide +kernel
theorem dX0_set_14 : decode cX0_set 14 = .ok (.lconst 0, 1) := by decide +kernel
theorem dX0_set_15 : decode cX0_set 15 = .ok (.iload_n 1, 1) := by decide +kernel
theorem dX0_set_16 : decode cX0_set 16 = .ok (.ifCond .ne 9, 3) := by decide +kernel
theorem dX0_set_19 : decode cX0_set 19 = .ok (.ldc2_w 197, 3) := by decide +kernel
theorem dX0_set_22 : decode cX0_set 22 = .ok (.goto 17, 3) := by decide +kernel
theorem dX0_set_25 : decode cX0_set 25 = .ok (.iload_n 1, 1) := by decide +kernel
theorem dX0_set_26 : decode cX0_set 26 = .ok (.iconst 4, 1) := by decide +kernel
theorem dX0_set_27 : decode cX0_set 27 = .ok (.if_icmp .ne 9, 3) := by decide +kernel
theorem dX0_set_30 : decode cX0_set 30 = .ok (.ldc2_w 154, 3) := by decide +kernel
theorem dX0_set_33 : decode cX0_set 33 = .ok (.goto 6, 3) := by decide +kernel
theorem dX0_set_36 : decode cX0_set 36 = .ok (.ldc2_w 137, 3) := by decide +kernel
theorem dX0_set_39 : decode cX0_set 39 = .ok (.invokestatic 127, 3) := by decide +kernel
theorem dX0_set_42 : decode cX0_set 42 = .ok (.ifCond .ne 6, 3) := by decide +kernel
theorem dX0_set_45 : decode cX0_set 45 = .ok (.bipush (-3), 2) := by decide +kernel
theorem dX0_set_47 : decode cX0_set 47 = .ok (.ireturn, 1) := by decide +kernel
theorem dX0_set_48 : decode cX0_set 48 = .ok (.aload_n 0, 1) := by decide +kernel
theorem dX0_set_49 : decode cX0_set 49 = .ok (.getfield 36, 3) := by decide +kernel
theorem dX0_set_52 : decode cX0_set 52 = .ok (.iload_n 1, 1) := by decide +kernel
theorem dX0_set_53 : decode cX0_set 53 = .ok (.iaload, 1) := by decide +kernel
theorem dX0_set_54 : decode cX0_set 54 = .ok (.istore_n 3, 1) := by decide +kernel
theorem dX0_set_55 : decode cX0_set 55 = .ok (.aload_n 0, 1) := by decide +kernel
theorem dX0_set_56 : decode cX0_set 56 = .ok (.getfield 36, 3) := by decide +kernel
theorem dX0_set_59 : decode cX0_set 59 = .ok (.iload_n 1, 1) := by decide +kernel
theorem dX0_set_60 : decode cX0_set 60 = .ok (.iload_n 2, 1) := by decide +kernel
theorem dX0_set_61 : decode cX0_set 61 = .ok (.iastore, 1) := by decide +kernel
theorem dX0_set_62 : decode cX0_set 62 = .ok (.iload_n 3, 1) := by decide +kernel
theorem dX0_set_63 : decode cX0_set 63 = .ok (.ireturn, 1) := by decide +kernel
def fX0_set (σ : St) (a0 : Nat) (a1 : Int32) (a2 : Int32) : Option (Int32 × St) :=
  (fX0_isIn σ (a1.toInt64) 0 4).bind fun x1 =>
  if x1 = 0 then
    some ((-3), σ)
  else
  jn (fun (y2 : Int64) =>
    (fX0_isIn σ (a2.toInt64) 0 y2).bind fun x3 =>
    if x3 = 0 then
      some ((-3), σ)
    else
    o_gR σ a0 0 6 fun r4 =>
    o_aI σ r4 0 a1 fun x5 =>
    o_gR σ a0 0 6 fun r6 =>
    o_sI σ r6 0 a1 a2 fun σ7 =>
    some (x5, σ7)) fun j39 =>
  if a1 = 0 then
    j39 60
  else
  if a1 = 4 then
    j39 9
  else
  j39 99

set_option maxHeartbeats 4000000 in
theorem wX0_set {l : Launch} {s0 : State} {A0 : Array Value} {D : va_G} {ac : Nat → ClassId} (G : Gl s0 A0 D ac) {σ : St} {a0 : Nat} {a1 : Int32} {a2 : Int32} {v : Int32} {σ' : St} (hf : fX0_set σ a0 a1 a2 = some (v, σ')) : Met l yX0_set (ws_ yX0_set cX0_set 4 (some (.int))) ({ frames := 1, cells := 0, slots := 0, locals := 25 } : Room) (Pn s0 D ac [.ref a0, .int a1, .int a2] σ) (Qn s0 D ac (some (.int v)) σ') 0 0 (fr s0) := by
  refine x_met (by decide) (Nat.le_of_ble_eq_true rfl) ?_
  intro p e s m args below meth c ls C hnm h hl
  have C : Cx s0 p s m args meth c cX0_set 4 "HutForShow" (some (.int)) := C
  have hx := C.1
  have hb := C.2.1
  have hl : lv_has ls 4 [(0, .ref a0), (1, .int a1), (2, .int a2)] := hl
  unfold fX0_set at hf
  refine lv_iload_n hx hb dX0_set_0 rfl (lv_at hl 1 rfl) ?_
  refine lv_i2l hx hb dX0_set_1 rfl ?_
  refine lv_lconst (v := 0) hx hb dX0_set_2 (by decide) ?_
  refine lv_ldc2 (v := 4) hx hb C.2.2.2.1 (C.2.2.2.2.1 _ q401) dX0_set_3 ?_
  obtain ⟨x1, hc, hf⟩ := hf_b hf
  refine x_cS (rest := []) (As := [.long (a1.toInt64), .long 0, .long 4]) (n := 3) (ov := (some (.int x1))) C h (wX0_isIn G hc) (lw_S q318 q319 q54 q320) (by decide +kernel) ⟨Nat.le_of_ble_eq_true rfl, Nat.le_of_ble_eq_true rfl⟩ rfl rfl rfl hl.1 rfl (Nat.le_of_ble_eq_true rfl) dX0_set_6 ⟨(Nat.le_of_ble_eq_true rfl), (Nat.le_of_ble_eq_true rfl)⟩ (fun H locs h => ?_)
  refine lv_if_eq (tgt := 45) hx hb dX0_set_9 (by decide) (fun hc => ?_) (fun hc => ?_)
  · have hf := hf_t hc hf
    refine lv_bipush (v := (-3)) hx hb dX0_set_45 (by decide) ?_
    cases hf
    refine W.widen (k := 0) (n := 0) (Nat.le_of_ble_eq_true rfl) (Nat.le_of_ble_eq_true rfl) ?_
    exact x_iret C h dX0_set_47
  · have hf := hf_f hc hf
    refine lv_iload_n hx hb dX0_set_12 rfl (lv_at hl 2 rfl) ?_
    refine lv_i2l hx hb dX0_set_13 rfl ?_
    refine lv_lconst (v := 0) hx hb dX0_set_14 (by decide) ?_
    refine lv_iload_n hx hb dX0_set_15 rfl (lv_at hl 1 rfl) ?_
    refine jn_of (P := fun j => ∀ (y2 : Int64), j y2 = some (v, σ') → ∀ (H : Heap) (locs : List Loc) (ls : Array Slot), Hs s0 D ac σ H locs → lv_has ls 4 [(0, .ref a0), (1, .int a1), (2, .int a2)] → W p l e ({ frames := 1, cells := 0, slots := 0, locals := 25 } : Room) s m args below meth c H locs 0 0 (MQ below (Qn s0 D ac (some (.int v)) σ') args s 0 0 (fr s0)) (F0 m 39 ls [.long y2, .long 0, .long (a2.toInt64)])) hf ?_ ?_
    · intro y2 hf H locs ls h hl
      obtain ⟨x3, hc, hf⟩ := hf_b hf
      refine x_cS (rest := []) (As := [.long (a2.toInt64), .long 0, .long y2]) (n := 3) (ov := (some (.int x3))) C h (wX0_isIn G hc) (lw_S q318 q319 q54 q320) (by decide +kernel) ⟨Nat.le_of_ble_eq_true rfl, Nat.le_of_ble_eq_true rfl⟩ rfl rfl rfl hl.1 rfl (Nat.le_of_ble_eq_true rfl) dX0_set_39 ⟨(Nat.le_of_ble_eq_true rfl), (Nat.le_of_ble_eq_true rfl)⟩ (fun H locs h => ?_)
      refine lv_if_ne (tgt := 48) hx hb dX0_set_42 (by decide) (fun hc => ?_) (fun hc => ?_)
      · have hf := hf_f hc hf
        refine lv_aload_n hx hb dX0_set_48 rfl (lv_at hl 0 rfl) ?_
        refine x_gR (q := (RX0, TX0, 33)) (j := 6) G C h rfl (by decide) (fun _ _ _ => rfl) (lk C q211) (fun _ z => z) dX0_set_49 hf (fun r4 hf => ?_)
        refine lv_iload_n hx hb dX0_set_52 rfl (lv_at hl 1 rfl) ?_
        refine x_iald G C h dX0_set_53 hf (fun x5 hf => ?_)
        refine lv_istore_n (lv' := [(3, .int x5), (0, .ref a0), (1, .int a1), (2, .int a2)]) hx hb dX0_set_54 rfl hl (by decide) rfl (fun ls hl => ?_)
        refine lv_aload_n hx hb dX0_set_55 rfl (lv_at hl 1 rfl) ?_
        refine x_gR (q := (RX0, TX0, 33)) (j := 6) G C h rfl (by decide) (fun _ _ _ => rfl) (lk C q211) (fun _ z => z) dX0_set_56 hf (fun r6 hf => ?_)
        refine lv_iload_n hx hb dX0_set_59 rfl (lv_at hl 2 rfl) ?_
        refine lv_iload_n hx hb dX0_set_60 rfl (lv_at hl 3 rfl) ?_
        refine x_iast G C h dX0_set_61 hf (fun σ7 H locs h hf => ?_)
        refine lv_iload_n hx hb dX0_set_62 rfl (lv_at hl 0 rfl) ?_
        cases hf
        refine W.widen (k := 0) (n := 0) (Nat.le_of_ble_eq_true rfl) (Nat.le_of_ble_eq_true rfl) ?_
        exact x_iret C h dX0_set_63
      · have hf := hf_t hc hf
        refine lv_bipush (v := (-3)) hx hb dX0_set_45 (by decide) ?_
        cases hf
        refine W.widen (k := 0) (n := 0) (Nat.le_of_ble_eq_true rfl) (Nat.le_of_ble_eq_true rfl) ?_
        exact x_iret C h dX0_set_47
    intro j39 hj39 hf
    refine lv_if_ne (tgt := 25) hx hb dX0_set_16 (by decide) (fun hc => ?_) (fun hc => ?_)
    · have hf := hf_f hc hf
      refine lv_iload_n hx hb dX0_set_25 rfl (lv_at hl 1 rfl) ?_
      refine lv_iconst (v := 4) hx hb dX0_set_26 (by decide) ?_
      refine lv_icmp_ne (tgt := 36) hx hb dX0_set_27 (by decide) (fun hc => ?_) (fun hc => ?_)
      · have hf := hf_f hc hf
        refine lv_ldc2 (v := 99) hx hb C.2.2.2.1 (C.2.2.2.2.1 _ q321) dX0_set_36 ?_
        exact hj39 _ hf _ _ _ h (lv_sub hl [0, 1, 2] rfl)
      · have hf := hf_t hc hf
        refine lv_ldc2 (v := 9) hx hb C.2.2.2.1 (C.2.2.2.2.1 _ q354) dX0_set_30 ?_
        refine lv_goto (tgt := 39) hx hb dX0_set_33 (by decide) ?_
        exact hj39 _ hf _ _ _ h (lv_sub hl [0, 1, 2] rfl)
    · have hf := hf_t hc hf
      refine lv_ldc2 (v := 60) hx hb C.2.2.2.1 (C.2.2.2.2.1 _ q402) dX0_set_19 ?_
      refine lv_goto (tgt := 39) hx hb dX0_set_22 (by decide) ?_
      exact hj39 _ hf _ _ _ h (lv_sub hl [0, 1, 2] rfl)

theorem dX0_areHours_0 : decode cX0_areHours 0 = .ok (.iload_n 0, 1) := by decide +kernel
theorem dX0_areHours_1 : decode cX0_areHours 1 = .ok (.i2l, 1) := by decide +kernel
theorem dX0_areHours_2 : decode cX0_areHours 2 = .ok (.lconst 1, 1) := by decide +kernel
theorem dX0_areHours_3 : decode cX0_areHours 3 = .ok (.ldc2_w 197, 3) := by decide +kernel
theorem dX0_areHours_6 : decode cX0_areHours 6 = .ok (.invokestatic 127, 3) := by decide +kernel
theorem dX0_areHours_9 : decode cX0_areHours 9 = .ok (.ireturn, 1) := by decide +kernel
def fX0_areHours (σ : St) (a0 : Int32) : Option (Int32) :=
  (fX0_isIn σ (a0.toInt64) 1 60).bind fun x1 =>
  o_bz x1 <| some x1

set_option maxHeartbeats 4000000 in
theorem wX0_areHours {l : Launch} {s0 : State} {A0 : Array Value} {D : va_G} {ac : Nat → ClassId} (G : Gl s0 A0 D ac) {σ : St} {a0 : Int32} {v : Int32} (hf : fX0_areHours σ a0 = some (v)) : Met l yX0_areHours (ws_ yX0_areHours cX0_areHours 1 (some (.boolean))) ({ frames := 1, cells := 0, slots := 0, locals := 25 } : Room) (Pn s0 D ac [.int a0] σ) (Qn s0 D ac (some (.int v)) σ) 0 0 (fr s0) := by
  refine x_met (by decide) (Nat.le_of_ble_eq_true rfl) ?_
  intro p e s m args below meth c ls C hnm h hl
  have C : Cx s0 p s m args meth c cX0_areHours 1 "HutForShow" (some (.boolean)) := C
  have hx := C.1
  have hb := C.2.1
  have hl : lv_has ls 1 [(0, .int a0)] := hl
  unfold fX0_areHours at hf
  refine lv_iload_n hx hb dX0_areHours_0 rfl (lv_at hl 0 rfl) ?_
  refine lv_i2l hx hb dX0_areHours_1 rfl ?_
  refine lv_lconst (v := 1) hx hb dX0_areHours_2 (by decide) ?_
  refine lv_ldc2 (v := 60) hx hb C.2.2.2.1 (C.2.2.2.2.1 _ q402) dX0_areHours_3 ?_
  obtain ⟨x1, hc, hf⟩ := hf_b hf
  refine x_cS (rest := []) (As := [.long (a0.toInt64), .long 1, .long 60]) (n := 3) (ov := (some (.int x1))) C h (wX0_isIn G hc) (lw_S q318 q319 q54 q320) (by decide +kernel) ⟨Nat.le_of_ble_eq_true rfl, Nat.le_of_ble_eq_true rfl⟩ rfl rfl rfl hl.1 rfl (Nat.le_of_ble_eq_true rfl) dX0_areHours_6 ⟨(Nat.le_of_ble_eq_true rfl), (Nat.le_of_ble_eq_true rfl)⟩ (fun H locs h => ?_)
  obtain ⟨hz, hf⟩ := bz_of hf
  cases hf
  refine W.widen (k := 0) (n := 0) (Nat.le_of_ble_eq_true rfl) (Nat.le_of_ble_eq_true rfl) ?_
  exact x_zret C h hz dX0_areHours_9

theorem dX16_value_0 : decode cX16_value 0 = .ok (.aload_n 0, 1) := by decide +kernel
theorem dX16_value_1 : decode cX16_value 1 = .ok (.getfield 7, 3) := by decide +kernel
theorem dX16_value_4 : decode cX16_value 4 = .ok (.tableswitch 69 0 4 #[36, 43, 49, 55, 62], 36) := by decide +kernel
theorem dX16_value_40 : decode cX16_value 40 = .ok (.aload_n 1, 1) := by decide +kernel
theorem dX16_value_41 : decode cX16_value 41 = .ok (.getfield 24, 3) := by decide +kernel
theorem dX16_value_44 : decode cX16_value 44 = .ok (.iload_n 2, 1) := by decide +kernel
theorem dX16_value_45 : decode cX16_value 45 = .ok (.iaload, 1) := by decide +kernel
theorem dX16_value_46 : decode cX16_value 46 = .ok (.ireturn, 1) := by decide +kernel
theorem dX16_value_47 : decode cX16_value 47 = .ok (.aload_n 1, 1) := by decide +kernel
theorem dX16_value_48 : decode cX16_value 48 = .ok (.iload_n 2, 1) := by decide +kernel
theorem dX16_value_49 : decode cX16_value 49 = .ok (.invokevirtual 30, 3) := by decide +kernel
theorem dX16_value_52 : decode cX16_value 52 = .ok (.ireturn, 1) := by decide +kernel
theorem dX16_value_53 : decode cX16_value 53 = .ok (.aload_n 1, 1) := by decide +kernel
theorem dX16_value_54 : decode cX16_value 54 = .ok (.iload_n 2, 1) := by decide +kernel
theorem dX16_value_55 : decode cX16_value 55 = .ok (.invokevirtual 34, 3) := by decide +kernel
theorem dX16_value_58 : decode cX16_value 58 = .ok (.ireturn, 1) := by decide +kernel
theorem dX16_value_59 : decode cX16_value 59 = .ok (.aload_n 1, 1) := by decide +kernel
theorem dX16_value_60 : decode cX16_value 60 = .ok (.getfield 37, 3) := by decide +kernel
theorem dX16_value_63 : decode cX16_value 63 = .ok (.iload_n 2, 1) := by decide +kernel
theorem dX16_value_64 : decode cX16_value 64 = .ok (.iaload, 1) := by decide +kernel
theorem dX16_value_65 : decode cX16_value 65 = .ok (.ireturn, 1) := by decide +kernel
theorem dX16_value_66 : decode cX16_value 66 = .ok (.aload_n 1, 1) := by decide +kernel
theorem dX16_value_67 : decode cX16_value 67 = .ok (.getfield 40, 3) := by decide +kernel
theorem dX16_value_70 : decode cX16_value 70 = .ok (.iload_n 2, 1) := by decide +kernel
theorem dX16_value_71 : decode cX16_value 71 = .ok (.iaload, 1) := by decide +kernel
theorem dX16_value_72 : decode cX16_value 72 = .ok (.ireturn, 1) := by decide +kernel
theorem dX16_value_73 : decode cX16_value 73 = .ok (.aload_n 1, 1) := by decide +kernel
theorem dX16_value_74 : decode cX16_value 74 = .ok (.getfield 43, 3) := by decide +kernel
theorem dX16_value_77 : decode cX16_value 77 = .ok (.bipush 24, 2) := by decide +kernel
theorem dX16_value_79 : decode cX16_value 79 = .ok (.irem, 1) := by decide +kernel
theorem dX16_value_80 : decode cX16_value 80 = .ok (.ireturn, 1) := by decide +kernel
def fX16_value (σ : St) (a0 : Nat) (a1 : Nat) (a2 : Int32) : Option (Int32) :=
  o_gI σ a0 13 0 fun x1 =>
  if x1 = 0 then
    o_gR σ a1 3 1 fun r2 =>
    o_aI σ r2 0 a2 fun x3 =>
    some x3
  else if x1 = 1 then
    o_k σ a1 3 <|
    (fX5_many σ a1 a2).bind fun x4 =>
    some x4
  else if x1 = 2 then
    o_k σ a1 3 <|
    (fX5_blue σ a1 a2).bind fun x5 =>
    some x5
  else if x1 = 3 then
    o_gR σ a1 3 2 fun r6 =>
    o_aI σ r6 0 a2 fun x7 =>
    some x7
  else if x1 = 4 then
    o_gR σ a1 3 3 fun r8 =>
    o_aI σ r8 0 a2 fun x9 =>
    some x9
  else 
  o_gI σ a1 3 0 fun x10 =>
  some (x10 - x10 / 24 * 24)

set_option maxHeartbeats 4000000 in
theorem wX16_value {l : Launch} {s0 : State} {A0 : Array Value} {D : va_G} {ac : Nat → ClassId} (G : Gl s0 A0 D ac) {σ : St} {a0 : Nat} {a1 : Nat} {a2 : Int32} {v : Int32} (hf : fX16_value σ a0 a1 a2 = some (v)) : Met l yX16_value (ws_ yX16_value cX16_value 3 (some (.int))) ({ frames := 1, cells := 0, slots := 0, locals := 23 } : Room) (Pn s0 D ac [.ref a0, .ref a1, .int a2] σ) (Qn s0 D ac (some (.int v)) σ) 0 0 (fr s0) := by
  refine x_met (by decide) (Nat.le_of_ble_eq_true rfl) ?_
  intro p e s m args below meth c ls C hnm h hl
  have C : Cx s0 p s m args meth c cX16_value 3 "HutForShow$Test" (some (.int)) := C
  have hx := C.1
  have hb := C.2.1
  have hl : lv_has ls 3 [(0, .ref a0), (1, .ref a1), (2, .int a2)] := hl
  unfold fX16_value at hf
  refine lv_aload_n hx hb dX16_value_0 rfl (lv_at hl 0 rfl) ?_
  refine x_gI (q := (RX16, TX16, 3)) (j := 0) G C h rfl (by decide) (fun _ _ _ => rfl) (lk C q757) (fun _ z => z) dX16_value_1 hf (fun x1 hf => ?_)
  by_cases hc : x1 = 0
  · have hf := hf_t hc hf
    rw [hc]
    refine lv_tableIn (tgt := 40) hx hb dX16_value_4 (by decide) (by decide) rfl (by decide) ?_
    refine lv_aload_n hx hb dX16_value_40 rfl (lv_at hl 1 rfl) ?_
    refine x_gR (q := (RX5, TX5, 9)) (j := 1) G C h rfl (by decide) (fun _ _ _ => rfl) (lkn G C q127) (fun _ z => z) dX16_value_41 hf (fun r2 hf => ?_)
    refine lv_iload_n hx hb dX16_value_44 rfl (lv_at hl 2 rfl) ?_
    refine x_iald G C h dX16_value_45 hf (fun x3 hf => ?_)
    cases hf
    refine W.widen (k := 0) (n := 0) (Nat.le_of_ble_eq_true rfl) (Nat.le_of_ble_eq_true rfl) ?_
    exact x_iret C h dX16_value_46
  have hf := hf_f hc hf
  have hc0 := hc
  clear hc
  by_cases hc : x1 = 1
  · have hf := hf_t hc hf
    rw [hc]
    refine lv_tableIn (tgt := 47) hx hb dX16_value_4 (by decide) (by decide) rfl (by decide) ?_
    refine lv_aload_n hx hb dX16_value_47 rfl (lv_at hl 1 rfl) ?_
    refine lv_iload_n hx hb dX16_value_48 rfl (lv_at hl 2 rfl) ?_
    obtain ⟨hk, hf⟩ := k_of hf
    obtain ⟨x4, hc, hf⟩ := hf_b hf
    refine x_cV (q := (RX5, TX5, 9)) (rest := []) (As := [.int a2]) (n := 1) (ov := (some (.int x4))) G C h (wX5_many G hc) hk rfl (lw_V q431 q357 q358 q59 q359) (by decide +kernel) ⟨Nat.le_of_ble_eq_true rfl, Nat.le_of_ble_eq_true rfl⟩ rfl rfl rfl hl.1 rfl (Nat.le_of_ble_eq_true rfl) dX16_value_49 ⟨(Nat.le_of_ble_eq_true rfl), (Nat.le_of_ble_eq_true rfl)⟩ (fun H locs h => ?_)
    cases hf
    refine W.widen (k := 0) (n := 0) (Nat.le_of_ble_eq_true rfl) (Nat.le_of_ble_eq_true rfl) ?_
    exact x_iret C h dX16_value_52
  have hf := hf_f hc hf
  have hc1 := hc
  clear hc
  by_cases hc : x1 = 2
  · have hf := hf_t hc hf
    rw [hc]
    refine lv_tableIn (tgt := 53) hx hb dX16_value_4 (by decide) (by decide) rfl (by decide) ?_
    refine lv_aload_n hx hb dX16_value_53 rfl (lv_at hl 1 rfl) ?_
    refine lv_iload_n hx hb dX16_value_54 rfl (lv_at hl 2 rfl) ?_
    obtain ⟨hk, hf⟩ := k_of hf
    obtain ⟨x5, hc, hf⟩ := hf_b hf
    refine x_cV (q := (RX5, TX5, 9)) (rest := []) (As := [.int a2]) (n := 1) (ov := (some (.int x5))) G C h (wX5_blue G hc) hk rfl (lw_V q432 q394 q395 q59 q396) (by decide +kernel) ⟨Nat.le_of_ble_eq_true rfl, Nat.le_of_ble_eq_true rfl⟩ rfl rfl rfl hl.1 rfl (Nat.le_of_ble_eq_true rfl) dX16_value_55 ⟨(Nat.le_of_ble_eq_true rfl), (Nat.le_of_ble_eq_true rfl)⟩ (fun H locs h => ?_)
    cases hf
    refine W.widen (k := 0) (n := 0) (Nat.le_of_ble_eq_true rfl) (Nat.le_of_ble_eq_true rfl) ?_
    exact x_iret C h dX16_value_58
  have hf := hf_f hc hf
  have hc2 := hc
  clear hc
  by_cases hc : x1 = 3
  · have hf := hf_t hc hf
    rw [hc]
    refine lv_tableIn (tgt := 59) hx hb dX16_value_4 (by decide) (by decide) rfl (by decide) ?_
    refine lv_aload_n hx hb dX16_value_59 rfl (lv_at hl 1 rfl) ?_
    refine x_gR (q := (RX5, TX5, 9)) (j := 2) G C h rfl (by decide) (fun _ _ _ => rfl) (lkn G C q132) (fun _ z => z) dX16_value_60 hf (fun r6 hf => ?_)
    refine lv_iload_n hx hb dX16_value_63 rfl (lv_at hl 2 rfl) ?_
    refine x_iald G C h dX16_value_64 hf (fun x7 hf => ?_)
    cases hf
    refine W.widen (k := 0) (n := 0) (Nat.le_of_ble_eq_true rfl) (Nat.le_of_ble_eq_true rfl) ?_
    exact x_iret C h dX16_value_65
  have hf := hf_f hc hf
  have hc3 := hc
  clear hc
  by_cases hc : x1 = 4
  · have hf := hf_t hc hf
    rw [hc]
    refine lv_tableIn (tgt := 66) hx hb dX16_value_4 (by decide) (by decide) rfl (by decide) ?_
    refine lv_aload_n hx hb dX16_value_66 rfl (lv_at hl 1 rfl) ?_
    refine x_gR (q := (RX5, TX5, 9)) (j := 3) G C h rfl (by decide) (fun _ _ _ => rfl) (lkn G C q135) (fun _ z => z) dX16_value_67 hf (fun r8 hf => ?_)
    refine lv_iload_n hx hb dX16_value_70 rfl (lv_at hl 2 rfl) ?_
    refine x_iald G C h dX16_value_71 hf (fun x9 hf => ?_)
    cases hf
    refine W.widen (k := 0) (n := 0) (Nat.le_of_ble_eq_true rfl) (Nat.le_of_ble_eq_true rfl) ?_
    exact x_iret C h dX16_value_72
  have hf := hf_f hc hf
  have hc4 := hc
  clear hc
  refine lv_tableOut (tgt := 73) hx hb dX16_value_4 (sw_out5 hc0 hc1 hc2 hc3 hc4) (by decide) ?_
  refine lv_aload_n hx hb dX16_value_73 rfl (lv_at hl 1 rfl) ?_
  refine x_gI (q := (RX5, TX5, 9)) (j := 0) G C h rfl (by decide) (fun _ _ _ => rfl) (lkn G C q123) (fun _ z => z) dX16_value_74 hf (fun x10 hf => ?_)
  refine lv_bipush (v := 24) hx hb dX16_value_77 (by decide) ?_
  refine lv_irem hx hb dX16_value_79 (by decide) ?_
  cases hf
  refine W.widen (k := 0) (n := 0) (Nat.le_of_ble_eq_true rfl) (Nat.le_of_ble_eq_true rfl) ?_
  exact x_iret C h dX16_value_80

theorem dX16_holds_0 : decode cX16_holds 0 = .ok (.aload_n 0, 1) := by decide +kernel
theorem dX16_holds_1 : decode cX16_holds 1 = .ok (.aload_n 1, 1) := by decide +kernel
theorem dX16_holds_2 : decode cX16_holds 2 = .ok (.iload_n 2, 1) := by decide +kernel
theorem dX16_holds_3 : decode cX16_holds 3 = .ok (.invokevirtual 20, 3) := by decide +kernel
theorem dX16_holds_6 : decode cX16_holds 6 = .ok (.istore_n 3, 1) := by decide +kernel
theorem dX16_holds_7 : decode cX16_holds 7 = .ok (.aload_n 0, 1) := by decide +kernel
theorem dX16_holds_8 : decode cX16_holds 8 = .ok (.getfield 13, 3) := by decide +kernel
theorem dX16_holds_11 : decode cX16_holds 11 = .ok (.ifCond .eq 19, 3) := by decide +kernel
theorem dX16_holds_14 : decode cX16_holds 14 = .ok (.iload_n 3, 1) := by decide +kernel
theorem dX16_holds_15 : decode cX16_holds 15 = .ok (.aload_n 0, 1) := by decide +kernel
theorem dX16_holds_16 : decode cX16_holds 16 = .ok (.getfield 17, 3) := by decide +kernel
theorem dX16_holds_19 : decode cX16_holds 19 = .ok (.if_icmp .le 7, 3) := by decide +kernel
theorem dX16_holds_22 : decode cX16_holds 22 = .ok (.iconst 1, 1) := by decide +kernel
theorem dX16_holds_23 : decode cX16_holds 23 = .ok (.goto 20, 3) := by decide +kernel
theorem dX16_holds_26 : decode cX16_holds 26 = .ok (.iconst 0, 1) := by decide +kernel
theorem dX16_holds_27 : decode cX16_holds 27 = .ok (.goto 16, 3) := by decide +kernel
theorem dX16_holds_30 : decode cX16_holds 30 = .ok (.iload_n 3, 1) := by decide +kernel
theorem dX16_holds_31 : decode cX16_holds 31 = .ok (.aload_n 0, 1) := by decide +kernel
theorem dX16_holds_32 : decode cX16_holds 32 = .ok (.getfield 17, 3) := by decide +kernel
theorem dX16_holds_35 : decode cX16_holds 35 = .ok (.if_icmp .ge 7, 3) := by decide +kernel
theorem dX16_holds_38 : decode cX16_holds 38 = .ok (.iconst 1, 1) := by decide +kernel
theorem dX16_holds_39 : decode cX16_holds 39 = .ok (.goto 4, 3) := by decide +kernel
theorem dX16_holds_42 : decode cX16_holds 42 = .ok (.iconst 0, 1) := by decide +kernel
theorem dX16_holds_43 : decode cX16_holds 43 = .ok (.ireturn, 1) := by decide +kernel
def fX16_holds (σ : St) (a0 : Nat) (a1 : Nat) (a2 : Int32) : Option (Int32) :=
  o_k σ a0 13 <|
  (fX16_value σ a0 a1 a2).bind fun x1 =>
  o_gI σ a0 13 1 fun x2 =>
  if x2 = 0 then
    o_gI σ a0 13 2 fun x3 =>
    if x3 ≤ x1 then
      some 0
    else
    some 1
  else
  o_gI σ a0 13 2 fun x4 =>
  if x1 ≤ x4 then
    some 0
  else
  some 1

set_option maxHeartbeats 4000000 in
theorem wX16_holds {l : Launch} {s0 : State} {A0 : Array Value} {D : va_G} {ac : Nat → ClassId} (G : Gl s0 A0 D ac) {σ : St} {a0 : Nat} {a1 : Nat} {a2 : Int32} {v : Int32} (hf : fX16_holds σ a0 a1 a2 = some (v)) : Met l yX16_holds (ws_ yX16_holds cX16_holds 4 (some (.boolean))) ({ frames := 2, cells := 0, slots := 0, locals := 45 } : Room) (Pn s0 D ac [.ref a0, .ref a1, .int a2] σ) (Qn s0 D ac (some (.int v)) σ) 0 0 (fr s0) := by
  refine x_met (by decide) (Nat.le_of_ble_eq_true rfl) ?_
  intro p e s m args below meth c ls C hnm h hl
  have C : Cx s0 p s m args meth c cX16_holds 4 "HutForShow$Test" (some (.boolean)) := C
  have hx := C.1
  have hb := C.2.1
  have hl : lv_has ls 4 [(0, .ref a0), (1, .ref a1), (2, .int a2)] := hl
  unfold fX16_holds at hf
  refine lv_aload_n hx hb dX16_holds_0 rfl (lv_at hl 0 rfl) ?_
  refine lv_aload_n hx hb dX16_holds_1 rfl (lv_at hl 1 rfl) ?_
  refine lv_iload_n hx hb dX16_holds_2 rfl (lv_at hl 2 rfl) ?_
  obtain ⟨hk, hf⟩ := k_of hf
  obtain ⟨x1, hc, hf⟩ := hf_b hf
  refine x_cV (q := (RX16, TX16, 3)) (rest := []) (As := [.ref a1, .int a2]) (n := 2) (ov := (some (.int x1))) G C h (wX16_value G hc) hk rfl (lw_V q426 q428 qs2 q77 q430) (by decide +kernel) ⟨Nat.le_of_ble_eq_true rfl, Nat.le_of_ble_eq_true rfl⟩ rfl rfl rfl hl.1 rfl (Nat.le_of_ble_eq_true rfl) dX16_holds_3 ⟨(Nat.le_of_ble_eq_true rfl), (Nat.le_of_ble_eq_true rfl)⟩ (fun H locs h => ?_)
  refine lv_istore_n (lv' := [(3, .int x1), (0, .ref a0), (1, .ref a1), (2, .int a2)]) hx hb dX16_holds_6 rfl hl (by decide) rfl (fun ls hl => ?_)
  refine lv_aload_n hx hb dX16_holds_7 rfl (lv_at hl 1 rfl) ?_
  refine x_gI (q := (RX16, TX16, 3)) (j := 1) G C h rfl (by decide) (fun _ _ _ => rfl) (lk C q758) (fun _ z => z) dX16_holds_8 hf (fun x2 hf => ?_)
  refine lv_if_eq (tgt := 30) hx hb dX16_holds_11 (by decide) (fun hc => ?_) (fun hc => ?_)
  · have hf := hf_t hc hf
    refine lv_iload_n hx hb dX16_holds_30 rfl (lv_at hl 0 rfl) ?_
    refine lv_aload_n hx hb dX16_holds_31 rfl (lv_at hl 1 rfl) ?_
    refine x_gI (q := (RX16, TX16, 3)) (j := 2) G C h rfl (by decide) (fun _ _ _ => rfl) (lk C q759) (fun _ z => z) dX16_holds_32 hf (fun x3 hf => ?_)
    refine lv_icmp_ge (tgt := 42) hx hb dX16_holds_35 (by decide) (fun hc => ?_) (fun hc => ?_)
    · have hf := hf_t hc hf
      refine lv_iconst (v := 0) hx hb dX16_holds_42 (by decide) ?_
      cases hf
      refine W.widen (k := 0) (n := 0) (Nat.le_of_ble_eq_true rfl) (Nat.le_of_ble_eq_true rfl) ?_
      exact x_zret C h (by decide) dX16_holds_43
    · have hf := hf_f hc hf
      refine lv_iconst (v := 1) hx hb dX16_holds_38 (by decide) ?_
      refine lv_goto (tgt := 43) hx hb dX16_holds_39 (by decide) ?_
      cases hf
      refine W.widen (k := 0) (n := 0) (Nat.le_of_ble_eq_true rfl) (Nat.le_of_ble_eq_true rfl) ?_
      exact x_zret C h (by decide) dX16_holds_43
  · have hf := hf_f hc hf
    refine lv_iload_n hx hb dX16_holds_14 rfl (lv_at hl 0 rfl) ?_
    refine lv_aload_n hx hb dX16_holds_15 rfl (lv_at hl 1 rfl) ?_
    refine x_gI (q := (RX16, TX16, 3)) (j := 2) G C h rfl (by decide) (fun _ _ _ => rfl) (lk C q759) (fun _ z => z) dX16_holds_16 hf (fun x4 hf => ?_)
    refine lv_icmp_le (tgt := 26) hx hb dX16_holds_19 (by decide) (fun hc => ?_) (fun hc => ?_)
    · have hf := hf_t hc hf
      refine lv_iconst (v := 0) hx hb dX16_holds_26 (by decide) ?_
      refine lv_goto (tgt := 43) hx hb dX16_holds_27 (by decide) ?_
      cases hf
      refine W.widen (k := 0) (n := 0) (Nat.le_of_ble_eq_true rfl) (Nat.le_of_ble_eq_true rfl) ?_
      exact x_zret C h (by decide) dX16_holds_43
    · have hf := hf_f hc hf
      refine lv_iconst (v := 1) hx hb dX16_holds_22 (by decide) ?_
      refine lv_goto (tgt := 43) hx hb dX16_holds_23 (by decide) ?_
      cases hf
      refine W.widen (k := 0) (n := 0) (Nat.le_of_ble_eq_true rfl) (Nat.le_of_ble_eq_true rfl) ?_
      exact x_zret C h (by decide) dX16_holds_43

theorem dX11_act_0 : decode cX11_act 0 = .ok (.iconst 0, 1) := by decide +kernel
theorem dX11_act_1 : decode cX11_act 1 = .ok (.istore_n 3, 1) := by decide +kernel
theorem dX11_act_2 : decode cX11_act 2 = .ok (.iload_n 3, 1) := by decide +kernel
theorem dX11_act_3 : decode cX11_act 3 = .ok (.aload_n 0, 1) := by decide +kernel
theorem dX11_act_4 : decode cX11_act 4 = .ok (.getfield 30, 3) := by decide +kernel
theorem dX11_act_7 : decode cX11_act 7 = .ok (.if_icmp .ge 73, 3) := by decide +kernel
theorem dX11_act_10 : decode cX11_act 10 = .ok (.iconst 1, 1) := by decide +kernel
theorem dX11_act_11 : decode cX11_act 11 = .ok (.istore 4, 2) := by decide +kernel
theorem dX11_act_13 : decode cX11_act 13 = .ok (.iconst 0, 1) := by decide +kernel
theorem dX11_act_14 : decode cX11_act 14 = .ok (.istore 5, 2) := by decide +kernel
theorem dX11_act_16 : decode cX11_act 16 = .ok (.iload 5, 2) := by decide +kernel
theorem dX11_act_18 : decode cX11_act 18 = .ok (.aload_n 0, 1) := by decide +kernel
theorem dX11_act_19 : decode cX11_act 19 = .ok (.getfield 26, 3) := by decide +kernel
theorem dX11_act_22 : decode cX11_act 22 = .ok (.iload_n 3, 1) := by decide +kernel
theorem dX11_act_23 : decode cX11_act 23 = .ok (.iaload, 1) := by decide +kernel
theorem dX11_act_24 : decode cX11_act 24 = .ok (.if_icmp .ge 38, 3) := by decide +kernel
theorem dX11_act_27 : decode cX11_act 27 = .ok (.iload 4, 2) := by decide +kernel
theorem dX11_act_29 : decode cX11_act 29 = .ok (.ifCond .eq 24, 3) := by decide +kernel
theorem dX11_act_32 : decode cX11_act 32 = .ok (.aload_n 0, 1) := by decide +kernel
theorem dX11_act_33 : decode cX11_act 33 = .ok (.getfield 23, 3) := by decide +kernel
theorem dX11_act_36 : decode cX11_act 36 = .ok (.iload_n 3, 1) := by decide +kernel
theorem dX11_act_37 : decode cX11_act 37 = .ok (.aaload, 1) := by decide +kernel
theorem dX11_act_38 : decode cX11_act 38 = .ok (.iload 5, 2) := by decide +kernel
theorem dX11_act_40 : decode cX11_act 40 = .ok (.aaload, 1) := by decide +kernel
theorem dX11_act_41 : decode cX11_act 41 = .ok (.aload_n 1, 1) := by decide +kernel
theorem dX11_act_42 : decode cX11_act 42 = .ok (.iload_n 2, 1) := by decide +kernel
theorem dX11_act_43 : decode cX11_act 43 = .ok (.invokevirtual 52, 3) := by decide +kernel
theorem dX11_act_46 : decode cX11_act 46 = .ok (.ifCond .eq 7, 3) := by decide +kernel
theorem dX11_act_49 : decode cX11_act 49 = .ok (.iconst 1, 1) := by decide +kernel
theorem dX11_act_50 : decode cX11_act 50 = .ok (.goto 4, 3) := by decide +kernel
theorem dX11_act_53 : decode cX11_act 53 = .ok (.iconst 0, 1) := by decide +kernel
theorem dX11_act_54 : decode cX11_act 54 = .ok (.istore 4, 2) := by decide +kernel
theorem dX11_act_56 : decode cX11_act 56 = .ok (.iinc 5 1, 3) := by decide +kernel
theorem dX11_act_59 : decode cX11_act 59 = .ok (.goto (-43), 3) := by decide +kernel
theorem dX11_act_62 : decode cX11_act 62 = .ok (.iload 4, 2) := by decide +kernel
theorem dX11_act_64 : decode cX11_act 64 = .ok (.ifCond .eq 10, 3) := by decide +kernel
theorem dX11_act_67 : decode cX11_act 67 = .ok (.aload_n 0, 1) := by decide +kernel
theorem dX11_act_68 : decode cX11_act 68 = .ok (.getfield 17, 3) := by decide +kernel
theorem dX11_act_71 : decode cX11_act 71 = .ok (.iload_n 3, 1) := by decide +kernel
theorem dX11_act_72 : decode cX11_act 72 = .ok (.aaload, 1) := by decide +kernel
theorem dX11_act_73 : decode cX11_act 73 = .ok (.areturn, 1) := by decide +kernel
theorem dX11_act_74 : decode cX11_act 74 = .ok (.iinc 3 1, 3) := by decide +kernel
theorem dX11_act_77 : decode cX11_act 77 = .ok (.goto (-75), 3) := by decide +kernel
theorem dX11_act_80 : decode cX11_act 80 = .ok (.aload_n 0, 1) := by decide +kernel
theorem dX11_act_81 : decode cX11_act 81 = .ok (.getfield 3, 3) := by decide +kernel
theorem dX11_act_84 : decode cX11_act 84 = .ok (.getfield 58, 3) := by decide +kernel
theorem dX11_act_87 : decode cX11_act 87 = .ok (.areturn, 1) := by decide +kernel
def lX11_act_16 (σ : St) (a0 : Nat) (x1 : Int32) (a1 : Nat) (a2 : Int32) (x3 : Int32) (x4 : Int32) : Option ((Int32 × Int32) ⊕ (Int32)) :=
  o_gR σ a0 8 3 fun r5 =>
  o_aI σ r5 0 x1 fun x6 =>
  if x6 ≤ x4 then
    some (.inr x3)
  else
  jn (fun (x11 : Int32) =>
    some (.inl (x11, x4 + 1))) fun j54 =>
  jn (fun (_ : Unit) =>
    j54 0) fun j53 =>
  if x3 = 0 then
    j53 ()
  else
  o_gR σ a0 8 2 fun r7 =>
  o_aR σ r7 10 x1 fun r8 =>
  o_aR σ r8 9 x4 fun r9 =>
  o_k σ r9 13 <|
  (fX16_holds σ r9 a1 a2).bind fun x10 =>
  if x10 = 0 then
    j53 ()
  else
  j54 1

def lX11_act_2 (σ : St) (a0 : Nat) (a1 : Nat) (a2 : Int32) (x1 : Int32) : Option ((Int32) ⊕ ((Int32) ⊕ (Unit))) :=
  o_gI σ a0 8 0 fun x2 =>
  if x2 ≤ x1 then
    some (.inr (.inr ()))
  else
  (loopF fuel (fun z => lX11_act_16 σ a0 x1 a1 a2 z.1 z.2) (1, 0)).bind <| fun x12 =>
  if x12 = 0 then
    some (.inl (x1 + 1))
  else
  some (.inr (.inl x1))

def fX11_act (σ : St) (a0 : Nat) (a1 : Nat) (a2 : Int32) : Option (Nat) :=
  (loopF fuel (fun z => lX11_act_2 σ a0 a1 a2 z) 0).bind <| sm (  fun x13 =>
    o_gR σ a0 8 1 fun r14 =>
    o_aR σ r14 5 x13 fun r15 =>
    some r15) <| fun (_ : Unit) =>
  o_gR σ a0 8 4 fun r16 =>
  o_gR σ r16 0 0 fun r17 =>
  some r17

set_option maxHeartbeats 4000000 in
theorem wX11_act {l : Launch} {s0 : State} {A0 : Array Value} {D : va_G} {ac : Nat → ClassId} (G : Gl s0 A0 D ac) {σ : St} {a0 : Nat} {a1 : Nat} {a2 : Int32} {v : Nat} (hf : fX11_act σ a0 a1 a2 = some (v)) : Met l yX11_act (ws_ yX11_act cX11_act 6 (some (.object "HutForShow$Act"))) ({ frames := 3, cells := 0, slots := 0, locals := 68 } : Room) (Pn s0 D ac [.ref a0, .ref a1, .int a2] σ) (Qn s0 D ac (some (.ref v)) σ) 0 0 (fr s0) := by
  refine x_met (by decide) (Nat.le_of_ble_eq_true rfl) ?_
  intro p e s m args below meth c ls C hnm h hl
  have C : Cx s0 p s m args meth c cX11_act 6 "HutForShow$Habit" (some (.object "HutForShow$Act")) := C
  have hx := C.1
  have hb := C.2.1
  have hl : lv_has ls 6 [(0, .ref a0), (1, .ref a1), (2, .int a2)] := hl
  unfold fX11_act at hf
  refine lv_iconst (v := 0) hx hb dX11_act_0 (by decide) ?_
  refine lv_istore_n (lv' := [(3, .int 0), (0, .ref a0), (1, .ref a1), (2, .int a2)]) hx hb dX11_act_1 rfl hl (by decide) rfl (fun ls hl => ?_)
  obtain ⟨e2, hL, hK⟩ := hf_b hf
  have hE2_0 : ∀ (x13 : Int32), (.inl x13) = e2 → ∀  (H : Heap) (locs : List Loc) (ls : Array Slot), Hs s0 D ac σ H locs → lv_has ls 6 [(0, .ref a0), (1, .ref a1), (2, .int a2), (3, .int x13)] → W p l e ({ frames := 3, cells := 0, slots := 0, locals := 68 } : Room) s m args below meth c H locs 0 0 (MQ below (Qn s0 D ac (some (.ref v)) σ) args s 0 0 (fr s0)) (F0 m 67 ls []) := by
    intro x13 he H locs ls h hl
    subst he
    have hf := hK
    have hf := hf_sl hf
    refine lv_aload_n hx hb dX11_act_67 rfl (lv_at hl 0 rfl) ?_
    refine x_gR (q := (RX11, TY11, 5)) (j := 1) G C h rfl (by decide) (fun _ _ _ => rfl) (lk C q528) (fun _ z => z) dX11_act_68 hf (fun r14 hf => ?_)
    refine lv_iload_n hx hb dX11_act_71 rfl (lv_at hl 3 rfl) ?_
    refine x_aald (q := 5) rfl rfl (fun _ _ _ => rfl) G C h dX11_act_72 hf (fun r15 hf => ?_)
    cases hf
    refine W.widen (k := 0) (n := 0) (Nat.le_of_ble_eq_true rfl) (Nat.le_of_ble_eq_true rfl) ?_
    exact x_aret C h dX11_act_73
  have hE2_1 : (.inr ()) = e2 → ∀  (H : Heap) (locs : List Loc) (ls : Array Slot), Hs s0 D ac σ H locs → lv_has ls 6 [(0, .ref a0), (1, .ref a1), (2, .int a2)] → W p l e ({ frames := 3, cells := 0, slots := 0, locals := 68 } : Room) s m args below meth c H locs 0 0 (MQ below (Qn s0 D ac (some (.ref v)) σ) args s 0 0 (fr s0)) (F0 m 80 ls []) := by
    intro he H locs ls h hl
    subst he
    have hf := hK
    have hf := hf_sr hf
    refine lv_aload_n hx hb dX11_act_80 rfl (lv_at hl 0 rfl) ?_
    refine x_gR (q := (RX11, TY11, 5)) (j := 4) G C h rfl (by decide) (fun _ _ _ => rfl) (lk C q531) (fun _ z => z) dX11_act_81 hf (fun r16 hf => ?_)
    refine x_gR (q := (RX0, TX0, 33)) (j := 0) G C h rfl (by decide) (fun _ _ _ => rfl) (lkn G C q195) (fun _ z => z) dX11_act_84 hf (fun r17 hf => ?_)
    cases hf
    refine W.widen (k := 0) (n := 0) (Nat.le_of_ble_eq_true rfl) (Nat.le_of_ble_eq_true rfl) ?_
    exact x_aret C h dX11_act_87
  refine loopF_ind (P := fun z => ∀ (H : Heap) (locs : List Loc) (ls : Array Slot), Hs s0 D ac σ H locs → lv_has ls 6 [(0, .ref a0), (1, .ref a1), (2, .int a2), (3, .int z)] → W p l e ({ frames := 3, cells := 0, slots := 0, locals := 68 } : Room) s m args below meth c H locs 0 0 (MQ below (Qn s0 D ac (some (.ref v)) σ) args s 0 0 (fr s0)) (F0 m 2 ls [])) ?_ _ _ hL _ _ _ h (lv_sub hl [1, 2, 3, 0] rfl)
  clear hK hL h hl hf
  intro z o hf ih hX H locs ls h hl
  obtain ⟨x1, rfl⟩ : ∃ y, y = z := ⟨_, rfl⟩
  have h : Hs s0 D ac σ H locs := h
  have hl : lv_has ls 6 [(0, .ref a0), (1, .ref a1), (2, .int a2), (3, .int x1)] := hl
  have hf : lX11_act_2 σ a0 a1 a2 x1 = some o := hf
  unfold lX11_act_2 at hf
  refine lv_iload_n hx hb dX11_act_2 rfl (lv_at hl 3 rfl) ?_
  refine lv_aload_n hx hb dX11_act_3 rfl (lv_at hl 0 rfl) ?_
  refine x_gI (q := (RX11, TY11, 5)) (j := 0) G C h rfl (by decide) (fun _ _ _ => rfl) (lk C q532) (sf_X11 C) dX11_act_4 hf (fun x2 hf => ?_)
  refine lv_icmp_ge (tgt := 80) hx hb dX11_act_7 (by decide) (fun hc => ?_) (fun hc => ?_)
  · have hf := hf_t hc hf
    cases hf
    exact hE2_1 (hX _ rfl) _ _ _ h (lv_sub hl [0, 1, 2] rfl)
  · have hf := hf_f hc hf
    refine lv_iconst (v := 1) hx hb dX11_act_10 (by decide) ?_
    refine lv_istore (lv' := [(4, .int 1), (0, .ref a0), (1, .ref a1), (2, .int a2), (3, .int x1)]) hx hb dX11_act_11 hl (by decide) rfl (fun ls hl => ?_)
    refine lv_iconst (v := 0) hx hb dX11_act_13 (by decide) ?_
    refine lv_istore (lv' := [(5, .int 0), (4, .int 1), (0, .ref a0), (1, .ref a1), (2, .int a2), (3, .int x1)]) hx hb dX11_act_14 hl (by decide) rfl (fun ls hl => ?_)
    obtain ⟨e16, hL, hK⟩ := hf_b hf
    have hE16_0 : ∀ (x12 : Int32), x12 = e16 → ∀  (H : Heap) (locs : List Loc) (ls : Array Slot), Hs s0 D ac σ H locs → lv_has ls 6 [(0, .ref a0), (1, .ref a1), (2, .int a2), (3, .int x1), (4, .int x12)] → W p l e ({ frames := 3, cells := 0, slots := 0, locals := 68 } : Room) s m args below meth c H locs 0 0 (MQ below (Qn s0 D ac (some (.ref v)) σ) args s 0 0 (fr s0)) (F0 m 62 ls []) := by
      intro x12 he H locs ls h hl
      subst he
      have hf := hK
      refine lv_iload hx hb dX11_act_62 (lv_at hl 4 rfl) ?_
      refine lv_if_eq (tgt := 74) hx hb dX11_act_64 (by decide) (fun hc => ?_) (fun hc => ?_)
      · have hf := hf_t hc hf
        refine lv_iinc (v := x1 + 1) (lv' := [(3, .int (x1 + 1)), (0, .ref a0), (1, .ref a1), (2, .int a2), (4, .int x12)]) hx hb dX11_act_74 hl (k := 3) rfl rfl (by decide) rfl (fun ls hl => ?_)
        refine lv_goto (tgt := 2) hx hb dX11_act_77 (by decide) ?_
        cases hf
        exact ih _ rfl _ _ _ h (lv_sub hl [1, 2, 3, 0] rfl)
      · have hf := hf_f hc hf
        cases hf
        exact hE2_0 _ (hX _ rfl) _ _ _ h (lv_sub hl [0, 1, 2, 3] rfl)
    refine loopF_ind (P := fun z => ∀ (H : Heap) (locs : List Loc) (ls : Array Slot), Hs s0 D ac σ H locs → lv_has ls 6 [(0, .ref a0), (1, .ref a1), (2, .int a2), (3, .int x1), (4, .int z.1), (5, .int z.2)] → W p l e ({ frames := 3, cells := 0, slots := 0, locals := 68 } : Room) s m args below meth c H locs 0 0 (MQ below (Qn s0 D ac (some (.ref v)) σ) args s 0 0 (fr s0)) (F0 m 16 ls [])) ?_ _ _ hL _ _ _ h (lv_sub hl [2, 3, 4, 5, 1, 0] rfl)
    clear hK hL h hl hf
    intro z o hf ih hX H locs ls h hl
    obtain ⟨x3, x4⟩ := z
    have h : Hs s0 D ac σ H locs := h
    have hl : lv_has ls 6 [(0, .ref a0), (1, .ref a1), (2, .int a2), (3, .int x1), (4, .int x3), (5, .int x4)] := hl
    have hf : lX11_act_16 σ a0 x1 a1 a2 x3 x4 = some o := hf
    unfold lX11_act_16 at hf
    refine lv_iload hx hb dX11_act_16 (lv_at hl 5 rfl) ?_
    refine lv_aload_n hx hb dX11_act_18 rfl (lv_at hl 0 rfl) ?_
    refine x_gR (q := (RX11, TY11, 5)) (j := 3) G C h rfl (by decide) (fun _ _ _ => rfl) (lk C q530) (fun _ z => z) dX11_act_19 hf (fun r5 hf => ?_)
    refine lv_iload_n hx hb dX11_act_22 rfl (lv_at hl 3 rfl) ?_
    refine x_iald G C h dX11_act_23 hf (fun x6 hf => ?_)
    refine lv_icmp_ge (tgt := 62) hx hb dX11_act_24 (by decide) (fun hc => ?_) (fun hc => ?_)
    · have hf := hf_t hc hf
      cases hf
      exact hE16_0 _ (hX _ rfl) _ _ _ h (lv_sub hl [0, 1, 2, 3, 4] rfl)
    · have hf := hf_f hc hf
      refine lv_iload hx hb dX11_act_27 (lv_at hl 4 rfl) ?_
      refine jn_of (P := fun j => ∀ (x11 : Int32), j x11 = some o → ∀ (H : Heap) (locs : List Loc) (ls : Array Slot), Hs s0 D ac σ H locs → lv_has ls 6 [(0, .ref a0), (1, .ref a1), (2, .int a2), (3, .int x1), (4, .int x3), (5, .int x4)] → W p l e ({ frames := 3, cells := 0, slots := 0, locals := 68 } : Room) s m args below meth c H locs 0 0 (MQ below (Qn s0 D ac (some (.ref v)) σ) args s 0 0 (fr s0)) (F0 m 54 ls [.int x11])) hf ?_ ?_
      · intro x11 hf H locs ls h hl
        refine lv_istore (lv' := [(4, .int x11), (0, .ref a0), (1, .ref a1), (2, .int a2), (3, .int x1), (5, .int x4)]) hx hb dX11_act_54 hl (by decide) rfl (fun ls hl => ?_)
        refine lv_iinc (v := x4 + 1) (lv' := [(5, .int (x4 + 1)), (4, .int x11), (0, .ref a0), (1, .ref a1), (2, .int a2), (3, .int x1)]) hx hb dX11_act_56 hl (k := 5) rfl rfl (by decide) rfl (fun ls hl => ?_)
        refine lv_goto (tgt := 16) hx hb dX11_act_59 (by decide) ?_
        cases hf
        exact ih _ rfl _ _ _ h (lv_sub hl [2, 3, 4, 5, 1, 0] rfl)
      intro j54 hj54 hf
      refine jn_of (P := fun j => ∀ (u0 : Unit), j u0 = some o → ∀ (H : Heap) (locs : List Loc) (ls : Array Slot), Hs s0 D ac σ H locs → lv_has ls 6 [(0, .ref a0), (1, .ref a1), (2, .int a2), (3, .int x1), (4, .int x3), (5, .int x4)] → W p l e ({ frames := 3, cells := 0, slots := 0, locals := 68 } : Room) s m args below meth c H locs 0 0 (MQ below (Qn s0 D ac (some (.ref v)) σ) args s 0 0 (fr s0)) (F0 m 53 ls [])) hf ?_ ?_
      · intro u0 hf H locs ls h hl
        refine lv_iconst (v := 0) hx hb dX11_act_53 (by decide) ?_
        exact hj54 _ hf _ _ _ h (lv_sub hl [0, 1, 2, 3, 4, 5] rfl)
      intro j53 hj53 hf
      refine lv_if_eq (tgt := 53) hx hb dX11_act_29 (by decide) (fun hc => ?_) (fun hc => ?_)
      · have hf := hf_t hc hf
        exact hj53 () hf _ _ _ h (lv_sub hl [0, 1, 2, 3, 4, 5] rfl)
      · have hf := hf_f hc hf
        refine lv_aload_n hx hb dX11_act_32 rfl (lv_at hl 0 rfl) ?_
        refine x_gR (q := (RX11, TY11, 5)) (j := 2) G C h rfl (by decide) (fun _ _ _ => rfl) (lk C q529) (fun _ z => z) dX11_act_33 hf (fun r7 hf => ?_)
        refine lv_iload_n hx hb dX11_act_36 rfl (lv_at hl 3 rfl) ?_
        refine x_aald (q := 10) rfl rfl (fun _ _ _ => rfl) G C h dX11_act_37 hf (fun r8 hf => ?_)
        refine lv_iload hx hb dX11_act_38 (lv_at hl 5 rfl) ?_
        refine x_aald (q := 9) rfl rfl (fun _ _ _ => rfl) G C h dX11_act_40 hf (fun r9 hf => ?_)
        refine lv_aload_n hx hb dX11_act_41 rfl (lv_at hl 1 rfl) ?_
        refine lv_iload_n hx hb dX11_act_42 rfl (lv_at hl 2 rfl) ?_
        obtain ⟨hk, hf⟩ := k_of hf
        obtain ⟨x10, hc, hf⟩ := hf_b hf
        refine x_cV (q := (RX16, TX16, 3)) (rest := []) (As := [.ref a1, .int a2]) (n := 2) (ov := (some (.int x10))) G C h (wX16_holds G hc) hk rfl (lw_V q422 q423 q424 q77 q425) (by decide +kernel) ⟨Nat.le_of_ble_eq_true rfl, Nat.le_of_ble_eq_true rfl⟩ rfl rfl rfl hl.1 rfl (Nat.le_of_ble_eq_true rfl) dX11_act_43 ⟨(Nat.le_of_ble_eq_true rfl), (Nat.le_of_ble_eq_true rfl)⟩ (fun H locs h => ?_)
        refine lv_if_eq (tgt := 53) hx hb dX11_act_46 (by decide) (fun hc => ?_) (fun hc => ?_)
        · have hf := hf_t hc hf
          exact hj53 () hf _ _ _ h (lv_sub hl [0, 1, 2, 3, 4, 5] rfl)
        · have hf := hf_f hc hf
          refine lv_iconst (v := 1) hx hb dX11_act_49 (by decide) ?_
          refine lv_goto (tgt := 54) hx hb dX11_act_50 (by decide) ?_
          exact hj54 _ hf _ _ _ h (lv_sub hl [0, 1, 2, 3, 4, 5] rfl)

theorem dX5_actOf_0 : decode cX5_actOf 0 = .ok (.aload_n 0, 1) := by decide +kernel
theorem dX5_actOf_1 : decode cX5_actOf 1 = .ok (.getfield 19, 3) := by decide +kernel
theorem dX5_actOf_4 : decode cX5_actOf 4 = .ok (.iload_n 1, 1) := by decide +kernel
theorem dX5_actOf_5 : decode cX5_actOf 5 = .ok (.iaload, 1) := by decide +kernel
theorem dX5_actOf_6 : decode cX5_actOf 6 = .ok (.bipush 20, 2) := by decide +kernel
theorem dX5_actOf_8 : decode cX5_actOf 8 = .ok (.if_icmp .lt 13, 3) := by decide +kernel
theorem dX5_actOf_11 : decode cX5_actOf 11 = .ok (.aload_n 0, 1) := by decide +kernel
theorem dX5_actOf_12 : decode cX5_actOf 12 = .ok (.getfield 3, 3) := by decide +kernel
theorem dX5_actOf_15 : decode cX5_actOf 15 = .ok (.getfield 62, 3) := by decide +kernel
theorem dX5_actOf_18 : decode cX5_actOf 18 = .ok (.goto 39, 3) := by decide +kernel
theorem dX5_actOf_21 : decode cX5_actOf 21 = .ok (.aload_n 0, 1) := by decide +kernel
theorem dX5_actOf_22 : decode cX5_actOf 22 = .ok (.getfield 3, 3) := by decide +kernel
theorem dX5_actOf_25 : decode cX5_actOf 25 = .ok (.getfield 66, 3) := by decide +kernel
theorem dX5_actOf_28 : decode cX5_actOf 28 = .ok (.iload_n 1, 1) := by decide +kernel
theorem dX5_actOf_29 : decode cX5_actOf 29 = .ok (.aaload, 1) := by decide +kernel
theorem dX5_actOf_30 : decode cX5_actOf 30 = .ok (.ifnonnull 13, 3) := by decide +kernel
theorem dX5_actOf_33 : decode cX5_actOf 33 = .ok (.aload_n 0, 1) := by decide +kernel
theorem dX5_actOf_34 : decode cX5_actOf 34 = .ok (.getfield 3, 3) := by decide +kernel
theorem dX5_actOf_37 : decode cX5_actOf 37 = .ok (.getfield 70, 3) := by decide +kernel
theorem dX5_actOf_40 : decode cX5_actOf 40 = .ok (.goto 17, 3) := by decide +kernel
theorem dX5_actOf_43 : decode cX5_actOf 43 = .ok (.aload_n 0, 1) := by decide +kernel
theorem dX5_actOf_44 : decode cX5_actOf 44 = .ok (.getfield 3, 3) := by decide +kernel
theorem dX5_actOf_47 : decode cX5_actOf 47 = .ok (.getfield 66, 3) := by decide +kernel
theorem dX5_actOf_50 : decode cX5_actOf 50 = .ok (.iload_n 1, 1) := by decide +kernel
theorem dX5_actOf_51 : decode cX5_actOf 51 = .ok (.aaload, 1) := by decide +kernel
theorem dX5_actOf_52 : decode cX5_actOf 52 = .ok (.aload_n 0, 1) := by decide +kernel
theorem dX5_actOf_53 : decode cX5_actOf 53 = .ok (.iload_n 1, 1) := by decide +kernel
theorem dX5_actOf_54 : decode cX5_actOf 54 = .ok (.invokevirtual 73, 3) := by decide +kernel
theorem dX5_actOf_57 : decode cX5_actOf 57 = .ok (.areturn, 1) := by decide +kernel
def fX5_actOf (σ : St) (a0 : Nat) (a1 : Int32) : Option (Nat) :=
  o_gR σ a0 3 2 fun r1 =>
  o_aI σ r1 0 a1 fun x2 =>
  if x2 < 20 then
    o_gR σ a0 3 8 fun r3 =>
    o_gR σ r3 0 9 fun r4 =>
    o_aQ σ r4 6 a1 fun o5 =>
    o_opt o5 (
      o_gR σ a0 3 8 fun r7 =>
      o_gR σ r7 0 0 fun r8 =>
      some r8) fun _ =>
    o_gR σ a0 3 8 fun r9 =>
    o_gR σ r9 0 9 fun r10 =>
    o_aR σ r10 6 a1 fun r11 =>
    o_k σ r11 8 <|
    (fX11_act σ r11 a0 a1).bind fun r12 =>
    some r12
  else
  o_gR σ a0 3 8 fun r13 =>
  o_gR σ r13 0 1 fun r14 =>
  some r14

set_option maxHeartbeats 4000000 in
theorem wX5_actOf {l : Launch} {s0 : State} {A0 : Array Value} {D : va_G} {ac : Nat → ClassId} (G : Gl s0 A0 D ac) {σ : St} {a0 : Nat} {a1 : Int32} {v : Nat} (hf : fX5_actOf σ a0 a1 = some (v)) : Met l yX5_actOf (ws_ yX5_actOf cX5_actOf 2 (some (.object "HutForShow$Act"))) ({ frames := 4, cells := 0, slots := 0, locals := 93 } : Room) (Pn s0 D ac [.ref a0, .int a1] σ) (Qn s0 D ac (some (.ref v)) σ) 0 0 (fr s0) := by
  refine x_met (by decide) (Nat.le_of_ble_eq_true rfl) ?_
  intro p e s m args below meth c ls C hnm h hl
  have C : Cx s0 p s m args meth c cX5_actOf 2 "HutForShow$Wood" (some (.object "HutForShow$Act")) := C
  have hx := C.1
  have hb := C.2.1
  have hl : lv_has ls 2 [(0, .ref a0), (1, .int a1)] := hl
  unfold fX5_actOf at hf
  refine lv_aload_n hx hb dX5_actOf_0 rfl (lv_at hl 0 rfl) ?_
  refine x_gR (q := (RX5, TX5, 9)) (j := 2) G C h rfl (by decide) (fun _ _ _ => rfl) (lk C q130) (fun _ z => z) dX5_actOf_1 hf (fun r1 hf => ?_)
  refine lv_iload_n hx hb dX5_actOf_4 rfl (lv_at hl 1 rfl) ?_
  refine x_iald G C h dX5_actOf_5 hf (fun x2 hf => ?_)
  refine lv_bipush (v := 20) hx hb dX5_actOf_6 (by decide) ?_
  refine lv_icmp_lt (tgt := 21) hx hb dX5_actOf_8 (by decide) (fun hc => ?_) (fun hc => ?_)
  · have hf := hf_t hc hf
    refine lv_aload_n hx hb dX5_actOf_21 rfl (lv_at hl 0 rfl) ?_
    refine x_gR (q := (RX5, TX5, 9)) (j := 8) G C h rfl (by decide) (fun _ _ _ => rfl) (lk C q145) (fun _ z => z) dX5_actOf_22 hf (fun r3 hf => ?_)
    refine x_gR (q := (RX0, TX0, 33)) (j := 9) G C h rfl (by decide) (fun _ _ _ => rfl) (lkn G C q216) (fun _ z => z) dX5_actOf_25 hf (fun r4 hf => ?_)
    refine lv_iload_n hx hb dX5_actOf_28 rfl (lv_at hl 1 rfl) ?_
    refine x_aaldQ (q := 6) rfl rfl (fun _ _ _ => rfl) G C h dX5_actOf_29 hf (fun o5 hf => ?_)
    cases o5 with
    | none =>
      refine lv_ifnonnullN hx hb dX5_actOf_30 ?_
      refine lv_aload_n hx hb dX5_actOf_33 rfl (lv_at hl 0 rfl) ?_
      refine x_gR (q := (RX5, TX5, 9)) (j := 8) G C h rfl (by decide) (fun _ _ _ => rfl) (lk C q145) (fun _ z => z) dX5_actOf_34 hf (fun r7 hf => ?_)
      refine x_gR (q := (RX0, TX0, 33)) (j := 0) G C h rfl (by decide) (fun _ _ _ => rfl) (lkn G C q196) (fun _ z => z) dX5_actOf_37 hf (fun r8 hf => ?_)
      refine lv_goto (tgt := 57) hx hb dX5_actOf_40 (by decide) ?_
      cases hf
      refine W.widen (k := 0) (n := 0) (Nat.le_of_ble_eq_true rfl) (Nat.le_of_ble_eq_true rfl) ?_
      exact x_aret C h dX5_actOf_57
    | some r6 =>
      refine lv_ifnonnull (tgt := 43) hx hb dX5_actOf_30 (by decide) ?_
      refine lv_aload_n hx hb dX5_actOf_43 rfl (lv_at hl 0 rfl) ?_
      refine x_gR (q := (RX5, TX5, 9)) (j := 8) G C h rfl (by decide) (fun _ _ _ => rfl) (lk C q145) (fun _ z => z) dX5_actOf_44 hf (fun r9 hf => ?_)
      refine x_gR (q := (RX0, TX0, 33)) (j := 9) G C h rfl (by decide) (fun _ _ _ => rfl) (lkn G C q216) (fun _ z => z) dX5_actOf_47 hf (fun r10 hf => ?_)
      refine lv_iload_n hx hb dX5_actOf_50 rfl (lv_at hl 1 rfl) ?_
      refine x_aald (q := 6) rfl rfl (fun _ _ _ => rfl) G C h dX5_actOf_51 hf (fun r11 hf => ?_)
      refine lv_aload_n hx hb dX5_actOf_52 rfl (lv_at hl 0 rfl) ?_
      refine lv_iload_n hx hb dX5_actOf_53 rfl (lv_at hl 1 rfl) ?_
      obtain ⟨hk, hf⟩ := k_of hf
      obtain ⟨r12, hc, hf⟩ := hf_b hf
      refine x_cV (q := (RX11, TY11, 5)) (rest := []) (As := [.ref a0, .int a1]) (n := 2) (ov := (some (.ref r12))) G C h (wX11_act G hc) hk rfl (lw_V q418 q419 q420 q66 q421) (by decide +kernel) ⟨Nat.le_of_ble_eq_true rfl, Nat.le_of_ble_eq_true rfl⟩ rfl rfl rfl hl.1 rfl (Nat.le_of_ble_eq_true rfl) dX5_actOf_54 ⟨(Nat.le_of_ble_eq_true rfl), (Nat.le_of_ble_eq_true rfl)⟩ (fun H locs h => ?_)
      cases hf
      refine W.widen (k := 0) (n := 0) (Nat.le_of_ble_eq_true rfl) (Nat.le_of_ble_eq_true rfl) ?_
      exact x_aret C h dX5_actOf_57
  · have hf := hf_f hc hf
    refine lv_aload_n hx hb dX5_actOf_11 rfl (lv_at hl 0 rfl) ?_
    refine x_gR (q := (RX5, TX5, 9)) (j := 8) G C h rfl (by decide) (fun _ _ _ => rfl) (lk C q145) (fun _ z => z) dX5_actOf_12 hf (fun r13 hf => ?_)
    refine x_gR (q := (RX0, TX0, 33)) (j := 1) G C h rfl (by decide) (fun _ _ _ => rfl) (lkn G C q199) (fun _ z => z) dX5_actOf_15 hf (fun r14 hf => ?_)
    refine lv_goto (tgt := 57) hx hb dX5_actOf_18 (by decide) ?_
    cases hf
    refine W.widen (k := 0) (n := 0) (Nat.le_of_ble_eq_true rfl) (Nat.le_of_ble_eq_true rfl) ?_
    exact x_aret C h dX5_actOf_57

theorem dX2_code_0 : decode cX2_code 0 = .ok (.iconst 0, 1) := by decide +kernel
theorem dX2_code_1 : decode cX2_code 1 = .ok (.ireturn, 1) := by decide +kernel
def fX2_code (σ : St) (a0 : Nat) : Option (Int32) :=
  some 0

set_option maxHeartbeats 4000000 in
theorem wX2_code {l : Launch} {s0 : State} {A0 : Array Value} {D : va_G} {ac : Nat → ClassId} (G : Gl s0 A0 D ac) {σ : St} {a0 : Nat} {v : Int32} (hf : fX2_code σ a0 = some (v)) : Met l yX2_code (ws_ yX2_code cX2_code 1 (some (.int))) ({ frames := 0, cells := 0, slots := 0, locals := 0 } : Room) (Pn s0 D ac [.ref a0] σ) (Qn s0 D ac (some (.int v)) σ) 0 0 (fr s0) := by
  refine x_met (by decide) (Nat.le_of_ble_eq_true rfl) ?_
  intro p e s m args below meth c ls C hnm h hl
  have C : Cx s0 p s m args meth c cX2_code 1 "HutForShow$Guard" (some (.int)) := C
  have hx := C.1
  have hb := C.2.1
  have hl : lv_has ls 1 [(0, .ref a0)] := hl
  unfold fX2_code at hf
  refine lv_iconst (v := 0) hx hb dX2_code_0 (by decide) ?_
  cases hf
  refine W.widen (k := 0) (n := 0) (Nat.le_of_ble_eq_true rfl) (Nat.le_of_ble_eq_true rfl) ?_
  exact x_iret C h dX2_code_1

theorem dX12_code_0 : decode cX12_code 0 = .ok (.iconst 1, 1) := by decide +kernel
theorem dX12_code_1 : decode cX12_code 1 = .ok (.ireturn, 1) := by decide +kernel
def fX12_code (σ : St) (a0 : Nat) : Option (Int32) :=
  some 1

set_option maxHeartbeats 4000000 in
theorem wX12_code {l : Launch} {s0 : State} {A0 : Array Value} {D : va_G} {ac : Nat → ClassId} (G : Gl s0 A0 D ac) {σ : St} {a0 : Nat} {v : Int32} (hf : fX12_code σ a0 = some (v)) : Met l yX12_code (ws_ yX12_code cX12_code 1 (some (.int))) ({ frames := 0, cells := 0, slots := 0, locals := 0 } : Room) (Pn s0 D ac [.ref a0] σ) (Qn s0 D ac (some (.int v)) σ) 0 0 (fr s0) := by
  refine x_met (by decide) (Nat.le_of_ble_eq_true rfl) ?_
  intro p e s m args below meth c ls C hnm h hl
  have C : Cx s0 p s m args meth c cX12_code 1 "HutForShow$Mend" (some (.int)) := C
  have hx := C.1
  have hb := C.2.1
  have hl : lv_has ls 1 [(0, .ref a0)] := hl
  unfold fX12_code at hf
  refine lv_iconst (v := 1) hx hb dX12_code_0 (by decide) ?_
  cases hf
  refine W.widen (k := 0) (n := 0) (Nat.le_of_ble_eq_true rfl) (Nat.le_of_ble_eq_true rfl) ?_
  exact x_iret C h dX12_code_1

theorem dX13_code_0 : decode cX13_code 0 = .ok (.iconst 2, 1) := by decide +kernel
theorem dX13_code_1 : decode cX13_code 1 = .ok (.ireturn, 1) := by decide +kernel
def fX13_code (σ : St) (a0 : Nat) : Option (Int32) :=
  some 2

set_option maxHeartbeats 4000000 in
theorem wX13_code {l : Launch} {s0 : State} {A0 : Array Value} {D : va_G} {ac : Nat → ClassId} (G : Gl s0 A0 D ac) {σ : St} {a0 : Nat} {v : Int32} (hf : fX13_code σ a0 = some (v)) : Met l yX13_code (ws_ yX13_code cX13_code 1 (some (.int))) ({ frames := 0, cells := 0, slots := 0, locals := 0 } : Room) (Pn s0 D ac [.ref a0] σ) (Qn s0 D ac (some (.int v)) σ) 0 0 (fr s0) := by
  refine x_met (by decide) (Nat.le_of_ble_eq_true rfl) ?_
  intro p e s m args below meth c ls C hnm h hl
  have C : Cx s0 p s m args meth c cX13_code 1 "HutForShow$Find" (some (.int)) := C
  have hx := C.1
  have hb := C.2.1
  have hl : lv_has ls 1 [(0, .ref a0)] := hl
  unfold fX13_code at hf
  refine lv_iconst (v := 2) hx hb dX13_code_0 (by decide) ?_
  cases hf
  refine W.widen (k := 0) (n := 0) (Nat.le_of_ble_eq_true rfl) (Nat.le_of_ble_eq_true rfl) ?_
  exact x_iret C h dX13_code_1

theorem dX4_code_0 : decode cX4_code 0 = .ok (.iconst 3, 1) := by decide +kernel
theorem dX4_code_1 : decode cX4_code 1 = .ok (.ireturn, 1) := by decide +kernel
def fX4_code (σ : St) (a0 : Nat) : Option (Int32) :=
  some 3

set_option maxHeartbeats 4000000 in
theorem wX4_code {l : Launch} {s0 : State} {A0 : Array Value} {D : va_G} {ac : Nat → ClassId} (G : Gl s0 A0 D ac) {σ : St} {a0 : Nat} {v : Int32} (hf : fX4_code σ a0 = some (v)) : Met l yX4_code (ws_ yX4_code cX4_code 1 (some (.int))) ({ frames := 0, cells := 0, slots := 0, locals := 0 } : Room) (Pn s0 D ac [.ref a0] σ) (Qn s0 D ac (some (.int v)) σ) 0 0 (fr s0) := by
  refine x_met (by decide) (Nat.le_of_ble_eq_true rfl) ?_
  intro p e s m args below meth c ls C hnm h hl
  have C : Cx s0 p s m args meth c cX4_code 1 "HutForShow$Feed" (some (.int)) := C
  have hx := C.1
  have hb := C.2.1
  have hl : lv_has ls 1 [(0, .ref a0)] := hl
  unfold fX4_code at hf
  refine lv_iconst (v := 3) hx hb dX4_code_0 (by decide) ?_
  cases hf
  refine W.widen (k := 0) (n := 0) (Nat.le_of_ble_eq_true rfl) (Nat.le_of_ble_eq_true rfl) ?_
  exact x_iret C h dX4_code_1

theorem dX15_code_0 : decode cX15_code 0 = .ok (.iconst 4, 1) := by decide +kernel
theorem dX15_code_1 : decode cX15_code 1 = .ok (.ireturn, 1) := by decide +kernel
def fX15_code (σ : St) (a0 : Nat) : Option (Int32) :=
  some 4

set_option maxHeartbeats 4000000 in
theorem wX15_code {l : Launch} {s0 : State} {A0 : Array Value} {D : va_G} {ac : Nat → ClassId} (G : Gl s0 A0 D ac) {σ : St} {a0 : Nat} {v : Int32} (hf : fX15_code σ a0 = some (v)) : Met l yX15_code (ws_ yX15_code cX15_code 1 (some (.int))) ({ frames := 0, cells := 0, slots := 0, locals := 0 } : Room) (Pn s0 D ac [.ref a0] σ) (Qn s0 D ac (some (.int v)) σ) 0 0 (fr s0) := by
  refine x_met (by decide) (Nat.le_of_ble_eq_true rfl) ?_
  intro p e s m args below meth c ls C hnm h hl
  have C : Cx s0 p s m args meth c cX15_code 1 "HutForShow$Raid" (some (.int)) := C
  have hx := C.1
  have hb := C.2.1
  have hl : lv_has ls 1 [(0, .ref a0)] := hl
  unfold fX15_code at hf
  refine lv_iconst (v := 4) hx hb dX15_code_0 (by decide) ?_
  cases hf
  refine W.widen (k := 0) (n := 0) (Nat.le_of_ble_eq_true rfl) (Nat.le_of_ble_eq_true rfl) ?_
  exact x_iret C h dX15_code_1

theorem dX2_run_0 : decode cX2_run 0 = .ok (.return_, 1) := by decide +kernel
def fX2_run (σ : St) (a0 : Nat) (a1 : Nat) (a2 : Int32) : Option (Unit) :=
  some ()

set_option maxHeartbeats 4000000 in
theorem wX2_run {l : Launch} {s0 : State} {A0 : Array Value} {D : va_G} {ac : Nat → ClassId} (G : Gl s0 A0 D ac) {σ : St} {a0 : Nat} {a1 : Nat} {a2 : Int32}  (hf : fX2_run σ a0 a1 a2 = some (())) : Met l yX2_run (ws_ yX2_run cX2_run 3 none) ({ frames := 0, cells := 0, slots := 0, locals := 0 } : Room) (Pn s0 D ac [.ref a0, .ref a1, .int a2] σ) (Qn s0 D ac none σ) 0 0 (fr s0) := by
  refine x_met (by decide) (Nat.le_of_ble_eq_true rfl) ?_
  intro p e s m args below meth c ls C hnm h hl
  have C : Cx s0 p s m args meth c cX2_run 3 "HutForShow$Guard" none := C
  have hx := C.1
  have hb := C.2.1
  have hl : lv_has ls 3 [(0, .ref a0), (1, .ref a1), (2, .int a2)] := hl
  unfold fX2_run at hf
  cases hf
  refine W.widen (k := 0) (n := 0) (Nat.le_of_ble_eq_true rfl) (Nat.le_of_ble_eq_true rfl) ?_
  exact x_vret C h dX2_run_0

theorem dX12_run_0 : decode cX12_run 0 = .ok (.aload_n 1, 1) := by decide +kernel
theorem dX12_run_1 : decode cX12_run 1 = .ok (.getfield 9, 3) := by decide +kernel
theorem dX12_run_4 : decode cX12_run 4 = .ok (.iload_n 2, 1) := by decide +kernel
theorem dX12_run_5 : decode cX12_run 5 = .ok (.bipush 99, 2) := by decide +kernel
theorem dX12_run_7 : decode cX12_run 7 = .ok (.aload_n 1, 1) := by decide +kernel
theorem dX12_run_8 : decode cX12_run 8 = .ok (.getfield 9, 3) := by decide +kernel
theorem dX12_run_11 : decode cX12_run 11 = .ok (.iload_n 2, 1) := by decide +kernel
theorem dX12_run_12 : decode cX12_run 12 = .ok (.iaload, 1) := by decide +kernel
theorem dX12_run_13 : decode cX12_run 13 = .ok (.iconst 3, 1) := by decide +kernel
theorem dX12_run_14 : decode cX12_run 14 = .ok (.iadd, 1) := by decide +kernel
theorem dX12_run_15 : decode cX12_run 15 = .ok (.invokestatic 15, 3) := by decide +kernel
theorem dX12_run_18 : decode cX12_run 18 = .ok (.iastore, 1) := by decide +kernel
theorem dX12_run_19 : decode cX12_run 19 = .ok (.return_, 1) := by decide +kernel
def fX12_run (σ : St) (a0 : Nat) (a1 : Nat) (a2 : Int32) : Option (St) :=
  o_gR σ a1 3 1 fun r1 =>
  o_gR σ a1 3 1 fun r2 =>
  o_aI σ r2 0 a2 fun x3 =>
  o_let (jmin 99 (x3 + 3)) fun x4 =>
  o_sI σ r1 0 a2 x4 fun σ5 =>
  some σ5

set_option maxHeartbeats 4000000 in
theorem wX12_run {l : Launch} {s0 : State} {A0 : Array Value} {D : va_G} {ac : Nat → ClassId} (G : Gl s0 A0 D ac) {σ : St} {a0 : Nat} {a1 : Nat} {a2 : Int32} {σ' : St} (hf : fX12_run σ a0 a1 a2 = some (σ')) : Met l yX12_run (ws_ yX12_run cX12_run 3 none) ({ frames := 1, cells := 0, slots := 0, locals := 21 } : Room) (Pn s0 D ac [.ref a0, .ref a1, .int a2] σ) (Qn s0 D ac none σ') 0 0 (fr s0) := by
  refine x_met (by decide) (Nat.le_of_ble_eq_true rfl) ?_
  intro p e s m args below meth c ls C hnm h hl
  have C : Cx s0 p s m args meth c cX12_run 3 "HutForShow$Mend" none := C
  have hx := C.1
  have hb := C.2.1
  have hl : lv_has ls 3 [(0, .ref a0), (1, .ref a1), (2, .int a2)] := hl
  unfold fX12_run at hf
  refine lv_aload_n hx hb dX12_run_0 rfl (lv_at hl 1 rfl) ?_
  refine x_gR (q := (RX5, TX5, 9)) (j := 1) G C h rfl (by decide) (fun _ _ _ => rfl) (lkn G C q126) (fun _ z => z) dX12_run_1 hf (fun r1 hf => ?_)
  refine lv_iload_n hx hb dX12_run_4 rfl (lv_at hl 2 rfl) ?_
  refine lv_bipush (v := 99) hx hb dX12_run_5 (by decide) ?_
  refine lv_aload_n hx hb dX12_run_7 rfl (lv_at hl 1 rfl) ?_
  refine x_gR (q := (RX5, TX5, 9)) (j := 1) G C h rfl (by decide) (fun _ _ _ => rfl) (lkn G C q126) (fun _ z => z) dX12_run_8 hf (fun r2 hf => ?_)
  refine lv_iload_n hx hb dX12_run_11 rfl (lv_at hl 2 rfl) ?_
  refine x_iald G C h dX12_run_12 hf (fun x3 hf => ?_)
  refine lv_iconst (v := 3) hx hb dX12_run_13 (by decide) ?_
  refine lv_iadd hx hb dX12_run_14 ?_
  refine x_min C hl.1 q474 q475 q63 q476 (Nat.le_of_ble_eq_true rfl) (Nat.le_of_ble_eq_true rfl) (Nat.le_of_ble_eq_true rfl) (Nat.le_of_ble_eq_true rfl) dX12_run_15 ?_
  refine x_letI hf (fun x4 hf => ?_)
  refine x_iast G C h dX12_run_18 hf (fun σ5 H locs h hf => ?_)
  cases hf
  refine W.widen (k := 0) (n := 0) (Nat.le_of_ble_eq_true rfl) (Nat.le_of_ble_eq_true rfl) ?_
  exact x_vret C h dX12_run_19

theorem dX5_leastIn_0 : decode cX5_leastIn 0 = .ok (.iconst 0, 1) := by decide +kernel
theorem dX5_leastIn_1 : decode cX5_leastIn 1 = .ok (.istore_n 2, 1) := by decide +kernel
theorem dX5_leastIn_2 : decode cX5_leastIn 2 = .ok (.iload_n 2, 1) := by decide +kernel
theorem dX5_leastIn_3 : decode cX5_leastIn 3 = .ok (.aload_n 0, 1) := by decide +kernel
theorem dX5_leastIn_4 : decode cX5_leastIn 4 = .ok (.getfield 3, 3) := by decide +kernel
theorem dX5_leastIn_7 : decode cX5_leastIn 7 = .ok (.getfield 50, 3) := by decide +kernel
theorem dX5_leastIn_10 : decode cX5_leastIn 10 = .ok (.if_icmp .ge 21, 3) := by decide +kernel
theorem dX5_leastIn_13 : decode cX5_leastIn 13 = .ok (.aload_n 0, 1) := by decide +kernel
theorem dX5_leastIn_14 : decode cX5_leastIn 14 = .ok (.getfield 37, 3) := by decide +kernel
theorem dX5_leastIn_17 : decode cX5_leastIn 17 = .ok (.iload_n 2, 1) := by decide +kernel
theorem dX5_leastIn_18 : decode cX5_leastIn 18 = .ok (.iaload, 1) := by decide +kernel
theorem dX5_leastIn_19 : decode cX5_leastIn 19 = .ok (.iload_n 1, 1) := by decide +kernel
theorem dX5_leastIn_20 : decode cX5_leastIn 20 = .ok (.if_icmp .ne 5, 3) := by decide +kernel
theorem dX5_leastIn_23 : decode cX5_leastIn 23 = .ok (.iload_n 2, 1) := by decide +kernel
theorem dX5_leastIn_24 : decode cX5_leastIn 24 = .ok (.ireturn, 1) := by decide +kernel
theorem dX5_leastIn_25 : decode cX5_leastIn 25 = .ok (.iinc 2 1, 3) := by decide +kernel
theorem dX5_leastIn_28 : decode cX5_leastIn 28 = .ok (.goto (-26), 3) := by decide +kernel
theorem dX5_leastIn_31 : decode cX5_leastIn 31 = .ok (.iconst (-1), 1) := by decide +kernel
theorem dX5_leastIn_32 : decode cX5_leastIn 32 = .ok (.ireturn, 1) := by decide +kernel
def lX5_leastIn_2 (σ : St) (a0 : Nat) (a1 : Int32) (x1 : Int32) : Option ((Int32) ⊕ ((Int32) ⊕ (Unit))) :=
  o_gR σ a0 3 8 fun r2 =>
  o_gI σ r2 0 5 fun x3 =>
  if x3 ≤ x1 then
    some (.inr (.inr ()))
  else
  o_gR σ a0 3 7 fun r4 =>
  o_aI σ r4 0 x1 fun x5 =>
  if x5 = a1 then
    some (.inr (.inl x1))
  else
  some (.inl (x1 + 1))

def fX5_leastIn (σ : St) (a0 : Nat) (a1 : Int32) : Option (Int32) :=
  (loopF fuel (fun z => lX5_leastIn_2 σ a0 a1 z) 0).bind <| sm (  fun x6 =>
    some x6) <| fun (_ : Unit) =>
  some ((-1))

set_option maxHeartbeats 4000000 in
theorem wX5_leastIn {l : Launch} {s0 : State} {A0 : Array Value} {D : va_G} {ac : Nat → ClassId} (G : Gl s0 A0 D ac) {σ : St} {a0 : Nat} {a1 : Int32} {v : Int32} (hf : fX5_leastIn σ a0 a1 = some (v)) : Met l yX5_leastIn (ws_ yX5_leastIn cX5_leastIn 3 (some (.int))) ({ frames := 0, cells := 0, slots := 0, locals := 0 } : Room) (Pn s0 D ac [.ref a0, .int a1] σ) (Qn s0 D ac (some (.int v)) σ) 0 0 (fr s0) := by
  refine x_met (by decide) (Nat.le_of_ble_eq_true rfl) ?_
  intro p e s m args below meth c ls C hnm h hl
  have C : Cx s0 p s m args meth c cX5_leastIn 3 "HutForShow$Wood" (some (.int)) := C
  have hx := C.1
  have hb := C.2.1
  have hl : lv_has ls 3 [(0, .ref a0), (1, .int a1)] := hl
  unfold fX5_leastIn at hf
  refine lv_iconst (v := 0) hx hb dX5_leastIn_0 (by decide) ?_
  refine lv_istore_n (lv' := [(2, .int 0), (0, .ref a0), (1, .int a1)]) hx hb dX5_leastIn_1 rfl hl (by decide) rfl (fun ls hl => ?_)
  obtain ⟨e2, hL, hK⟩ := hf_b hf
  have hE2_0 : ∀ (x6 : Int32), (.inl x6) = e2 → ∀  (H : Heap) (locs : List Loc) (ls : Array Slot), Hs s0 D ac σ H locs → lv_has ls 3 [(0, .ref a0), (1, .int a1), (2, .int x6)] → W p l e ({ frames := 0, cells := 0, slots := 0, locals := 0 } : Room) s m args below meth c H locs 0 0 (MQ below (Qn s0 D ac (some (.int v)) σ) args s 0 0 (fr s0)) (F0 m 23 ls []) := by
    intro x6 he H locs ls h hl
    subst he
    have hf := hK
    have hf := hf_sl hf
    refine lv_iload_n hx hb dX5_leastIn_23 rfl (lv_at hl 2 rfl) ?_
    cases hf
    refine W.widen (k := 0) (n := 0) (Nat.le_of_ble_eq_true rfl) (Nat.le_of_ble_eq_true rfl) ?_
    exact x_iret C h dX5_leastIn_24
  have hE2_1 : (.inr ()) = e2 → ∀  (H : Heap) (locs : List Loc) (ls : Array Slot), Hs s0 D ac σ H locs → lv_has ls 3 [(0, .ref a0), (1, .int a1)] → W p l e ({ frames := 0, cells := 0, slots := 0, locals := 0 } : Room) s m args below meth c H locs 0 0 (MQ below (Qn s0 D ac (some (.int v)) σ) args s 0 0 (fr s0)) (F0 m 31 ls []) := by
    intro he H locs ls h hl
    subst he
    have hf := hK
    have hf := hf_sr hf
    refine lv_iconst (v := (-1)) hx hb dX5_leastIn_31 (by decide) ?_
    cases hf
    refine W.widen (k := 0) (n := 0) (Nat.le_of_ble_eq_true rfl) (Nat.le_of_ble_eq_true rfl) ?_
    exact x_iret C h dX5_leastIn_32
  refine loopF_ind (P := fun z => ∀ (H : Heap) (locs : List Loc) (ls : Array Slot), Hs s0 D ac σ H locs → lv_has ls 3 [(0, .ref a0), (1, .int a1), (2, .int z)] → W p l e ({ frames := 0, cells := 0, slots := 0, locals := 0 } : Room) s m args below meth c H locs 0 0 (MQ below (Qn s0 D ac (some (.int v)) σ) args s 0 0 (fr s0)) (F0 m 2 ls [])) ?_ _ _ hL _ _ _ h (lv_sub hl [1, 2, 0] rfl)
  clear hK hL h hl hf
  intro z o hf ih hX H locs ls h hl
  obtain ⟨x1, rfl⟩ : ∃ y, y = z := ⟨_, rfl⟩
  have h : Hs s0 D ac σ H locs := h
  have hl : lv_has ls 3 [(0, .ref a0), (1, .int a1), (2, .int x1)] := hl
  have hf : lX5_leastIn_2 σ a0 a1 x1 = some o := hf
  unfold lX5_leastIn_2 at hf
  refine lv_iload_n hx hb dX5_leastIn_2 rfl (lv_at hl 2 rfl) ?_
  refine lv_aload_n hx hb dX5_leastIn_3 rfl (lv_at hl 0 rfl) ?_
  refine x_gR (q := (RX5, TX5, 9)) (j := 8) G C h rfl (by decide) (fun _ _ _ => rfl) (lk C q145) (fun _ z => z) dX5_leastIn_4 hf (fun r2 hf => ?_)
  refine x_gI (q := (RX0, TX0, 33)) (j := 5) G C h rfl (by decide) (fun _ _ _ => rfl) (lkn G C q208) (fun _ z => z) dX5_leastIn_7 hf (fun x3 hf => ?_)
  refine lv_icmp_ge (tgt := 31) hx hb dX5_leastIn_10 (by decide) (fun hc => ?_) (fun hc => ?_)
  · have hf := hf_t hc hf
    cases hf
    exact hE2_1 (hX _ rfl) _ _ _ h (lv_sub hl [0, 1] rfl)
  · have hf := hf_f hc hf
    refine lv_aload_n hx hb dX5_leastIn_13 rfl (lv_at hl 0 rfl) ?_
    refine x_gR (q := (RX5, TX5, 9)) (j := 7) G C h rfl (by decide) (fun _ _ _ => rfl) (lk C q141) (fun _ z => z) dX5_leastIn_14 hf (fun r4 hf => ?_)
    refine lv_iload_n hx hb dX5_leastIn_17 rfl (lv_at hl 2 rfl) ?_
    refine x_iald G C h dX5_leastIn_18 hf (fun x5 hf => ?_)
    refine lv_iload_n hx hb dX5_leastIn_19 rfl (lv_at hl 1 rfl) ?_
    refine lv_icmp_ne (tgt := 25) hx hb dX5_leastIn_20 (by decide) (fun hc => ?_) (fun hc => ?_)
    · have hf := hf_f hc hf
      refine lv_iinc (v := x1 + 1) (lv' := [(2, .int (x1 + 1)), (0, .ref a0), (1, .int a1)]) hx hb dX5_leastIn_25 hl (k := 2) rfl rfl (by decide) rfl (fun ls hl => ?_)
      refine lv_goto (tgt := 2) hx hb dX5_leastIn_28 (by decide) ?_
      cases hf
      exact ih _ rfl _ _ _ h (lv_sub hl [1, 2, 0] rfl)
    · have hf := hf_t hc hf
      cases hf
      exact hE2_0 _ (hX _ rfl) _ _ _ h (lv_sub hl [0, 1, 2] rfl)

theorem dX13_run_0 : decode cX13_run 0 = .ok (.aload_n 1, 1) := by decide +kernel
theorem dX13_run_1 : decode cX13_run 1 = .ok (.iconst (-1), 1) := by decide +kernel
theorem dX13_run_2 : decode cX13_run 2 = .ok (.invokevirtual 9, 3) := by decide +kernel
theorem dX13_run_5 : decode cX13_run 5 = .ok (.istore_n 3, 1) := by decide +kernel
theorem dX13_run_6 : decode cX13_run 6 = .ok (.iload_n 3, 1) := by decide +kernel
theorem dX13_run_7 : decode cX13_run 7 = .ok (.iconst (-1), 1) := by decide +kernel
theorem dX13_run_8 : decode cX13_run 8 = .ok (.if_icmp .eq 20, 3) := by decide +kernel
theorem dX13_run_11 : decode cX13_run 11 = .ok (.aload_n 1, 1) := by decide +kernel
theorem dX13_run_12 : decode cX13_run 12 = .ok (.iload_n 2, 1) := by decide +kernel
theorem dX13_run_13 : decode cX13_run 13 = .ok (.invokevirtual 15, 3) := by decide +kernel
theorem dX13_run_16 : decode cX13_run 16 = .ok (.bipush 12, 2) := by decide +kernel
theorem dX13_run_18 : decode cX13_run 18 = .ok (.if_icmp .ge 10, 3) := by decide +kernel
theorem dX13_run_21 : decode cX13_run 21 = .ok (.aload_n 1, 1) := by decide +kernel
theorem dX13_run_22 : decode cX13_run 22 = .ok (.getfield 18, 3) := by decide +kernel
theorem dX13_run_25 : decode cX13_run 25 = .ok (.iload_n 3, 1) := by decide +kernel
theorem dX13_run_26 : decode cX13_run 26 = .ok (.iload_n 2, 1) := by decide +kernel
theorem dX13_run_27 : decode cX13_run 27 = .ok (.iastore, 1) := by decide +kernel
theorem dX13_run_28 : decode cX13_run 28 = .ok (.return_, 1) := by decide +kernel
def fX13_run (σ : St) (a0 : Nat) (a1 : Nat) (a2 : Int32) : Option (St) :=
  o_k σ a1 3 <|
  (fX5_leastIn σ a1 ((-1))).bind fun x1 =>
  if x1 = ((-1)) then
    some σ
  else
  o_k σ a1 3 <|
  (fX5_many σ a1 a2).bind fun x2 =>
  if 12 ≤ x2 then
    some σ
  else
  o_gR σ a1 3 7 fun r3 =>
  o_sI σ r3 0 x1 a2 fun σ4 =>
  some σ4

set_option maxHeartbeats 4000000 in
theorem wX13_run {l : Launch} {s0 : State} {A0 : Array Value} {D : va_G} {ac : Nat → ClassId} (G : Gl s0 A0 D ac) {σ : St} {a0 : Nat} {a1 : Nat} {a2 : Int32} {σ' : St} (hf : fX13_run σ a0 a1 a2 = some (σ')) : Met l yX13_run (ws_ yX13_run cX13_run 4 none) ({ frames := 1, cells := 0, slots := 0, locals := 23 } : Room) (Pn s0 D ac [.ref a0, .ref a1, .int a2] σ) (Qn s0 D ac none σ') 0 0 (fr s0) := by
  refine x_met (by decide) (Nat.le_of_ble_eq_true rfl) ?_
  intro p e s m args below meth c ls C hnm h hl
  have C : Cx s0 p s m args meth c cX13_run 4 "HutForShow$Find" none := C
  have hx := C.1
  have hb := C.2.1
  have hl : lv_has ls 4 [(0, .ref a0), (1, .ref a1), (2, .int a2)] := hl
  unfold fX13_run at hf
  refine lv_aload_n hx hb dX13_run_0 rfl (lv_at hl 1 rfl) ?_
  refine lv_iconst (v := (-1)) hx hb dX13_run_1 (by decide) ?_
  obtain ⟨hk, hf⟩ := k_of hf
  obtain ⟨x1, hc, hf⟩ := hf_b hf
  refine x_cV (q := (RX5, TX5, 9)) (rest := []) (As := [.int ((-1))]) (n := 1) (ov := (some (.int x1))) G C h (wX5_leastIn G hc) hk rfl (lw_V q463 q464 q465 q59 q466) (by decide +kernel) ⟨Nat.le_of_ble_eq_true rfl, Nat.le_of_ble_eq_true rfl⟩ rfl rfl rfl hl.1 rfl (Nat.le_of_ble_eq_true rfl) dX13_run_2 ⟨(Nat.le_of_ble_eq_true rfl), (Nat.le_of_ble_eq_true rfl)⟩ (fun H locs h => ?_)
  refine lv_istore_n (lv' := [(3, .int x1), (0, .ref a0), (1, .ref a1), (2, .int a2)]) hx hb dX13_run_5 rfl hl (by decide) rfl (fun ls hl => ?_)
  refine lv_iload_n hx hb dX13_run_6 rfl (lv_at hl 0 rfl) ?_
  refine lv_iconst (v := (-1)) hx hb dX13_run_7 (by decide) ?_
  refine lv_icmp_eq (tgt := 28) hx hb dX13_run_8 (by decide) (fun hc => ?_) (fun hc => ?_)
  · have hf := hf_t hc hf
    cases hf
    refine W.widen (k := 0) (n := 0) (Nat.le_of_ble_eq_true rfl) (Nat.le_of_ble_eq_true rfl) ?_
    exact x_vret C h dX13_run_28
  · have hf := hf_f hc hf
    refine lv_aload_n hx hb dX13_run_11 rfl (lv_at hl 2 rfl) ?_
    refine lv_iload_n hx hb dX13_run_12 rfl (lv_at hl 3 rfl) ?_
    obtain ⟨hk, hf⟩ := k_of hf
    obtain ⟨x2, hc, hf⟩ := hf_b hf
    refine x_cV (q := (RX5, TX5, 9)) (rest := []) (As := [.int a2]) (n := 1) (ov := (some (.int x2))) G C h (wX5_many G hc) hk rfl (lw_V q467 q357 q358 q59 q359) (by decide +kernel) ⟨Nat.le_of_ble_eq_true rfl, Nat.le_of_ble_eq_true rfl⟩ rfl rfl rfl hl.1 rfl (Nat.le_of_ble_eq_true rfl) dX13_run_13 ⟨(Nat.le_of_ble_eq_true rfl), (Nat.le_of_ble_eq_true rfl)⟩ (fun H locs h => ?_)
    refine lv_bipush (v := 12) hx hb dX13_run_16 (by decide) ?_
    refine lv_icmp_ge (tgt := 28) hx hb dX13_run_18 (by decide) (fun hc => ?_) (fun hc => ?_)
    · have hf := hf_t hc hf
      cases hf
      refine W.widen (k := 0) (n := 0) (Nat.le_of_ble_eq_true rfl) (Nat.le_of_ble_eq_true rfl) ?_
      exact x_vret C h dX13_run_28
    · have hf := hf_f hc hf
      refine lv_aload_n hx hb dX13_run_21 rfl (lv_at hl 2 rfl) ?_
      refine x_gR (q := (RX5, TX5, 9)) (j := 7) G C h rfl (by decide) (fun _ _ _ => rfl) (lkn G C q142) (fun _ z => z) dX13_run_22 hf (fun r3 hf => ?_)
      refine lv_iload_n hx hb dX13_run_25 rfl (lv_at hl 0 rfl) ?_
      refine lv_iload_n hx hb dX13_run_26 rfl (lv_at hl 3 rfl) ?_
      refine x_iast G C h dX13_run_27 hf (fun σ4 H locs h hf => ?_)
      cases hf
      refine W.widen (k := 0) (n := 0) (Nat.le_of_ble_eq_true rfl) (Nat.le_of_ble_eq_true rfl) ?_
      exact x_vret C h dX13_run_28

theorem dX4_run_0 : decode cX4_run 0 = .ok (.aload_n 1, 1) := by decide +kernel
theorem dX4_run_1 : decode cX4_run 1 = .ok (.getfield 9, 3) := by decide +kernel
theorem dX4_run_4 : decode cX4_run 4 = .ok (.iload_n 2, 1) := by decide +kernel
theorem dX4_run_5 : decode cX4_run 5 = .ok (.iconst 0, 1) := by decide +kernel
theorem dX4_run_6 : decode cX4_run 6 = .ok (.aload_n 1, 1) := by decide +kernel
theorem dX4_run_7 : decode cX4_run 7 = .ok (.getfield 9, 3) := by decide +kernel
theorem dX4_run_10 : decode cX4_run 10 = .ok (.iload_n 2, 1) := by decide +kernel
theorem dX4_run_11 : decode cX4_run 11 = .ok (.iaload, 1) := by decide +kernel
theorem dX4_run_12 : decode cX4_run 12 = .ok (.bipush 6, 2) := by decide +kernel
theorem dX4_run_14 : decode cX4_run 14 = .ok (.isub, 1) := by decide +kernel
theorem dX4_run_15 : decode cX4_run 15 = .ok (.invokestatic 15, 3) := by decide +kernel
theorem dX4_run_18 : decode cX4_run 18 = .ok (.iastore, 1) := by decide +kernel
theorem dX4_run_19 : decode cX4_run 19 = .ok (.return_, 1) := by decide +kernel
def fX4_run (σ : St) (a0 : Nat) (a1 : Nat) (a2 : Int32) : Option (St) :=
  o_gR σ a1 3 2 fun r1 =>
  o_gR σ a1 3 2 fun r2 =>
  o_aI σ r2 0 a2 fun x3 =>
  o_let (jmax 0 (x3 - 6)) fun x4 =>
  o_sI σ r1 0 a2 x4 fun σ5 =>
  some σ5

set_option maxHeartbeats 4000000 in
theorem wX4_run {l : Launch} {s0 : State} {A0 : Array Value} {D : va_G} {ac : Nat → ClassId} (G : Gl s0 A0 D ac) {σ : St} {a0 : Nat} {a1 : Nat} {a2 : Int32} {σ' : St} (hf : fX4_run σ a0 a1 a2 = some (σ')) : Met l yX4_run (ws_ yX4_run cX4_run 3 none) ({ frames := 1, cells := 0, slots := 0, locals := 21 } : Room) (Pn s0 D ac [.ref a0, .ref a1, .int a2] σ) (Qn s0 D ac none σ') 0 0 (fr s0) := by
  refine x_met (by decide) (Nat.le_of_ble_eq_true rfl) ?_
  intro p e s m args below meth c ls C hnm h hl
  have C : Cx s0 p s m args meth c cX4_run 3 "HutForShow$Feed" none := C
  have hx := C.1
  have hb := C.2.1
  have hl : lv_has ls 3 [(0, .ref a0), (1, .ref a1), (2, .int a2)] := hl
  unfold fX4_run at hf
  refine lv_aload_n hx hb dX4_run_0 rfl (lv_at hl 1 rfl) ?_
  refine x_gR (q := (RX5, TX5, 9)) (j := 2) G C h rfl (by decide) (fun _ _ _ => rfl) (lkn G C q131) (fun _ z => z) dX4_run_1 hf (fun r1 hf => ?_)
  refine lv_iload_n hx hb dX4_run_4 rfl (lv_at hl 2 rfl) ?_
  refine lv_iconst (v := 0) hx hb dX4_run_5 (by decide) ?_
  refine lv_aload_n hx hb dX4_run_6 rfl (lv_at hl 1 rfl) ?_
  refine x_gR (q := (RX5, TX5, 9)) (j := 2) G C h rfl (by decide) (fun _ _ _ => rfl) (lkn G C q131) (fun _ z => z) dX4_run_7 hf (fun r2 hf => ?_)
  refine lv_iload_n hx hb dX4_run_10 rfl (lv_at hl 2 rfl) ?_
  refine x_iald G C h dX4_run_11 hf (fun x3 hf => ?_)
  refine lv_bipush (v := 6) hx hb dX4_run_12 (by decide) ?_
  refine lv_isub hx hb dX4_run_14 ?_
  refine x_max C hl.1 q457 q458 q63 q459 (Nat.le_of_ble_eq_true rfl) (Nat.le_of_ble_eq_true rfl) (Nat.le_of_ble_eq_true rfl) (Nat.le_of_ble_eq_true rfl) dX4_run_15 ?_
  refine x_letI hf (fun x4 hf => ?_)
  refine x_iast G C h dX4_run_18 hf (fun σ5 H locs h hf => ?_)
  cases hf
  refine W.widen (k := 0) (n := 0) (Nat.le_of_ble_eq_true rfl) (Nat.le_of_ble_eq_true rfl) ?_
  exact x_vret C h dX4_run_19

theorem dX1_isAway_0 : decode cX1_isAway 0 = .ok (.iconst 0, 1) := by decide +kernel
theorem dX1_isAway_1 : decode cX1_isAway 1 = .ok (.ireturn, 1) := by decide +kernel
def fX1_isAway (σ : St) (a0 : Nat) : Option (Int32) :=
  some 0

set_option maxHeartbeats 4000000 in
theorem wX1_isAway {l : Launch} {s0 : State} {A0 : Array Value} {D : va_G} {ac : Nat → ClassId} (G : Gl s0 A0 D ac) {σ : St} {a0 : Nat} {v : Int32} (hf : fX1_isAway σ a0 = some (v)) : Met l yX1_isAway (ws_ yX1_isAway cX1_isAway 1 (some (.boolean))) ({ frames := 0, cells := 0, slots := 0, locals := 0 } : Room) (Pn s0 D ac [.ref a0] σ) (Qn s0 D ac (some (.int v)) σ) 0 0 (fr s0) := by
  refine x_met (by decide) (Nat.le_of_ble_eq_true rfl) ?_
  intro p e s m args below meth c ls C hnm h hl
  have C : Cx s0 p s m args meth c cX1_isAway 1 "HutForShow$Act" (some (.boolean)) := C
  have hx := C.1
  have hb := C.2.1
  have hl : lv_has ls 1 [(0, .ref a0)] := hl
  unfold fX1_isAway at hf
  refine lv_iconst (v := 0) hx hb dX1_isAway_0 (by decide) ?_
  cases hf
  refine W.widen (k := 0) (n := 0) (Nat.le_of_ble_eq_true rfl) (Nat.le_of_ble_eq_true rfl) ?_
  exact x_zret C h (by decide) dX1_isAway_1

theorem dX3_isAway_0 : decode cX3_isAway 0 = .ok (.iconst 1, 1) := by decide +kernel
theorem dX3_isAway_1 : decode cX3_isAway 1 = .ok (.ireturn, 1) := by decide +kernel
def fX3_isAway (σ : St) (a0 : Nat) : Option (Int32) :=
  some 1

set_option maxHeartbeats 4000000 in
theorem wX3_isAway {l : Launch} {s0 : State} {A0 : Array Value} {D : va_G} {ac : Nat → ClassId} (G : Gl s0 A0 D ac) {σ : St} {a0 : Nat} {v : Int32} (hf : fX3_isAway σ a0 = some (v)) : Met l yX3_isAway (ws_ yX3_isAway cX3_isAway 1 (some (.boolean))) ({ frames := 0, cells := 0, slots := 0, locals := 0 } : Room) (Pn s0 D ac [.ref a0] σ) (Qn s0 D ac (some (.int v)) σ) 0 0 (fr s0) := by
  refine x_met (by decide) (Nat.le_of_ble_eq_true rfl) ?_
  intro p e s m args below meth c ls C hnm h hl
  have C : Cx s0 p s m args meth c cX3_isAway 1 "HutForShow$Away" (some (.boolean)) := C
  have hx := C.1
  have hb := C.2.1
  have hl : lv_has ls 1 [(0, .ref a0)] := hl
  unfold fX3_isAway at hf
  refine lv_iconst (v := 1) hx hb dX3_isAway_0 (by decide) ?_
  cases hf
  refine W.widen (k := 0) (n := 0) (Nat.le_of_ble_eq_true rfl) (Nat.le_of_ble_eq_true rfl) ?_
  exact x_zret C h (by decide) dX3_isAway_1

theorem dX9_isDearer_0 : decode cX9_isDearer 0 = .ok (.aload_n 0, 1) := by decide +kernel
theorem dX9_isDearer_1 : decode cX9_isDearer 1 = .ok (.getfield 7, 3) := by decide +kernel
theorem dX9_isDearer_4 : decode cX9_isDearer 4 = .ok (.aload_n 1, 1) := by decide +kernel
theorem dX9_isDearer_5 : decode cX9_isDearer 5 = .ok (.getfield 7, 3) := by decide +kernel
theorem dX9_isDearer_8 : decode cX9_isDearer 8 = .ok (.if_icmp .lt 25, 3) := by decide +kernel
theorem dX9_isDearer_11 : decode cX9_isDearer 11 = .ok (.aload_n 0, 1) := by decide +kernel
theorem dX9_isDearer_12 : decode cX9_isDearer 12 = .ok (.getfield 7, 3) := by decide +kernel
theorem dX9_isDearer_15 : decode cX9_isDearer 15 = .ok (.aload_n 1, 1) := by decide +kernel
theorem dX9_isDearer_16 : decode cX9_isDearer 16 = .ok (.getfield 7, 3) := by decide +kernel
theorem dX9_isDearer_19 : decode cX9_isDearer 19 = .ok (.if_icmp .ne 18, 3) := by decide +kernel
theorem dX9_isDearer_22 : decode cX9_isDearer 22 = .ok (.aload_n 0, 1) := by decide +kernel
theorem dX9_isDearer_23 : decode cX9_isDearer 23 = .ok (.getfield 13, 3) := by decide +kernel
theorem dX9_isDearer_26 : decode cX9_isDearer 26 = .ok (.aload_n 1, 1) := by decide +kernel
theorem dX9_isDearer_27 : decode cX9_isDearer 27 = .ok (.getfield 13, 3) := by decide +kernel
theorem dX9_isDearer_30 : decode cX9_isDearer 30 = .ok (.if_icmp .le 7, 3) := by decide +kernel
theorem dX9_isDearer_33 : decode cX9_isDearer 33 = .ok (.iconst 1, 1) := by decide +kernel
theorem dX9_isDearer_34 : decode cX9_isDearer 34 = .ok (.goto 4, 3) := by decide +kernel
theorem dX9_isDearer_37 : decode cX9_isDearer 37 = .ok (.iconst 0, 1) := by decide +kernel
theorem dX9_isDearer_38 : decode cX9_isDearer 38 = .ok (.ireturn, 1) := by decide +kernel
def fX9_isDearer (σ : St) (a0 : Nat) (a1 : Nat) : Option (Int32) :=
  o_gI σ a0 7 0 fun x1 =>
  o_gI σ a1 7 0 fun x2 =>
  jn (fun (_ : Unit) =>
    some 1) fun j33 =>
  if x1 < x2 then
    j33 ()
  else
  o_gI σ a0 7 0 fun x3 =>
  o_gI σ a1 7 0 fun x4 =>
  jn (fun (_ : Unit) =>
    some 0) fun j37 =>
  if x3 = x4 then
    o_gI σ a0 7 1 fun x5 =>
    o_gI σ a1 7 1 fun x6 =>
    if x5 ≤ x6 then
      j37 ()
    else
    j33 ()
  else
  j37 ()

set_option maxHeartbeats 4000000 in
theorem wX9_isDearer {l : Launch} {s0 : State} {A0 : Array Value} {D : va_G} {ac : Nat → ClassId} (G : Gl s0 A0 D ac) {σ : St} {a0 : Nat} {a1 : Nat} {v : Int32} (hf : fX9_isDearer σ a0 a1 = some (v)) : Met l yX9_isDearer (ws_ yX9_isDearer cX9_isDearer 2 (some (.boolean))) ({ frames := 0, cells := 0, slots := 0, locals := 0 } : Room) (Pn s0 D ac [.ref a0, .ref a1] σ) (Qn s0 D ac (some (.int v)) σ) 0 0 (fr s0) := by
  refine x_met (by decide) (Nat.le_of_ble_eq_true rfl) ?_
  intro p e s m args below meth c ls C hnm h hl
  have C : Cx s0 p s m args meth c cX9_isDearer 2 "HutForShow$Thing" (some (.boolean)) := C
  have hx := C.1
  have hb := C.2.1
  have hl : lv_has ls 2 [(0, .ref a0), (1, .ref a1)] := hl
  unfold fX9_isDearer at hf
  refine lv_aload_n hx hb dX9_isDearer_0 rfl (lv_at hl 0 rfl) ?_
  refine x_gI (q := (RX9, TX9, 3)) (j := 0) G C h rfl (by decide) (fun _ _ _ => rfl) (lk C q365) (fun _ z => z) dX9_isDearer_1 hf (fun x1 hf => ?_)
  refine lv_aload_n hx hb dX9_isDearer_4 rfl (lv_at hl 1 rfl) ?_
  refine x_gI (q := (RX9, TX9, 3)) (j := 0) G C h rfl (by decide) (fun _ _ _ => rfl) (lk C q365) (fun _ z => z) dX9_isDearer_5 hf (fun x2 hf => ?_)
  refine jn_of (P := fun j => ∀ (u0 : Unit), j u0 = some (v) → ∀ (H : Heap) (locs : List Loc) (ls : Array Slot), Hs s0 D ac σ H locs → lv_has ls 2 [(0, .ref a0), (1, .ref a1)] → W p l e ({ frames := 0, cells := 0, slots := 0, locals := 0 } : Room) s m args below meth c H locs 0 0 (MQ below (Qn s0 D ac (some (.int v)) σ) args s 0 0 (fr s0)) (F0 m 33 ls [])) hf ?_ ?_
  · intro u0 hf H locs ls h hl
    refine lv_iconst (v := 1) hx hb dX9_isDearer_33 (by decide) ?_
    refine lv_goto (tgt := 38) hx hb dX9_isDearer_34 (by decide) ?_
    cases hf
    refine W.widen (k := 0) (n := 0) (Nat.le_of_ble_eq_true rfl) (Nat.le_of_ble_eq_true rfl) ?_
    exact x_zret C h (by decide) dX9_isDearer_38
  intro j33 hj33 hf
  refine lv_icmp_lt (tgt := 33) hx hb dX9_isDearer_8 (by decide) (fun hc => ?_) (fun hc => ?_)
  · have hf := hf_t hc hf
    exact hj33 () hf _ _ _ h (lv_sub hl [0, 1] rfl)
  · have hf := hf_f hc hf
    refine lv_aload_n hx hb dX9_isDearer_11 rfl (lv_at hl 0 rfl) ?_
    refine x_gI (q := (RX9, TX9, 3)) (j := 0) G C h rfl (by decide) (fun _ _ _ => rfl) (lk C q365) (fun _ z => z) dX9_isDearer_12 hf (fun x3 hf => ?_)
    refine lv_aload_n hx hb dX9_isDearer_15 rfl (lv_at hl 1 rfl) ?_
    refine x_gI (q := (RX9, TX9, 3)) (j := 0) G C h rfl (by decide) (fun _ _ _ => rfl) (lk C q365) (fun _ z => z) dX9_isDearer_16 hf (fun x4 hf => ?_)
    refine jn_of (P := fun j => ∀ (u0 : Unit), j u0 = some (v) → ∀ (H : Heap) (locs : List Loc) (ls : Array Slot), Hs s0 D ac σ H locs → lv_has ls 2 [(0, .ref a0), (1, .ref a1)] → W p l e ({ frames := 0, cells := 0, slots := 0, locals := 0 } : Room) s m args below meth c H locs 0 0 (MQ below (Qn s0 D ac (some (.int v)) σ) args s 0 0 (fr s0)) (F0 m 37 ls [])) hf ?_ ?_
    · intro u0 hf H locs ls h hl
      refine lv_iconst (v := 0) hx hb dX9_isDearer_37 (by decide) ?_
      cases hf
      refine W.widen (k := 0) (n := 0) (Nat.le_of_ble_eq_true rfl) (Nat.le_of_ble_eq_true rfl) ?_
      exact x_zret C h (by decide) dX9_isDearer_38
    intro j37 hj37 hf
    refine lv_icmp_ne (tgt := 37) hx hb dX9_isDearer_19 (by decide) (fun hc => ?_) (fun hc => ?_)
    · have hf := hf_f hc hf
      exact hj37 () hf _ _ _ h (lv_sub hl [0, 1] rfl)
    · have hf := hf_t hc hf
      refine lv_aload_n hx hb dX9_isDearer_22 rfl (lv_at hl 0 rfl) ?_
      refine x_gI (q := (RX9, TX9, 3)) (j := 1) G C h rfl (by decide) (fun _ _ _ => rfl) (lk C q369) (fun _ z => z) dX9_isDearer_23 hf (fun x5 hf => ?_)
      refine lv_aload_n hx hb dX9_isDearer_26 rfl (lv_at hl 1 rfl) ?_
      refine x_gI (q := (RX9, TX9, 3)) (j := 1) G C h rfl (by decide) (fun _ _ _ => rfl) (lk C q369) (fun _ z => z) dX9_isDearer_27 hf (fun x6 hf => ?_)
      refine lv_icmp_le (tgt := 37) hx hb dX9_isDearer_30 (by decide) (fun hc => ?_) (fun hc => ?_)
      · have hf := hf_t hc hf
        exact hj37 () hf _ _ _ h (lv_sub hl [0, 1] rfl)
      · have hf := hf_f hc hf
        exact hj33 () hf _ _ _ h (lv_sub hl [0, 1] rfl)
