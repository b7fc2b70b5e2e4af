set_option maxRecDepth 100000
theorem dX0_init_0 : decode cX0_init 0 = .ok (.aload_n 0, 1) := by decide +kernel
theorem dX0_init_1 : decode cX0_init 1 = .ok (.invokespecial 3, 3) := by decide +kernel
theorem dX0_init_4 : decode cX0_init 4 = .ok (.aload_n 0, 1) := by decide +kernel
theorem dX0_init_5 : decode cX0_init 5 = .ok (.new 9, 3) := by decide +kernel
theorem dX0_init_8 : decode cX0_init 8 = .ok (.dup, 1) := by decide +kernel
theorem dX0_init_9 : decode cX0_init 9 = .ok (.invokespecial 11, 3) := by decide +kernel
theorem dX0_init_12 : decode cX0_init 12 = .ok (.putfield 12, 3) := by decide +kernel
theorem dX0_init_15 : decode cX0_init 15 = .ok (.aload_n 0, 1) := by decide +kernel
theorem dX0_init_16 : decode cX0_init 16 = .ok (.new 18, 3) := by decide +kernel
theorem dX0_init_19 : decode cX0_init 19 = .ok (.dup, 1) := by decide +kernel
theorem dX0_init_20 : decode cX0_init 20 = .ok (.invokespecial 20, 3) := by decide +kernel
theorem dX0_init_23 : decode cX0_init 23 = .ok (.putfield 21, 3) := by decide +kernel
theorem dX0_init_26 : decode cX0_init 26 = .ok (.aload_n 0, 1) := by decide +kernel
theorem dX0_init_27 : decode cX0_init 27 = .ok (.bipush 6, 2) := by decide +kernel
theorem dX0_init_29 : decode cX0_init 29 = .ok (.anewarray 24, 3) := by decide +kernel
theorem dX0_init_32 : decode cX0_init 32 = .ok (.putfield 26, 3) := by decide +kernel
theorem dX0_init_35 : decode cX0_init 35 = .ok (.aload_n 0, 1) := by decide +kernel
theorem dX0_init_36 : decode cX0_init 36 = .ok (.bipush 40, 2) := by decide +kernel
theorem dX0_init_38 : decode cX0_init 38 = .ok (.anewarray 30, 3) := by decide +kernel
theorem dX0_init_41 : decode cX0_init 41 = .ok (.putfield 32, 3) := by decide +kernel
theorem dX0_init_44 : decode cX0_init 44 = .ok (.aload_n 0, 1) := by decide +kernel
theorem dX0_init_45 : decode cX0_init 45 = .ok (.iconst 5, 1) := by decide +kernel
theorem dX0_init_46 : decode cX0_init 46 = .ok (.newarray .int, 2) := by decide +kernel
theorem dX0_init_48 : decode cX0_init 48 = .ok (.dup, 1) := by decide +kernel
theorem dX0_init_49 : decode cX0_init 49 = .ok (.iconst 0, 1) := by decide +kernel
theorem dX0_init_50 : decode cX0_init 50 = .ok (.bipush 20, 2) := by decide +kernel
theorem dX0_init_52 : decode cX0_init 52 = .ok (.iastore, 1) := by decide +kernel
theorem dX0_init_53 : decode cX0_init 53 = .ok (.dup, 1) := by decide +kernel
theorem dX0_init_54 : decode cX0_init 54 = .ok (.iconst 1, 1) := by decide +kernel
theorem dX0_init_55 : decode cX0_init 55 = .ok (.bipush 10, 2) := by decide +kernel
theorem dX0_init_57 : decode cX0_init 57 = .ok (.iastore, 1) := by decide +kernel
theorem dX0_init_58 : decode cX0_init 58 = .ok (.dup, 1) := by decide +kernel
theorem dX0_init_59 : decode cX0_init 59 = .ok (.iconst 2, 1) := by decide +kernel
theorem dX0_init_60 : decode cX0_init 60 = .ok (.bipush 15, 2) := by decide +kernel
theorem dX0_init_62 : decode cX0_init 62 = .ok (.iastore, 1) := by decide +kernel
theorem dX0_init_63 : decode cX0_init 63 = .ok (.dup, 1) := by decide +kernel
theorem dX0_init_64 : decode cX0_init 64 = .ok (.iconst 3, 1) := by decide +kernel
theorem dX0_init_65 : decode cX0_init 65 = .ok (.bipush 8, 2) := by decide +kernel
theorem dX0_init_67 : decode cX0_init 67 = .ok (.iastore, 1) := by decide +kernel
theorem dX0_init_68 : decode cX0_init 68 = .ok (.dup, 1) := by decide +kernel
theorem dX0_init_69 : decode cX0_init 69 = .ok (.iconst 4, 1) := by decide +kernel
theorem dX0_init_70 : decode cX0_init 70 = .ok (.iconst 0, 1) := by decide +kernel
theorem dX0_init_71 : decode cX0_init 71 = .ok (.iastore, 1) := by decide +kernel
theorem dX0_init_72 : decode cX0_init 72 = .ok (.putfield 36, 3) := by decide +kernel
theorem dX0_init_75 : decode cX0_init 75 = .ok (.aload_n 0, 1) := by decide +kernel
theorem dX0_init_76 : decode cX0_init 76 = .ok (.new 40, 3) := by decide +kernel
theorem dX0_init_79 : decode cX0_init 79 = .ok (.dup, 1) := by decide +kernel
theorem dX0_init_80 : decode cX0_init 80 = .ok (.aload_n 0, 1) := by decide +kernel
theorem dX0_init_81 : decode cX0_init 81 = .ok (.invokespecial 42, 3) := by decide +kernel
theorem dX0_init_84 : decode cX0_init 84 = .ok (.putfield 45, 3) := by decide +kernel
theorem dX0_init_87 : decode cX0_init 87 = .ok (.aload_n 0, 1) := by decide +kernel
theorem dX0_init_88 : decode cX0_init 88 = .ok (.new 40, 3) := by decide +kernel
theorem dX0_init_91 : decode cX0_init 91 = .ok (.dup, 1) := by decide +kernel
theorem dX0_init_92 : decode cX0_init 92 = .ok (.aload_n 0, 1) := by decide +kernel
theorem dX0_init_93 : decode cX0_init 93 = .ok (.invokespecial 42, 3) := by decide +kernel
theorem dX0_init_96 : decode cX0_init 96 = .ok (.putfield 49, 3) := by decide +kernel
theorem dX0_init_99 : decode cX0_init 99 = .ok (.aload_n 0, 1) := by decide +kernel
theorem dX0_init_100 : decode cX0_init 100 = .ok (.bipush 6, 2) := by decide +kernel
theorem dX0_init_102 : decode cX0_init 102 = .ok (.anewarray 52, 3) := by decide +kernel
theorem dX0_init_105 : decode cX0_init 105 = .ok (.putfield 54, 3) := by decide +kernel
theorem dX0_init_108 : decode cX0_init 108 = .ok (.aload_n 0, 1) := by decide +kernel
theorem dX0_init_109 : decode cX0_init 109 = .ok (.iconst 4, 1) := by decide +kernel
theorem dX0_init_110 : decode cX0_init 110 = .ok (.anewarray 58, 3) := by decide +kernel
theorem dX0_init_113 : decode cX0_init 113 = .ok (.putfield 60, 3) := by decide +kernel
theorem dX0_init_116 : decode cX0_init 116 = .ok (.aload_n 0, 1) := by decide +kernel
theorem dX0_init_117 : decode cX0_init 117 = .ok (.sipush 160, 3) := by decide +kernel
theorem dX0_init_120 : decode cX0_init 120 = .ok (.newarray .byte, 2) := by decide +kernel
theorem dX0_init_122 : decode cX0_init 122 = .ok (.putfield 64, 3) := by decide +kernel
theorem dX0_init_125 : decode cX0_init 125 = .ok (.aload_n 0, 1) := by decide +kernel
theorem dX0_init_126 : decode cX0_init 126 = .ok (.new 68, 3) := by decide +kernel
theorem dX0_init_129 : decode cX0_init 129 = .ok (.dup, 1) := by decide +kernel
theorem dX0_init_130 : decode cX0_init 130 = .ok (.aload_n 0, 1) := by decide +kernel
theorem dX0_init_131 : decode cX0_init 131 = .ok (.invokespecial 70, 3) := by decide +kernel
theorem dX0_init_134 : decode cX0_init 134 = .ok (.putfield 71, 3) := by decide +kernel
theorem dX0_init_137 : decode cX0_init 137 = .ok (.aload_n 0, 1) := by decide +kernel
theorem dX0_init_138 : decode cX0_init 138 = .ok (.bipush 7, 2) := by decide +kernel
theorem dX0_init_140 : decode cX0_init 140 = .ok (.newarray .int, 2) := by decide +kernel
theorem dX0_init_142 : decode cX0_init 142 = .ok (.putfield 75, 3) := by decide +kernel
theorem dX0_init_145 : decode cX0_init 145 = .ok (.aload_n 0, 1) := by decide +kernel
theorem dX0_init_146 : decode cX0_init 146 = .ok (.bipush 7, 2) := by decide +kernel
theorem dX0_init_148 : decode cX0_init 148 = .ok (.newarray .int, 2) := by decide +kernel
theorem dX0_init_150 : decode cX0_init 150 = .ok (.putfield 78, 3) := by decide +kernel
theorem dX0_init_153 : decode cX0_init 153 = .ok (.aload_n 0, 1) := by decide +kernel
theorem dX0_init_154 : decode cX0_init 154 = .ok (.bipush 7, 2) := by decide +kernel
theorem dX0_init_156 : decode cX0_init 156 = .ok (.newarray .int, 2) := by decide +kernel
theorem dX0_init_158 : decode cX0_init 158 = .ok (.putfield 81, 3) := by decide +kernel
theorem dX0_init_161 : decode cX0_init 161 = .ok (.aload_n 0, 1) := by decide +kernel
theorem dX0_init_162 : decode cX0_init 162 = .ok (.bipush 20, 2) := by decide +kernel
theorem dX0_init_164 : decode cX0_init 164 = .ok (.newarray .int, 2) := by decide +kernel
theorem dX0_init_166 : decode cX0_init 166 = .ok (.putfield 84, 3) := by decide +kernel
theorem dX0_init_169 : decode cX0_init 169 = .ok (.aload_n 0, 1) := by decide +kernel
theorem dX0_init_170 : decode cX0_init 170 = .ok (.bipush 20, 2) := by decide +kernel
theorem dX0_init_172 : decode cX0_init 172 = .ok (.newarray .int, 2) := by decide +kernel
theorem dX0_init_174 : decode cX0_init 174 = .ok (.putfield 87, 3) := by decide +kernel
theorem dX0_init_177 : decode cX0_init 177 = .ok (.aload_n 0, 1) := by decide +kernel
theorem dX0_init_178 : decode cX0_init 178 = .ok (.bipush 24, 2) := by decide +kernel
theorem dX0_init_180 : decode cX0_init 180 = .ok (.newarray .int, 2) := by decide +kernel
theorem dX0_init_182 : decode cX0_init 182 = .ok (.putfield 90, 3) := by decide +kernel
theorem dX0_init_185 : decode cX0_init 185 = .ok (.aload_n 0, 1) := by decide +kernel
theorem dX0_init_186 : decode cX0_init 186 = .ok (.bipush 24, 2) := by decide +kernel
theorem dX0_init_188 : decode cX0_init 188 = .ok (.newarray .int, 2) := by decide +kernel
theorem dX0_init_190 : decode cX0_init 190 = .ok (.putfield 93, 3) := by decide +kernel
theorem dX0_init_193 : decode cX0_init 193 = .ok (.aload_n 0, 1) := by decide +kernel
theorem dX0_init_194 : decode cX0_init 194 = .ok (.bipush 24, 2) := by decide +kernel
theorem dX0_init_196 : decode cX0_init 196 = .ok (.newarray .int, 2) := by decide +kernel
theorem dX0_init_198 : decode cX0_init 198 = .ok (.putfield 96, 3) := by decide +kernel
theorem dX0_init_201 : decode cX0_init 201 = .ok (.aload_n 0, 1) := by decide +kernel
theorem dX0_init_202 : decode cX0_init 202 = .ok (.bipush 64, 2) := by decide +kernel
theorem dX0_init_204 : decode cX0_init 204 = .ok (.newarray .int, 2) := by decide +kernel
theorem dX0_init_206 : decode cX0_init 206 = .ok (.putfield 99, 3) := by decide +kernel
theorem dX0_init_209 : decode cX0_init 209 = .ok (.aload_n 0, 1) := by decide +kernel
theorem dX0_init_210 : decode cX0_init 210 = .ok (.bipush 16, 2) := by decide +kernel
theorem dX0_init_212 : decode cX0_init 212 = .ok (.anewarray 102, 3) := by decide +kernel
theorem dX0_init_215 : decode cX0_init 215 = .ok (.putfield 104, 3) := by decide +kernel
theorem dX0_init_218 : decode cX0_init 218 = .ok (.aload_n 0, 1) := by decide +kernel
theorem dX0_init_219 : decode cX0_init 219 = .ok (.bipush 16, 2) := by decide +kernel
theorem dX0_init_221 : decode cX0_init 221 = .ok (.newarray .boolean, 2) := by decide +kernel
theorem dX0_init_223 : decode cX0_init 223 = .ok (.putfield 108, 3) := by decide +kernel
theorem dX0_init_226 : decode cX0_init 226 = .ok (.aload_n 0, 1) := by decide +kernel
theorem dX0_init_227 : decode cX0_init 227 = .ok (.bipush 8, 2) := by decide +kernel
theorem dX0_init_229 : decode cX0_init 229 = .ok (.anewarray 102, 3) := by decide +kernel
theorem dX0_init_232 : decode cX0_init 232 = .ok (.putfield 112, 3) := by decide +kernel
theorem dX0_init_235 : decode cX0_init 235 = .ok (.aload_n 0, 1) := by decide +kernel
theorem dX0_init_236 : decode cX0_init 236 = .ok (.bipush 10, 2) := by decide +kernel
theorem dX0_init_238 : decode cX0_init 238 = .ok (.anewarray 24, 3) := by decide +kernel
theorem dX0_init_241 : decode cX0_init 241 = .ok (.putfield 115, 3) := by decide +kernel
theorem dX0_init_244 : decode cX0_init 244 = .ok (.aload_n 0, 1) := by decide +kernel
theorem dX0_init_245 : decode cX0_init 245 = .ok (.sipush 1024, 3) := by decide +kernel
theorem dX0_init_248 : decode cX0_init 248 = .ok (.bipush 10, 2) := by decide +kernel
theorem dX0_init_250 : decode cX0_init 250 = .ok (.multianewarray 118 2, 4) := by decide +kernel
theorem dX0_init_254 : decode cX0_init 254 = .ok (.putfield 120, 3) := by decide +kernel
theorem dX0_init_257 : decode cX0_init 257 = .ok (.return_, 1) := by decide +kernel
def fX0_init (σ : St) (a0 : Nat) : Option (St) :=
  o_new σ 1 fun r1 σ2 =>
  (fX2_init σ2 r1).bind fun _ =>
  o_pR σ2 a0 0 0 (some r1) fun σ3 =>
  o_new σ3 2 fun r4 σ5 =>
  (fX4_init σ5 r4).bind fun _ =>
  o_pR σ5 a0 0 1 (some r4) fun σ6 =>
  o_newa σ6 3 6 fun r7 σ8 =>
  o_pR σ8 a0 0 2 (some r7) fun σ9 =>
  o_newa σ9 4 40 fun r10 σ11 =>
  o_pR σ11 a0 0 4 (some r10) fun σ12 =>
  o_newa σ12 0 5 fun r13 σ14 =>
  o_sI σ14 r13 0 0 20 fun σ15 =>
  o_sI σ15 r13 0 1 10 fun σ16 =>
  o_sI σ16 r13 0 2 15 fun σ17 =>
  o_sI σ17 r13 0 3 8 fun σ18 =>
  o_sI σ18 r13 0 4 0 fun σ19 =>
  o_pR σ19 a0 0 6 (some r13) fun σ20 =>
  o_new σ20 3 fun r21 σ22 =>
  (fX5_init σ22 r21 a0).bind fun σ23 =>
  o_pR σ23 a0 0 7 (some r21) fun σ24 =>
  o_new σ24 3 fun r25 σ26 =>
  (fX5_init σ26 r25 a0).bind fun σ27 =>
  o_pR σ27 a0 0 8 (some r25) fun σ28 =>
  o_newa σ28 6 6 fun r29 σ30 =>
  o_pR σ30 a0 0 9 (some r29) fun σ31 =>
  o_newa σ31 7 4 fun r32 σ33 =>
  o_pR σ33 a0 0 10 (some r32) fun σ34 =>
  o_newa σ34 1 160 fun r35 σ36 =>
  o_pR σ36 a0 0 11 (some r35) fun σ37 =>
  o_new σ37 4 fun r38 σ39 =>
  (fX6_init σ39 r38 a0).bind fun σ40 =>
  o_pR σ40 a0 0 13 (some r38) fun σ41 =>
  o_newa σ41 0 7 fun r42 σ43 =>
  o_pR σ43 a0 0 14 (some r42) fun σ44 =>
  o_newa σ44 0 7 fun r45 σ46 =>
  o_pR σ46 a0 0 15 (some r45) fun σ47 =>
  o_newa σ47 0 7 fun r48 σ49 =>
  o_pR σ49 a0 0 16 (some r48) fun σ50 =>
  o_newa σ50 0 20 fun r51 σ52 =>
  o_pR σ52 a0 0 17 (some r51) fun σ53 =>
  o_newa σ53 0 20 fun r54 σ55 =>
  o_pR σ55 a0 0 18 (some r54) fun σ56 =>
  o_newa σ56 0 24 fun r57 σ58 =>
  o_pR σ58 a0 0 20 (some r57) fun σ59 =>
  o_newa σ59 0 24 fun r60 σ61 =>
  o_pR σ61 a0 0 21 (some r60) fun σ62 =>
  o_newa σ62 0 24 fun r63 σ64 =>
  o_pR σ64 a0 0 22 (some r63) fun σ65 =>
  o_newa σ65 0 64 fun r66 σ67 =>
  o_pR σ67 a0 0 24 (some r66) fun σ68 =>
  o_newa σ68 8 16 fun r69 σ70 =>
  o_pR σ70 a0 0 25 (some r69) fun σ71 =>
  o_newa σ71 2 16 fun r72 σ73 =>
  o_pR σ73 a0 0 26 (some r72) fun σ74 =>
  o_newa σ74 8 8 fun r75 σ76 =>
  o_pR σ76 a0 0 28 (some r75) fun σ77 =>
  o_newa σ77 3 10 fun r78 σ79 =>
  o_pR σ79 a0 0 30 (some r78) fun σ80 =>
  o_grid σ80 11 0 1024 10 fun r81 σ82 =>
  o_pR σ82 a0 0 32 (some r81) fun σ83 =>
  some σ83

set_option maxHeartbeats 4000000 in
theorem wX0_init {l : Launch} {s0 : State} {A0 : Array Value} {D : va_G} {ac : Nat → ClassId} (G : Gl s0 A0 D ac) {σ : St} {a0 : Nat} {σ' : St} (hf : fX0_init σ a0 = some (σ')) : Met l yX0_init (ws_ yX0_init cX0_init 1 none) ({ frames := 4, cells := 1063, slots := 11906, locals := 72 } : Room) (Pn s0 D ac [.ref a0] σ) (Qn s0 D ac none σ') 1063 11906 (fr s0) := by
  refine x_met (by decide) (Nat.le_of_ble_eq_true rfl) ?_
  intro p e s m args below meth c ls C hnm h hl
  have C : Cx s0 p s m args meth c cX0_init 1 "HutForShow" none := C
  have hx := C.1
  have hb := C.2.1
  have hl : lv_has ls 1 [(0, .ref a0)] := hl
  unfold fX0_init at hf
  refine lv_aload_n hx hb dX0_init_0 rfl (lv_at hl 0 rfl) ?_
  refine W.objInit hx hb C.2.2.2.1 (C.2.2.2.2.1 _ q87) (C.2.2.2.2.1 _ q88) (C.2.2.2.2.1 _ q89) rfl (by rw [C.2.2.1]; exact hl.1) rfl dX0_init_1 (Nat.le_of_ble_eq_true rfl) (Nat.le_of_ble_eq_true rfl) ?_
  refine W.eq (g2 := F0 m 4 ls []) rfl ?_
  refine lv_aload_n hx hb dX0_init_4 rfl (lv_at hl 0 rfl) ?_
  refine x_new (q := (RX2, TZ0, 0)) G C h rfl (fun j _ => nf_all 1 j) q90 q91 q56 (Nat.le_of_ble_eq_true rfl) (Nat.le_of_ble_eq_true rfl) dX0_init_5 hf (fun r1 σ2 H h hf => ?_)
  refine lv_dup hx hb dX0_init_8 rfl ?_
  obtain ⟨_, hc, hf⟩ := hf_b hf
  refine x_cIN (rest := [.ref r1, .ref a0]) (As := []) (n := 0) (ov := none) G C h (wX2_init G hc) q92 q93 q56 q94 rfl (by decide +kernel) ⟨Nat.le_of_ble_eq_true rfl, Nat.le_of_ble_eq_true rfl⟩ rfl rfl rfl hl.1 rfl (Nat.le_of_ble_eq_true rfl) dX0_init_9 ⟨(Nat.le_of_ble_eq_true rfl), (Nat.le_of_ble_eq_true rfl)⟩ (fun H locs h => ?_)
  refine x_pR (q := (RX0, TX0, 33)) (j := 0) G C h rfl (by decide) rfl (lk C q194) (fun _ z => z) (Or.inr ⟨hnm, rfl⟩) dX0_init_12 hf (fun σ3 H locs h hf => ?_)
  refine lv_aload_n hx hb dX0_init_15 rfl (lv_at hl 0 rfl) ?_
  refine x_new (q := (RX4, TZ0, 0)) G C h rfl (fun j _ => nf_all 2 j) q100 q101 q58 (Nat.le_of_ble_eq_true rfl) (Nat.le_of_ble_eq_true rfl) dX0_init_16 hf (fun r4 σ5 H h hf => ?_)
  refine lv_dup hx hb dX0_init_19 rfl ?_
  obtain ⟨_, hc, hf⟩ := hf_b hf
  refine x_cIN (rest := [.ref r4, .ref a0]) (As := []) (n := 0) (ov := none) G C h (wX4_init G hc) q102 q103 q58 q104 rfl (by decide +kernel) ⟨Nat.le_of_ble_eq_true rfl, Nat.le_of_ble_eq_true rfl⟩ rfl rfl rfl hl.1 rfl (Nat.le_of_ble_eq_true rfl) dX0_init_20 ⟨(Nat.le_of_ble_eq_true rfl), (Nat.le_of_ble_eq_true rfl)⟩ (fun H locs h => ?_)
  refine x_pR (q := (RX0, TX0, 33)) (j := 1) G C h rfl (by decide) rfl (lk C q198) (fun _ z => z) (Or.inr ⟨hnm, rfl⟩) dX0_init_23 hf (fun σ6 H locs h hf => ?_)
  refine lv_aload_n hx hb dX0_init_26 rfl (lv_at hl 0 rfl) ?_
  refine lv_bipush (v := 6) hx hb dX0_init_27 (by decide) ?_
  refine x_anew (q := 3) (N := 6) G C h rfl q110 q111 (by decide) (by decide) (by decide) (Nat.le_of_ble_eq_true rfl) (Nat.le_of_ble_eq_true rfl) dX0_init_29 hf (fun r7 σ8 H h hf => ?_)
  refine x_pR (q := (RX0, TX0, 33)) (j := 2) G C h rfl (by decide) rfl (lk C q201) (fun _ z => z) (Or.inr ⟨hnm, rfl⟩) dX0_init_32 hf (fun σ9 H locs h hf => ?_)
  refine lv_aload_n hx hb dX0_init_35 rfl (lv_at hl 0 rfl) ?_
  refine lv_bipush (v := 40) hx hb dX0_init_36 (by decide) ?_
  refine x_anew (q := 4) (N := 40) G C h rfl q112 q113 (by decide) (by decide) (by decide) (Nat.le_of_ble_eq_true rfl) (Nat.le_of_ble_eq_true rfl) dX0_init_38 hf (fun r10 σ11 H h hf => ?_)
  refine x_pR (q := (RX0, TX0, 33)) (j := 4) G C h rfl (by decide) rfl (lk C q205) (fun _ z => z) (Or.inr ⟨hnm, rfl⟩) dX0_init_41 hf (fun σ12 H locs h hf => ?_)
  refine lv_aload_n hx hb dX0_init_44 rfl (lv_at hl 0 rfl) ?_
  refine lv_iconst (v := 5) hx hb dX0_init_45 (by decide) ?_
  refine x_newa (atype := .int) (q := 0) (N := 5) G C h rfl rfl q165 (by decide) (by decide) (by decide) (Nat.le_of_ble_eq_true rfl) (Nat.le_of_ble_eq_true rfl) dX0_init_46 hf (fun r13 σ14 H h hf => ?_)
  refine lv_dup hx hb dX0_init_48 rfl ?_
  refine lv_iconst (v := 0) hx hb dX0_init_49 (by decide) ?_
  refine lv_bipush (v := 20) hx hb dX0_init_50 (by decide) ?_
  refine x_iast G C h dX0_init_52 hf (fun σ15 H locs h hf => ?_)
  refine lv_dup hx hb dX0_init_53 rfl ?_
  refine lv_iconst (v := 1) hx hb dX0_init_54 (by decide) ?_
  refine lv_bipush (v := 10) hx hb dX0_init_55 (by decide) ?_
  refine x_iast G C h dX0_init_57 hf (fun σ16 H locs h hf => ?_)
  refine lv_dup hx hb dX0_init_58 rfl ?_
  refine lv_iconst (v := 2) hx hb dX0_init_59 (by decide) ?_
  refine lv_bipush (v := 15) hx hb dX0_init_60 (by decide) ?_
  refine x_iast G C h dX0_init_62 hf (fun σ17 H locs h hf => ?_)
  refine lv_dup hx hb dX0_init_63 rfl ?_
  refine lv_iconst (v := 3) hx hb dX0_init_64 (by decide) ?_
  refine lv_bipush (v := 8) hx hb dX0_init_65 (by decide) ?_
  refine x_iast G C h dX0_init_67 hf (fun σ18 H locs h hf => ?_)
  refine lv_dup hx hb dX0_init_68 rfl ?_
  refine lv_iconst (v := 4) hx hb dX0_init_69 (by decide) ?_
  refine lv_iconst (v := 0) hx hb dX0_init_70 (by decide) ?_
  refine x_iast G C h dX0_init_71 hf (fun σ19 H locs h hf => ?_)
  refine x_pR (q := (RX0, TX0, 33)) (j := 6) G C h rfl (by decide) rfl (lk C q211) (fun _ z => z) (Or.inr ⟨hnm, rfl⟩) dX0_init_72 hf (fun σ20 H locs h hf => ?_)
  refine lv_aload_n hx hb dX0_init_75 rfl (lv_at hl 0 rfl) ?_
  refine x_new (q := (RX5, TX5, 9)) G C h rfl (fun j _ => nf_all 3 j) q114 q115 q59 (Nat.le_of_ble_eq_true rfl) (Nat.le_of_ble_eq_true rfl) dX0_init_76 hf (fun r21 σ22 H h hf => ?_)
  refine lv_dup hx hb dX0_init_79 rfl ?_
  refine lv_aload_n hx hb dX0_init_80 rfl (lv_at hl 0 rfl) ?_
  obtain ⟨σ23, hc, hf⟩ := hf_b hf
  refine x_cIN (rest := [.ref r21, .ref a0]) (As := [.ref a0]) (n := 1) (ov := none) G C h (wX5_init G hc) q116 q117 q59 q118 rfl (by decide +kernel) ⟨Nat.le_of_ble_eq_true rfl, Nat.le_of_ble_eq_true rfl⟩ rfl rfl rfl hl.1 rfl (Nat.le_of_ble_eq_true rfl) dX0_init_81 ⟨(Nat.le_of_ble_eq_true rfl), (Nat.le_of_ble_eq_true rfl)⟩ (fun H locs h => ?_)
  refine x_pR (q := (RX0, TX0, 33)) (j := 7) G C h rfl (by decide) rfl (lk C q213) (fun _ z => z) (Or.inr ⟨hnm, rfl⟩) dX0_init_84 hf (fun σ24 H locs h hf => ?_)
  refine lv_aload_n hx hb dX0_init_87 rfl (lv_at hl 0 rfl) ?_
  refine x_new (q := (RX5, TX5, 9)) G C h rfl (fun j _ => nf_all 3 j) q114 q115 q59 (Nat.le_of_ble_eq_true rfl) (Nat.le_of_ble_eq_true rfl) dX0_init_88 hf (fun r25 σ26 H h hf => ?_)
  refine lv_dup hx hb dX0_init_91 rfl ?_
  refine lv_aload_n hx hb dX0_init_92 rfl (lv_at hl 0 rfl) ?_
  obtain ⟨σ27, hc, hf⟩ := hf_b hf
  refine x_cIN (rest := [.ref r25, .ref a0]) (As := [.ref a0]) (n := 1) (ov := none) G C h (wX5_init G hc) q116 q117 q59 q118 rfl (by decide +kernel) ⟨Nat.le_of_ble_eq_true rfl, Nat.le_of_ble_eq_true rfl⟩ rfl rfl rfl hl.1 rfl (Nat.le_of_ble_eq_true rfl) dX0_init_93 ⟨(Nat.le_of_ble_eq_true rfl), (Nat.le_of_ble_eq_true rfl)⟩ (fun H locs h => ?_)
  refine x_pR (q := (RX0, TX0, 33)) (j := 8) G C h rfl (by decide) rfl (lk C q214) (fun _ z => z) (Or.inr ⟨hnm, rfl⟩) dX0_init_96 hf (fun σ28 H locs h hf => ?_)
  refine lv_aload_n hx hb dX0_init_99 rfl (lv_at hl 0 rfl) ?_
  refine lv_bipush (v := 6) hx hb dX0_init_100 (by decide) ?_
  refine x_anew (q := 6) (N := 6) G C h rfl q166 q167 (by decide) (by decide) (by decide) (Nat.le_of_ble_eq_true rfl) (Nat.le_of_ble_eq_true rfl) dX0_init_102 hf (fun r29 σ30 H h hf => ?_)
  refine x_pR (q := (RX0, TX0, 33)) (j := 9) G C h rfl (by decide) rfl (lk C q215) (fun _ z => z) (Or.inr ⟨hnm, rfl⟩) dX0_init_105 hf (fun σ31 H locs h hf => ?_)
  refine lv_aload_n hx hb dX0_init_108 rfl (lv_at hl 0 rfl) ?_
  refine lv_iconst (v := 4) hx hb dX0_init_109 (by decide) ?_
  refine x_anew (q := 7) (N := 4) G C h rfl q168 q169 (by decide) (by decide) (by decide) (Nat.le_of_ble_eq_true rfl) (Nat.le_of_ble_eq_true rfl) dX0_init_110 hf (fun r32 σ33 H h hf => ?_)
  refine x_pR (q := (RX0, TX0, 33)) (j := 10) G C h rfl (by decide) rfl (lk C q217) (fun _ z => z) (Or.inr ⟨hnm, rfl⟩) dX0_init_113 hf (fun σ34 H locs h hf => ?_)
  refine lv_aload_n hx hb dX0_init_116 rfl (lv_at hl 0 rfl) ?_
  refine lv_sipush (v := 160) hx hb dX0_init_117 (by decide) ?_
  refine x_newa (atype := .byte) (q := 1) (N := 160) G C h rfl rfl q189 (by decide) (by decide) (by decide) (Nat.le_of_ble_eq_true rfl) (Nat.le_of_ble_eq_true rfl) dX0_init_120 hf (fun r35 σ36 H h hf => ?_)
  refine x_pR (q := (RX0, TX0, 33)) (j := 11) G C h rfl (by decide) rfl (lk C q219) (fun _ z => z) (Or.inr ⟨hnm, rfl⟩) dX0_init_122 hf (fun σ37 H locs h hf => ?_)
  refine lv_aload_n hx hb dX0_init_125 rfl (lv_at hl 0 rfl) ?_
  refine x_new (q := (RX6, TX6, 4)) G C h rfl (fun j _ => nf_all 4 j) q170 q171 q60 (Nat.le_of_ble_eq_true rfl) (Nat.le_of_ble_eq_true rfl) dX0_init_126 hf (fun r38 σ39 H h hf => ?_)
  refine lv_dup hx hb dX0_init_129 rfl ?_
  refine lv_aload_n hx hb dX0_init_130 rfl (lv_at hl 0 rfl) ?_
  obtain ⟨σ40, hc, hf⟩ := hf_b hf
  refine x_cIN (rest := [.ref r38, .ref a0]) (As := [.ref a0]) (n := 1) (ov := none) G C h (wX6_init G hc) q172 q173 q60 q174 rfl (by decide +kernel) ⟨Nat.le_of_ble_eq_true rfl, Nat.le_of_ble_eq_true rfl⟩ rfl rfl rfl hl.1 rfl (Nat.le_of_ble_eq_true rfl) dX0_init_131 ⟨(Nat.le_of_ble_eq_true rfl), (Nat.le_of_ble_eq_true rfl)⟩ (fun H locs h => ?_)
  refine x_pR (q := (RX0, TX0, 33)) (j := 13) G C h rfl (by decide) rfl (lk C q222) (fun _ z => z) (Or.inr ⟨hnm, rfl⟩) dX0_init_134 hf (fun σ41 H locs h hf => ?_)
  refine lv_aload_n hx hb dX0_init_137 rfl (lv_at hl 0 rfl) ?_
  refine lv_bipush (v := 7) hx hb dX0_init_138 (by decide) ?_
  refine x_newa (atype := .int) (q := 0) (N := 7) G C h rfl rfl q165 (by decide) (by decide) (by decide) (Nat.le_of_ble_eq_true rfl) (Nat.le_of_ble_eq_true rfl) dX0_init_140 hf (fun r42 σ43 H h hf => ?_)
  refine x_pR (q := (RX0, TX0, 33)) (j := 14) G C h rfl (by decide) rfl (lk C q223) (fun _ z => z) (Or.inr ⟨hnm, rfl⟩) dX0_init_142 hf (fun σ44 H locs h hf => ?_)
  refine lv_aload_n hx hb dX0_init_145 rfl (lv_at hl 0 rfl) ?_
  refine lv_bipush (v := 7) hx hb dX0_init_146 (by decide) ?_
  refine x_newa (atype := .int) (q := 0) (N := 7) G C h rfl rfl q165 (by decide) (by decide) (by decide) (Nat.le_of_ble_eq_true rfl) (Nat.le_of_ble_eq_true rfl) dX0_init_148 hf (fun r45 σ46 H h hf => ?_)
  refine x_pR (q := (RX0, TX0, 33)) (j := 15) G C h rfl (by decide) rfl (lk C q224) (fun _ z => z) (Or.inr ⟨hnm, rfl⟩) dX0_init_150 hf (fun σ47 H locs h hf => ?_)
  refine lv_aload_n hx hb dX0_init_153 rfl (lv_at hl 0 rfl) ?_
  refine lv_bipush (v := 7) hx hb dX0_init_154 (by decide) ?_
  refine x_newa (atype := .int) (q := 0) (N := 7) G C h rfl rfl q165 (by decide) (by decide) (by decide) (Nat.le_of_ble_eq_true rfl) (Nat.le_of_ble_eq_true rfl) dX0_init_156 hf (fun r48 σ49 H h hf => ?_)
  refine x_pR (q := (RX0, TX0, 33)) (j := 16) G C h rfl (by decide) rfl (lk C q225) (fun _ z => z) (Or.inr ⟨hnm, rfl⟩) dX0_init_158 hf (fun σ50 H locs h hf => ?_)
  refine lv_aload_n hx hb dX0_init_161 rfl (lv_at hl 0 rfl) ?_
  refine lv_bipush (v := 20) hx hb dX0_init_162 (by decide) ?_
  refine x_newa (atype := .int) (q := 0) (N := 20) G C h rfl rfl q165 (by decide) (by decide) (by decide) (Nat.le_of_ble_eq_true rfl) (Nat.le_of_ble_eq_true rfl) dX0_init_164 hf (fun r51 σ52 H h hf => ?_)
  refine x_pR (q := (RX0, TX0, 33)) (j := 17) G C h rfl (by decide) rfl (lk C q226) (fun _ z => z) (Or.inr ⟨hnm, rfl⟩) dX0_init_166 hf (fun σ53 H locs h hf => ?_)
  refine lv_aload_n hx hb dX0_init_169 rfl (lv_at hl 0 rfl) ?_
  refine lv_bipush (v := 20) hx hb dX0_init_170 (by decide) ?_
  refine x_newa (atype := .int) (q := 0) (N := 20) G C h rfl rfl q165 (by decide) (by decide) (by decide) (Nat.le_of_ble_eq_true rfl) (Nat.le_of_ble_eq_true rfl) dX0_init_172 hf (fun r54 σ55 H h hf => ?_)
  refine x_pR (q := (RX0, TX0, 33)) (j := 18) G C h rfl (by decide) rfl (lk C q227) (fun _ z => z) (Or.inr ⟨hnm, rfl⟩) dX0_init_174 hf (fun σ56 H locs h hf => ?_)
  refine lv_aload_n hx hb dX0_init_177 rfl (lv_at hl 0 rfl) ?_
  refine lv_bipush (v := 24) hx hb dX0_init_178 (by decide) ?_
  refine x_newa (atype := .int) (q := 0) (N := 24) G C h rfl rfl q165 (by decide) (by decide) (by decide) (Nat.le_of_ble_eq_true rfl) (Nat.le_of_ble_eq_true rfl) dX0_init_180 hf (fun r57 σ58 H h hf => ?_)
  refine x_pR (q := (RX0, TX0, 33)) (j := 20) G C h rfl (by decide) rfl (lk C q229) (fun _ z => z) (Or.inr ⟨hnm, rfl⟩) dX0_init_182 hf (fun σ59 H locs h hf => ?_)
  refine lv_aload_n hx hb dX0_init_185 rfl (lv_at hl 0 rfl) ?_
  refine lv_bipush (v := 24) hx hb dX0_init_186 (by decide) ?_
  refine x_newa (atype := .int) (q := 0) (N := 24) G C h rfl rfl q165 (by decide) (by decide) (by decide) (Nat.le_of_ble_eq_true rfl) (Nat.le_of_ble_eq_true rfl) dX0_init_188 hf (fun r60 σ61 H h hf => ?_)
  refine x_pR (q := (RX0, TX0, 33)) (j := 21) G C h rfl (by decide) rfl (lk C q230) (fun _ z => z) (Or.inr ⟨hnm, rfl⟩) dX0_init_190 hf (fun σ62 H locs h hf => ?_)
  refine lv_aload_n hx hb dX0_init_193 rfl (lv_at hl 0 rfl) ?_
  refine lv_bipush (v := 24) hx hb dX0_init_194 (by decide) ?_
  refine x_newa (atype := .int) (q := 0) (N := 24) G C h rfl rfl q165 (by decide) (by decide) (by decide) (Nat.le_of_ble_eq_true rfl) (Nat.le_of_ble_eq_true rfl) dX0_init_196 hf (fun r63 σ64 H h hf => ?_)
  refine x_pR (q := (RX0, TX0, 33)) (j := 22) G C h rfl (by decide) rfl (lk C q231) (fun _ z => z) (Or.inr ⟨hnm, rfl⟩) dX0_init_198 hf (fun σ65 H locs h hf => ?_)
  refine lv_aload_n hx hb dX0_init_201 rfl (lv_at hl 0 rfl) ?_
  refine lv_bipush (v := 64) hx hb dX0_init_202 (by decide) ?_
  refine x_newa (atype := .int) (q := 0) (N := 64) G C h rfl rfl q165 (by decide) (by decide) (by decide) (Nat.le_of_ble_eq_true rfl) (Nat.le_of_ble_eq_true rfl) dX0_init_204 hf (fun r66 σ67 H h hf => ?_)
  refine x_pR (q := (RX0, TX0, 33)) (j := 24) G C h rfl (by decide) rfl (lk C q233) (fun _ z => z) (Or.inr ⟨hnm, rfl⟩) dX0_init_206 hf (fun σ68 H locs h hf => ?_)
  refine lv_aload_n hx hb dX0_init_209 rfl (lv_at hl 0 rfl) ?_
  refine lv_bipush (v := 16) hx hb dX0_init_210 (by decide) ?_
  refine x_anew (q := 8) (N := 16) G C h rfl q190 q191 (by decide) (by decide) (by decide) (Nat.le_of_ble_eq_true rfl) (Nat.le_of_ble_eq_true rfl) dX0_init_212 hf (fun r69 σ70 H h hf => ?_)
  refine x_pR (q := (RX0, TX0, 33)) (j := 25) G C h rfl (by decide) rfl (lk C q234) (fun _ z => z) (Or.inr ⟨hnm, rfl⟩) dX0_init_215 hf (fun σ71 H locs h hf => ?_)
  refine lv_aload_n hx hb dX0_init_218 rfl (lv_at hl 0 rfl) ?_
  refine lv_bipush (v := 16) hx hb dX0_init_219 (by decide) ?_
  refine x_newa (atype := .boolean) (q := 2) (N := 16) G C h rfl rfl q309 (by decide) (by decide) (by decide) (Nat.le_of_ble_eq_true rfl) (Nat.le_of_ble_eq_true rfl) dX0_init_221 hf (fun r72 σ73 H h hf => ?_)
  refine x_pR (q := (RX0, TX0, 33)) (j := 26) G C h rfl (by decide) rfl (lk C q235) (fun _ z => z) (Or.inr ⟨hnm, rfl⟩) dX0_init_223 hf (fun σ74 H locs h hf => ?_)
  refine lv_aload_n hx hb dX0_init_226 rfl (lv_at hl 0 rfl) ?_
  refine lv_bipush (v := 8) hx hb dX0_init_227 (by decide) ?_
  refine x_anew (q := 8) (N := 8) G C h rfl q190 q191 (by decide) (by decide) (by decide) (Nat.le_of_ble_eq_true rfl) (Nat.le_of_ble_eq_true rfl) dX0_init_229 hf (fun r75 σ76 H h hf => ?_)
  refine x_pR (q := (RX0, TX0, 33)) (j := 28) G C h rfl (by decide) rfl (lk C q237) (fun _ z => z) (Or.inr ⟨hnm, rfl⟩) dX0_init_232 hf (fun σ77 H locs h hf => ?_)
  refine lv_aload_n hx hb dX0_init_235 rfl (lv_at hl 0 rfl) ?_
  refine lv_bipush (v := 10) hx hb dX0_init_236 (by decide) ?_
  refine x_anew (q := 3) (N := 10) G C h rfl q110 q111 (by decide) (by decide) (by decide) (Nat.le_of_ble_eq_true rfl) (Nat.le_of_ble_eq_true rfl) dX0_init_238 hf (fun r78 σ79 H h hf => ?_)
  refine x_pR (q := (RX0, TX0, 33)) (j := 30) G C h rfl (by decide) rfl (lk C q239) (fun _ z => z) (Or.inr ⟨hnm, rfl⟩) dX0_init_241 hf (fun σ80 H locs h hf => ?_)
  refine lv_aload_n hx hb dX0_init_244 rfl (lv_at hl 0 rfl) ?_
  refine lv_sipush (v := 1024) hx hb dX0_init_245 (by decide) ?_
  refine lv_bipush (v := 10) hx hb dX0_init_248 (by decide) ?_
  refine x_grid (q1 := 11) (q0 := 0) (N := 1024) (M := 10) G C h rfl rfl (by decide +kernel) (by decide +kernel) q192 rfl (by decide) (by decide) (by decide) (by decide) (by decide) (by decide) (by decide) rfl rfl (Nat.le_of_ble_eq_true rfl) (Nat.le_of_ble_eq_true rfl) dX0_init_250 hf (fun r81 σ82 H locs h hf => ?_)
  refine x_pR (q := (RX0, TX0, 33)) (j := 32) G C h rfl (by decide) rfl (lk C q241) (fun _ z => z) (Or.inr ⟨hnm, rfl⟩) dX0_init_254 hf (fun σ83 H locs h hf => ?_)
  cases hf
  refine W.widen (k := 1063) (n := 11906) (Nat.le_of_ble_eq_true rfl) (Nat.le_of_ble_eq_true rfl) ?_
  exact x_vret C h dX0_init_257
