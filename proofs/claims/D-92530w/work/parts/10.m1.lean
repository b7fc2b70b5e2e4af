set_option maxRecDepth 100000
theorem dX7_init_0 : decode cX7_init 0 = .ok (.aload_n 0, 1) := by decide +kernel
theorem dX7_init_1 : decode cX7_init 1 = .ok (.invokespecial 1, 3) := by decide +kernel
theorem dX7_init_4 : decode cX7_init 4 = .ok (.aload_n 0, 1) := by decide +kernel
theorem dX7_init_5 : decode cX7_init 5 = .ok (.bipush 6, 2) := by decide +kernel
theorem dX7_init_7 : decode cX7_init 7 = .ok (.newarray .int, 2) := by decide +kernel
theorem dX7_init_9 : decode cX7_init 9 = .ok (.putfield 7, 3) := by decide +kernel
theorem dX7_init_12 : decode cX7_init 12 = .ok (.aload_n 0, 1) := by decide +kernel
theorem dX7_init_13 : decode cX7_init 13 = .ok (.bipush 6, 2) := by decide +kernel
theorem dX7_init_15 : decode cX7_init 15 = .ok (.newarray .int, 2) := by decide +kernel
theorem dX7_init_17 : decode cX7_init 17 = .ok (.putfield 13, 3) := by decide +kernel
theorem dX7_init_20 : decode cX7_init 20 = .ok (.aload_n 0, 1) := by decide +kernel
theorem dX7_init_21 : decode cX7_init 21 = .ok (.bipush 24, 2) := by decide +kernel
theorem dX7_init_23 : decode cX7_init 23 = .ok (.newarray .int, 2) := by decide +kernel
theorem dX7_init_25 : decode cX7_init 25 = .ok (.putfield 16, 3) := by decide +kernel
theorem dX7_init_28 : decode cX7_init 28 = .ok (.aload_n 0, 1) := by decide +kernel
theorem dX7_init_29 : decode cX7_init 29 = .ok (.bipush 24, 2) := by decide +kernel
theorem dX7_init_31 : decode cX7_init 31 = .ok (.newarray .int, 2) := by decide +kernel
theorem dX7_init_33 : decode cX7_init 33 = .ok (.putfield 19, 3) := by decide +kernel
theorem dX7_init_36 : decode cX7_init 36 = .ok (.aload_n 0, 1) := by decide +kernel
theorem dX7_init_37 : decode cX7_init 37 = .ok (.bipush 6, 2) := by decide +kernel
theorem dX7_init_39 : decode cX7_init 39 = .ok (.newarray .int, 2) := by decide +kernel
theorem dX7_init_41 : decode cX7_init 41 = .ok (.putfield 22, 3) := by decide +kernel
theorem dX7_init_44 : decode cX7_init 44 = .ok (.aload_n 0, 1) := by decide +kernel
theorem dX7_init_45 : decode cX7_init 45 = .ok (.bipush 40, 2) := by decide +kernel
theorem dX7_init_47 : decode cX7_init 47 = .ok (.newarray .int, 2) := by decide +kernel
theorem dX7_init_49 : decode cX7_init 49 = .ok (.putfield 25, 3) := by decide +kernel
theorem dX7_init_52 : decode cX7_init 52 = .ok (.aload_n 0, 1) := by decide +kernel
theorem dX7_init_53 : decode cX7_init 53 = .ok (.bipush 40, 2) := by decide +kernel
theorem dX7_init_55 : decode cX7_init 55 = .ok (.newarray .int, 2) := by decide +kernel
theorem dX7_init_57 : decode cX7_init 57 = .ok (.putfield 28, 3) := by decide +kernel
theorem dX7_init_60 : decode cX7_init 60 = .ok (.aload_n 0, 1) := by decide +kernel
theorem dX7_init_61 : decode cX7_init 61 = .ok (.bipush 40, 2) := by decide +kernel
theorem dX7_init_63 : decode cX7_init 63 = .ok (.newarray .int, 2) := by decide +kernel
theorem dX7_init_65 : decode cX7_init 65 = .ok (.putfield 31, 3) := by decide +kernel
theorem dX7_init_68 : decode cX7_init 68 = .ok (.aload_n 0, 1) := by decide +kernel
theorem dX7_init_69 : decode cX7_init 69 = .ok (.bipush 40, 2) := by decide +kernel
theorem dX7_init_71 : decode cX7_init 71 = .ok (.newarray .int, 2) := by decide +kernel
theorem dX7_init_73 : decode cX7_init 73 = .ok (.putfield 34, 3) := by decide +kernel
theorem dX7_init_76 : decode cX7_init 76 = .ok (.aload_n 0, 1) := by decide +kernel
theorem dX7_init_77 : decode cX7_init 77 = .ok (.bipush 40, 2) := by decide +kernel
theorem dX7_init_79 : decode cX7_init 79 = .ok (.newarray .int, 2) := by decide +kernel
theorem dX7_init_81 : decode cX7_init 81 = .ok (.putfield 37, 3) := by decide +kernel
theorem dX7_init_84 : decode cX7_init 84 = .ok (.aload_n 0, 1) := by decide +kernel
theorem dX7_init_85 : decode cX7_init 85 = .ok (.bipush 20, 2) := by decide +kernel
theorem dX7_init_87 : decode cX7_init 87 = .ok (.putfield 40, 3) := by decide +kernel
theorem dX7_init_90 : decode cX7_init 90 = .ok (.aload_n 0, 1) := by decide +kernel
theorem dX7_init_91 : decode cX7_init 91 = .ok (.bipush 10, 2) := by decide +kernel
theorem dX7_init_93 : decode cX7_init 93 = .ok (.putfield 44, 3) := by decide +kernel
theorem dX7_init_96 : decode cX7_init 96 = .ok (.aload_n 0, 1) := by decide +kernel
theorem dX7_init_97 : decode cX7_init 97 = .ok (.bipush 15, 2) := by decide +kernel
theorem dX7_init_99 : decode cX7_init 99 = .ok (.putfield 47, 3) := by decide +kernel
theorem dX7_init_102 : decode cX7_init 102 = .ok (.aload_n 0, 1) := by decide +kernel
theorem dX7_init_103 : decode cX7_init 103 = .ok (.bipush 8, 2) := by decide +kernel
theorem dX7_init_105 : decode cX7_init 105 = .ok (.putfield 50, 3) := by decide +kernel
theorem dX7_init_108 : decode cX7_init 108 = .ok (.aload_n 0, 1) := by decide +kernel
theorem dX7_init_109 : decode cX7_init 109 = .ok (.sipush 160, 3) := by decide +kernel
theorem dX7_init_112 : decode cX7_init 112 = .ok (.newarray .int, 2) := by decide +kernel
theorem dX7_init_114 : decode cX7_init 114 = .ok (.putfield 53, 3) := by decide +kernel
theorem dX7_init_117 : decode cX7_init 117 = .ok (.aload_n 0, 1) := by decide +kernel
theorem dX7_init_118 : decode cX7_init 118 = .ok (.bipush 72, 2) := by decide +kernel
theorem dX7_init_120 : decode cX7_init 120 = .ok (.newarray .int, 2) := by decide +kernel
theorem dX7_init_122 : decode cX7_init 122 = .ok (.putfield 56, 3) := by decide +kernel
theorem dX7_init_125 : decode cX7_init 125 = .ok (.aload_n 0, 1) := by decide +kernel
theorem dX7_init_126 : decode cX7_init 126 = .ok (.bipush 6, 2) := by decide +kernel
theorem dX7_init_128 : decode cX7_init 128 = .ok (.newarray .int, 2) := by decide +kernel
theorem dX7_init_130 : decode cX7_init 130 = .ok (.putfield 59, 3) := by decide +kernel
theorem dX7_init_133 : decode cX7_init 133 = .ok (.aload_n 0, 1) := by decide +kernel
theorem dX7_init_134 : decode cX7_init 134 = .ok (.sipush 432, 3) := by decide +kernel
theorem dX7_init_137 : decode cX7_init 137 = .ok (.newarray .int, 2) := by decide +kernel
theorem dX7_init_139 : decode cX7_init 139 = .ok (.putfield 62, 3) := by decide +kernel
theorem dX7_init_142 : decode cX7_init 142 = .ok (.aload_n 0, 1) := by decide +kernel
theorem dX7_init_143 : decode cX7_init 143 = .ok (.iconst 4, 1) := by decide +kernel
theorem dX7_init_144 : decode cX7_init 144 = .ok (.newarray .int, 2) := by decide +kernel
theorem dX7_init_146 : decode cX7_init 146 = .ok (.putfield 65, 3) := by decide +kernel
theorem dX7_init_149 : decode cX7_init 149 = .ok (.aload_n 0, 1) := by decide +kernel
theorem dX7_init_150 : decode cX7_init 150 = .ok (.bipush 96, 2) := by decide +kernel
theorem dX7_init_152 : decode cX7_init 152 = .ok (.newarray .int, 2) := by decide +kernel
theorem dX7_init_154 : decode cX7_init 154 = .ok (.putfield 68, 3) := by decide +kernel
theorem dX7_init_157 : decode cX7_init 157 = .ok (.aload_n 0, 1) := by decide +kernel
theorem dX7_init_158 : decode cX7_init 158 = .ok (.bipush 7, 2) := by decide +kernel
theorem dX7_init_160 : decode cX7_init 160 = .ok (.newarray .int, 2) := by decide +kernel
theorem dX7_init_162 : decode cX7_init 162 = .ok (.putfield 71, 3) := by decide +kernel
theorem dX7_init_165 : decode cX7_init 165 = .ok (.aload_n 0, 1) := by decide +kernel
theorem dX7_init_166 : decode cX7_init 166 = .ok (.bipush 7, 2) := by decide +kernel
theorem dX7_init_168 : decode cX7_init 168 = .ok (.newarray .int, 2) := by decide +kernel
theorem dX7_init_170 : decode cX7_init 170 = .ok (.putfield 74, 3) := by decide +kernel
theorem dX7_init_173 : decode cX7_init 173 = .ok (.aload_n 0, 1) := by decide +kernel
theorem dX7_init_174 : decode cX7_init 174 = .ok (.bipush 7, 2) := by decide +kernel
theorem dX7_init_176 : decode cX7_init 176 = .ok (.newarray .int, 2) := by decide +kernel
theorem dX7_init_178 : decode cX7_init 178 = .ok (.putfield 77, 3) := by decide +kernel
theorem dX7_init_181 : decode cX7_init 181 = .ok (.aload_n 0, 1) := by decide +kernel
theorem dX7_init_182 : decode cX7_init 182 = .ok (.bipush 20, 2) := by decide +kernel
theorem dX7_init_184 : decode cX7_init 184 = .ok (.newarray .int, 2) := by decide +kernel
theorem dX7_init_186 : decode cX7_init 186 = .ok (.putfield 80, 3) := by decide +kernel
theorem dX7_init_189 : decode cX7_init 189 = .ok (.aload_n 0, 1) := by decide +kernel
theorem dX7_init_190 : decode cX7_init 190 = .ok (.bipush 20, 2) := by decide +kernel
theorem dX7_init_192 : decode cX7_init 192 = .ok (.newarray .int, 2) := by decide +kernel
theorem dX7_init_194 : decode cX7_init 194 = .ok (.putfield 83, 3) := by decide +kernel
theorem dX7_init_197 : decode cX7_init 197 = .ok (.aload_n 0, 1) := by decide +kernel
theorem dX7_init_198 : decode cX7_init 198 = .ok (.bipush 24, 2) := by decide +kernel
theorem dX7_init_200 : decode cX7_init 200 = .ok (.newarray .int, 2) := by decide +kernel
theorem dX7_init_202 : decode cX7_init 202 = .ok (.putfield 86, 3) := by decide +kernel
theorem dX7_init_205 : decode cX7_init 205 = .ok (.aload_n 0, 1) := by decide +kernel
theorem dX7_init_206 : decode cX7_init 206 = .ok (.bipush 24, 2) := by decide +kernel
theorem dX7_init_208 : decode cX7_init 208 = .ok (.newarray .int, 2) := by decide +kernel
theorem dX7_init_210 : decode cX7_init 210 = .ok (.putfield 89, 3) := by decide +kernel
theorem dX7_init_213 : decode cX7_init 213 = .ok (.aload_n 0, 1) := by decide +kernel
theorem dX7_init_214 : decode cX7_init 214 = .ok (.bipush 24, 2) := by decide +kernel
theorem dX7_init_216 : decode cX7_init 216 = .ok (.newarray .int, 2) := by decide +kernel
theorem dX7_init_218 : decode cX7_init 218 = .ok (.putfield 92, 3) := by decide +kernel
theorem dX7_init_221 : decode cX7_init 221 = .ok (.aload_n 0, 1) := by decide +kernel
theorem dX7_init_222 : decode cX7_init 222 = .ok (.bipush 64, 2) := by decide +kernel
theorem dX7_init_224 : decode cX7_init 224 = .ok (.newarray .int, 2) := by decide +kernel
theorem dX7_init_226 : decode cX7_init 226 = .ok (.putfield 95, 3) := by decide +kernel
theorem dX7_init_229 : decode cX7_init 229 = .ok (.aload_n 0, 1) := by decide +kernel
theorem dX7_init_230 : decode cX7_init 230 = .ok (.bipush 80, 2) := by decide +kernel
theorem dX7_init_232 : decode cX7_init 232 = .ok (.newarray .int, 2) := by decide +kernel
theorem dX7_init_234 : decode cX7_init 234 = .ok (.putfield 98, 3) := by decide +kernel
theorem dX7_init_237 : decode cX7_init 237 = .ok (.aload_n 0, 1) := by decide +kernel
theorem dX7_init_238 : decode cX7_init 238 = .ok (.bipush 32, 2) := by decide +kernel
theorem dX7_init_240 : decode cX7_init 240 = .ok (.newarray .int, 2) := by decide +kernel
theorem dX7_init_242 : decode cX7_init 242 = .ok (.putfield 101, 3) := by decide +kernel
theorem dX7_init_245 : decode cX7_init 245 = .ok (.aload_n 0, 1) := by decide +kernel
theorem dX7_init_246 : decode cX7_init 246 = .ok (.bipush 10, 2) := by decide +kernel
theorem dX7_init_248 : decode cX7_init 248 = .ok (.newarray .int, 2) := by decide +kernel
theorem dX7_init_250 : decode cX7_init 250 = .ok (.putfield 104, 3) := by decide +kernel
theorem dX7_init_253 : decode cX7_init 253 = .ok (.aload_n 0, 1) := by decide +kernel
theorem dX7_init_254 : decode cX7_init 254 = .ok (.bipush 10, 2) := by decide +kernel
theorem dX7_init_256 : decode cX7_init 256 = .ok (.newarray .int, 2) := by decide +kernel
theorem dX7_init_258 : decode cX7_init 258 = .ok (.putfield 107, 3) := by decide +kernel
theorem dX7_init_261 : decode cX7_init 261 = .ok (.return_, 1) := by decide +kernel
def fX7_init (σ : St) (a0 : Nat) : Option (St) :=
  o_newa σ 0 6 fun r1 σ2 =>
  o_pR σ2 a0 5 2 (some r1) fun σ3 =>
  o_newa σ3 0 6 fun r4 σ5 =>
  o_pR σ5 a0 5 3 (some r4) fun σ6 =>
  o_newa σ6 0 24 fun r7 σ8 =>
  o_pR σ8 a0 5 4 (some r7) fun σ9 =>
  o_newa σ9 0 24 fun r10 σ11 =>
  o_pR σ11 a0 5 5 (some r10) fun σ12 =>
  o_newa σ12 0 6 fun r13 σ14 =>
  o_pR σ14 a0 5 6 (some r13) fun σ15 =>
  o_newa σ15 0 40 fun r16 σ17 =>
  o_pR σ17 a0 5 8 (some r16) fun σ18 =>
  o_newa σ18 0 40 fun r19 σ20 =>
  o_pR σ20 a0 5 9 (some r19) fun σ21 =>
  o_newa σ21 0 40 fun r22 σ23 =>
  o_pR σ23 a0 5 10 (some r22) fun σ24 =>
  o_newa σ24 0 40 fun r25 σ26 =>
  o_pR σ26 a0 5 11 (some r25) fun σ27 =>
  o_newa σ27 0 40 fun r28 σ29 =>
  o_pR σ29 a0 5 12 (some r28) fun σ30 =>
  o_pI σ30 a0 5 13 20 fun σ31 =>
  o_pI σ31 a0 5 14 10 fun σ32 =>
  o_pI σ32 a0 5 15 15 fun σ33 =>
  o_pI σ33 a0 5 16 8 fun σ34 =>
  o_newa σ34 0 160 fun r35 σ36 =>
  o_pR σ36 a0 5 19 (some r35) fun σ37 =>
  o_newa σ37 0 72 fun r38 σ39 =>
  o_pR σ39 a0 5 27 (some r38) fun σ40 =>
  o_newa σ40 0 6 fun r41 σ42 =>
  o_pR σ42 a0 5 28 (some r41) fun σ43 =>
  o_newa σ43 0 432 fun r44 σ45 =>
  o_pR σ45 a0 5 29 (some r44) fun σ46 =>
  o_newa σ46 0 4 fun r47 σ48 =>
  o_pR σ48 a0 5 30 (some r47) fun σ49 =>
  o_newa σ49 0 96 fun r50 σ51 =>
  o_pR σ51 a0 5 31 (some r50) fun σ52 =>
  o_newa σ52 0 7 fun r53 σ54 =>
  o_pR σ54 a0 5 32 (some r53) fun σ55 =>
  o_newa σ55 0 7 fun r56 σ57 =>
  o_pR σ57 a0 5 33 (some r56) fun σ58 =>
  o_newa σ58 0 7 fun r59 σ60 =>
  o_pR σ60 a0 5 34 (some r59) fun σ61 =>
  o_newa σ61 0 20 fun r62 σ63 =>
  o_pR σ63 a0 5 36 (some r62) fun σ64 =>
  o_newa σ64 0 20 fun r65 σ66 =>
  o_pR σ66 a0 5 37 (some r65) fun σ67 =>
  o_newa σ67 0 24 fun r68 σ69 =>
  o_pR σ69 a0 5 39 (some r68) fun σ70 =>
  o_newa σ70 0 24 fun r71 σ72 =>
  o_pR σ72 a0 5 40 (some r71) fun σ73 =>
  o_newa σ73 0 24 fun r74 σ75 =>
  o_pR σ75 a0 5 41 (some r74) fun σ76 =>
  o_newa σ76 0 64 fun r77 σ78 =>
  o_pR σ78 a0 5 42 (some r77) fun σ79 =>
  o_newa σ79 0 80 fun r80 σ81 =>
  o_pR σ81 a0 5 44 (some r80) fun σ82 =>
  o_newa σ82 0 32 fun r83 σ84 =>
  o_pR σ84 a0 5 46 (some r83) fun σ85 =>
  o_newa σ85 0 10 fun r86 σ87 =>
  o_pR σ87 a0 5 48 (some r86) fun σ88 =>
  o_newa σ88 0 10 fun r89 σ90 =>
  o_pR σ90 a0 5 49 (some r89) fun σ91 =>
  some σ91

set_option maxHeartbeats 4000000 in
theorem wX7_init {l : Launch} {s0 : State} {A0 : Array Value} {D : va_G} {ac : Nat → ClassId} (G : Gl s0 A0 D ac) {σ : St} {a0 : Nat} {σ' : St} (hf : fX7_init σ a0 = some (σ')) : Met l yX7_init (ws_ yX7_init cX7_init 1 none) ({ frames := 1, cells := 29, slots := 1365, locals := 12 } : Room) (Pn s0 D ac [.ref a0] σ) (Qn s0 D ac none σ') 29 1365 (fr s0) := by
  refine x_met (by decide) (Nat.le_of_ble_eq_true rfl) ?_
  intro p e s m args below meth c ls C hnm h hl
  have C : Cx s0 p s m args meth c cX7_init 1 "HutForShowModel" none := C
  have hx := C.1
  have hb := C.2.1
  have hl : lv_has ls 1 [(0, .ref a0)] := hl
  unfold fX7_init at hf
  refine lv_aload_n hx hb dX7_init_0 rfl (lv_at hl 0 rfl) ?_
  refine W.objInit hx hb C.2.2.2.1 (C.2.2.2.2.1 _ q1055) (C.2.2.2.2.1 _ q88) (C.2.2.2.2.1 _ q89) rfl (by rw [C.2.2.1]; exact hl.1) rfl dX7_init_1 (Nat.le_of_ble_eq_true rfl) (Nat.le_of_ble_eq_true rfl) ?_
  refine W.eq (g2 := F0 m 4 ls []) rfl ?_
  refine lv_aload_n hx hb dX7_init_4 rfl (lv_at hl 0 rfl) ?_
  refine lv_bipush (v := 6) hx hb dX7_init_5 (by decide) ?_
  refine x_newa (atype := .int) (q := 0) (N := 6) G C h rfl rfl q165 (by decide) (by decide) (by decide) (Nat.le_of_ble_eq_true rfl) (Nat.le_of_ble_eq_true rfl) dX7_init_7 hf (fun r1 σ2 H h hf => ?_)
  refine x_pR (q := (RX7, TX7, 50)) (j := 2) G C h rfl (by decide) rfl (lk C q1058) (fun _ z => z) (Or.inr ⟨hnm, rfl⟩) dX7_init_9 hf (fun σ3 H locs h hf => ?_)
  refine lv_aload_n hx hb dX7_init_12 rfl (lv_at hl 0 rfl) ?_
  refine lv_bipush (v := 6) hx hb dX7_init_13 (by decide) ?_
  refine x_newa (atype := .int) (q := 0) (N := 6) G C h rfl rfl q165 (by decide) (by decide) (by decide) (Nat.le_of_ble_eq_true rfl) (Nat.le_of_ble_eq_true rfl) dX7_init_15 hf (fun r4 σ5 H h hf => ?_)
  refine x_pR (q := (RX7, TX7, 50)) (j := 3) G C h rfl (by decide) rfl (lk C q1059) (fun _ z => z) (Or.inr ⟨hnm, rfl⟩) dX7_init_17 hf (fun σ6 H locs h hf => ?_)
  refine lv_aload_n hx hb dX7_init_20 rfl (lv_at hl 0 rfl) ?_
  refine lv_bipush (v := 24) hx hb dX7_init_21 (by decide) ?_
  refine x_newa (atype := .int) (q := 0) (N := 24) G C h rfl rfl q165 (by decide) (by decide) (by decide) (Nat.le_of_ble_eq_true rfl) (Nat.le_of_ble_eq_true rfl) dX7_init_23 hf (fun r7 σ8 H h hf => ?_)
  refine x_pR (q := (RX7, TX7, 50)) (j := 4) G C h rfl (by decide) rfl (lk C q1060) (fun _ z => z) (Or.inr ⟨hnm, rfl⟩) dX7_init_25 hf (fun σ9 H locs h hf => ?_)
  refine lv_aload_n hx hb dX7_init_28 rfl (lv_at hl 0 rfl) ?_
  refine lv_bipush (v := 24) hx hb dX7_init_29 (by decide) ?_
  refine x_newa (atype := .int) (q := 0) (N := 24) G C h rfl rfl q165 (by decide) (by decide) (by decide) (Nat.le_of_ble_eq_true rfl) (Nat.le_of_ble_eq_true rfl) dX7_init_31 hf (fun r10 σ11 H h hf => ?_)
  refine x_pR (q := (RX7, TX7, 50)) (j := 5) G C h rfl (by decide) rfl (lk C q1061) (fun _ z => z) (Or.inr ⟨hnm, rfl⟩) dX7_init_33 hf (fun σ12 H locs h hf => ?_)
  refine lv_aload_n hx hb dX7_init_36 rfl (lv_at hl 0 rfl) ?_
  refine lv_bipush (v := 6) hx hb dX7_init_37 (by decide) ?_
  refine x_newa (atype := .int) (q := 0) (N := 6) G C h rfl rfl q165 (by decide) (by decide) (by decide) (Nat.le_of_ble_eq_true rfl) (Nat.le_of_ble_eq_true rfl) dX7_init_39 hf (fun r13 σ14 H h hf => ?_)
  refine x_pR (q := (RX7, TX7, 50)) (j := 6) G C h rfl (by decide) rfl (lk C q1062) (fun _ z => z) (Or.inr ⟨hnm, rfl⟩) dX7_init_41 hf (fun σ15 H locs h hf => ?_)
  refine lv_aload_n hx hb dX7_init_44 rfl (lv_at hl 0 rfl) ?_
  refine lv_bipush (v := 40) hx hb dX7_init_45 (by decide) ?_
  refine x_newa (atype := .int) (q := 0) (N := 40) G C h rfl rfl q165 (by decide) (by decide) (by decide) (Nat.le_of_ble_eq_true rfl) (Nat.le_of_ble_eq_true rfl) dX7_init_47 hf (fun r16 σ17 H h hf => ?_)
  refine x_pR (q := (RX7, TX7, 50)) (j := 8) G C h rfl (by decide) rfl (lk C q1064) (fun _ z => z) (Or.inr ⟨hnm, rfl⟩) dX7_init_49 hf (fun σ18 H locs h hf => ?_)
  refine lv_aload_n hx hb dX7_init_52 rfl (lv_at hl 0 rfl) ?_
  refine lv_bipush (v := 40) hx hb dX7_init_53 (by decide) ?_
  refine x_newa (atype := .int) (q := 0) (N := 40) G C h rfl rfl q165 (by decide) (by decide) (by decide) (Nat.le_of_ble_eq_true rfl) (Nat.le_of_ble_eq_true rfl) dX7_init_55 hf (fun r19 σ20 H h hf => ?_)
  refine x_pR (q := (RX7, TX7, 50)) (j := 9) G C h rfl (by decide) rfl (lk C q1065) (fun _ z => z) (Or.inr ⟨hnm, rfl⟩) dX7_init_57 hf (fun σ21 H locs h hf => ?_)
  refine lv_aload_n hx hb dX7_init_60 rfl (lv_at hl 0 rfl) ?_
  refine lv_bipush (v := 40) hx hb dX7_init_61 (by decide) ?_
  refine x_newa (atype := .int) (q := 0) (N := 40) G C h rfl rfl q165 (by decide) (by decide) (by decide) (Nat.le_of_ble_eq_true rfl) (Nat.le_of_ble_eq_true rfl) dX7_init_63 hf (fun r22 σ23 H h hf => ?_)
  refine x_pR (q := (RX7, TX7, 50)) (j := 10) G C h rfl (by decide) rfl (lk C q1066) (fun _ z => z) (Or.inr ⟨hnm, rfl⟩) dX7_init_65 hf (fun σ24 H locs h hf => ?_)
  refine lv_aload_n hx hb dX7_init_68 rfl (lv_at hl 0 rfl) ?_
  refine lv_bipush (v := 40) hx hb dX7_init_69 (by decide) ?_
  refine x_newa (atype := .int) (q := 0) (N := 40) G C h rfl rfl q165 (by decide) (by decide) (by decide) (Nat.le_of_ble_eq_true rfl) (Nat.le_of_ble_eq_true rfl) dX7_init_71 hf (fun r25 σ26 H h hf => ?_)
  refine x_pR (q := (RX7, TX7, 50)) (j := 11) G C h rfl (by decide) rfl (lk C q1067) (fun _ z => z) (Or.inr ⟨hnm, rfl⟩) dX7_init_73 hf (fun σ27 H locs h hf => ?_)
  refine lv_aload_n hx hb dX7_init_76 rfl (lv_at hl 0 rfl) ?_
  refine lv_bipush (v := 40) hx hb dX7_init_77 (by decide) ?_
  refine x_newa (atype := .int) (q := 0) (N := 40) G C h rfl rfl q165 (by decide) (by decide) (by decide) (Nat.le_of_ble_eq_true rfl) (Nat.le_of_ble_eq_true rfl) dX7_init_79 hf (fun r28 σ29 H h hf => ?_)
  refine x_pR (q := (RX7, TX7, 50)) (j := 12) G C h rfl (by decide) rfl (lk C q1068) (fun _ z => z) (Or.inr ⟨hnm, rfl⟩) dX7_init_81 hf (fun σ30 H locs h hf => ?_)
  refine lv_aload_n hx hb dX7_init_84 rfl (lv_at hl 0 rfl) ?_
  refine lv_bipush (v := 20) hx hb dX7_init_85 (by decide) ?_
  refine x_pI (q := (RX7, TX7, 50)) (j := 13) G C h rfl (by decide) rfl (lk C q1069) (fun _ z => z) (Or.inl rfl) dX7_init_87 hf (fun σ31 H locs h hf => ?_)
  refine lv_aload_n hx hb dX7_init_90 rfl (lv_at hl 0 rfl) ?_
  refine lv_bipush (v := 10) hx hb dX7_init_91 (by decide) ?_
  refine x_pI (q := (RX7, TX7, 50)) (j := 14) G C h rfl (by decide) rfl (lk C q1070) (fun _ z => z) (Or.inl rfl) dX7_init_93 hf (fun σ32 H locs h hf => ?_)
  refine lv_aload_n hx hb dX7_init_96 rfl (lv_at hl 0 rfl) ?_
  refine lv_bipush (v := 15) hx hb dX7_init_97 (by decide) ?_
  refine x_pI (q := (RX7, TX7, 50)) (j := 15) G C h rfl (by decide) rfl (lk C q1071) (fun _ z => z) (Or.inl rfl) dX7_init_99 hf (fun σ33 H locs h hf => ?_)
  refine lv_aload_n hx hb dX7_init_102 rfl (lv_at hl 0 rfl) ?_
  refine lv_bipush (v := 8) hx hb dX7_init_103 (by decide) ?_
  refine x_pI (q := (RX7, TX7, 50)) (j := 16) G C h rfl (by decide) rfl (lk C q1072) (fun _ z => z) (Or.inl rfl) dX7_init_105 hf (fun σ34 H locs h hf => ?_)
  refine lv_aload_n hx hb dX7_init_108 rfl (lv_at hl 0 rfl) ?_
  refine lv_sipush (v := 160) hx hb dX7_init_109 (by decide) ?_
  refine x_newa (atype := .int) (q := 0) (N := 160) G C h rfl rfl q165 (by decide) (by decide) (by decide) (Nat.le_of_ble_eq_true rfl) (Nat.le_of_ble_eq_true rfl) dX7_init_112 hf (fun r35 σ36 H h hf => ?_)
  refine x_pR (q := (RX7, TX7, 50)) (j := 19) G C h rfl (by decide) rfl (lk C q1075) (fun _ z => z) (Or.inr ⟨hnm, rfl⟩) dX7_init_114 hf (fun σ37 H locs h hf => ?_)
  refine lv_aload_n hx hb dX7_init_117 rfl (lv_at hl 0 rfl) ?_
  refine lv_bipush (v := 72) hx hb dX7_init_118 (by decide) ?_
  refine x_newa (atype := .int) (q := 0) (N := 72) G C h rfl rfl q165 (by decide) (by decide) (by decide) (Nat.le_of_ble_eq_true rfl) (Nat.le_of_ble_eq_true rfl) dX7_init_120 hf (fun r38 σ39 H h hf => ?_)
  refine x_pR (q := (RX7, TX7, 50)) (j := 27) G C h rfl (by decide) rfl (lk C q1083) (fun _ z => z) (Or.inr ⟨hnm, rfl⟩) dX7_init_122 hf (fun σ40 H locs h hf => ?_)
  refine lv_aload_n hx hb dX7_init_125 rfl (lv_at hl 0 rfl) ?_
  refine lv_bipush (v := 6) hx hb dX7_init_126 (by decide) ?_
  refine x_newa (atype := .int) (q := 0) (N := 6) G C h rfl rfl q165 (by decide) (by decide) (by decide) (Nat.le_of_ble_eq_true rfl) (Nat.le_of_ble_eq_true rfl) dX7_init_128 hf (fun r41 σ42 H h hf => ?_)
  refine x_pR (q := (RX7, TX7, 50)) (j := 28) G C h rfl (by decide) rfl (lk C q1084) (fun _ z => z) (Or.inr ⟨hnm, rfl⟩) dX7_init_130 hf (fun σ43 H locs h hf => ?_)
  refine lv_aload_n hx hb dX7_init_133 rfl (lv_at hl 0 rfl) ?_
  refine lv_sipush (v := 432) hx hb dX7_init_134 (by decide) ?_
  refine x_newa (atype := .int) (q := 0) (N := 432) G C h rfl rfl q165 (by decide) (by decide) (by decide) (Nat.le_of_ble_eq_true rfl) (Nat.le_of_ble_eq_true rfl) dX7_init_137 hf (fun r44 σ45 H h hf => ?_)
  refine x_pR (q := (RX7, TX7, 50)) (j := 29) G C h rfl (by decide) rfl (lk C q1085) (fun _ z => z) (Or.inr ⟨hnm, rfl⟩) dX7_init_139 hf (fun σ46 H locs h hf => ?_)
  refine lv_aload_n hx hb dX7_init_142 rfl (lv_at hl 0 rfl) ?_
  refine lv_iconst (v := 4) hx hb dX7_init_143 (by decide) ?_
  refine x_newa (atype := .int) (q := 0) (N := 4) G C h rfl rfl q165 (by decide) (by decide) (by decide) (Nat.le_of_ble_eq_true rfl) (Nat.le_of_ble_eq_true rfl) dX7_init_144 hf (fun r47 σ48 H h hf => ?_)
  refine x_pR (q := (RX7, TX7, 50)) (j := 30) G C h rfl (by decide) rfl (lk C q1086) (fun _ z => z) (Or.inr ⟨hnm, rfl⟩) dX7_init_146 hf (fun σ49 H locs h hf => ?_)
  refine lv_aload_n hx hb dX7_init_149 rfl (lv_at hl 0 rfl) ?_
  refine lv_bipush (v := 96) hx hb dX7_init_150 (by decide) ?_
  refine x_newa (atype := .int) (q := 0) (N := 96) G C h rfl rfl q165 (by decide) (by decide) (by decide) (Nat.le_of_ble_eq_true rfl) (Nat.le_of_ble_eq_true rfl) dX7_init_152 hf (fun r50 σ51 H h hf => ?_)
  refine x_pR (q := (RX7, TX7, 50)) (j := 31) G C h rfl (by decide) rfl (lk C q1087) (fun _ z => z) (Or.inr ⟨hnm, rfl⟩) dX7_init_154 hf (fun σ52 H locs h hf => ?_)
  refine lv_aload_n hx hb dX7_init_157 rfl (lv_at hl 0 rfl) ?_
  refine lv_bipush (v := 7) hx hb dX7_init_158 (by decide) ?_
  refine x_newa (atype := .int) (q := 0) (N := 7) G C h rfl rfl q165 (by decide) (by decide) (by decide) (Nat.le_of_ble_eq_true rfl) (Nat.le_of_ble_eq_true rfl) dX7_init_160 hf (fun r53 σ54 H h hf => ?_)
  refine x_pR (q := (RX7, TX7, 50)) (j := 32) G C h rfl (by decide) rfl (lk C q1088) (fun _ z => z) (Or.inr ⟨hnm, rfl⟩) dX7_init_162 hf (fun σ55 H locs h hf => ?_)
  refine lv_aload_n hx hb dX7_init_165 rfl (lv_at hl 0 rfl) ?_
  refine lv_bipush (v := 7) hx hb dX7_init_166 (by decide) ?_
  refine x_newa (atype := .int) (q := 0) (N := 7) G C h rfl rfl q165 (by decide) (by decide) (by decide) (Nat.le_of_ble_eq_true rfl) (Nat.le_of_ble_eq_true rfl) dX7_init_168 hf (fun r56 σ57 H h hf => ?_)
  refine x_pR (q := (RX7, TX7, 50)) (j := 33) G C h rfl (by decide) rfl (lk C q1089) (fun _ z => z) (Or.inr ⟨hnm, rfl⟩) dX7_init_170 hf (fun σ58 H locs h hf => ?_)
  refine lv_aload_n hx hb dX7_init_173 rfl (lv_at hl 0 rfl) ?_
  refine lv_bipush (v := 7) hx hb dX7_init_174 (by decide) ?_
  refine x_newa (atype := .int) (q := 0) (N := 7) G C h rfl rfl q165 (by decide) (by decide) (by decide) (Nat.le_of_ble_eq_true rfl) (Nat.le_of_ble_eq_true rfl) dX7_init_176 hf (fun r59 σ60 H h hf => ?_)
  refine x_pR (q := (RX7, TX7, 50)) (j := 34) G C h rfl (by decide) rfl (lk C q1090) (fun _ z => z) (Or.inr ⟨hnm, rfl⟩) dX7_init_178 hf (fun σ61 H locs h hf => ?_)
  refine lv_aload_n hx hb dX7_init_181 rfl (lv_at hl 0 rfl) ?_
  refine lv_bipush (v := 20) hx hb dX7_init_182 (by decide) ?_
  refine x_newa (atype := .int) (q := 0) (N := 20) G C h rfl rfl q165 (by decide) (by decide) (by decide) (Nat.le_of_ble_eq_true rfl) (Nat.le_of_ble_eq_true rfl) dX7_init_184 hf (fun r62 σ63 H h hf => ?_)
  refine x_pR (q := (RX7, TX7, 50)) (j := 36) G C h rfl (by decide) rfl (lk C q1092) (fun _ z => z) (Or.inr ⟨hnm, rfl⟩) dX7_init_186 hf (fun σ64 H locs h hf => ?_)
  refine lv_aload_n hx hb dX7_init_189 rfl (lv_at hl 0 rfl) ?_
  refine lv_bipush (v := 20) hx hb dX7_init_190 (by decide) ?_
  refine x_newa (atype := .int) (q := 0) (N := 20) G C h rfl rfl q165 (by decide) (by decide) (by decide) (Nat.le_of_ble_eq_true rfl) (Nat.le_of_ble_eq_true rfl) dX7_init_192 hf (fun r65 σ66 H h hf => ?_)
  refine x_pR (q := (RX7, TX7, 50)) (j := 37) G C h rfl (by decide) rfl (lk C q1093) (fun _ z => z) (Or.inr ⟨hnm, rfl⟩) dX7_init_194 hf (fun σ67 H locs h hf => ?_)
  refine lv_aload_n hx hb dX7_init_197 rfl (lv_at hl 0 rfl) ?_
  refine lv_bipush (v := 24) hx hb dX7_init_198 (by decide) ?_
  refine x_newa (atype := .int) (q := 0) (N := 24) G C h rfl rfl q165 (by decide) (by decide) (by decide) (Nat.le_of_ble_eq_true rfl) (Nat.le_of_ble_eq_true rfl) dX7_init_200 hf (fun r68 σ69 H h hf => ?_)
  refine x_pR (q := (RX7, TX7, 50)) (j := 39) G C h rfl (by decide) rfl (lk C q1095) (fun _ z => z) (Or.inr ⟨hnm, rfl⟩) dX7_init_202 hf (fun σ70 H locs h hf => ?_)
  refine lv_aload_n hx hb dX7_init_205 rfl (lv_at hl 0 rfl) ?_
  refine lv_bipush (v := 24) hx hb dX7_init_206 (by decide) ?_
  refine x_newa (atype := .int) (q := 0) (N := 24) G C h rfl rfl q165 (by decide) (by decide) (by decide) (Nat.le_of_ble_eq_true rfl) (Nat.le_of_ble_eq_true rfl) dX7_init_208 hf (fun r71 σ72 H h hf => ?_)
  refine x_pR (q := (RX7, TX7, 50)) (j := 40) G C h rfl (by decide) rfl (lk C q1096) (fun _ z => z) (Or.inr ⟨hnm, rfl⟩) dX7_init_210 hf (fun σ73 H locs h hf => ?_)
  refine lv_aload_n hx hb dX7_init_213 rfl (lv_at hl 0 rfl) ?_
  refine lv_bipush (v := 24) hx hb dX7_init_214 (by decide) ?_
  refine x_newa (atype := .int) (q := 0) (N := 24) G C h rfl rfl q165 (by decide) (by decide) (by decide) (Nat.le_of_ble_eq_true rfl) (Nat.le_of_ble_eq_true rfl) dX7_init_216 hf (fun r74 σ75 H h hf => ?_)
  refine x_pR (q := (RX7, TX7, 50)) (j := 41) G C h rfl (by decide) rfl (lk C q1097) (fun _ z => z) (Or.inr ⟨hnm, rfl⟩) dX7_init_218 hf (fun σ76 H locs h hf => ?_)
  refine lv_aload_n hx hb dX7_init_221 rfl (lv_at hl 0 rfl) ?_
  refine lv_bipush (v := 64) hx hb dX7_init_222 (by decide) ?_
  refine x_newa (atype := .int) (q := 0) (N := 64) G C h rfl rfl q165 (by decide) (by decide) (by decide) (Nat.le_of_ble_eq_true rfl) (Nat.le_of_ble_eq_true rfl) dX7_init_224 hf (fun r77 σ78 H h hf => ?_)
  refine x_pR (q := (RX7, TX7, 50)) (j := 42) G C h rfl (by decide) rfl (lk C q1098) (fun _ z => z) (Or.inr ⟨hnm, rfl⟩) dX7_init_226 hf (fun σ79 H locs h hf => ?_)
  refine lv_aload_n hx hb dX7_init_229 rfl (lv_at hl 0 rfl) ?_
  refine lv_bipush (v := 80) hx hb dX7_init_230 (by decide) ?_
  refine x_newa (atype := .int) (q := 0) (N := 80) G C h rfl rfl q165 (by decide) (by decide) (by decide) (Nat.le_of_ble_eq_true rfl) (Nat.le_of_ble_eq_true rfl) dX7_init_232 hf (fun r80 σ81 H h hf => ?_)
  refine x_pR (q := (RX7, TX7, 50)) (j := 44) G C h rfl (by decide) rfl (lk C q1100) (fun _ z => z) (Or.inr ⟨hnm, rfl⟩) dX7_init_234 hf (fun σ82 H locs h hf => ?_)
  refine lv_aload_n hx hb dX7_init_237 rfl (lv_at hl 0 rfl) ?_
  refine lv_bipush (v := 32) hx hb dX7_init_238 (by decide) ?_
  refine x_newa (atype := .int) (q := 0) (N := 32) G C h rfl rfl q165 (by decide) (by decide) (by decide) (Nat.le_of_ble_eq_true rfl) (Nat.le_of_ble_eq_true rfl) dX7_init_240 hf (fun r83 σ84 H h hf => ?_)
  refine x_pR (q := (RX7, TX7, 50)) (j := 46) G C h rfl (by decide) rfl (lk C q1102) (fun _ z => z) (Or.inr ⟨hnm, rfl⟩) dX7_init_242 hf (fun σ85 H locs h hf => ?_)
  refine lv_aload_n hx hb dX7_init_245 rfl (lv_at hl 0 rfl) ?_
  refine lv_bipush (v := 10) hx hb dX7_init_246 (by decide) ?_
  refine x_newa (atype := .int) (q := 0) (N := 10) G C h rfl rfl q165 (by decide) (by decide) (by decide) (Nat.le_of_ble_eq_true rfl) (Nat.le_of_ble_eq_true rfl) dX7_init_248 hf (fun r86 σ87 H h hf => ?_)
  refine x_pR (q := (RX7, TX7, 50)) (j := 48) G C h rfl (by decide) rfl (lk C q1104) (fun _ z => z) (Or.inr ⟨hnm, rfl⟩) dX7_init_250 hf (fun σ88 H locs h hf => ?_)
  refine lv_aload_n hx hb dX7_init_253 rfl (lv_at hl 0 rfl) ?_
  refine lv_bipush (v := 10) hx hb dX7_init_254 (by decide) ?_
  refine x_newa (atype := .int) (q := 0) (N := 10) G C h rfl rfl q165 (by decide) (by decide) (by decide) (Nat.le_of_ble_eq_true rfl) (Nat.le_of_ble_eq_true rfl) dX7_init_256 hf (fun r89 σ90 H h hf => ?_)
  refine x_pR (q := (RX7, TX7, 50)) (j := 49) G C h rfl (by decide) rfl (lk C q1105) (fun _ z => z) (Or.inr ⟨hnm, rfl⟩) dX7_init_258 hf (fun σ91 H locs h hf => ?_)
  cases hf
  refine W.widen (k := 29) (n := 1365) (Nat.le_of_ble_eq_true rfl) (Nat.le_of_ble_eq_true rfl) ?_
  exact x_vret C h dX7_init_261

theorem dX7_in_0 : decode cX7_in 0 = .ok (.iload_n 0, 1) := by decide +kernel
theorem dX7_in_1 : decode cX7_in 1 = .ok (.iload_n 1, 1) := by decide +kernel
theorem dX7_in_2 : decode cX7_in 2 = .ok (.if_icmp .lt 12, 3) := by decide +kernel
theorem dX7_in_5 : decode cX7_in 5 = .ok (.iload_n 0, 1) := by decide +kernel
theorem dX7_in_6 : decode cX7_in 6 = .ok (.iload_n 2, 1) := by decide +kernel
theorem dX7_in_7 : decode cX7_in 7 = .ok (.if_icmp .gt 7, 3) := by decide +kernel
theorem dX7_in_10 : decode cX7_in 10 = .ok (.iconst 1, 1) := by decide +kernel
theorem dX7_in_11 : decode cX7_in 11 = .ok (.goto 4, 3) := by decide +kernel
theorem dX7_in_14 : decode cX7_in 14 = .ok (.iconst 0, 1) := by decide +kernel
theorem dX7_in_15 : decode cX7_in 15 = .ok (.ireturn, 1) := by decide +kernel
def fX7_in (σ : St) (a0 : Int32) (a1 : Int32) (a2 : Int32) : Option (Int32) :=
  jn (fun (_ : Unit) =>
    some 0) fun j14 =>
  if a0 < a1 then
    j14 ()
  else
  if a2 < a0 then
    j14 ()
  else
  some 1

set_option maxHeartbeats 4000000 in
theorem wX7_in {l : Launch} {s0 : State} {A0 : Array Value} {D : va_G} {ac : Nat → ClassId} (G : Gl s0 A0 D ac) {σ : St} {a0 : Int32} {a1 : Int32} {a2 : Int32} {v : Int32} (hf : fX7_in σ a0 a1 a2 = some (v)) : Met l yX7_in (ws_ yX7_in cX7_in 3 (some (.boolean))) ({ frames := 0, cells := 0, slots := 0, locals := 0 } : Room) (Pn s0 D ac [.int a0, .int a1, .int a2] σ) (Qn s0 D ac (some (.int v)) σ) 0 0 (fr s0) := by
  refine x_met (by decide) (Nat.le_of_ble_eq_true rfl) ?_
  intro p e s m args below meth c ls C hnm h hl
  have C : Cx s0 p s m args meth c cX7_in 3 "HutForShowModel" (some (.boolean)) := C
  have hx := C.1
  have hb := C.2.1
  have hl : lv_has ls 3 [(0, .int a0), (1, .int a1), (2, .int a2)] := hl
  unfold fX7_in at hf
  refine lv_iload_n hx hb dX7_in_0 rfl (lv_at hl 0 rfl) ?_
  refine lv_iload_n hx hb dX7_in_1 rfl (lv_at hl 1 rfl) ?_
  refine jn_of (P := fun j => ∀ (u0 : Unit), j u0 = some (v) → ∀ (H : Heap) (locs : List Loc) (ls : Array Slot), Hs s0 D ac σ H locs → lv_has ls 3 [(0, .int a0), (1, .int a1), (2, .int a2)] → W p l e ({ frames := 0, cells := 0, slots := 0, locals := 0 } : Room) s m args below meth c H locs 0 0 (MQ below (Qn s0 D ac (some (.int v)) σ) args s 0 0 (fr s0)) (F0 m 14 ls [])) hf ?_ ?_
  · intro u0 hf H locs ls h hl
    refine lv_iconst (v := 0) hx hb dX7_in_14 (by decide) ?_
    cases hf
    refine W.widen (k := 0) (n := 0) (Nat.le_of_ble_eq_true rfl) (Nat.le_of_ble_eq_true rfl) ?_
    exact x_zret C h (by decide) dX7_in_15
  intro j14 hj14 hf
  refine lv_icmp_lt (tgt := 14) hx hb dX7_in_2 (by decide) (fun hc => ?_) (fun hc => ?_)
  · have hf := hf_t hc hf
    exact hj14 () hf _ _ _ h (lv_sub hl [0, 1, 2] rfl)
  · have hf := hf_f hc hf
    refine lv_iload_n hx hb dX7_in_5 rfl (lv_at hl 0 rfl) ?_
    refine lv_iload_n hx hb dX7_in_6 rfl (lv_at hl 2 rfl) ?_
    refine lv_icmp_gt (tgt := 14) hx hb dX7_in_7 (by decide) (fun hc => ?_) (fun hc => ?_)
    · have hf := hf_t hc hf
      exact hj14 () hf _ _ _ h (lv_sub hl [0, 1, 2] rfl)
    · have hf := hf_f hc hf
      refine lv_iconst (v := 1) hx hb dX7_in_10 (by decide) ?_
      refine lv_goto (tgt := 15) hx hb dX7_in_11 (by decide) ?_
      cases hf
      refine W.widen (k := 0) (n := 0) (Nat.le_of_ble_eq_true rfl) (Nat.le_of_ble_eq_true rfl) ?_
      exact x_zret C h (by decide) dX7_in_15

theorem dX7_hut_0 : decode cX7_hut 0 = .ok (.iload_n 1, 1) := by decide +kernel
theorem dX7_hut_1 : decode cX7_hut 1 = .ok (.iconst 0, 1) := by decide +kernel
theorem dX7_hut_2 : decode cX7_hut 2 = .ok (.bipush 30, 2) := by decide +kernel
theorem dX7_hut_4 : decode cX7_hut 4 = .ok (.invokestatic 113, 3) := by decide +kernel
theorem dX7_hut_7 : decode cX7_hut 7 = .ok (.ifCond .eq 23, 3) := by decide +kernel
theorem dX7_hut_10 : decode cX7_hut 10 = .ok (.iload_n 2, 1) := by decide +kernel
theorem dX7_hut_11 : decode cX7_hut 11 = .ok (.iconst 0, 1) := by decide +kernel
theorem dX7_hut_12 : decode cX7_hut 12 = .ok (.bipush 30, 2) := by decide +kernel
theorem dX7_hut_14 : decode cX7_hut 14 = .ok (.invokestatic 113, 3) := by decide +kernel
theorem dX7_hut_17 : decode cX7_hut 17 = .ok (.ifCond .eq 13, 3) := by decide +kernel
theorem dX7_hut_20 : decode cX7_hut 20 = .ok (.iload_n 3, 1) := by decide +kernel
theorem dX7_hut_21 : decode cX7_hut 21 = .ok (.iconst 0, 1) := by decide +kernel
theorem dX7_hut_22 : decode cX7_hut 22 = .ok (.bipush 99, 2) := by decide +kernel
theorem dX7_hut_24 : decode cX7_hut 24 = .ok (.invokestatic 113, 3) := by decide +kernel
theorem dX7_hut_27 : decode cX7_hut 27 = .ok (.ifCond .ne 6, 3) := by decide +kernel
theorem dX7_hut_30 : decode cX7_hut 30 = .ok (.bipush (-3), 2) := by decide +kernel
theorem dX7_hut_32 : decode cX7_hut 32 = .ok (.ireturn, 1) := by decide +kernel
theorem dX7_hut_33 : decode cX7_hut 33 = .ok (.aload_n 0, 1) := by decide +kernel
theorem dX7_hut_34 : decode cX7_hut 34 = .ok (.getfield 110, 3) := by decide +kernel
theorem dX7_hut_37 : decode cX7_hut 37 = .ok (.bipush 6, 2) := by decide +kernel
theorem dX7_hut_39 : decode cX7_hut 39 = .ok (.if_icmp .ne 6, 3) := by decide +kernel
theorem dX7_hut_42 : decode cX7_hut 42 = .ok (.bipush (-5), 2) := by decide +kernel
theorem dX7_hut_44 : decode cX7_hut 44 = .ok (.ireturn, 1) := by decide +kernel
theorem dX7_hut_45 : decode cX7_hut 45 = .ok (.aload_n 0, 1) := by decide +kernel
theorem dX7_hut_46 : decode cX7_hut 46 = .ok (.getfield 7, 3) := by decide +kernel
theorem dX7_hut_49 : decode cX7_hut 49 = .ok (.aload_n 0, 1) := by decide +kernel
theorem dX7_hut_50 : decode cX7_hut 50 = .ok (.getfield 110, 3) := by decide +kernel
theorem dX7_hut_53 : decode cX7_hut 53 = .ok (.iload_n 1, 1) := by decide +kernel
theorem dX7_hut_54 : decode cX7_hut 54 = .ok (.iastore, 1) := by decide +kernel
theorem dX7_hut_55 : decode cX7_hut 55 = .ok (.aload_n 0, 1) := by decide +kernel
theorem dX7_hut_56 : decode cX7_hut 56 = .ok (.getfield 13, 3) := by decide +kernel
theorem dX7_hut_59 : decode cX7_hut 59 = .ok (.aload_n 0, 1) := by decide +kernel
theorem dX7_hut_60 : decode cX7_hut 60 = .ok (.getfield 110, 3) := by decide +kernel
theorem dX7_hut_63 : decode cX7_hut 63 = .ok (.iload_n 2, 1) := by decide +kernel
theorem dX7_hut_64 : decode cX7_hut 64 = .ok (.iastore, 1) := by decide +kernel
theorem dX7_hut_65 : decode cX7_hut 65 = .ok (.aload_n 0, 1) := by decide +kernel
theorem dX7_hut_66 : decode cX7_hut 66 = .ok (.getfield 16, 3) := by decide +kernel
theorem dX7_hut_69 : decode cX7_hut 69 = .ok (.aload_n 0, 1) := by decide +kernel
theorem dX7_hut_70 : decode cX7_hut 70 = .ok (.getfield 110, 3) := by decide +kernel
theorem dX7_hut_73 : decode cX7_hut 73 = .ok (.iload_n 3, 1) := by decide +kernel
theorem dX7_hut_74 : decode cX7_hut 74 = .ok (.iastore, 1) := by decide +kernel
theorem dX7_hut_75 : decode cX7_hut 75 = .ok (.aload_n 0, 1) := by decide +kernel
theorem dX7_hut_76 : decode cX7_hut 76 = .ok (.getfield 16, 3) := by decide +kernel
theorem dX7_hut_79 : decode cX7_hut 79 = .ok (.bipush 6, 2) := by decide +kernel
theorem dX7_hut_81 : decode cX7_hut 81 = .ok (.aload_n 0, 1) := by decide +kernel
theorem dX7_hut_82 : decode cX7_hut 82 = .ok (.getfield 110, 3) := by decide +kernel
theorem dX7_hut_85 : decode cX7_hut 85 = .ok (.iadd, 1) := by decide +kernel
theorem dX7_hut_86 : decode cX7_hut 86 = .ok (.iconst 0, 1) := by decide +kernel
theorem dX7_hut_87 : decode cX7_hut 87 = .ok (.iastore, 1) := by decide +kernel
theorem dX7_hut_88 : decode cX7_hut 88 = .ok (.aload_n 0, 1) := by decide +kernel
theorem dX7_hut_89 : decode cX7_hut 89 = .ok (.getfield 16, 3) := by decide +kernel
theorem dX7_hut_92 : decode cX7_hut 92 = .ok (.bipush 12, 2) := by decide +kernel
theorem dX7_hut_94 : decode cX7_hut 94 = .ok (.aload_n 0, 1) := by decide +kernel
theorem dX7_hut_95 : decode cX7_hut 95 = .ok (.getfield 110, 3) := by decide +kernel
theorem dX7_hut_98 : decode cX7_hut 98 = .ok (.iadd, 1) := by decide +kernel
theorem dX7_hut_99 : decode cX7_hut 99 = .ok (.iconst 0, 1) := by decide +kernel
theorem dX7_hut_100 : decode cX7_hut 100 = .ok (.iastore, 1) := by decide +kernel
theorem dX7_hut_101 : decode cX7_hut 101 = .ok (.aload_n 0, 1) := by decide +kernel
theorem dX7_hut_102 : decode cX7_hut 102 = .ok (.getfield 16, 3) := by decide +kernel
theorem dX7_hut_105 : decode cX7_hut 105 = .ok (.bipush 18, 2) := by decide +kernel
theorem dX7_hut_107 : decode cX7_hut 107 = .ok (.aload_n 0, 1) := by decide +kernel
theorem dX7_hut_108 : decode cX7_hut 108 = .ok (.getfield 110, 3) := by decide +kernel
theorem dX7_hut_111 : decode cX7_hut 111 = .ok (.iadd, 1) := by decide +kernel
theorem dX7_hut_112 : decode cX7_hut 112 = .ok (.iconst (-1), 1) := by decide +kernel
theorem dX7_hut_113 : decode cX7_hut 113 = .ok (.iastore, 1) := by decide +kernel
theorem dX7_hut_114 : decode cX7_hut 114 = .ok (.aload_n 0, 1) := by decide +kernel
theorem dX7_hut_115 : decode cX7_hut 115 = .ok (.getfield 59, 3) := by decide +kernel
theorem dX7_hut_118 : decode cX7_hut 118 = .ok (.aload_n 0, 1) := by decide +kernel
theorem dX7_hut_119 : decode cX7_hut 119 = .ok (.getfield 110, 3) := by decide +kernel
theorem dX7_hut_122 : decode cX7_hut 122 = .ok (.iconst 0, 1) := by decide +kernel
theorem dX7_hut_123 : decode cX7_hut 123 = .ok (.iastore, 1) := by decide +kernel
theorem dX7_hut_124 : decode cX7_hut 124 = .ok (.aload_n 0, 1) := by decide +kernel
theorem dX7_hut_125 : decode cX7_hut 125 = .ok (.dup, 1) := by decide +kernel
theorem dX7_hut_126 : decode cX7_hut 126 = .ok (.getfield 110, 3) := by decide +kernel
theorem dX7_hut_129 : decode cX7_hut 129 = .ok (.iconst 1, 1) := by decide +kernel
theorem dX7_hut_130 : decode cX7_hut 130 = .ok (.iadd, 1) := by decide +kernel
theorem dX7_hut_131 : decode cX7_hut 131 = .ok (.putfield 110, 3) := by decide +kernel
theorem dX7_hut_134 : decode cX7_hut 134 = .ok (.aload_n 0, 1) := by decide +kernel
theorem dX7_hut_135 : decode cX7_hut 135 = .ok (.getfield 110, 3) := by decide +kernel
theorem dX7_hut_138 : decode cX7_hut 138 = .ok (.iconst 1, 1) := by decide +kernel
theorem dX7_hut_139 : decode cX7_hut 139 = .ok (.isub, 1) := by decide +kernel
theorem dX7_hut_140 : decode cX7_hut 140 = .ok (.ireturn, 1) := by decide +kernel
def fX7_hut (σ : St) (a0 : Nat) (a1 : Int32) (a2 : Int32) (a3 : Int32) : Option (Int32 × St) :=
  (fX7_in σ a1 0 30).bind fun x1 =>
  if x1 = 0 then
    some ((-3), σ)
  else
  (fX7_in σ a2 0 30).bind fun x2 =>
  if x2 = 0 then
    some ((-3), σ)
  else
  (fX7_in σ a3 0 99).bind fun x3 =>
  if x3 = 0 then
    some ((-3), σ)
  else
  o_gI σ a0 5 1 fun x4 =>
  if x4 = 6 then
    some ((-5), σ)
  else
  o_gR σ a0 5 2 fun r5 =>
  o_gI σ a0 5 1 fun x6 =>
  o_sI σ r5 0 x6 a1 fun σ7 =>
  o_gR σ7 a0 5 3 fun r8 =>
  o_gI σ7 a0 5 1 fun x9 =>
  o_sI σ7 r8 0 x9 a2 fun σ10 =>
  o_gR σ10 a0 5 4 fun r11 =>
  o_gI σ10 a0 5 1 fun x12 =>
  o_sI σ10 r11 0 x12 a3 fun σ13 =>
  o_gR σ13 a0 5 4 fun r14 =>
  o_gI σ13 a0 5 1 fun x15 =>
  o_sI σ13 r14 0 (6 + x15) 0 fun σ16 =>
  o_gR σ16 a0 5 4 fun r17 =>
  o_gI σ16 a0 5 1 fun x18 =>
  o_sI σ16 r17 0 (12 + x18) 0 fun σ19 =>
  o_gR σ19 a0 5 4 fun r20 =>
  o_gI σ19 a0 5 1 fun x21 =>
  o_sI σ19 r20 0 (18 + x21) ((-1)) fun σ22 =>
  o_gR σ22 a0 5 28 fun r23 =>
  o_gI σ22 a0 5 1 fun x24 =>
  o_sI σ22 r23 0 x24 0 fun σ25 =>
  o_gI σ25 a0 5 1 fun x26 =>
  o_pI σ25 a0 5 1 (x26 + 1) fun σ27 =>
  o_gI σ27 a0 5 1 fun x28 =>
  some (x28 - 1, σ27)

set_option maxHeartbeats 4000000 in
theorem wX7_hut {l : Launch} {s0 : State} {A0 : Array Value} {D : va_G} {ac : Nat → ClassId} (G : Gl s0 A0 D ac) {σ : St} {a0 : Nat} {a1 : Int32} {a2 : Int32} {a3 : Int32} {v : Int32} {σ' : St} (hf : fX7_hut σ a0 a1 a2 a3 = some (v, σ')) : Met l yX7_hut (ws_ yX7_hut cX7_hut 4 (some (.int))) ({ frames := 1, cells := 0, slots := 0, locals := 22 } : Room) (Pn s0 D ac [.ref a0, .int a1, .int a2, .int a3] σ) (Qn s0 D ac (some (.int v)) σ') 0 0 (fr s0) := by
  refine x_met (by decide) (Nat.le_of_ble_eq_true rfl) ?_
  intro p e s m args below meth c ls C hnm h hl
  have C : Cx s0 p s m args meth c cX7_hut 4 "HutForShowModel" (some (.int)) := C
  have hx := C.1
  have hb := C.2.1
  have hl : lv_has ls 4 [(0, .ref a0), (1, .int a1), (2, .int a2), (3, .int a3)] := hl
  unfold fX7_hut at hf
  refine lv_iload_n hx hb dX7_hut_0 rfl (lv_at hl 1 rfl) ?_
  refine lv_iconst (v := 0) hx hb dX7_hut_1 (by decide) ?_
  refine lv_bipush (v := 30) hx hb dX7_hut_2 (by decide) ?_
  obtain ⟨x1, hc, hf⟩ := hf_b hf
  refine x_cS (rest := []) (As := [.int a1, .int 0, .int 30]) (n := 3) (ov := (some (.int x1))) C h (wX7_in G hc) (lw_S q1211 q1212 q61 q1213) (by decide +kernel) ⟨Nat.le_of_ble_eq_true rfl, Nat.le_of_ble_eq_true rfl⟩ rfl rfl rfl hl.1 rfl (Nat.le_of_ble_eq_true rfl) dX7_hut_4 ⟨(Nat.le_of_ble_eq_true rfl), (Nat.le_of_ble_eq_true rfl)⟩ (fun H locs h => ?_)
  refine lv_if_eq (tgt := 30) hx hb dX7_hut_7 (by decide) (fun hc => ?_) (fun hc => ?_)
  · have hf := hf_t hc hf
    refine lv_bipush (v := (-3)) hx hb dX7_hut_30 (by decide) ?_
    cases hf
    refine W.widen (k := 0) (n := 0) (Nat.le_of_ble_eq_true rfl) (Nat.le_of_ble_eq_true rfl) ?_
    exact x_iret C h dX7_hut_32
  · have hf := hf_f hc hf
    refine lv_iload_n hx hb dX7_hut_10 rfl (lv_at hl 2 rfl) ?_
    refine lv_iconst (v := 0) hx hb dX7_hut_11 (by decide) ?_
    refine lv_bipush (v := 30) hx hb dX7_hut_12 (by decide) ?_
    obtain ⟨x2, hc, hf⟩ := hf_b hf
    refine x_cS (rest := []) (As := [.int a2, .int 0, .int 30]) (n := 3) (ov := (some (.int x2))) C h (wX7_in G hc) (lw_S q1211 q1212 q61 q1213) (by decide +kernel) ⟨Nat.le_of_ble_eq_true rfl, Nat.le_of_ble_eq_true rfl⟩ rfl rfl rfl hl.1 rfl (Nat.le_of_ble_eq_true rfl) dX7_hut_14 ⟨(Nat.le_of_ble_eq_true rfl), (Nat.le_of_ble_eq_true rfl)⟩ (fun H locs h => ?_)
    refine lv_if_eq (tgt := 30) hx hb dX7_hut_17 (by decide) (fun hc => ?_) (fun hc => ?_)
    · have hf := hf_t hc hf
      refine lv_bipush (v := (-3)) hx hb dX7_hut_30 (by decide) ?_
      cases hf
      refine W.widen (k := 0) (n := 0) (Nat.le_of_ble_eq_true rfl) (Nat.le_of_ble_eq_true rfl) ?_
      exact x_iret C h dX7_hut_32
    · have hf := hf_f hc hf
      refine lv_iload_n hx hb dX7_hut_20 rfl (lv_at hl 3 rfl) ?_
      refine lv_iconst (v := 0) hx hb dX7_hut_21 (by decide) ?_
      refine lv_bipush (v := 99) hx hb dX7_hut_22 (by decide) ?_
      obtain ⟨x3, hc, hf⟩ := hf_b hf
      refine x_cS (rest := []) (As := [.int a3, .int 0, .int 99]) (n := 3) (ov := (some (.int x3))) C h (wX7_in G hc) (lw_S q1211 q1212 q61 q1213) (by decide +kernel) ⟨Nat.le_of_ble_eq_true rfl, Nat.le_of_ble_eq_true rfl⟩ rfl rfl rfl hl.1 rfl (Nat.le_of_ble_eq_true rfl) dX7_hut_24 ⟨(Nat.le_of_ble_eq_true rfl), (Nat.le_of_ble_eq_true rfl)⟩ (fun H locs h => ?_)
      refine lv_if_ne (tgt := 33) hx hb dX7_hut_27 (by decide) (fun hc => ?_) (fun hc => ?_)
      · have hf := hf_f hc hf
        refine lv_aload_n hx hb dX7_hut_33 rfl (lv_at hl 0 rfl) ?_
        refine x_gI (q := (RX7, TX7, 50)) (j := 1) G C h rfl (by decide) (fun _ _ _ => rfl) (lk C q1057) (fun _ z => z) dX7_hut_34 hf (fun x4 hf => ?_)
        refine lv_bipush (v := 6) hx hb dX7_hut_37 (by decide) ?_
        refine lv_icmp_ne (tgt := 45) hx hb dX7_hut_39 (by decide) (fun hc => ?_) (fun hc => ?_)
        · have hf := hf_f hc hf
          refine lv_aload_n hx hb dX7_hut_45 rfl (lv_at hl 0 rfl) ?_
          refine x_gR (q := (RX7, TX7, 50)) (j := 2) G C h rfl (by decide) (fun _ _ _ => rfl) (lk C q1058) (fun _ z => z) dX7_hut_46 hf (fun r5 hf => ?_)
          refine lv_aload_n hx hb dX7_hut_49 rfl (lv_at hl 0 rfl) ?_
          refine x_gI (q := (RX7, TX7, 50)) (j := 1) G C h rfl (by decide) (fun _ _ _ => rfl) (lk C q1057) (fun _ z => z) dX7_hut_50 hf (fun x6 hf => ?_)
          refine lv_iload_n hx hb dX7_hut_53 rfl (lv_at hl 1 rfl) ?_
          refine x_iast G C h dX7_hut_54 hf (fun σ7 H locs h hf => ?_)
          refine lv_aload_n hx hb dX7_hut_55 rfl (lv_at hl 0 rfl) ?_
          refine x_gR (q := (RX7, TX7, 50)) (j := 3) G C h rfl (by decide) (fun _ _ _ => rfl) (lk C q1059) (fun _ z => z) dX7_hut_56 hf (fun r8 hf => ?_)
          refine lv_aload_n hx hb dX7_hut_59 rfl (lv_at hl 0 rfl) ?_
          refine x_gI (q := (RX7, TX7, 50)) (j := 1) G C h rfl (by decide) (fun _ _ _ => rfl) (lk C q1057) (fun _ z => z) dX7_hut_60 hf (fun x9 hf => ?_)
          refine lv_iload_n hx hb dX7_hut_63 rfl (lv_at hl 2 rfl) ?_
          refine x_iast G C h dX7_hut_64 hf (fun σ10 H locs h hf => ?_)
          refine lv_aload_n hx hb dX7_hut_65 rfl (lv_at hl 0 rfl) ?_
          refine x_gR (q := (RX7, TX7, 50)) (j := 4) G C h rfl (by decide) (fun _ _ _ => rfl) (lk C q1060) (fun _ z => z) dX7_hut_66 hf (fun r11 hf => ?_)
          refine lv_aload_n hx hb dX7_hut_69 rfl (lv_at hl 0 rfl) ?_
          refine x_gI (q := (RX7, TX7, 50)) (j := 1) G C h rfl (by decide) (fun _ _ _ => rfl) (lk C q1057) (fun _ z => z) dX7_hut_70 hf (fun x12 hf => ?_)
          refine lv_iload_n hx hb dX7_hut_73 rfl (lv_at hl 3 rfl) ?_
          refine x_iast G C h dX7_hut_74 hf (fun σ13 H locs h hf => ?_)
          refine lv_aload_n hx hb dX7_hut_75 rfl (lv_at hl 0 rfl) ?_
          refine x_gR (q := (RX7, TX7, 50)) (j := 4) G C h rfl (by decide) (fun _ _ _ => rfl) (lk C q1060) (fun _ z => z) dX7_hut_76 hf (fun r14 hf => ?_)
          refine lv_bipush (v := 6) hx hb dX7_hut_79 (by decide) ?_
          refine lv_aload_n hx hb dX7_hut_81 rfl (lv_at hl 0 rfl) ?_
          refine x_gI (q := (RX7, TX7, 50)) (j := 1) G C h rfl (by decide) (fun _ _ _ => rfl) (lk C q1057) (fun _ z => z) dX7_hut_82 hf (fun x15 hf => ?_)
          refine lv_iadd hx hb dX7_hut_85 ?_
          refine lv_iconst (v := 0) hx hb dX7_hut_86 (by decide) ?_
          refine x_iast G C h dX7_hut_87 hf (fun σ16 H locs h hf => ?_)
          refine lv_aload_n hx hb dX7_hut_88 rfl (lv_at hl 0 rfl) ?_
          refine x_gR (q := (RX7, TX7, 50)) (j := 4) G C h rfl (by decide) (fun _ _ _ => rfl) (lk C q1060) (fun _ z => z) dX7_hut_89 hf (fun r17 hf => ?_)
          refine lv_bipush (v := 12) hx hb dX7_hut_92 (by decide) ?_
          refine lv_aload_n hx hb dX7_hut_94 rfl (lv_at hl 0 rfl) ?_
          refine x_gI (q := (RX7, TX7, 50)) (j := 1) G C h rfl (by decide) (fun _ _ _ => rfl) (lk C q1057) (fun _ z => z) dX7_hut_95 hf (fun x18 hf => ?_)
          refine lv_iadd hx hb dX7_hut_98 ?_
          refine lv_iconst (v := 0) hx hb dX7_hut_99 (by decide) ?_
          refine x_iast G C h dX7_hut_100 hf (fun σ19 H locs h hf => ?_)
          refine lv_aload_n hx hb dX7_hut_101 rfl (lv_at hl 0 rfl) ?_
          refine x_gR (q := (RX7, TX7, 50)) (j := 4) G C h rfl (by decide) (fun _ _ _ => rfl) (lk C q1060) (fun _ z => z) dX7_hut_102 hf (fun r20 hf => ?_)
          refine lv_bipush (v := 18) hx hb dX7_hut_105 (by decide) ?_
          refine lv_aload_n hx hb dX7_hut_107 rfl (lv_at hl 0 rfl) ?_
          refine x_gI (q := (RX7, TX7, 50)) (j := 1) G C h rfl (by decide) (fun _ _ _ => rfl) (lk C q1057) (fun _ z => z) dX7_hut_108 hf (fun x21 hf => ?_)
          refine lv_iadd hx hb dX7_hut_111 ?_
          refine lv_iconst (v := (-1)) hx hb dX7_hut_112 (by decide) ?_
          refine x_iast G C h dX7_hut_113 hf (fun σ22 H locs h hf => ?_)
          refine lv_aload_n hx hb dX7_hut_114 rfl (lv_at hl 0 rfl) ?_
          refine x_gR (q := (RX7, TX7, 50)) (j := 28) G C h rfl (by decide) (fun _ _ _ => rfl) (lk C q1084) (fun _ z => z) dX7_hut_115 hf (fun r23 hf => ?_)
          refine lv_aload_n hx hb dX7_hut_118 rfl (lv_at hl 0 rfl) ?_
          refine x_gI (q := (RX7, TX7, 50)) (j := 1) G C h rfl (by decide) (fun _ _ _ => rfl) (lk C q1057) (fun _ z => z) dX7_hut_119 hf (fun x24 hf => ?_)
          refine lv_iconst (v := 0) hx hb dX7_hut_122 (by decide) ?_
          refine x_iast G C h dX7_hut_123 hf (fun σ25 H locs h hf => ?_)
          refine lv_aload_n hx hb dX7_hut_124 rfl (lv_at hl 0 rfl) ?_
          refine lv_dup hx hb dX7_hut_125 rfl ?_
          refine x_gI (q := (RX7, TX7, 50)) (j := 1) G C h rfl (by decide) (fun _ _ _ => rfl) (lk C q1057) (fun _ z => z) dX7_hut_126 hf (fun x26 hf => ?_)
          refine lv_iconst (v := 1) hx hb dX7_hut_129 (by decide) ?_
          refine lv_iadd hx hb dX7_hut_130 ?_
          refine x_pI (q := (RX7, TX7, 50)) (j := 1) G C h rfl (by decide) rfl (lk C q1057) (fun _ z => z) (Or.inl rfl) dX7_hut_131 hf (fun σ27 H locs h hf => ?_)
          refine lv_aload_n hx hb dX7_hut_134 rfl (lv_at hl 0 rfl) ?_
          refine x_gI (q := (RX7, TX7, 50)) (j := 1) G C h rfl (by decide) (fun _ _ _ => rfl) (lk C q1057) (fun _ z => z) dX7_hut_135 hf (fun x28 hf => ?_)
          refine lv_iconst (v := 1) hx hb dX7_hut_138 (by decide) ?_
          refine lv_isub hx hb dX7_hut_139 ?_
          cases hf
          refine W.widen (k := 0) (n := 0) (Nat.le_of_ble_eq_true rfl) (Nat.le_of_ble_eq_true rfl) ?_
          exact x_iret C h dX7_hut_140
        · have hf := hf_t hc hf
          refine lv_bipush (v := (-5)) hx hb dX7_hut_42 (by decide) ?_
          cases hf
          refine W.widen (k := 0) (n := 0) (Nat.le_of_ble_eq_true rfl) (Nat.le_of_ble_eq_true rfl) ?_
          exact x_iret C h dX7_hut_44
      · have hf := hf_t hc hf
        refine lv_bipush (v := (-3)) hx hb dX7_hut_30 (by decide) ?_
        cases hf
        refine W.widen (k := 0) (n := 0) (Nat.le_of_ble_eq_true rfl) (Nat.le_of_ble_eq_true rfl) ?_
        exact x_iret C h dX7_hut_32

theorem dX7_isHut_0 : decode cX7_isHut 0 = .ok (.iload_n 1, 1) := by decide +kernel
theorem dX7_isHut_1 : decode cX7_isHut 1 = .ok (.iconst 0, 1) := by decide +kernel
theorem dX7_isHut_2 : decode cX7_isHut 2 = .ok (.aload_n 0, 1) := by decide +kernel
theorem dX7_isHut_3 : decode cX7_isHut 3 = .ok (.getfield 110, 3) := by decide +kernel
theorem dX7_isHut_6 : decode cX7_isHut 6 = .ok (.iconst 1, 1) := by decide +kernel
theorem dX7_isHut_7 : decode cX7_isHut 7 = .ok (.isub, 1) := by decide +kernel
theorem dX7_isHut_8 : decode cX7_isHut 8 = .ok (.invokestatic 113, 3) := by decide +kernel
theorem dX7_isHut_11 : decode cX7_isHut 11 = .ok (.ireturn, 1) := by decide +kernel
def fX7_isHut (σ : St) (a0 : Nat) (a1 : Int32) : Option (Int32) :=
  o_gI σ a0 5 1 fun x1 =>
  (fX7_in σ a1 0 (x1 - 1)).bind fun x2 =>
  o_bz x2 <| some x2

set_option maxHeartbeats 4000000 in
theorem wX7_isHut {l : Launch} {s0 : State} {A0 : Array Value} {D : va_G} {ac : Nat → ClassId} (G : Gl s0 A0 D ac) {σ : St} {a0 : Nat} {a1 : Int32} {v : Int32} (hf : fX7_isHut σ a0 a1 = some (v)) : Met l yX7_isHut (ws_ yX7_isHut cX7_isHut 2 (some (.boolean))) ({ frames := 1, cells := 0, slots := 0, locals := 22 } : Room) (Pn s0 D ac [.ref a0, .int a1] σ) (Qn s0 D ac (some (.int v)) σ) 0 0 (fr s0) := by
  refine x_met (by decide) (Nat.le_of_ble_eq_true rfl) ?_
  intro p e s m args below meth c ls C hnm h hl
  have C : Cx s0 p s m args meth c cX7_isHut 2 "HutForShowModel" (some (.boolean)) := C
  have hx := C.1
  have hb := C.2.1
  have hl : lv_has ls 2 [(0, .ref a0), (1, .int a1)] := hl
  unfold fX7_isHut at hf
  refine lv_iload_n hx hb dX7_isHut_0 rfl (lv_at hl 1 rfl) ?_
  refine lv_iconst (v := 0) hx hb dX7_isHut_1 (by decide) ?_
  refine lv_aload_n hx hb dX7_isHut_2 rfl (lv_at hl 0 rfl) ?_
  refine x_gI (q := (RX7, TX7, 50)) (j := 1) G C h rfl (by decide) (fun _ _ _ => rfl) (lk C q1057) (fun _ z => z) dX7_isHut_3 hf (fun x1 hf => ?_)
  refine lv_iconst (v := 1) hx hb dX7_isHut_6 (by decide) ?_
  refine lv_isub hx hb dX7_isHut_7 ?_
  obtain ⟨x2, hc, hf⟩ := hf_b hf
  refine x_cS (rest := []) (As := [.int a1, .int 0, .int (x1 - 1)]) (n := 3) (ov := (some (.int x2))) C h (wX7_in G hc) (lw_S q1211 q1212 q61 q1213) (by decide +kernel) ⟨Nat.le_of_ble_eq_true rfl, Nat.le_of_ble_eq_true rfl⟩ rfl rfl rfl hl.1 rfl (Nat.le_of_ble_eq_true rfl) dX7_isHut_8 ⟨(Nat.le_of_ble_eq_true rfl), (Nat.le_of_ble_eq_true rfl)⟩ (fun H locs h => ?_)
  obtain ⟨hz, hf⟩ := bz_of hf
  cases hf
  refine W.widen (k := 0) (n := 0) (Nat.le_of_ble_eq_true rfl) (Nat.le_of_ble_eq_true rfl) ?_
  exact x_zret C h hz dX7_isHut_11

theorem dX7_much_0 : decode cX7_much 0 = .ok (.iload_n 0, 1) := by decide +kernel
theorem dX7_much_1 : decode cX7_much 1 = .ok (.ifCond .ge 8, 3) := by decide +kernel
theorem dX7_much_4 : decode cX7_much 4 = .ok (.iload_n 0, 1) := by decide +kernel
theorem dX7_much_5 : decode cX7_much 5 = .ok (.ineg, 1) := by decide +kernel
theorem dX7_much_6 : decode cX7_much 6 = .ok (.goto 4, 3) := by decide +kernel
theorem dX7_much_9 : decode cX7_much 9 = .ok (.iload_n 0, 1) := by decide +kernel
theorem dX7_much_10 : decode cX7_much 10 = .ok (.ireturn, 1) := by decide +kernel
def fX7_much (σ : St) (a0 : Int32) : Option (Int32) :=
  if 0 ≤ a0 then
    some a0
  else
  some (-a0)

set_option maxHeartbeats 4000000 in
theorem wX7_much {l : Launch} {s0 : State} {A0 : Array Value} {D : va_G} {ac : Nat → ClassId} (G : Gl s0 A0 D ac) {σ : St} {a0 : Int32} {v : Int32} (hf : fX7_much σ a0 = some (v)) : Met l yX7_much (ws_ yX7_much cX7_much 1 (some (.int))) ({ frames := 0, cells := 0, slots := 0, locals := 0 } : Room) (Pn s0 D ac [.int a0] σ) (Qn s0 D ac (some (.int v)) σ) 0 0 (fr s0) := by
  refine x_met (by decide) (Nat.le_of_ble_eq_true rfl) ?_
  intro p e s m args below meth c ls C hnm h hl
  have C : Cx s0 p s m args meth c cX7_much 1 "HutForShowModel" (some (.int)) := C
  have hx := C.1
  have hb := C.2.1
  have hl : lv_has ls 1 [(0, .int a0)] := hl
  unfold fX7_much at hf
  refine lv_iload_n hx hb dX7_much_0 rfl (lv_at hl 0 rfl) ?_
  refine lv_if_ge (tgt := 9) hx hb dX7_much_1 (by decide) (fun hc => ?_) (fun hc => ?_)
  · have hf := hf_t hc hf
    refine lv_iload_n hx hb dX7_much_9 rfl (lv_at hl 0 rfl) ?_
    cases hf
    refine W.widen (k := 0) (n := 0) (Nat.le_of_ble_eq_true rfl) (Nat.le_of_ble_eq_true rfl) ?_
    exact x_iret C h dX7_much_10
  · have hf := hf_f hc hf
    refine lv_iload_n hx hb dX7_much_4 rfl (lv_at hl 0 rfl) ?_
    refine lv_ineg hx hb dX7_much_5 ?_
    refine lv_goto (tgt := 10) hx hb dX7_much_6 (by decide) ?_
    cases hf
    refine W.widen (k := 0) (n := 0) (Nat.le_of_ble_eq_true rfl) (Nat.le_of_ble_eq_true rfl) ?_
    exact x_iret C h dX7_much_10

theorem dX7_farOf_0 : decode cX7_farOf 0 = .ok (.aload_n 0, 1) := by decide +kernel
theorem dX7_farOf_1 : decode cX7_farOf 1 = .ok (.getfield 7, 3) := by decide +kernel
theorem dX7_farOf_4 : decode cX7_farOf 4 = .ok (.iload_n 1, 1) := by decide +kernel
theorem dX7_farOf_5 : decode cX7_farOf 5 = .ok (.iaload, 1) := by decide +kernel
theorem dX7_farOf_6 : decode cX7_farOf 6 = .ok (.aload_n 0, 1) := by decide +kernel
theorem dX7_farOf_7 : decode cX7_farOf 7 = .ok (.getfield 7, 3) := by decide +kernel
theorem dX7_farOf_10 : decode cX7_farOf 10 = .ok (.iload_n 2, 1) := by decide +kernel
theorem dX7_farOf_11 : decode cX7_farOf 11 = .ok (.iaload, 1) := by decide +kernel
theorem dX7_farOf_12 : decode cX7_farOf 12 = .ok (.isub, 1) := by decide +kernel
theorem dX7_farOf_13 : decode cX7_farOf 13 = .ok (.invokestatic 117, 3) := by decide +kernel
theorem dX7_farOf_16 : decode cX7_farOf 16 = .ok (.aload_n 0, 1) := by decide +kernel
theorem dX7_farOf_17 : decode cX7_farOf 17 = .ok (.getfield 13, 3) := by decide +kernel
theorem dX7_farOf_20 : decode cX7_farOf 20 = .ok (.iload_n 1, 1) := by decide +kernel
theorem dX7_farOf_21 : decode cX7_farOf 21 = .ok (.iaload, 1) := by decide +kernel
theorem dX7_farOf_22 : decode cX7_farOf 22 = .ok (.aload_n 0, 1) := by decide +kernel
theorem dX7_farOf_23 : decode cX7_farOf 23 = .ok (.getfield 13, 3) := by decide +kernel
theorem dX7_farOf_26 : decode cX7_farOf 26 = .ok (.iload_n 2, 1) := by decide +kernel
theorem dX7_farOf_27 : decode cX7_farOf 27 = .ok (.iaload, 1) := by decide +kernel
theorem dX7_farOf_28 : decode cX7_farOf 28 = .ok (.isub, 1) := by decide +kernel
theorem dX7_farOf_29 : decode cX7_farOf 29 = .ok (.invokestatic 117, 3) := by decide +kernel
theorem dX7_farOf_32 : decode cX7_farOf 32 = .ok (.iadd, 1) := by decide +kernel
theorem dX7_farOf_33 : decode cX7_farOf 33 = .ok (.ireturn, 1) := by decide +kernel
def fX7_farOf (σ : St) (a0 : Nat) (a1 : Int32) (a2 : Int32) : Option (Int32) :=
  o_gR σ a0 5 2 fun r1 =>
  o_aI σ r1 0 a1 fun x2 =>
  o_gR σ a0 5 2 fun r3 =>
  o_aI σ r3 0 a2 fun x4 =>
  (fX7_much σ (x2 - x4)).bind fun x5 =>
  o_gR σ a0 5 3 fun r6 =>
  o_aI σ r6 0 a1 fun x7 =>
  o_gR σ a0 5 3 fun r8 =>
  o_aI σ r8 0 a2 fun x9 =>
  (fX7_much σ (x7 - x9)).bind fun x10 =>
  some (x5 + x10)

set_option maxHeartbeats 4000000 in
theorem wX7_farOf {l : Launch} {s0 : State} {A0 : Array Value} {D : va_G} {ac : Nat → ClassId} (G : Gl s0 A0 D ac) {σ : St} {a0 : Nat} {a1 : Int32} {a2 : Int32} {v : Int32} (hf : fX7_farOf σ a0 a1 a2 = some (v)) : Met l yX7_farOf (ws_ yX7_farOf cX7_farOf 3 (some (.int))) ({ frames := 1, cells := 0, slots := 0, locals := 20 } : Room) (Pn s0 D ac [.ref a0, .int a1, .int a2] σ) (Qn s0 D ac (some (.int v)) σ) 0 0 (fr s0) := by
  refine x_met (by decide) (Nat.le_of_ble_eq_true rfl) ?_
  intro p e s m args below meth c ls C hnm h hl
  have C : Cx s0 p s m args meth c cX7_farOf 3 "HutForShowModel" (some (.int)) := C
  have hx := C.1
  have hb := C.2.1
  have hl : lv_has ls 3 [(0, .ref a0), (1, .int a1), (2, .int a2)] := hl
  unfold fX7_farOf at hf
  refine lv_aload_n hx hb dX7_farOf_0 rfl (lv_at hl 0 rfl) ?_
  refine x_gR (q := (RX7, TX7, 50)) (j := 2) G C h rfl (by decide) (fun _ _ _ => rfl) (lk C q1058) (fun _ z => z) dX7_farOf_1 hf (fun r1 hf => ?_)
  refine lv_iload_n hx hb dX7_farOf_4 rfl (lv_at hl 1 rfl) ?_
  refine x_iald G C h dX7_farOf_5 hf (fun x2 hf => ?_)
  refine lv_aload_n hx hb dX7_farOf_6 rfl (lv_at hl 0 rfl) ?_
  refine x_gR (q := (RX7, TX7, 50)) (j := 2) G C h rfl (by decide) (fun _ _ _ => rfl) (lk C q1058) (fun _ z => z) dX7_farOf_7 hf (fun r3 hf => ?_)
  refine lv_iload_n hx hb dX7_farOf_10 rfl (lv_at hl 2 rfl) ?_
  refine x_iald G C h dX7_farOf_11 hf (fun x4 hf => ?_)
  refine lv_isub hx hb dX7_farOf_12 ?_
  obtain ⟨x5, hc, hf⟩ := hf_b hf
  refine x_cS (rest := []) (As := [.int (x2 - x4)]) (n := 1) (ov := (some (.int x5))) C h (wX7_much G hc) (lw_S q1226 q1227 q61 q1228) (by decide +kernel) ⟨Nat.le_of_ble_eq_true rfl, Nat.le_of_ble_eq_true rfl⟩ rfl rfl rfl hl.1 rfl (Nat.le_of_ble_eq_true rfl) dX7_farOf_13 ⟨(Nat.le_of_ble_eq_true rfl), (Nat.le_of_ble_eq_true rfl)⟩ (fun H locs h => ?_)
  refine lv_aload_n hx hb dX7_farOf_16 rfl (lv_at hl 0 rfl) ?_
  refine x_gR (q := (RX7, TX7, 50)) (j := 3) G C h rfl (by decide) (fun _ _ _ => rfl) (lk C q1059) (fun _ z => z) dX7_farOf_17 hf (fun r6 hf => ?_)
  refine lv_iload_n hx hb dX7_farOf_20 rfl (lv_at hl 1 rfl) ?_
  refine x_iald G C h dX7_farOf_21 hf (fun x7 hf => ?_)
  refine lv_aload_n hx hb dX7_farOf_22 rfl (lv_at hl 0 rfl) ?_
  refine x_gR (q := (RX7, TX7, 50)) (j := 3) G C h rfl (by decide) (fun _ _ _ => rfl) (lk C q1059) (fun _ z => z) dX7_farOf_23 hf (fun r8 hf => ?_)
  refine lv_iload_n hx hb dX7_farOf_26 rfl (lv_at hl 2 rfl) ?_
  refine x_iald G C h dX7_farOf_27 hf (fun x9 hf => ?_)
  refine lv_isub hx hb dX7_farOf_28 ?_
  obtain ⟨x10, hc, hf⟩ := hf_b hf
  refine x_cS (rest := [.int x5]) (As := [.int (x7 - x9)]) (n := 1) (ov := (some (.int x10))) C h (wX7_much G hc) (lw_S q1226 q1227 q61 q1228) (by decide +kernel) ⟨Nat.le_of_ble_eq_true rfl, Nat.le_of_ble_eq_true rfl⟩ rfl rfl rfl hl.1 rfl (Nat.le_of_ble_eq_true rfl) dX7_farOf_29 ⟨(Nat.le_of_ble_eq_true rfl), (Nat.le_of_ble_eq_true rfl)⟩ (fun H locs h => ?_)
  refine lv_iadd hx hb dX7_farOf_32 ?_
  cases hf
  refine W.widen (k := 0) (n := 0) (Nat.le_of_ble_eq_true rfl) (Nat.le_of_ble_eq_true rfl) ?_
  exact x_iret C h dX7_farOf_33

theorem dX7_far_0 : decode cX7_far 0 = .ok (.aload_n 0, 1) := by decide +kernel
theorem dX7_far_1 : decode cX7_far 1 = .ok (.iload_n 1, 1) := by decide +kernel
theorem dX7_far_2 : decode cX7_far 2 = .ok (.invokevirtual 121, 3) := by decide +kernel
theorem dX7_far_5 : decode cX7_far 5 = .ok (.ifCond .eq 20, 3) := by decide +kernel
theorem dX7_far_8 : decode cX7_far 8 = .ok (.aload_n 0, 1) := by decide +kernel
theorem dX7_far_9 : decode cX7_far 9 = .ok (.iload_n 2, 1) := by decide +kernel
theorem dX7_far_10 : decode cX7_far 10 = .ok (.invokevirtual 121, 3) := by decide +kernel
theorem dX7_far_13 : decode cX7_far 13 = .ok (.ifCond .eq 12, 3) := by decide +kernel
theorem dX7_far_16 : decode cX7_far 16 = .ok (.aload_n 0, 1) := by decide +kernel
theorem dX7_far_17 : decode cX7_far 17 = .ok (.iload_n 1, 1) := by decide +kernel
theorem dX7_far_18 : decode cX7_far 18 = .ok (.iload_n 2, 1) := by decide +kernel
theorem dX7_far_19 : decode cX7_far 19 = .ok (.invokevirtual 125, 3) := by decide +kernel
theorem dX7_far_22 : decode cX7_far 22 = .ok (.goto 5, 3) := by decide +kernel
theorem dX7_far_25 : decode cX7_far 25 = .ok (.bipush (-2), 2) := by decide +kernel
theorem dX7_far_27 : decode cX7_far 27 = .ok (.ireturn, 1) := by decide +kernel
def fX7_far (σ : St) (a0 : Nat) (a1 : Int32) (a2 : Int32) : Option (Int32) :=
  o_k σ a0 5 <|
  (fX7_isHut σ a0 a1).bind fun x1 =>
  jn (fun (_ : Unit) =>
    some ((-2))) fun j25 =>
  if x1 = 0 then
    j25 ()
  else
  o_k σ a0 5 <|
  (fX7_isHut σ a0 a2).bind fun x2 =>
  if x2 = 0 then
    j25 ()
  else
  o_k σ a0 5 <|
  (fX7_farOf σ a0 a1 a2).bind fun x3 =>
  some x3

set_option maxHeartbeats 4000000 in
theorem wX7_far {l : Launch} {s0 : State} {A0 : Array Value} {D : va_G} {ac : Nat → ClassId} (G : Gl s0 A0 D ac) {σ : St} {a0 : Nat} {a1 : Int32} {a2 : Int32} {v : Int32} (hf : fX7_far σ a0 a1 a2 = some (v)) : Met l yX7_far (ws_ yX7_far cX7_far 3 (some (.int))) ({ frames := 2, cells := 0, slots := 0, locals := 43 } : Room) (Pn s0 D ac [.ref a0, .int a1, .int a2] σ) (Qn s0 D ac (some (.int v)) σ) 0 0 (fr s0) := by
  refine x_met (by decide) (Nat.le_of_ble_eq_true rfl) ?_
  intro p e s m args below meth c ls C hnm h hl
  have C : Cx s0 p s m args meth c cX7_far 3 "HutForShowModel" (some (.int)) := C
  have hx := C.1
  have hb := C.2.1
  have hl : lv_has ls 3 [(0, .ref a0), (1, .int a1), (2, .int a2)] := hl
  unfold fX7_far at hf
  refine lv_aload_n hx hb dX7_far_0 rfl (lv_at hl 0 rfl) ?_
  refine lv_iload_n hx hb dX7_far_1 rfl (lv_at hl 1 rfl) ?_
  obtain ⟨hk, hf⟩ := k_of hf
  obtain ⟨x1, hc, hf⟩ := hf_b hf
  refine x_cV (q := (RX7, TX7, 50)) (rest := []) (As := [.int a1]) (n := 1) (ov := (some (.int x1))) G C h (wX7_isHut G hc) hk rfl (lw_V q1218 q1220 qs22 q61 q1221) (by decide +kernel) ⟨Nat.le_of_ble_eq_true rfl, Nat.le_of_ble_eq_true rfl⟩ rfl rfl rfl hl.1 rfl (Nat.le_of_ble_eq_true rfl) dX7_far_2 ⟨(Nat.le_of_ble_eq_true rfl), (Nat.le_of_ble_eq_true rfl)⟩ (fun H locs h => ?_)
  refine jn_of (P := fun j => ∀ (u0 : Unit), j u0 = some (v) → ∀ (H : Heap) (locs : List Loc) (ls : Array Slot), Hs s0 D ac σ H locs → lv_has ls 3 [(0, .ref a0), (1, .int a1), (2, .int a2)] → W p l e ({ frames := 2, cells := 0, slots := 0, locals := 43 } : Room) s m args below meth c H locs 0 0 (MQ below (Qn s0 D ac (some (.int v)) σ) args s 0 0 (fr s0)) (F0 m 25 ls [])) hf ?_ ?_
  · intro u0 hf H locs ls h hl
    refine lv_bipush (v := (-2)) hx hb dX7_far_25 (by decide) ?_
    cases hf
    refine W.widen (k := 0) (n := 0) (Nat.le_of_ble_eq_true rfl) (Nat.le_of_ble_eq_true rfl) ?_
    exact x_iret C h dX7_far_27
  intro j25 hj25 hf
  refine lv_if_eq (tgt := 25) hx hb dX7_far_5 (by decide) (fun hc => ?_) (fun hc => ?_)
  · have hf := hf_t hc hf
    exact hj25 () hf _ _ _ h (lv_sub hl [0, 1, 2] rfl)
  · have hf := hf_f hc hf
    refine lv_aload_n hx hb dX7_far_8 rfl (lv_at hl 0 rfl) ?_
    refine lv_iload_n hx hb dX7_far_9 rfl (lv_at hl 2 rfl) ?_
    obtain ⟨hk, hf⟩ := k_of hf
    obtain ⟨x2, hc, hf⟩ := hf_b hf
    refine x_cV (q := (RX7, TX7, 50)) (rest := []) (As := [.int a2]) (n := 1) (ov := (some (.int x2))) G C h (wX7_isHut G hc) hk rfl (lw_V q1218 q1220 qs22 q61 q1221) (by decide +kernel) ⟨Nat.le_of_ble_eq_true rfl, Nat.le_of_ble_eq_true rfl⟩ rfl rfl rfl hl.1 rfl (Nat.le_of_ble_eq_true rfl) dX7_far_10 ⟨(Nat.le_of_ble_eq_true rfl), (Nat.le_of_ble_eq_true rfl)⟩ (fun H locs h => ?_)
    refine lv_if_eq (tgt := 25) hx hb dX7_far_13 (by decide) (fun hc => ?_) (fun hc => ?_)
    · have hf := hf_t hc hf
      exact hj25 () hf _ _ _ h (lv_sub hl [0, 1, 2] rfl)
    · have hf := hf_f hc hf
      refine lv_aload_n hx hb dX7_far_16 rfl (lv_at hl 0 rfl) ?_
      refine lv_iload_n hx hb dX7_far_17 rfl (lv_at hl 1 rfl) ?_
      refine lv_iload_n hx hb dX7_far_18 rfl (lv_at hl 2 rfl) ?_
      obtain ⟨hk, hf⟩ := k_of hf
      obtain ⟨x3, hc, hf⟩ := hf_b hf
      refine x_cV (q := (RX7, TX7, 50)) (rest := []) (As := [.int a1, .int a2]) (n := 2) (ov := (some (.int x3))) G C h (wX7_farOf G hc) hk rfl (lw_V q1222 q1224 qs23 q61 q1225) (by decide +kernel) ⟨Nat.le_of_ble_eq_true rfl, Nat.le_of_ble_eq_true rfl⟩ rfl rfl rfl hl.1 rfl (Nat.le_of_ble_eq_true rfl) dX7_far_19 ⟨(Nat.le_of_ble_eq_true rfl), (Nat.le_of_ble_eq_true rfl)⟩ (fun H locs h => ?_)
      refine lv_goto (tgt := 27) hx hb dX7_far_22 (by decide) ?_
      cases hf
      refine W.widen (k := 0) (n := 0) (Nat.le_of_ble_eq_true rfl) (Nat.le_of_ble_eq_true rfl) ?_
      exact x_iret C h dX7_far_27

theorem dX7_thingsOf_0 : decode cX7_thingsOf 0 = .ok (.iconst 0, 1) := by decide +kernel
theorem dX7_thingsOf_1 : decode cX7_thingsOf 1 = .ok (.istore_n 2, 1) := by decide +kernel
theorem dX7_thingsOf_2 : decode cX7_thingsOf 2 = .ok (.iconst 0, 1) := by decide +kernel
theorem dX7_thingsOf_3 : decode cX7_thingsOf 3 = .ok (.istore_n 3, 1) := by decide +kernel
theorem dX7_thingsOf_4 : decode cX7_thingsOf 4 = .ok (.iload_n 3, 1) := by decide +kernel
theorem dX7_thingsOf_5 : decode cX7_thingsOf 5 = .ok (.aload_n 0, 1) := by decide +kernel
theorem dX7_thingsOf_6 : decode cX7_thingsOf 6 = .ok (.getfield 129, 3) := by decide +kernel
theorem dX7_thingsOf_9 : decode cX7_thingsOf 9 = .ok (.if_icmp .ge 27, 3) := by decide +kernel
theorem dX7_thingsOf_12 : decode cX7_thingsOf 12 = .ok (.iload_n 2, 1) := by decide +kernel
theorem dX7_thingsOf_13 : decode cX7_thingsOf 13 = .ok (.aload_n 0, 1) := by decide +kernel
theorem dX7_thingsOf_14 : decode cX7_thingsOf 14 = .ok (.getfield 25, 3) := by decide +kernel
theorem dX7_thingsOf_17 : decode cX7_thingsOf 17 = .ok (.iload_n 3, 1) := by decide +kernel
theorem dX7_thingsOf_18 : decode cX7_thingsOf 18 = .ok (.iaload, 1) := by decide +kernel
theorem dX7_thingsOf_19 : decode cX7_thingsOf 19 = .ok (.iload_n 1, 1) := by decide +kernel
theorem dX7_thingsOf_20 : decode cX7_thingsOf 20 = .ok (.if_icmp .ne 7, 3) := by decide +kernel
theorem dX7_thingsOf_23 : decode cX7_thingsOf 23 = .ok (.iconst 1, 1) := by decide +kernel
theorem dX7_thingsOf_24 : decode cX7_thingsOf 24 = .ok (.goto 4, 3) := by decide +kernel
theorem dX7_thingsOf_27 : decode cX7_thingsOf 27 = .ok (.iconst 0, 1) := by decide +kernel
theorem dX7_thingsOf_28 : decode cX7_thingsOf 28 = .ok (.iadd, 1) := by decide +kernel
theorem dX7_thingsOf_29 : decode cX7_thingsOf 29 = .ok (.istore_n 2, 1) := by decide +kernel
theorem dX7_thingsOf_30 : decode cX7_thingsOf 30 = .ok (.iinc 3 1, 3) := by decide +kernel
theorem dX7_thingsOf_33 : decode cX7_thingsOf 33 = .ok (.goto (-29), 3) := by decide +kernel
theorem dX7_thingsOf_36 : decode cX7_thingsOf 36 = .ok (.iload_n 2, 1) := by decide +kernel
theorem dX7_thingsOf_37 : decode cX7_thingsOf 37 = .ok (.ireturn, 1) := by decide +kernel
def lX7_thingsOf_4 (σ : St) (a0 : Nat) (a1 : Int32) (x1 : Int32) (x2 : Int32) : Option ((Int32 × Int32) ⊕ (Int32)) :=
  o_gI σ a0 5 7 fun x3 =>
  if x3 ≤ x2 then
    some (.inr x1)
  else
  o_gR σ a0 5 8 fun r4 =>
  o_aI σ r4 0 x2 fun x5 =>
  jn (fun (x6 : Int32) =>
    some (.inl (x1 + x6, x2 + 1))) fun j28 =>
  if x5 = a1 then
    j28 1
  else
  j28 0

def fX7_thingsOf (σ : St) (a0 : Nat) (a1 : Int32) : Option (Int32) :=
  (loopF fuel (fun z => lX7_thingsOf_4 σ a0 a1 z.1 z.2) (0, 0)).bind <| fun x7 =>
  some x7

set_option maxHeartbeats 4000000 in
theorem wX7_thingsOf {l : Launch} {s0 : State} {A0 : Array Value} {D : va_G} {ac : Nat → ClassId} (G : Gl s0 A0 D ac) {σ : St} {a0 : Nat} {a1 : Int32} {v : Int32} (hf : fX7_thingsOf σ a0 a1 = some (v)) : Met l yX7_thingsOf (ws_ yX7_thingsOf cX7_thingsOf 4 (some (.int))) ({ frames := 0, cells := 0, slots := 0, locals := 0 } : Room) (Pn s0 D ac [.ref a0, .int a1] σ) (Qn s0 D ac (some (.int v)) σ) 0 0 (fr s0) := by
  refine x_met (by decide) (Nat.le_of_ble_eq_true rfl) ?_
  intro p e s m args below meth c ls C hnm h hl
  have C : Cx s0 p s m args meth c cX7_thingsOf 4 "HutForShowModel" (some (.int)) := C
  have hx := C.1
  have hb := C.2.1
  have hl : lv_has ls 4 [(0, .ref a0), (1, .int a1)] := hl
  unfold fX7_thingsOf at hf
  refine lv_iconst (v := 0) hx hb dX7_thingsOf_0 (by decide) ?_
  refine lv_istore_n (lv' := [(2, .int 0), (0, .ref a0), (1, .int a1)]) hx hb dX7_thingsOf_1 rfl hl (by decide) rfl (fun ls hl => ?_)
  refine lv_iconst (v := 0) hx hb dX7_thingsOf_2 (by decide) ?_
  refine lv_istore_n (lv' := [(3, .int 0), (2, .int 0), (0, .ref a0), (1, .int a1)]) hx hb dX7_thingsOf_3 rfl hl (by decide) rfl (fun ls hl => ?_)
  obtain ⟨e4, hL, hK⟩ := hf_b hf
  have hE4_0 : ∀ (x7 : Int32), x7 = e4 → ∀  (H : Heap) (locs : List Loc) (ls : Array Slot), Hs s0 D ac σ H locs → lv_has ls 4 [(0, .ref a0), (1, .int a1), (2, .int x7)] → W p l e ({ frames := 0, cells := 0, slots := 0, locals := 0 } : Room) s m args below meth c H locs 0 0 (MQ below (Qn s0 D ac (some (.int v)) σ) args s 0 0 (fr s0)) (F0 m 36 ls []) := by
    intro x7 he H locs ls h hl
    subst he
    have hf := hK
    refine lv_iload_n hx hb dX7_thingsOf_36 rfl (lv_at hl 2 rfl) ?_
    cases hf
    refine W.widen (k := 0) (n := 0) (Nat.le_of_ble_eq_true rfl) (Nat.le_of_ble_eq_true rfl) ?_
    exact x_iret C h dX7_thingsOf_37
  refine loopF_ind (P := fun z => ∀ (H : Heap) (locs : List Loc) (ls : Array Slot), Hs s0 D ac σ H locs → lv_has ls 4 [(0, .ref a0), (1, .int a1), (2, .int z.1), (3, .int z.2)] → W p l e ({ frames := 0, cells := 0, slots := 0, locals := 0 } : Room) s m args below meth c H locs 0 0 (MQ below (Qn s0 D ac (some (.int v)) σ) args s 0 0 (fr s0)) (F0 m 4 ls [])) ?_ _ _ hL _ _ _ h (lv_sub hl [2, 3, 1, 0] rfl)
  clear hK hL h hl hf
  intro z o hf ih hX H locs ls h hl
  obtain ⟨x1, x2⟩ := z
  have h : Hs s0 D ac σ H locs := h
  have hl : lv_has ls 4 [(0, .ref a0), (1, .int a1), (2, .int x1), (3, .int x2)] := hl
  have hf : lX7_thingsOf_4 σ a0 a1 x1 x2 = some o := hf
  unfold lX7_thingsOf_4 at hf
  refine lv_iload_n hx hb dX7_thingsOf_4 rfl (lv_at hl 3 rfl) ?_
  refine lv_aload_n hx hb dX7_thingsOf_5 rfl (lv_at hl 0 rfl) ?_
  refine x_gI (q := (RX7, TX7, 50)) (j := 7) G C h rfl (by decide) (fun _ _ _ => rfl) (lk C q1063) (fun _ z => z) dX7_thingsOf_6 hf (fun x3 hf => ?_)
  refine lv_icmp_ge (tgt := 36) hx hb dX7_thingsOf_9 (by decide) (fun hc => ?_) (fun hc => ?_)
  · have hf := hf_t hc hf
    cases hf
    exact hE4_0 _ (hX _ rfl) _ _ _ h (lv_sub hl [0, 1, 2] rfl)
  · have hf := hf_f hc hf
    refine lv_iload_n hx hb dX7_thingsOf_12 rfl (lv_at hl 2 rfl) ?_
    refine lv_aload_n hx hb dX7_thingsOf_13 rfl (lv_at hl 0 rfl) ?_
    refine x_gR (q := (RX7, TX7, 50)) (j := 8) G C h rfl (by decide) (fun _ _ _ => rfl) (lk C q1064) (fun _ z => z) dX7_thingsOf_14 hf (fun r4 hf => ?_)
    refine lv_iload_n hx hb dX7_thingsOf_17 rfl (lv_at hl 3 rfl) ?_
    refine x_iald G C h dX7_thingsOf_18 hf (fun x5 hf => ?_)
    refine lv_iload_n hx hb dX7_thingsOf_19 rfl (lv_at hl 1 rfl) ?_
    refine jn_of (P := fun j => ∀ (x6 : Int32), j x6 = some o → ∀ (H : Heap) (locs : List Loc) (ls : Array Slot), Hs s0 D ac σ H locs → lv_has ls 4 [(0, .ref a0), (1, .int a1), (2, .int x1), (3, .int x2)] → W p l e ({ frames := 0, cells := 0, slots := 0, locals := 0 } : Room) s m args below meth c H locs 0 0 (MQ below (Qn s0 D ac (some (.int v)) σ) args s 0 0 (fr s0)) (F0 m 28 ls [.int x6, .int x1])) hf ?_ ?_
    · intro x6 hf H locs ls h hl
      refine lv_iadd hx hb dX7_thingsOf_28 ?_
      refine lv_istore_n (lv' := [(2, .int (x1 + x6)), (0, .ref a0), (1, .int a1), (3, .int x2)]) hx hb dX7_thingsOf_29 rfl hl (by decide) rfl (fun ls hl => ?_)
      refine lv_iinc (v := x2 + 1) (lv' := [(3, .int (x2 + 1)), (2, .int (x1 + x6)), (0, .ref a0), (1, .int a1)]) hx hb dX7_thingsOf_30 hl (k := 3) rfl rfl (by decide) rfl (fun ls hl => ?_)
      refine lv_goto (tgt := 4) hx hb dX7_thingsOf_33 (by decide) ?_
      cases hf
      exact ih _ rfl _ _ _ h (lv_sub hl [2, 3, 1, 0] rfl)
    intro j28 hj28 hf
    refine lv_icmp_ne (tgt := 27) hx hb dX7_thingsOf_20 (by decide) (fun hc => ?_) (fun hc => ?_)
    · have hf := hf_f hc hf
      refine lv_iconst (v := 0) hx hb dX7_thingsOf_27 (by decide) ?_
      exact hj28 _ hf _ _ _ h (lv_sub hl [0, 1, 2, 3] rfl)
    · have hf := hf_t hc hf
      refine lv_iconst (v := 1) hx hb dX7_thingsOf_23 (by decide) ?_
      refine lv_goto (tgt := 28) hx hb dX7_thingsOf_24 (by decide) ?_
      exact hj28 _ hf _ _ _ h (lv_sub hl [0, 1, 2, 3] rfl)

theorem dX7_thing_0 : decode cX7_thing 0 = .ok (.iload_n 1, 1) := by decide +kernel
theorem dX7_thing_1 : decode cX7_thing 1 = .ok (.iconst (-1), 1) := by decide +kernel
theorem dX7_thing_2 : decode cX7_thing 2 = .ok (.if_icmp .eq 14, 3) := by decide +kernel
theorem dX7_thing_5 : decode cX7_thing 5 = .ok (.aload_n 0, 1) := by decide +kernel
theorem dX7_thing_6 : decode cX7_thing 6 = .ok (.iload_n 1, 1) := by decide +kernel
theorem dX7_thing_7 : decode cX7_thing 7 = .ok (.invokevirtual 121, 3) := by decide +kernel
theorem dX7_thing_10 : decode cX7_thing 10 = .ok (.ifCond .ne 6, 3) := by decide +kernel
theorem dX7_thing_13 : decode cX7_thing 13 = .ok (.bipush (-2), 2) := by decide +kernel
theorem dX7_thing_15 : decode cX7_thing 15 = .ok (.ireturn, 1) := by decide +kernel
theorem dX7_thing_16 : decode cX7_thing 16 = .ok (.iload_n 2, 1) := by decide +kernel
theorem dX7_thing_17 : decode cX7_thing 17 = .ok (.iconst 0, 1) := by decide +kernel
theorem dX7_thing_18 : decode cX7_thing 18 = .ok (.iconst 3, 1) := by decide +kernel
theorem dX7_thing_19 : decode cX7_thing 19 = .ok (.invokestatic 113, 3) := by decide +kernel
theorem dX7_thing_22 : decode cX7_thing 22 = .ok (.ifCond .eq 24, 3) := by decide +kernel
theorem dX7_thing_25 : decode cX7_thing 25 = .ok (.iload_n 3, 1) := by decide +kernel
theorem dX7_thing_26 : decode cX7_thing 26 = .ok (.iconst 1, 1) := by decide +kernel
theorem dX7_thing_27 : decode cX7_thing 27 = .ok (.bipush 9, 2) := by decide +kernel
theorem dX7_thing_29 : decode cX7_thing 29 = .ok (.invokestatic 113, 3) := by decide +kernel
theorem dX7_thing_32 : decode cX7_thing 32 = .ok (.ifCond .eq 14, 3) := by decide +kernel
theorem dX7_thing_35 : decode cX7_thing 35 = .ok (.iload 4, 2) := by decide +kernel
theorem dX7_thing_37 : decode cX7_thing 37 = .ok (.iconst 0, 1) := by decide +kernel
theorem dX7_thing_38 : decode cX7_thing 38 = .ok (.bipush 15, 2) := by decide +kernel
theorem dX7_thing_40 : decode cX7_thing 40 = .ok (.invokestatic 113, 3) := by decide +kernel
theorem dX7_thing_43 : decode cX7_thing 43 = .ok (.ifCond .ne 6, 3) := by decide +kernel
theorem dX7_thing_46 : decode cX7_thing 46 = .ok (.bipush (-3), 2) := by decide +kernel
theorem dX7_thing_48 : decode cX7_thing 48 = .ok (.ireturn, 1) := by decide +kernel
theorem dX7_thing_49 : decode cX7_thing 49 = .ok (.iload_n 1, 1) := by decide +kernel
theorem dX7_thing_50 : decode cX7_thing 50 = .ok (.iconst (-1), 1) := by decide +kernel
theorem dX7_thing_51 : decode cX7_thing 51 = .ok (.if_icmp .eq 16, 3) := by decide +kernel
theorem dX7_thing_54 : decode cX7_thing 54 = .ok (.aload_n 0, 1) := by decide +kernel
theorem dX7_thing_55 : decode cX7_thing 55 = .ok (.iload_n 1, 1) := by decide +kernel
theorem dX7_thing_56 : decode cX7_thing 56 = .ok (.invokevirtual 132, 3) := by decide +kernel
theorem dX7_thing_59 : decode cX7_thing 59 = .ok (.bipush 12, 2) := by decide +kernel
theorem dX7_thing_61 : decode cX7_thing 61 = .ok (.if_icmp .ne 6, 3) := by decide +kernel
theorem dX7_thing_64 : decode cX7_thing 64 = .ok (.bipush (-4), 2) := by decide +kernel
theorem dX7_thing_66 : decode cX7_thing 66 = .ok (.ireturn, 1) := by decide +kernel
theorem dX7_thing_67 : decode cX7_thing 67 = .ok (.aload_n 0, 1) := by decide +kernel
theorem dX7_thing_68 : decode cX7_thing 68 = .ok (.getfield 129, 3) := by decide +kernel
theorem dX7_thing_71 : decode cX7_thing 71 = .ok (.bipush 40, 2) := by decide +kernel
theorem dX7_thing_73 : decode cX7_thing 73 = .ok (.if_icmp .ne 6, 3) := by decide +kernel
theorem dX7_thing_76 : decode cX7_thing 76 = .ok (.bipush (-5), 2) := by decide +kernel
theorem dX7_thing_78 : decode cX7_thing 78 = .ok (.ireturn, 1) := by decide +kernel
theorem dX7_thing_79 : decode cX7_thing 79 = .ok (.aload_n 0, 1) := by decide +kernel
theorem dX7_thing_80 : decode cX7_thing 80 = .ok (.getfield 25, 3) := by decide +kernel
theorem dX7_thing_83 : decode cX7_thing 83 = .ok (.aload_n 0, 1) := by decide +kernel
theorem dX7_thing_84 : decode cX7_thing 84 = .ok (.getfield 129, 3) := by decide +kernel
theorem dX7_thing_87 : decode cX7_thing 87 = .ok (.iload_n 1, 1) := by decide +kernel
theorem dX7_thing_88 : decode cX7_thing 88 = .ok (.iastore, 1) := by decide +kernel
theorem dX7_thing_89 : decode cX7_thing 89 = .ok (.aload_n 0, 1) := by decide +kernel
theorem dX7_thing_90 : decode cX7_thing 90 = .ok (.getfield 31, 3) := by decide +kernel
theorem dX7_thing_93 : decode cX7_thing 93 = .ok (.aload_n 0, 1) := by decide +kernel
theorem dX7_thing_94 : decode cX7_thing 94 = .ok (.getfield 129, 3) := by decide +kernel
theorem dX7_thing_97 : decode cX7_thing 97 = .ok (.iload_n 2, 1) := by decide +kernel
theorem dX7_thing_98 : decode cX7_thing 98 = .ok (.iastore, 1) := by decide +kernel
theorem dX7_thing_99 : decode cX7_thing 99 = .ok (.aload_n 0, 1) := by decide +kernel
theorem dX7_thing_100 : decode cX7_thing 100 = .ok (.getfield 34, 3) := by decide +kernel
theorem dX7_thing_103 : decode cX7_thing 103 = .ok (.aload_n 0, 1) := by decide +kernel
theorem dX7_thing_104 : decode cX7_thing 104 = .ok (.getfield 129, 3) := by decide +kernel
theorem dX7_thing_107 : decode cX7_thing 107 = .ok (.iload_n 3, 1) := by decide +kernel
theorem dX7_thing_108 : decode cX7_thing 108 = .ok (.iastore, 1) := by decide +kernel
theorem dX7_thing_109 : decode cX7_thing 109 = .ok (.aload_n 0, 1) := by decide +kernel
theorem dX7_thing_110 : decode cX7_thing 110 = .ok (.getfield 37, 3) := by decide +kernel
theorem dX7_thing_113 : decode cX7_thing 113 = .ok (.aload_n 0, 1) := by decide +kernel
theorem dX7_thing_114 : decode cX7_thing 114 = .ok (.getfield 129, 3) := by decide +kernel
theorem dX7_thing_117 : decode cX7_thing 117 = .ok (.iload 4, 2) := by decide +kernel
theorem dX7_thing_119 : decode cX7_thing 119 = .ok (.iastore, 1) := by decide +kernel
theorem dX7_thing_120 : decode cX7_thing 120 = .ok (.aload_n 0, 1) := by decide +kernel
theorem dX7_thing_121 : decode cX7_thing 121 = .ok (.dup, 1) := by decide +kernel
theorem dX7_thing_122 : decode cX7_thing 122 = .ok (.getfield 129, 3) := by decide +kernel
theorem dX7_thing_125 : decode cX7_thing 125 = .ok (.iconst 1, 1) := by decide +kernel
theorem dX7_thing_126 : decode cX7_thing 126 = .ok (.iadd, 1) := by decide +kernel
theorem dX7_thing_127 : decode cX7_thing 127 = .ok (.putfield 129, 3) := by decide +kernel
theorem dX7_thing_130 : decode cX7_thing 130 = .ok (.aload_n 0, 1) := by decide +kernel
theorem dX7_thing_131 : decode cX7_thing 131 = .ok (.getfield 129, 3) := by decide +kernel
theorem dX7_thing_134 : decode cX7_thing 134 = .ok (.iconst 1, 1) := by decide +kernel
theorem dX7_thing_135 : decode cX7_thing 135 = .ok (.isub, 1) := by decide +kernel
theorem dX7_thing_136 : decode cX7_thing 136 = .ok (.ireturn, 1) := by decide +kernel
def fX7_thing (σ : St) (a0 : Nat) (a1 : Int32) (a2 : Int32) (a3 : Int32) (a4 : Int32) : Option (Int32 × St) :=
  jn (fun (_ : Unit) =>
    (fX7_in σ a2 0 3).bind fun x2 =>
    if x2 = 0 then
      some ((-3), σ)
    else
    (fX7_in σ a3 1 9).bind fun x3 =>
    if x3 = 0 then
      some ((-3), σ)
    else
    (fX7_in σ a4 0 15).bind fun x4 =>
    if x4 = 0 then
      some ((-3), σ)
    else
    jn (fun (_ : Unit) =>
      o_gI σ a0 5 7 fun x6 =>
      if x6 = 40 then
        some ((-5), σ)
      else
      o_gR σ a0 5 8 fun r7 =>
      o_gI σ a0 5 7 fun x8 =>
      o_sI σ r7 0 x8 a1 fun σ9 =>
      o_gR σ9 a0 5 10 fun r10 =>
      o_gI σ9 a0 5 7 fun x11 =>
      o_sI σ9 r10 0 x11 a2 fun σ12 =>
      o_gR σ12 a0 5 11 fun r13 =>
      o_gI σ12 a0 5 7 fun x14 =>
      o_sI σ12 r13 0 x14 a3 fun σ15 =>
      o_gR σ15 a0 5 12 fun r16 =>
      o_gI σ15 a0 5 7 fun x17 =>
      o_sI σ15 r16 0 x17 a4 fun σ18 =>
      o_gI σ18 a0 5 7 fun x19 =>
      o_pI σ18 a0 5 7 (x19 + 1) fun σ20 =>
      o_gI σ20 a0 5 7 fun x21 =>
      some (x21 - 1, σ20)) fun j67 =>
    if a1 = ((-1)) then
      j67 ()
    else
    o_k σ a0 5 <|
    (fX7_thingsOf σ a0 a1).bind fun x5 =>
    if x5 = 12 then
      some ((-4), σ)
    else
    j67 ()) fun j16 =>
  if a1 = ((-1)) then
    j16 ()
  else
  o_k σ a0 5 <|
  (fX7_isHut σ a0 a1).bind fun x1 =>
  if x1 = 0 then
    some ((-2), σ)
  else
  j16 ()

set_option maxHeartbeats 4000000 in
theorem wX7_thing {l : Launch} {s0 : State} {A0 : Array Value} {D : va_G} {ac : Nat → ClassId} (G : Gl s0 A0 D ac) {σ : St} {a0 : Nat} {a1 : Int32} {a2 : Int32} {a3 : Int32} {a4 : Int32} {v : Int32} {σ' : St} (hf : fX7_thing σ a0 a1 a2 a3 a4 = some (v, σ')) : Met l yX7_thing (ws_ yX7_thing cX7_thing 5 (some (.int))) ({ frames := 2, cells := 0, slots := 0, locals := 43 } : Room) (Pn s0 D ac [.ref a0, .int a1, .int a2, .int a3, .int a4] σ) (Qn s0 D ac (some (.int v)) σ') 0 0 (fr s0) := by
  refine x_met (by decide) (Nat.le_of_ble_eq_true rfl) ?_
  intro p e s m args below meth c ls C hnm h hl
  have C : Cx s0 p s m args meth c cX7_thing 5 "HutForShowModel" (some (.int)) := C
  have hx := C.1
  have hb := C.2.1
  have hl : lv_has ls 5 [(0, .ref a0), (1, .int a1), (2, .int a2), (3, .int a3), (4, .int a4)] := hl
  unfold fX7_thing at hf
  refine lv_iload_n hx hb dX7_thing_0 rfl (lv_at hl 1 rfl) ?_
  refine lv_iconst (v := (-1)) hx hb dX7_thing_1 (by decide) ?_
  refine jn_of (P := fun j => ∀ (u0 : Unit), j u0 = some (v, σ') → ∀ (H : Heap) (locs : List Loc) (ls : Array Slot), Hs s0 D ac σ H locs → lv_has ls 5 [(0, .ref a0), (1, .int a1), (2, .int a2), (3, .int a3), (4, .int a4)] → W p l e ({ frames := 2, cells := 0, slots := 0, locals := 43 } : Room) s m args below meth c H locs 0 0 (MQ below (Qn s0 D ac (some (.int v)) σ') args s 0 0 (fr s0)) (F0 m 16 ls [])) hf ?_ ?_
  · intro u0 hf H locs ls h hl
    refine lv_iload_n hx hb dX7_thing_16 rfl (lv_at hl 2 rfl) ?_
    refine lv_iconst (v := 0) hx hb dX7_thing_17 (by decide) ?_
    refine lv_iconst (v := 3) hx hb dX7_thing_18 (by decide) ?_
    obtain ⟨x2, hc, hf⟩ := hf_b hf
    refine x_cS (rest := []) (As := [.int a2, .int 0, .int 3]) (n := 3) (ov := (some (.int x2))) C h (wX7_in G hc) (lw_S q1211 q1212 q61 q1213) (by decide +kernel) ⟨Nat.le_of_ble_eq_true rfl, Nat.le_of_ble_eq_true rfl⟩ rfl rfl rfl hl.1 rfl (Nat.le_of_ble_eq_true rfl) dX7_thing_19 ⟨(Nat.le_of_ble_eq_true rfl), (Nat.le_of_ble_eq_true rfl)⟩ (fun H locs h => ?_)
    refine lv_if_eq (tgt := 46) hx hb dX7_thing_22 (by decide) (fun hc => ?_) (fun hc => ?_)
    · have hf := hf_t hc hf
      refine lv_bipush (v := (-3)) hx hb dX7_thing_46 (by decide) ?_
      cases hf
      refine W.widen (k := 0) (n := 0) (Nat.le_of_ble_eq_true rfl) (Nat.le_of_ble_eq_true rfl) ?_
      exact x_iret C h dX7_thing_48
    · have hf := hf_f hc hf
      refine lv_iload_n hx hb dX7_thing_25 rfl (lv_at hl 3 rfl) ?_
      refine lv_iconst (v := 1) hx hb dX7_thing_26 (by decide) ?_
      refine lv_bipush (v := 9) hx hb dX7_thing_27 (by decide) ?_
      obtain ⟨x3, hc, hf⟩ := hf_b hf
      refine x_cS (rest := []) (As := [.int a3, .int 1, .int 9]) (n := 3) (ov := (some (.int x3))) C h (wX7_in G hc) (lw_S q1211 q1212 q61 q1213) (by decide +kernel) ⟨Nat.le_of_ble_eq_true rfl, Nat.le_of_ble_eq_true rfl⟩ rfl rfl rfl hl.1 rfl (Nat.le_of_ble_eq_true rfl) dX7_thing_29 ⟨(Nat.le_of_ble_eq_true rfl), (Nat.le_of_ble_eq_true rfl)⟩ (fun H locs h => ?_)
      refine lv_if_eq (tgt := 46) hx hb dX7_thing_32 (by decide) (fun hc => ?_) (fun hc => ?_)
      · have hf := hf_t hc hf
        refine lv_bipush (v := (-3)) hx hb dX7_thing_46 (by decide) ?_
        cases hf
        refine W.widen (k := 0) (n := 0) (Nat.le_of_ble_eq_true rfl) (Nat.le_of_ble_eq_true rfl) ?_
        exact x_iret C h dX7_thing_48
      · have hf := hf_f hc hf
        refine lv_iload hx hb dX7_thing_35 (lv_at hl 4 rfl) ?_
        refine lv_iconst (v := 0) hx hb dX7_thing_37 (by decide) ?_
        refine lv_bipush (v := 15) hx hb dX7_thing_38 (by decide) ?_
        obtain ⟨x4, hc, hf⟩ := hf_b hf
        refine x_cS (rest := []) (As := [.int a4, .int 0, .int 15]) (n := 3) (ov := (some (.int x4))) C h (wX7_in G hc) (lw_S q1211 q1212 q61 q1213) (by decide +kernel) ⟨Nat.le_of_ble_eq_true rfl, Nat.le_of_ble_eq_true rfl⟩ rfl rfl rfl hl.1 rfl (Nat.le_of_ble_eq_true rfl) dX7_thing_40 ⟨(Nat.le_of_ble_eq_true rfl), (Nat.le_of_ble_eq_true rfl)⟩ (fun H locs h => ?_)
        refine lv_if_ne (tgt := 49) hx hb dX7_thing_43 (by decide) (fun hc => ?_) (fun hc => ?_)
        · have hf := hf_f hc hf
          refine lv_iload_n hx hb dX7_thing_49 rfl (lv_at hl 1 rfl) ?_
          refine lv_iconst (v := (-1)) hx hb dX7_thing_50 (by decide) ?_
          refine jn_of (P := fun j => ∀ (u0 : Unit), j u0 = some (v, σ') → ∀ (H : Heap) (locs : List Loc) (ls : Array Slot), Hs s0 D ac σ H locs → lv_has ls 5 [(0, .ref a0), (1, .int a1), (2, .int a2), (3, .int a3), (4, .int a4)] → W p l e ({ frames := 2, cells := 0, slots := 0, locals := 43 } : Room) s m args below meth c H locs 0 0 (MQ below (Qn s0 D ac (some (.int v)) σ') args s 0 0 (fr s0)) (F0 m 67 ls [])) hf ?_ ?_
          · intro u0 hf H locs ls h hl
            refine lv_aload_n hx hb dX7_thing_67 rfl (lv_at hl 0 rfl) ?_
            refine x_gI (q := (RX7, TX7, 50)) (j := 7) G C h rfl (by decide) (fun _ _ _ => rfl) (lk C q1063) (fun _ z => z) dX7_thing_68 hf (fun x6 hf => ?_)
            refine lv_bipush (v := 40) hx hb dX7_thing_71 (by decide) ?_
            refine lv_icmp_ne (tgt := 79) hx hb dX7_thing_73 (by decide) (fun hc => ?_) (fun hc => ?_)
            · have hf := hf_f hc hf
              refine lv_aload_n hx hb dX7_thing_79 rfl (lv_at hl 0 rfl) ?_
              refine x_gR (q := (RX7, TX7, 50)) (j := 8) G C h rfl (by decide) (fun _ _ _ => rfl) (lk C q1064) (fun _ z => z) dX7_thing_80 hf (fun r7 hf => ?_)
              refine lv_aload_n hx hb dX7_thing_83 rfl (lv_at hl 0 rfl) ?_
              refine x_gI (q := (RX7, TX7, 50)) (j := 7) G C h rfl (by decide) (fun _ _ _ => rfl) (lk C q1063) (fun _ z => z) dX7_thing_84 hf (fun x8 hf => ?_)
              refine lv_iload_n hx hb dX7_thing_87 rfl (lv_at hl 1 rfl) ?_
              refine x_iast G C h dX7_thing_88 hf (fun σ9 H locs h hf => ?_)
              refine lv_aload_n hx hb dX7_thing_89 rfl (lv_at hl 0 rfl) ?_
              refine x_gR (q := (RX7, TX7, 50)) (j := 10) G C h rfl (by decide) (fun _ _ _ => rfl) (lk C q1066) (fun _ z => z) dX7_thing_90 hf (fun r10 hf => ?_)
              refine lv_aload_n hx hb dX7_thing_93 rfl (lv_at hl 0 rfl) ?_
              refine x_gI (q := (RX7, TX7, 50)) (j := 7) G C h rfl (by decide) (fun _ _ _ => rfl) (lk C q1063) (fun _ z => z) dX7_thing_94 hf (fun x11 hf => ?_)
              refine lv_iload_n hx hb dX7_thing_97 rfl (lv_at hl 2 rfl) ?_
              refine x_iast G C h dX7_thing_98 hf (fun σ12 H locs h hf => ?_)
              refine lv_aload_n hx hb dX7_thing_99 rfl (lv_at hl 0 rfl) ?_
              refine x_gR (q := (RX7, TX7, 50)) (j := 11) G C h rfl (by decide) (fun _ _ _ => rfl) (lk C q1067) (fun _ z => z) dX7_thing_100 hf (fun r13 hf => ?_)
              refine lv_aload_n hx hb dX7_thing_103 rfl (lv_at hl 0 rfl) ?_
              refine x_gI (q := (RX7, TX7, 50)) (j := 7) G C h rfl (by decide) (fun _ _ _ => rfl) (lk C q1063) (fun _ z => z) dX7_thing_104 hf (fun x14 hf => ?_)
              refine lv_iload_n hx hb dX7_thing_107 rfl (lv_at hl 3 rfl) ?_
              refine x_iast G C h dX7_thing_108 hf (fun σ15 H locs h hf => ?_)
              refine lv_aload_n hx hb dX7_thing_109 rfl (lv_at hl 0 rfl) ?_
              refine x_gR (q := (RX7, TX7, 50)) (j := 12) G C h rfl (by decide) (fun _ _ _ => rfl) (lk C q1068) (fun _ z => z) dX7_thing_110 hf (fun r16 hf => ?_)
              refine lv_aload_n hx hb dX7_thing_113 rfl (lv_at hl 0 rfl) ?_
              refine x_gI (q := (RX7, TX7, 50)) (j := 7) G C h rfl (by decide) (fun _ _ _ => rfl) (lk C q1063) (fun _ z => z) dX7_thing_114 hf (fun x17 hf => ?_)
              refine lv_iload hx hb dX7_thing_117 (lv_at hl 4 rfl) ?_
              refine x_iast G C h dX7_thing_119 hf (fun σ18 H locs h hf => ?_)
              refine lv_aload_n hx hb dX7_thing_120 rfl (lv_at hl 0 rfl) ?_
              refine lv_dup hx hb dX7_thing_121 rfl ?_
              refine x_gI (q := (RX7, TX7, 50)) (j := 7) G C h rfl (by decide) (fun _ _ _ => rfl) (lk C q1063) (fun _ z => z) dX7_thing_122 hf (fun x19 hf => ?_)
              refine lv_iconst (v := 1) hx hb dX7_thing_125 (by decide) ?_
              refine lv_iadd hx hb dX7_thing_126 ?_
              refine x_pI (q := (RX7, TX7, 50)) (j := 7) G C h rfl (by decide) rfl (lk C q1063) (fun _ z => z) (Or.inl rfl) dX7_thing_127 hf (fun σ20 H locs h hf => ?_)
              refine lv_aload_n hx hb dX7_thing_130 rfl (lv_at hl 0 rfl) ?_
              refine x_gI (q := (RX7, TX7, 50)) (j := 7) G C h rfl (by decide) (fun _ _ _ => rfl) (lk C q1063) (fun _ z => z) dX7_thing_131 hf (fun x21 hf => ?_)
              refine lv_iconst (v := 1) hx hb dX7_thing_134 (by decide) ?_
              refine lv_isub hx hb dX7_thing_135 ?_
              cases hf
              refine W.widen (k := 0) (n := 0) (Nat.le_of_ble_eq_true rfl) (Nat.le_of_ble_eq_true rfl) ?_
              exact x_iret C h dX7_thing_136
            · have hf := hf_t hc hf
              refine lv_bipush (v := (-5)) hx hb dX7_thing_76 (by decide) ?_
              cases hf
              refine W.widen (k := 0) (n := 0) (Nat.le_of_ble_eq_true rfl) (Nat.le_of_ble_eq_true rfl) ?_
              exact x_iret C h dX7_thing_78
          intro j67 hj67 hf
          refine lv_icmp_eq (tgt := 67) hx hb dX7_thing_51 (by decide) (fun hc => ?_) (fun hc => ?_)
          · have hf := hf_t hc hf
            exact hj67 () hf _ _ _ h (lv_sub hl [0, 1, 2, 3, 4] rfl)
          · have hf := hf_f hc hf
            refine lv_aload_n hx hb dX7_thing_54 rfl (lv_at hl 0 rfl) ?_
            refine lv_iload_n hx hb dX7_thing_55 rfl (lv_at hl 1 rfl) ?_
            obtain ⟨hk, hf⟩ := k_of hf
            obtain ⟨x5, hc, hf⟩ := hf_b hf
            refine x_cV (q := (RX7, TX7, 50)) (rest := []) (As := [.int a1]) (n := 1) (ov := (some (.int x5))) G C h (wX7_thingsOf G hc) hk rfl (lw_V q1233 q1235 qs24 q61 q1236) (by decide +kernel) ⟨Nat.le_of_ble_eq_true rfl, Nat.le_of_ble_eq_true rfl⟩ rfl rfl rfl hl.1 rfl (Nat.le_of_ble_eq_true rfl) dX7_thing_56 ⟨(Nat.le_of_ble_eq_true rfl), (Nat.le_of_ble_eq_true rfl)⟩ (fun H locs h => ?_)
            refine lv_bipush (v := 12) hx hb dX7_thing_59 (by decide) ?_
            refine lv_icmp_ne (tgt := 67) hx hb dX7_thing_61 (by decide) (fun hc => ?_) (fun hc => ?_)
            · have hf := hf_f hc hf
              exact hj67 () hf _ _ _ h (lv_sub hl [0, 1, 2, 3, 4] rfl)
            · have hf := hf_t hc hf
              refine lv_bipush (v := (-4)) hx hb dX7_thing_64 (by decide) ?_
              cases hf
              refine W.widen (k := 0) (n := 0) (Nat.le_of_ble_eq_true rfl) (Nat.le_of_ble_eq_true rfl) ?_
              exact x_iret C h dX7_thing_66
        · have hf := hf_t hc hf
          refine lv_bipush (v := (-3)) hx hb dX7_thing_46 (by decide) ?_
          cases hf
          refine W.widen (k := 0) (n := 0) (Nat.le_of_ble_eq_true rfl) (Nat.le_of_ble_eq_true rfl) ?_
          exact x_iret C h dX7_thing_48
  intro j16 hj16 hf
  refine lv_icmp_eq (tgt := 16) hx hb dX7_thing_2 (by decide) (fun hc => ?_) (fun hc => ?_)
  · have hf := hf_t hc hf
    exact hj16 () hf _ _ _ h (lv_sub hl [0, 1, 2, 3, 4] rfl)
  · have hf := hf_f hc hf
    refine lv_aload_n hx hb dX7_thing_5 rfl (lv_at hl 0 rfl) ?_
    refine lv_iload_n hx hb dX7_thing_6 rfl (lv_at hl 1 rfl) ?_
    obtain ⟨hk, hf⟩ := k_of hf
    obtain ⟨x1, hc, hf⟩ := hf_b hf
    refine x_cV (q := (RX7, TX7, 50)) (rest := []) (As := [.int a1]) (n := 1) (ov := (some (.int x1))) G C h (wX7_isHut G hc) hk rfl (lw_V q1218 q1220 qs22 q61 q1221) (by decide +kernel) ⟨Nat.le_of_ble_eq_true rfl, Nat.le_of_ble_eq_true rfl⟩ rfl rfl rfl hl.1 rfl (Nat.le_of_ble_eq_true rfl) dX7_thing_7 ⟨(Nat.le_of_ble_eq_true rfl), (Nat.le_of_ble_eq_true rfl)⟩ (fun H locs h => ?_)
    refine lv_if_ne (tgt := 16) hx hb dX7_thing_10 (by decide) (fun hc => ?_) (fun hc => ?_)
    · have hf := hf_f hc hf
      exact hj16 () hf _ _ _ h (lv_sub hl [0, 1, 2, 3, 4] rfl)
    · have hf := hf_t hc hf
      refine lv_bipush (v := (-2)) hx hb dX7_thing_13 (by decide) ?_
      cases hf
      refine W.widen (k := 0) (n := 0) (Nat.le_of_ble_eq_true rfl) (Nat.le_of_ble_eq_true rfl) ?_
      exact x_iret C h dX7_thing_15

theorem dX7_at_0 : decode cX7_at 0 = .ok (.iload_n 1, 1) := by decide +kernel
theorem dX7_at_1 : decode cX7_at 1 = .ok (.iconst 0, 1) := by decide +kernel
theorem dX7_at_2 : decode cX7_at 2 = .ok (.aload_n 0, 1) := by decide +kernel
theorem dX7_at_3 : decode cX7_at 3 = .ok (.getfield 129, 3) := by decide +kernel
theorem dX7_at_6 : decode cX7_at 6 = .ok (.iconst 1, 1) := by decide +kernel
theorem dX7_at_7 : decode cX7_at 7 = .ok (.isub, 1) := by decide +kernel
theorem dX7_at_8 : decode cX7_at 8 = .ok (.invokestatic 113, 3) := by decide +kernel
theorem dX7_at_11 : decode cX7_at 11 = .ok (.ifCond .ne 6, 3) := by decide +kernel
theorem dX7_at_14 : decode cX7_at 14 = .ok (.bipush (-2), 2) := by decide +kernel
theorem dX7_at_16 : decode cX7_at 16 = .ok (.ireturn, 1) := by decide +kernel
theorem dX7_at_17 : decode cX7_at 17 = .ok (.iload_n 2, 1) := by decide +kernel
theorem dX7_at_18 : decode cX7_at 18 = .ok (.ifCond .ne 12, 3) := by decide +kernel
theorem dX7_at_21 : decode cX7_at 21 = .ok (.aload_n 0, 1) := by decide +kernel
theorem dX7_at_22 : decode cX7_at 22 = .ok (.getfield 25, 3) := by decide +kernel
theorem dX7_at_25 : decode cX7_at 25 = .ok (.iload_n 1, 1) := by decide +kernel
theorem dX7_at_26 : decode cX7_at 26 = .ok (.iaload, 1) := by decide +kernel
theorem dX7_at_27 : decode cX7_at 27 = .ok (.goto 47, 3) := by decide +kernel
theorem dX7_at_30 : decode cX7_at 30 = .ok (.iload_n 2, 1) := by decide +kernel
theorem dX7_at_31 : decode cX7_at 31 = .ok (.iconst 1, 1) := by decide +kernel
theorem dX7_at_32 : decode cX7_at 32 = .ok (.if_icmp .ne 12, 3) := by decide +kernel
theorem dX7_at_35 : decode cX7_at 35 = .ok (.aload_n 0, 1) := by decide +kernel
theorem dX7_at_36 : decode cX7_at 36 = .ok (.getfield 31, 3) := by decide +kernel
theorem dX7_at_39 : decode cX7_at 39 = .ok (.iload_n 1, 1) := by decide +kernel
theorem dX7_at_40 : decode cX7_at 40 = .ok (.iaload, 1) := by decide +kernel
theorem dX7_at_41 : decode cX7_at 41 = .ok (.goto 33, 3) := by decide +kernel
theorem dX7_at_44 : decode cX7_at 44 = .ok (.iload_n 2, 1) := by decide +kernel
theorem dX7_at_45 : decode cX7_at 45 = .ok (.iconst 2, 1) := by decide +kernel
theorem dX7_at_46 : decode cX7_at 46 = .ok (.if_icmp .ne 12, 3) := by decide +kernel
theorem dX7_at_49 : decode cX7_at 49 = .ok (.aload_n 0, 1) := by decide +kernel
theorem dX7_at_50 : decode cX7_at 50 = .ok (.getfield 34, 3) := by decide +kernel
theorem dX7_at_53 : decode cX7_at 53 = .ok (.iload_n 1, 1) := by decide +kernel
theorem dX7_at_54 : decode cX7_at 54 = .ok (.iaload, 1) := by decide +kernel
theorem dX7_at_55 : decode cX7_at 55 = .ok (.goto 19, 3) := by decide +kernel
theorem dX7_at_58 : decode cX7_at 58 = .ok (.iload_n 2, 1) := by decide +kernel
theorem dX7_at_59 : decode cX7_at 59 = .ok (.iconst 3, 1) := by decide +kernel
theorem dX7_at_60 : decode cX7_at 60 = .ok (.if_icmp .ne 12, 3) := by decide +kernel
theorem dX7_at_63 : decode cX7_at 63 = .ok (.aload_n 0, 1) := by decide +kernel
theorem dX7_at_64 : decode cX7_at 64 = .ok (.getfield 37, 3) := by decide +kernel
theorem dX7_at_67 : decode cX7_at 67 = .ok (.iload_n 1, 1) := by decide +kernel
theorem dX7_at_68 : decode cX7_at 68 = .ok (.iaload, 1) := by decide +kernel
theorem dX7_at_69 : decode cX7_at 69 = .ok (.goto 5, 3) := by decide +kernel
theorem dX7_at_72 : decode cX7_at 72 = .ok (.bipush (-3), 2) := by decide +kernel
theorem dX7_at_74 : decode cX7_at 74 = .ok (.ireturn, 1) := by decide +kernel
def fX7_at (σ : St) (a0 : Nat) (a1 : Int32) (a2 : Int32) : Option (Int32) :=
  o_gI σ a0 5 7 fun x1 =>
  (fX7_in σ a1 0 (x1 - 1)).bind fun x2 =>
  if x2 = 0 then
    some ((-2))
  else
  if a2 = 0 then
    o_gR σ a0 5 8 fun r9 =>
    o_aI σ r9 0 a1 fun x10 =>
    some x10
  else
  if a2 = 1 then
    o_gR σ a0 5 10 fun r7 =>
    o_aI σ r7 0 a1 fun x8 =>
    some x8
  else
  if a2 = 2 then
    o_gR σ a0 5 11 fun r5 =>
    o_aI σ r5 0 a1 fun x6 =>
    some x6
  else
  if a2 = 3 then
    o_gR σ a0 5 12 fun r3 =>
    o_aI σ r3 0 a1 fun x4 =>
    some x4
  else
  some ((-3))

set_option maxHeartbeats 4000000 in
theorem wX7_at {l : Launch} {s0 : State} {A0 : Array Value} {D : va_G} {ac : Nat → ClassId} (G : Gl s0 A0 D ac) {σ : St} {a0 : Nat} {a1 : Int32} {a2 : Int32} {v : Int32} (hf : fX7_at σ a0 a1 a2 = some (v)) : Met l yX7_at (ws_ yX7_at cX7_at 3 (some (.int))) ({ frames := 1, cells := 0, slots := 0, locals := 22 } : Room) (Pn s0 D ac [.ref a0, .int a1, .int a2] σ) (Qn s0 D ac (some (.int v)) σ) 0 0 (fr s0) := by
  refine x_met (by decide) (Nat.le_of_ble_eq_true rfl) ?_
  intro p e s m args below meth c ls C hnm h hl
  have C : Cx s0 p s m args meth c cX7_at 3 "HutForShowModel" (some (.int)) := C
  have hx := C.1
  have hb := C.2.1
  have hl : lv_has ls 3 [(0, .ref a0), (1, .int a1), (2, .int a2)] := hl
  unfold fX7_at at hf
  refine lv_iload_n hx hb dX7_at_0 rfl (lv_at hl 1 rfl) ?_
  refine lv_iconst (v := 0) hx hb dX7_at_1 (by decide) ?_
  refine lv_aload_n hx hb dX7_at_2 rfl (lv_at hl 0 rfl) ?_
  refine x_gI (q := (RX7, TX7, 50)) (j := 7) G C h rfl (by decide) (fun _ _ _ => rfl) (lk C q1063) (fun _ z => z) dX7_at_3 hf (fun x1 hf => ?_)
  refine lv_iconst (v := 1) hx hb dX7_at_6 (by decide) ?_
  refine lv_isub hx hb dX7_at_7 ?_
  obtain ⟨x2, hc, hf⟩ := hf_b hf
  refine x_cS (rest := []) (As := [.int a1, .int 0, .int (x1 - 1)]) (n := 3) (ov := (some (.int x2))) C h (wX7_in G hc) (lw_S q1211 q1212 q61 q1213) (by decide +kernel) ⟨Nat.le_of_ble_eq_true rfl, Nat.le_of_ble_eq_true rfl⟩ rfl rfl rfl hl.1 rfl (Nat.le_of_ble_eq_true rfl) dX7_at_8 ⟨(Nat.le_of_ble_eq_true rfl), (Nat.le_of_ble_eq_true rfl)⟩ (fun H locs h => ?_)
  refine lv_if_ne (tgt := 17) hx hb dX7_at_11 (by decide) (fun hc => ?_) (fun hc => ?_)
  · have hf := hf_f hc hf
    refine lv_iload_n hx hb dX7_at_17 rfl (lv_at hl 2 rfl) ?_
    refine lv_if_ne (tgt := 30) hx hb dX7_at_18 (by decide) (fun hc => ?_) (fun hc => ?_)
    · have hf := hf_f hc hf
      refine lv_iload_n hx hb dX7_at_30 rfl (lv_at hl 2 rfl) ?_
      refine lv_iconst (v := 1) hx hb dX7_at_31 (by decide) ?_
      refine lv_icmp_ne (tgt := 44) hx hb dX7_at_32 (by decide) (fun hc => ?_) (fun hc => ?_)
      · have hf := hf_f hc hf
        refine lv_iload_n hx hb dX7_at_44 rfl (lv_at hl 2 rfl) ?_
        refine lv_iconst (v := 2) hx hb dX7_at_45 (by decide) ?_
        refine lv_icmp_ne (tgt := 58) hx hb dX7_at_46 (by decide) (fun hc => ?_) (fun hc => ?_)
        · have hf := hf_f hc hf
          refine lv_iload_n hx hb dX7_at_58 rfl (lv_at hl 2 rfl) ?_
          refine lv_iconst (v := 3) hx hb dX7_at_59 (by decide) ?_
          refine lv_icmp_ne (tgt := 72) hx hb dX7_at_60 (by decide) (fun hc => ?_) (fun hc => ?_)
          · have hf := hf_f hc hf
            refine lv_bipush (v := (-3)) hx hb dX7_at_72 (by decide) ?_
            cases hf
            refine W.widen (k := 0) (n := 0) (Nat.le_of_ble_eq_true rfl) (Nat.le_of_ble_eq_true rfl) ?_
            exact x_iret C h dX7_at_74
          · have hf := hf_t hc hf
            refine lv_aload_n hx hb dX7_at_63 rfl (lv_at hl 0 rfl) ?_
            refine x_gR (q := (RX7, TX7, 50)) (j := 12) G C h rfl (by decide) (fun _ _ _ => rfl) (lk C q1068) (fun _ z => z) dX7_at_64 hf (fun r3 hf => ?_)
            refine lv_iload_n hx hb dX7_at_67 rfl (lv_at hl 1 rfl) ?_
            refine x_iald G C h dX7_at_68 hf (fun x4 hf => ?_)
            refine lv_goto (tgt := 74) hx hb dX7_at_69 (by decide) ?_
            cases hf
            refine W.widen (k := 0) (n := 0) (Nat.le_of_ble_eq_true rfl) (Nat.le_of_ble_eq_true rfl) ?_
            exact x_iret C h dX7_at_74
        · have hf := hf_t hc hf
          refine lv_aload_n hx hb dX7_at_49 rfl (lv_at hl 0 rfl) ?_
          refine x_gR (q := (RX7, TX7, 50)) (j := 11) G C h rfl (by decide) (fun _ _ _ => rfl) (lk C q1067) (fun _ z => z) dX7_at_50 hf (fun r5 hf => ?_)
          refine lv_iload_n hx hb dX7_at_53 rfl (lv_at hl 1 rfl) ?_
          refine x_iald G C h dX7_at_54 hf (fun x6 hf => ?_)
          refine lv_goto (tgt := 74) hx hb dX7_at_55 (by decide) ?_
          cases hf
          refine W.widen (k := 0) (n := 0) (Nat.le_of_ble_eq_true rfl) (Nat.le_of_ble_eq_true rfl) ?_
          exact x_iret C h dX7_at_74
      · have hf := hf_t hc hf
        refine lv_aload_n hx hb dX7_at_35 rfl (lv_at hl 0 rfl) ?_
        refine x_gR (q := (RX7, TX7, 50)) (j := 10) G C h rfl (by decide) (fun _ _ _ => rfl) (lk C q1066) (fun _ z => z) dX7_at_36 hf (fun r7 hf => ?_)
        refine lv_iload_n hx hb dX7_at_39 rfl (lv_at hl 1 rfl) ?_
        refine x_iald G C h dX7_at_40 hf (fun x8 hf => ?_)
        refine lv_goto (tgt := 74) hx hb dX7_at_41 (by decide) ?_
        cases hf
        refine W.widen (k := 0) (n := 0) (Nat.le_of_ble_eq_true rfl) (Nat.le_of_ble_eq_true rfl) ?_
        exact x_iret C h dX7_at_74
    · have hf := hf_t hc hf
      refine lv_aload_n hx hb dX7_at_21 rfl (lv_at hl 0 rfl) ?_
      refine x_gR (q := (RX7, TX7, 50)) (j := 8) G C h rfl (by decide) (fun _ _ _ => rfl) (lk C q1064) (fun _ z => z) dX7_at_22 hf (fun r9 hf => ?_)
      refine lv_iload_n hx hb dX7_at_25 rfl (lv_at hl 1 rfl) ?_
      refine x_iald G C h dX7_at_26 hf (fun x10 hf => ?_)
      refine lv_goto (tgt := 74) hx hb dX7_at_27 (by decide) ?_
      cases hf
      refine W.widen (k := 0) (n := 0) (Nat.le_of_ble_eq_true rfl) (Nat.le_of_ble_eq_true rfl) ?_
      exact x_iret C h dX7_at_74
  · have hf := hf_t hc hf
    refine lv_bipush (v := (-2)) hx hb dX7_at_14 (by decide) ?_
    cases hf
    refine W.widen (k := 0) (n := 0) (Nat.le_of_ble_eq_true rfl) (Nat.le_of_ble_eq_true rfl) ?_
    exact x_iret C h dX7_at_16

theorem dX7_coloured_0 : decode cX7_coloured 0 = .ok (.iconst 0, 1) := by decide +kernel
theorem dX7_coloured_1 : decode cX7_coloured 1 = .ok (.istore_n 3, 1) := by decide +kernel
theorem dX7_coloured_2 : decode cX7_coloured 2 = .ok (.iconst 0, 1) := by decide +kernel
theorem dX7_coloured_3 : decode cX7_coloured 3 = .ok (.istore 4, 2) := by decide +kernel
theorem dX7_coloured_5 : decode cX7_coloured 5 = .ok (.iload 4, 2) := by decide +kernel
theorem dX7_coloured_7 : decode cX7_coloured 7 = .ok (.aload_n 0, 1) := by decide +kernel
theorem dX7_coloured_8 : decode cX7_coloured 8 = .ok (.getfield 129, 3) := by decide +kernel
theorem dX7_coloured_11 : decode cX7_coloured 11 = .ok (.if_icmp .ge 39, 3) := by decide +kernel
theorem dX7_coloured_14 : decode cX7_coloured 14 = .ok (.iload_n 3, 1) := by decide +kernel
theorem dX7_coloured_15 : decode cX7_coloured 15 = .ok (.aload_n 0, 1) := by decide +kernel
theorem dX7_coloured_16 : decode cX7_coloured 16 = .ok (.getfield 25, 3) := by decide +kernel
theorem dX7_coloured_19 : decode cX7_coloured 19 = .ok (.iload 4, 2) := by decide +kernel
theorem dX7_coloured_21 : decode cX7_coloured 21 = .ok (.iaload, 1) := by decide +kernel
theorem dX7_coloured_22 : decode cX7_coloured 22 = .ok (.iload_n 1, 1) := by decide +kernel
theorem dX7_coloured_23 : decode cX7_coloured 23 = .ok (.if_icmp .ne 18, 3) := by decide +kernel
theorem dX7_coloured_26 : decode cX7_coloured 26 = .ok (.aload_n 0, 1) := by decide +kernel
theorem dX7_coloured_27 : decode cX7_coloured 27 = .ok (.getfield 31, 3) := by decide +kernel
theorem dX7_coloured_30 : decode cX7_coloured 30 = .ok (.iload 4, 2) := by decide +kernel
theorem dX7_coloured_32 : decode cX7_coloured 32 = .ok (.iaload, 1) := by decide +kernel
theorem dX7_coloured_33 : decode cX7_coloured 33 = .ok (.iload_n 2, 1) := by decide +kernel
theorem dX7_coloured_34 : decode cX7_coloured 34 = .ok (.if_icmp .ne 7, 3) := by decide +kernel
theorem dX7_coloured_37 : decode cX7_coloured 37 = .ok (.iconst 1, 1) := by decide +kernel
theorem dX7_coloured_38 : decode cX7_coloured 38 = .ok (.goto 4, 3) := by decide +kernel
theorem dX7_coloured_41 : decode cX7_coloured 41 = .ok (.iconst 0, 1) := by decide +kernel
theorem dX7_coloured_42 : decode cX7_coloured 42 = .ok (.iadd, 1) := by decide +kernel
theorem dX7_coloured_43 : decode cX7_coloured 43 = .ok (.istore_n 3, 1) := by decide +kernel
theorem dX7_coloured_44 : decode cX7_coloured 44 = .ok (.iinc 4 1, 3) := by decide +kernel
theorem dX7_coloured_47 : decode cX7_coloured 47 = .ok (.goto (-42), 3) := by decide +kernel
theorem dX7_coloured_50 : decode cX7_coloured 50 = .ok (.iload_n 3, 1) := by decide +kernel
theorem dX7_coloured_51 : decode cX7_coloured 51 = .ok (.ireturn, 1) := by decide +kernel
def lX7_coloured_5 (σ : St) (a0 : Nat) (a1 : Int32) (a2 : Int32) (x1 : Int32) (x2 : Int32) : Option ((Int32 × Int32) ⊕ (Int32)) :=
  o_gI σ a0 5 7 fun x3 =>
  if x3 ≤ x2 then
    some (.inr x1)
  else
  o_gR σ a0 5 8 fun r4 =>
  o_aI σ r4 0 x2 fun x5 =>
  jn (fun (x8 : Int32) =>
    some (.inl (x1 + x8, x2 + 1))) fun j42 =>
  jn (fun (_ : Unit) =>
    j42 0) fun j41 =>
  if x5 = a1 then
    o_gR σ a0 5 10 fun r6 =>
    o_aI σ r6 0 x2 fun x7 =>
    if x7 = a2 then
      j42 1
    else
    j41 ()
  else
  j41 ()

def fX7_coloured (σ : St) (a0 : Nat) (a1 : Int32) (a2 : Int32) : Option (Int32) :=
  (loopF fuel (fun z => lX7_coloured_5 σ a0 a1 a2 z.1 z.2) (0, 0)).bind <| fun x9 =>
  some x9

set_option maxHeartbeats 4000000 in
theorem wX7_coloured {l : Launch} {s0 : State} {A0 : Array Value} {D : va_G} {ac : Nat → ClassId} (G : Gl s0 A0 D ac) {σ : St} {a0 : Nat} {a1 : Int32} {a2 : Int32} {v : Int32} (hf : fX7_coloured σ a0 a1 a2 = some (v)) : Met l yX7_coloured (ws_ yX7_coloured cX7_coloured 5 (some (.int))) ({ frames := 0, cells := 0, slots := 0, locals := 0 } : Room) (Pn s0 D ac [.ref a0, .int a1, .int a2] σ) (Qn s0 D ac (some (.int v)) σ) 0 0 (fr s0) := by
  refine x_met (by decide) (Nat.le_of_ble_eq_true rfl) ?_
  intro p e s m args below meth c ls C hnm h hl
  have C : Cx s0 p s m args meth c cX7_coloured 5 "HutForShowModel" (some (.int)) := C
  have hx := C.1
  have hb := C.2.1
  have hl : lv_has ls 5 [(0, .ref a0), (1, .int a1), (2, .int a2)] := hl
  unfold fX7_coloured at hf
  refine lv_iconst (v := 0) hx hb dX7_coloured_0 (by decide) ?_
  refine lv_istore_n (lv' := [(3, .int 0), (0, .ref a0), (1, .int a1), (2, .int a2)]) hx hb dX7_coloured_1 rfl hl (by decide) rfl (fun ls hl => ?_)
  refine lv_iconst (v := 0) hx hb dX7_coloured_2 (by decide) ?_
  refine lv_istore (lv' := [(4, .int 0), (3, .int 0), (0, .ref a0), (1, .int a1), (2, .int a2)]) hx hb dX7_coloured_3 hl (by decide) rfl (fun ls hl => ?_)
  obtain ⟨e5, hL, hK⟩ := hf_b hf
  have hE5_0 : ∀ (x9 : Int32), x9 = e5 → ∀  (H : Heap) (locs : List Loc) (ls : Array Slot), Hs s0 D ac σ H locs → lv_has ls 5 [(0, .ref a0), (1, .int a1), (2, .int a2), (3, .int x9)] → W p l e ({ frames := 0, cells := 0, slots := 0, locals := 0 } : Room) s m args below meth c H locs 0 0 (MQ below (Qn s0 D ac (some (.int v)) σ) args s 0 0 (fr s0)) (F0 m 50 ls []) := by
    intro x9 he H locs ls h hl
    subst he
    have hf := hK
    refine lv_iload_n hx hb dX7_coloured_50 rfl (lv_at hl 3 rfl) ?_
    cases hf
    refine W.widen (k := 0) (n := 0) (Nat.le_of_ble_eq_true rfl) (Nat.le_of_ble_eq_true rfl) ?_
    exact x_iret C h dX7_coloured_51
  refine loopF_ind (P := fun z => ∀ (H : Heap) (locs : List Loc) (ls : Array Slot), Hs s0 D ac σ H locs → lv_has ls 5 [(0, .ref a0), (1, .int a1), (2, .int a2), (3, .int z.1), (4, .int z.2)] → W p l e ({ frames := 0, cells := 0, slots := 0, locals := 0 } : Room) s m args below meth c H locs 0 0 (MQ below (Qn s0 D ac (some (.int v)) σ) args s 0 0 (fr s0)) (F0 m 5 ls [])) ?_ _ _ hL _ _ _ h (lv_sub hl [2, 3, 4, 1, 0] rfl)
  clear hK hL h hl hf
  intro z o hf ih hX H locs ls h hl
  obtain ⟨x1, x2⟩ := z
  have h : Hs s0 D ac σ H locs := h
  have hl : lv_has ls 5 [(0, .ref a0), (1, .int a1), (2, .int a2), (3, .int x1), (4, .int x2)] := hl
  have hf : lX7_coloured_5 σ a0 a1 a2 x1 x2 = some o := hf
  unfold lX7_coloured_5 at hf
  refine lv_iload hx hb dX7_coloured_5 (lv_at hl 4 rfl) ?_
  refine lv_aload_n hx hb dX7_coloured_7 rfl (lv_at hl 0 rfl) ?_
  refine x_gI (q := (RX7, TX7, 50)) (j := 7) G C h rfl (by decide) (fun _ _ _ => rfl) (lk C q1063) (fun _ z => z) dX7_coloured_8 hf (fun x3 hf => ?_)
  refine lv_icmp_ge (tgt := 50) hx hb dX7_coloured_11 (by decide) (fun hc => ?_) (fun hc => ?_)
  · have hf := hf_t hc hf
    cases hf
    exact hE5_0 _ (hX _ rfl) _ _ _ h (lv_sub hl [0, 1, 2, 3] rfl)
  · have hf := hf_f hc hf
    refine lv_iload_n hx hb dX7_coloured_14 rfl (lv_at hl 3 rfl) ?_
    refine lv_aload_n hx hb dX7_coloured_15 rfl (lv_at hl 0 rfl) ?_
    refine x_gR (q := (RX7, TX7, 50)) (j := 8) G C h rfl (by decide) (fun _ _ _ => rfl) (lk C q1064) (fun _ z => z) dX7_coloured_16 hf (fun r4 hf => ?_)
    refine lv_iload hx hb dX7_coloured_19 (lv_at hl 4 rfl) ?_
    refine x_iald G C h dX7_coloured_21 hf (fun x5 hf => ?_)
    refine lv_iload_n hx hb dX7_coloured_22 rfl (lv_at hl 1 rfl) ?_
    refine jn_of (P := fun j => ∀ (x8 : Int32), j x8 = some o → ∀ (H : Heap) (locs : List Loc) (ls : Array Slot), Hs s0 D ac σ H locs → lv_has ls 5 [(0, .ref a0), (1, .int a1), (2, .int a2), (3, .int x1), (4, .int x2)] → W p l e ({ frames := 0, cells := 0, slots := 0, locals := 0 } : Room) s m args below meth c H locs 0 0 (MQ below (Qn s0 D ac (some (.int v)) σ) args s 0 0 (fr s0)) (F0 m 42 ls [.int x8, .int x1])) hf ?_ ?_
    · intro x8 hf H locs ls h hl
      refine lv_iadd hx hb dX7_coloured_42 ?_
      refine lv_istore_n (lv' := [(3, .int (x1 + x8)), (0, .ref a0), (1, .int a1), (2, .int a2), (4, .int x2)]) hx hb dX7_coloured_43 rfl hl (by decide) rfl (fun ls hl => ?_)
      refine lv_iinc (v := x2 + 1) (lv' := [(4, .int (x2 + 1)), (3, .int (x1 + x8)), (0, .ref a0), (1, .int a1), (2, .int a2)]) hx hb dX7_coloured_44 hl (k := 4) rfl rfl (by decide) rfl (fun ls hl => ?_)
      refine lv_goto (tgt := 5) hx hb dX7_coloured_47 (by decide) ?_
      cases hf
      exact ih _ rfl _ _ _ h (lv_sub hl [2, 3, 4, 1, 0] rfl)
    intro j42 hj42 hf
    refine jn_of (P := fun j => ∀ (u0 : Unit), j u0 = some o → ∀ (H : Heap) (locs : List Loc) (ls : Array Slot), Hs s0 D ac σ H locs → lv_has ls 5 [(0, .ref a0), (1, .int a1), (2, .int a2), (3, .int x1), (4, .int x2)] → W p l e ({ frames := 0, cells := 0, slots := 0, locals := 0 } : Room) s m args below meth c H locs 0 0 (MQ below (Qn s0 D ac (some (.int v)) σ) args s 0 0 (fr s0)) (F0 m 41 ls [.int x1])) hf ?_ ?_
    · intro u0 hf H locs ls h hl
      refine lv_iconst (v := 0) hx hb dX7_coloured_41 (by decide) ?_
      exact hj42 _ hf _ _ _ h (lv_sub hl [0, 1, 2, 3, 4] rfl)
    intro j41 hj41 hf
    refine lv_icmp_ne (tgt := 41) hx hb dX7_coloured_23 (by decide) (fun hc => ?_) (fun hc => ?_)
    · have hf := hf_f hc hf
      exact hj41 () hf _ _ _ h (lv_sub hl [0, 1, 2, 3, 4] rfl)
    · have hf := hf_t hc hf
      refine lv_aload_n hx hb dX7_coloured_26 rfl (lv_at hl 0 rfl) ?_
      refine x_gR (q := (RX7, TX7, 50)) (j := 10) G C h rfl (by decide) (fun _ _ _ => rfl) (lk C q1066) (fun _ z => z) dX7_coloured_27 hf (fun r6 hf => ?_)
      refine lv_iload hx hb dX7_coloured_30 (lv_at hl 4 rfl) ?_
      refine x_iald G C h dX7_coloured_32 hf (fun x7 hf => ?_)
      refine lv_iload_n hx hb dX7_coloured_33 rfl (lv_at hl 2 rfl) ?_
      refine lv_icmp_ne (tgt := 41) hx hb dX7_coloured_34 (by decide) (fun hc => ?_) (fun hc => ?_)
      · have hf := hf_f hc hf
        exact hj41 () hf _ _ _ h (lv_sub hl [0, 1, 2, 3, 4] rfl)
      · have hf := hf_t hc hf
        refine lv_iconst (v := 1) hx hb dX7_coloured_37 (by decide) ?_
        refine lv_goto (tgt := 42) hx hb dX7_coloured_38 (by decide) ?_
        exact hj42 _ hf _ _ _ h (lv_sub hl [0, 1, 2, 3, 4] rfl)

theorem dX7_of_0 : decode cX7_of 0 = .ok (.aload_n 0, 1) := by decide +kernel
theorem dX7_of_1 : decode cX7_of 1 = .ok (.iload_n 1, 1) := by decide +kernel
theorem dX7_of_2 : decode cX7_of 2 = .ok (.invokevirtual 121, 3) := by decide +kernel
theorem dX7_of_5 : decode cX7_of 5 = .ok (.ifCond .ne 6, 3) := by decide +kernel
theorem dX7_of_8 : decode cX7_of 8 = .ok (.bipush (-2), 2) := by decide +kernel
theorem dX7_of_10 : decode cX7_of 10 = .ok (.ireturn, 1) := by decide +kernel
theorem dX7_of_11 : decode cX7_of 11 = .ok (.iload_n 2, 1) := by decide +kernel
theorem dX7_of_12 : decode cX7_of 12 = .ok (.tableswitch 90 0 5 #[40, 47, 53, 60, 70, 80], 40) := by decide +kernel
theorem dX7_of_52 : decode cX7_of 52 = .ok (.aload_n 0, 1) := by decide +kernel
theorem dX7_of_53 : decode cX7_of 53 = .ok (.getfield 16, 3) := by decide +kernel
theorem dX7_of_56 : decode cX7_of 56 = .ok (.iload_n 1, 1) := by decide +kernel
theorem dX7_of_57 : decode cX7_of 57 = .ok (.iaload, 1) := by decide +kernel
theorem dX7_of_58 : decode cX7_of 58 = .ok (.ireturn, 1) := by decide +kernel
theorem dX7_of_59 : decode cX7_of 59 = .ok (.aload_n 0, 1) := by decide +kernel
theorem dX7_of_60 : decode cX7_of 60 = .ok (.iload_n 1, 1) := by decide +kernel
theorem dX7_of_61 : decode cX7_of 61 = .ok (.invokevirtual 132, 3) := by decide +kernel
theorem dX7_of_64 : decode cX7_of 64 = .ok (.ireturn, 1) := by decide +kernel
theorem dX7_of_65 : decode cX7_of 65 = .ok (.aload_n 0, 1) := by decide +kernel
theorem dX7_of_66 : decode cX7_of 66 = .ok (.iload_n 1, 1) := by decide +kernel
theorem dX7_of_67 : decode cX7_of 67 = .ok (.iconst 0, 1) := by decide +kernel
theorem dX7_of_68 : decode cX7_of 68 = .ok (.invokevirtual 135, 3) := by decide +kernel
theorem dX7_of_71 : decode cX7_of 71 = .ok (.ireturn, 1) := by decide +kernel
theorem dX7_of_72 : decode cX7_of 72 = .ok (.aload_n 0, 1) := by decide +kernel
theorem dX7_of_73 : decode cX7_of 73 = .ok (.getfield 16, 3) := by decide +kernel
theorem dX7_of_76 : decode cX7_of 76 = .ok (.bipush 6, 2) := by decide +kernel
theorem dX7_of_78 : decode cX7_of 78 = .ok (.iload_n 1, 1) := by decide +kernel
theorem dX7_of_79 : decode cX7_of 79 = .ok (.iadd, 1) := by decide +kernel
theorem dX7_of_80 : decode cX7_of 80 = .ok (.iaload, 1) := by decide +kernel
theorem dX7_of_81 : decode cX7_of 81 = .ok (.ireturn, 1) := by decide +kernel
theorem dX7_of_82 : decode cX7_of 82 = .ok (.aload_n 0, 1) := by decide +kernel
theorem dX7_of_83 : decode cX7_of 83 = .ok (.getfield 16, 3) := by decide +kernel
theorem dX7_of_86 : decode cX7_of 86 = .ok (.bipush 12, 2) := by decide +kernel
theorem dX7_of_88 : decode cX7_of 88 = .ok (.iload_n 1, 1) := by decide +kernel
theorem dX7_of_89 : decode cX7_of 89 = .ok (.iadd, 1) := by decide +kernel
theorem dX7_of_90 : decode cX7_of 90 = .ok (.iaload, 1) := by decide +kernel
theorem dX7_of_91 : decode cX7_of 91 = .ok (.ireturn, 1) := by decide +kernel
theorem dX7_of_92 : decode cX7_of 92 = .ok (.aload_n 0, 1) := by decide +kernel
theorem dX7_of_93 : decode cX7_of 93 = .ok (.getfield 16, 3) := by decide +kernel
theorem dX7_of_96 : decode cX7_of 96 = .ok (.bipush 18, 2) := by decide +kernel
theorem dX7_of_98 : decode cX7_of 98 = .ok (.iload_n 1, 1) := by decide +kernel
theorem dX7_of_99 : decode cX7_of 99 = .ok (.iadd, 1) := by decide +kernel
theorem dX7_of_100 : decode cX7_of 100 = .ok (.iaload, 1) := by decide +kernel
theorem dX7_of_101 : decode cX7_of 101 = .ok (.ireturn, 1) := by decide +kernel
theorem dX7_of_102 : decode cX7_of 102 = .ok (.bipush (-3), 2) := by decide +kernel
theorem dX7_of_104 : decode cX7_of 104 = .ok (.ireturn, 1) := by decide +kernel
def fX7_of (σ : St) (a0 : Nat) (a1 : Int32) (a2 : Int32) : Option (Int32) :=
  o_k σ a0 5 <|
  (fX7_isHut σ a0 a1).bind fun x1 =>
  if x1 = 0 then
    some ((-2))
  else
  if a2 = 0 then
    o_gR σ a0 5 4 fun r2 =>
    o_aI σ r2 0 a1 fun x3 =>
    some x3
  else if a2 = 1 then
    o_k σ a0 5 <|
    (fX7_thingsOf σ a0 a1).bind fun x4 =>
    some x4
  else if a2 = 2 then
    o_k σ a0 5 <|
    (fX7_coloured σ a0 a1 0).bind fun x5 =>
    some x5
  else if a2 = 3 then
    o_gR σ a0 5 4 fun r6 =>
    o_aI σ r6 0 (6 + a1) fun x7 =>
    some x7
  else if a2 = 4 then
    o_gR σ a0 5 4 fun r8 =>
    o_aI σ r8 0 (12 + a1) fun x9 =>
    some x9
  else if a2 = 5 then
    o_gR σ a0 5 4 fun r10 =>
    o_aI σ r10 0 (18 + a1) fun x11 =>
    some x11
  else 
  some ((-3))

set_option maxHeartbeats 4000000 in
theorem wX7_of {l : Launch} {s0 : State} {A0 : Array Value} {D : va_G} {ac : Nat → ClassId} (G : Gl s0 A0 D ac) {σ : St} {a0 : Nat} {a1 : Int32} {a2 : Int32} {v : Int32} (hf : fX7_of σ a0 a1 a2 = some (v)) : Met l yX7_of (ws_ yX7_of cX7_of 3 (some (.int))) ({ frames := 2, cells := 0, slots := 0, locals := 43 } : Room) (Pn s0 D ac [.ref a0, .int a1, .int a2] σ) (Qn s0 D ac (some (.int v)) σ) 0 0 (fr s0) := by
  refine x_met (by decide) (Nat.le_of_ble_eq_true rfl) ?_
  intro p e s m args below meth c ls C hnm h hl
  have C : Cx s0 p s m args meth c cX7_of 3 "HutForShowModel" (some (.int)) := C
  have hx := C.1
  have hb := C.2.1
  have hl : lv_has ls 3 [(0, .ref a0), (1, .int a1), (2, .int a2)] := hl
  unfold fX7_of at hf
  refine lv_aload_n hx hb dX7_of_0 rfl (lv_at hl 0 rfl) ?_
  refine lv_iload_n hx hb dX7_of_1 rfl (lv_at hl 1 rfl) ?_
  obtain ⟨hk, hf⟩ := k_of hf
  obtain ⟨x1, hc, hf⟩ := hf_b hf
  refine x_cV (q := (RX7, TX7, 50)) (rest := []) (As := [.int a1]) (n := 1) (ov := (some (.int x1))) G C h (wX7_isHut G hc) hk rfl (lw_V q1218 q1220 qs22 q61 q1221) (by decide +kernel) ⟨Nat.le_of_ble_eq_true rfl, Nat.le_of_ble_eq_true rfl⟩ rfl rfl rfl hl.1 rfl (Nat.le_of_ble_eq_true rfl) dX7_of_2 ⟨(Nat.le_of_ble_eq_true rfl), (Nat.le_of_ble_eq_true rfl)⟩ (fun H locs h => ?_)
  refine lv_if_ne (tgt := 11) hx hb dX7_of_5 (by decide) (fun hc => ?_) (fun hc => ?_)
  · have hf := hf_f hc hf
    refine lv_iload_n hx hb dX7_of_11 rfl (lv_at hl 2 rfl) ?_
    by_cases hc : a2 = 0
    · have hf := hf_t hc hf
      rw [hc]
      refine lv_tableIn (tgt := 52) hx hb dX7_of_12 (by decide) (by decide) rfl (by decide) ?_
      refine lv_aload_n hx hb dX7_of_52 rfl (lv_at hl 0 rfl) ?_
      refine x_gR (q := (RX7, TX7, 50)) (j := 4) G C h rfl (by decide) (fun _ _ _ => rfl) (lk C q1060) (fun _ z => z) dX7_of_53 hf (fun r2 hf => ?_)
      refine lv_iload_n hx hb dX7_of_56 rfl (lv_at hl 1 rfl) ?_
      refine x_iald G C h dX7_of_57 hf (fun x3 hf => ?_)
      cases hf
      refine W.widen (k := 0) (n := 0) (Nat.le_of_ble_eq_true rfl) (Nat.le_of_ble_eq_true rfl) ?_
      exact x_iret C h dX7_of_58
    have hf := hf_f hc hf
    have hc0 := hc
    clear hc
    by_cases hc : a2 = 1
    · have hf := hf_t hc hf
      rw [hc]
      refine lv_tableIn (tgt := 59) hx hb dX7_of_12 (by decide) (by decide) rfl (by decide) ?_
      refine lv_aload_n hx hb dX7_of_59 rfl (lv_at hl 0 rfl) ?_
      refine lv_iload_n hx hb dX7_of_60 rfl (lv_at hl 1 rfl) ?_
      obtain ⟨hk, hf⟩ := k_of hf
      obtain ⟨x4, hc, hf⟩ := hf_b hf
      refine x_cV (q := (RX7, TX7, 50)) (rest := []) (As := [.int a1]) (n := 1) (ov := (some (.int x4))) G C h (wX7_thingsOf G hc) hk rfl (lw_V q1233 q1235 qs24 q61 q1236) (by decide +kernel) ⟨Nat.le_of_ble_eq_true rfl, Nat.le_of_ble_eq_true rfl⟩ rfl rfl rfl hl.1 rfl (Nat.le_of_ble_eq_true rfl) dX7_of_61 ⟨(Nat.le_of_ble_eq_true rfl), (Nat.le_of_ble_eq_true rfl)⟩ (fun H locs h => ?_)
      cases hf
      refine W.widen (k := 0) (n := 0) (Nat.le_of_ble_eq_true rfl) (Nat.le_of_ble_eq_true rfl) ?_
      exact x_iret C h dX7_of_64
    have hf := hf_f hc hf
    have hc1 := hc
    clear hc
    by_cases hc : a2 = 2
    · have hf := hf_t hc hf
      rw [hc]
      refine lv_tableIn (tgt := 65) hx hb dX7_of_12 (by decide) (by decide) rfl (by decide) ?_
      refine lv_aload_n hx hb dX7_of_65 rfl (lv_at hl 0 rfl) ?_
      refine lv_iload_n hx hb dX7_of_66 rfl (lv_at hl 1 rfl) ?_
      refine lv_iconst (v := 0) hx hb dX7_of_67 (by decide) ?_
      obtain ⟨hk, hf⟩ := k_of hf
      obtain ⟨x5, hc, hf⟩ := hf_b hf
      refine x_cV (q := (RX7, TX7, 50)) (rest := []) (As := [.int a1, .int 0]) (n := 2) (ov := (some (.int x5))) G C h (wX7_coloured G hc) hk rfl (lw_V q1245 q1247 qs25 q61 q1248) (by decide +kernel) ⟨Nat.le_of_ble_eq_true rfl, Nat.le_of_ble_eq_true rfl⟩ rfl rfl rfl hl.1 rfl (Nat.le_of_ble_eq_true rfl) dX7_of_68 ⟨(Nat.le_of_ble_eq_true rfl), (Nat.le_of_ble_eq_true rfl)⟩ (fun H locs h => ?_)
      cases hf
      refine W.widen (k := 0) (n := 0) (Nat.le_of_ble_eq_true rfl) (Nat.le_of_ble_eq_true rfl) ?_
      exact x_iret C h dX7_of_71
    have hf := hf_f hc hf
    have hc2 := hc
    clear hc
    by_cases hc : a2 = 3
    · have hf := hf_t hc hf
      rw [hc]
      refine lv_tableIn (tgt := 72) hx hb dX7_of_12 (by decide) (by decide) rfl (by decide) ?_
      refine lv_aload_n hx hb dX7_of_72 rfl (lv_at hl 0 rfl) ?_
      refine x_gR (q := (RX7, TX7, 50)) (j := 4) G C h rfl (by decide) (fun _ _ _ => rfl) (lk C q1060) (fun _ z => z) dX7_of_73 hf (fun r6 hf => ?_)
      refine lv_bipush (v := 6) hx hb dX7_of_76 (by decide) ?_
      refine lv_iload_n hx hb dX7_of_78 rfl (lv_at hl 1 rfl) ?_
      refine lv_iadd hx hb dX7_of_79 ?_
      refine x_iald G C h dX7_of_80 hf (fun x7 hf => ?_)
      cases hf
      refine W.widen (k := 0) (n := 0) (Nat.le_of_ble_eq_true rfl) (Nat.le_of_ble_eq_true rfl) ?_
      exact x_iret C h dX7_of_81
    have hf := hf_f hc hf
    have hc3 := hc
    clear hc
    by_cases hc : a2 = 4
    · have hf := hf_t hc hf
      rw [hc]
      refine lv_tableIn (tgt := 82) hx hb dX7_of_12 (by decide) (by decide) rfl (by decide) ?_
      refine lv_aload_n hx hb dX7_of_82 rfl (lv_at hl 0 rfl) ?_
      refine x_gR (q := (RX7, TX7, 50)) (j := 4) G C h rfl (by decide) (fun _ _ _ => rfl) (lk C q1060) (fun _ z => z) dX7_of_83 hf (fun r8 hf => ?_)
      refine lv_bipush (v := 12) hx hb dX7_of_86 (by decide) ?_
      refine lv_iload_n hx hb dX7_of_88 rfl (lv_at hl 1 rfl) ?_
      refine lv_iadd hx hb dX7_of_89 ?_
      refine x_iald G C h dX7_of_90 hf (fun x9 hf => ?_)
      cases hf
      refine W.widen (k := 0) (n := 0) (Nat.le_of_ble_eq_true rfl) (Nat.le_of_ble_eq_true rfl) ?_
      exact x_iret C h dX7_of_91
    have hf := hf_f hc hf
    have hc4 := hc
    clear hc
    by_cases hc : a2 = 5
    · have hf := hf_t hc hf
      rw [hc]
      refine lv_tableIn (tgt := 92) hx hb dX7_of_12 (by decide) (by decide) rfl (by decide) ?_
      refine lv_aload_n hx hb dX7_of_92 rfl (lv_at hl 0 rfl) ?_
      refine x_gR (q := (RX7, TX7, 50)) (j := 4) G C h rfl (by decide) (fun _ _ _ => rfl) (lk C q1060) (fun _ z => z) dX7_of_93 hf (fun r10 hf => ?_)
      refine lv_bipush (v := 18) hx hb dX7_of_96 (by decide) ?_
      refine lv_iload_n hx hb dX7_of_98 rfl (lv_at hl 1 rfl) ?_
      refine lv_iadd hx hb dX7_of_99 ?_
      refine x_iald G C h dX7_of_100 hf (fun x11 hf => ?_)
      cases hf
      refine W.widen (k := 0) (n := 0) (Nat.le_of_ble_eq_true rfl) (Nat.le_of_ble_eq_true rfl) ?_
      exact x_iret C h dX7_of_101
    have hf := hf_f hc hf
    have hc5 := hc
    clear hc
    refine lv_tableOut (tgt := 102) hx hb dX7_of_12 (sw_out6 hc0 hc1 hc2 hc3 hc4 hc5) (by decide) ?_
    refine lv_bipush (v := (-3)) hx hb dX7_of_102 (by decide) ?_
    cases hf
    refine W.widen (k := 0) (n := 0) (Nat.le_of_ble_eq_true rfl) (Nat.le_of_ble_eq_true rfl) ?_
    exact x_iret C h dX7_of_104
  · have hf := hf_t hc hf
    refine lv_bipush (v := (-2)) hx hb dX7_of_8 (by decide) ?_
    cases hf
    refine W.widen (k := 0) (n := 0) (Nat.le_of_ble_eq_true rfl) (Nat.le_of_ble_eq_true rfl) ?_
    exact x_iret C h dX7_of_10

theorem dX7_set_0 : decode cX7_set 0 = .ok (.iload_n 1, 1) := by decide +kernel
theorem dX7_set_1 : decode cX7_set 1 = .ok (.ifCond .ne 8, 3) := by decide +kernel
theorem dX7_set_4 : decode cX7_set 4 = .ok (.bipush 60, 2) := by decide +kernel
theorem dX7_set_6 : decode cX7_set 6 = .ok (.goto 15, 3) := by decide +kernel
theorem dX7_set_9 : decode cX7_set 9 = .ok (.iload_n 1, 1) := by decide +kernel
theorem dX7_set_10 : decode cX7_set 10 = .ok (.iconst 4, 1) := by decide +kernel
theorem dX7_set_11 : decode cX7_set 11 = .ok (.if_icmp .ne 8, 3) := by decide +kernel
theorem dX7_set_14 : decode cX7_set 14 = .ok (.bipush 9, 2) := by decide +kernel
theorem dX7_set_16 : decode cX7_set 16 = .ok (.goto 5, 3) := by decide +kernel
theorem dX7_set_19 : decode cX7_set 19 = .ok (.bipush 99, 2) := by decide +kernel
theorem dX7_set_21 : decode cX7_set 21 = .ok (.istore_n 3, 1) := by decide +kernel
theorem dX7_set_22 : decode cX7_set 22 = .ok (.iload_n 1, 1) := by decide +kernel
theorem dX7_set_23 : decode cX7_set 23 = .ok (.iconst 0, 1) := by decide +kernel
theorem dX7_set_24 : decode cX7_set 24 = .ok (.iconst 4, 1) := by decide +kernel
theorem dX7_set_25 : decode cX7_set 25 = .ok (.invokestatic 113, 3) := by decide +kernel
theorem dX7_set_28 : decode cX7_set 28 = .ok (.ifCond .eq 12, 3) := by decide +kernel
theorem dX7_set_31 : decode cX7_set 31 = .ok (.iload_n 2, 1) := by decide +kernel
theorem dX7_set_32 : decode cX7_set 32 = .ok (.iconst 0, 1) := by decide +kernel
theorem dX7_set_33 : decode cX7_set 33 = .ok (.iload_n 3, 1) := by decide +kernel
theorem dX7_set_34 : decode cX7_set 34 = .ok (.invokestatic 113, 3) := by decide +kernel
theorem dX7_set_37 : decode cX7_set 37 = .ok (.ifCond .ne 6, 3) := by decide +kernel
theorem dX7_set_40 : decode cX7_set 40 = .ok (.bipush (-3), 2) := by decide +kernel
theorem dX7_set_42 : decode cX7_set 42 = .ok (.ireturn, 1) := by decide +kernel
theorem dX7_set_43 : decode cX7_set 43 = .ok (.iload_n 1, 1) := by decide +kernel
theorem dX7_set_44 : decode cX7_set 44 = .ok (.ifCond .ne 10, 3) := by decide +kernel
theorem dX7_set_47 : decode cX7_set 47 = .ok (.aload_n 0, 1) := by decide +kernel
theorem dX7_set_48 : decode cX7_set 48 = .ok (.getfield 40, 3) := by decide +kernel
theorem dX7_set_51 : decode cX7_set 51 = .ok (.goto 43, 3) := by decide +kernel
theorem dX7_set_54 : decode cX7_set 54 = .ok (.iload_n 1, 1) := by decide +kernel
theorem dX7_set_55 : decode cX7_set 55 = .ok (.iconst 1, 1) := by decide +kernel
theorem dX7_set_56 : decode cX7_set 56 = .ok (.if_icmp .ne 10, 3) := by decide +kernel
theorem dX7_set_59 : decode cX7_set 59 = .ok (.aload_n 0, 1) := by decide +kernel
theorem dX7_set_60 : decode cX7_set 60 = .ok (.getfield 44, 3) := by decide +kernel
theorem dX7_set_63 : decode cX7_set 63 = .ok (.goto 31, 3) := by decide +kernel
theorem dX7_set_66 : decode cX7_set 66 = .ok (.iload_n 1, 1) := by decide +kernel
theorem dX7_set_67 : decode cX7_set 67 = .ok (.iconst 2, 1) := by decide +kernel
theorem dX7_set_68 : decode cX7_set 68 = .ok (.if_icmp .ne 10, 3) := by decide +kernel
theorem dX7_set_71 : decode cX7_set 71 = .ok (.aload_n 0, 1) := by decide +kernel
theorem dX7_set_72 : decode cX7_set 72 = .ok (.getfield 47, 3) := by decide +kernel
theorem dX7_set_75 : decode cX7_set 75 = .ok (.goto 19, 3) := by decide +kernel
theorem dX7_set_78 : decode cX7_set 78 = .ok (.iload_n 1, 1) := by decide +kernel
theorem dX7_set_79 : decode cX7_set 79 = .ok (.iconst 3, 1) := by decide +kernel
theorem dX7_set_80 : decode cX7_set 80 = .ok (.if_icmp .ne 10, 3) := by decide +kernel
theorem dX7_set_83 : decode cX7_set 83 = .ok (.aload_n 0, 1) := by decide +kernel
theorem dX7_set_84 : decode cX7_set 84 = .ok (.getfield 50, 3) := by decide +kernel
theorem dX7_set_87 : decode cX7_set 87 = .ok (.goto 7, 3) := by decide +kernel
theorem dX7_set_90 : decode cX7_set 90 = .ok (.aload_n 0, 1) := by decide +kernel
theorem dX7_set_91 : decode cX7_set 91 = .ok (.getfield 138, 3) := by decide +kernel
theorem dX7_set_94 : decode cX7_set 94 = .ok (.istore 4, 2) := by decide +kernel
theorem dX7_set_96 : decode cX7_set 96 = .ok (.aload_n 0, 1) := by decide +kernel
theorem dX7_set_97 : decode cX7_set 97 = .ok (.iload_n 1, 1) := by decide +kernel
theorem dX7_set_98 : decode cX7_set 98 = .ok (.ifCond .ne 7, 3) := by decide +kernel
theorem dX7_set_101 : decode cX7_set 101 = .ok (.iload_n 2, 1) := by decide +kernel
theorem dX7_set_102 : decode cX7_set 102 = .ok (.goto 7, 3) := by decide +kernel
theorem dX7_set_105 : decode cX7_set 105 = .ok (.aload_n 0, 1) := by decide +kernel
theorem dX7_set_106 : decode cX7_set 106 = .ok (.getfield 40, 3) := by decide +kernel
theorem dX7_set_109 : decode cX7_set 109 = .ok (.putfield 40, 3) := by decide +kernel
theorem dX7_set_112 : decode cX7_set 112 = .ok (.aload_n 0, 1) := by decide +kernel
theorem dX7_set_113 : decode cX7_set 113 = .ok (.iload_n 1, 1) := by decide +kernel
theorem dX7_set_114 : decode cX7_set 114 = .ok (.iconst 1, 1) := by decide +kernel
theorem dX7_set_115 : decode cX7_set 115 = .ok (.if_icmp .ne 7, 3) := by decide +kernel
theorem dX7_set_118 : decode cX7_set 118 = .ok (.iload_n 2, 1) := by decide +kernel
theorem dX7_set_119 : decode cX7_set 119 = .ok (.goto 7, 3) := by decide +kernel
theorem dX7_set_122 : decode cX7_set 122 = .ok (.aload_n 0, 1) := by decide +kernel
theorem dX7_set_123 : decode cX7_set 123 = .ok (.getfield 44, 3) := by decide +kernel
theorem dX7_set_126 : decode cX7_set 126 = .ok (.putfield 44, 3) := by decide +kernel
theorem dX7_set_129 : decode cX7_set 129 = .ok (.aload_n 0, 1) := by decide +kernel
theorem dX7_set_130 : decode cX7_set 130 = .ok (.iload_n 1, 1) := by decide +kernel
theorem dX7_set_131 : decode cX7_set 131 = .ok (.iconst 2, 1) := by decide +kernel
theorem dX7_set_132 : decode cX7_set 132 = .ok (.if_icmp .ne 7, 3) := by decide +kernel
theorem dX7_set_135 : decode cX7_set 135 = .ok (.iload_n 2, 1) := by decide +kernel
theorem dX7_set_136 : decode cX7_set 136 = .ok (.goto 7, 3) := by decide +kernel
theorem dX7_set_139 : decode cX7_set 139 = .ok (.aload_n 0, 1) := by decide +kernel
theorem dX7_set_140 : decode cX7_set 140 = .ok (.getfield 47, 3) := by decide +kernel
theorem dX7_set_143 : decode cX7_set 143 = .ok (.putfield 47, 3) := by decide +kernel
theorem dX7_set_146 : decode cX7_set 146 = .ok (.aload_n 0, 1) := by decide +kernel
theorem dX7_set_147 : decode cX7_set 147 = .ok (.iload_n 1, 1) := by decide +kernel
theorem dX7_set_148 : decode cX7_set 148 = .ok (.iconst 3, 1) := by decide +kernel
theorem dX7_set_149 : decode cX7_set 149 = .ok (.if_icmp .ne 7, 3) := by decide +kernel
theorem dX7_set_152 : decode cX7_set 152 = .ok (.iload_n 2, 1) := by decide +kernel
theorem dX7_set_153 : decode cX7_set 153 = .ok (.goto 7, 3) := by decide +kernel
theorem dX7_set_156 : decode cX7_set 156 = .ok (.aload_n 0, 1) := by decide +kernel
theorem dX7_set_157 : decode cX7_set 157 = .ok (.getfield 50, 3) := by decide +kernel
theorem dX7_set_160 : decode cX7_set 160 = .ok (.putfield 50, 3) := by decide +kernel
theorem dX7_set_163 : decode cX7_set 163 = .ok (.aload_n 0, 1) := by decide +kernel
theorem dX7_set_164 : decode cX7_set 164 = .ok (.iload_n 1, 1) := by decide +kernel
theorem dX7_set_165 : decode cX7_set 165 = .ok (.iconst 4, 1) := by decide +kernel
theorem dX7_set_166 : decode cX7_set 166 = .ok (.if_icmp .ne 7, 3) := by decide +kernel
theorem dX7_set_169 : decode cX7_set 169 = .ok (.iload_n 2, 1) := by decide +kernel
theorem dX7_set_170 : decode cX7_set 170 = .ok (.goto 7, 3) := by decide +kernel
theorem dX7_set_173 : decode cX7_set 173 = .ok (.aload_n 0, 1) := by decide +kernel
theorem dX7_set_174 : decode cX7_set 174 = .ok (.getfield 138, 3) := by decide +kernel
theorem dX7_set_177 : decode cX7_set 177 = .ok (.putfield 138, 3) := by decide +kernel
theorem dX7_set_180 : decode cX7_set 180 = .ok (.iload 4, 2) := by decide +kernel
theorem dX7_set_182 : decode cX7_set 182 = .ok (.ireturn, 1) := by decide +kernel
def fX7_set (σ : St) (a0 : Nat) (a1 : Int32) (a2 : Int32) : Option (Int32 × St) :=
  jn (fun (x1 : Int32) =>
    (fX7_in σ a1 0 4).bind fun x2 =>
    if x2 = 0 then
      some ((-3), σ)
    else
    (fX7_in σ a2 0 x1).bind fun x3 =>
    if x3 = 0 then
      some ((-3), σ)
    else
    jn (fun (x9 : Int32) =>
      jn (fun (x11 : Int32) =>
        o_pI σ a0 5 13 x11 fun σ12 =>
        jn (fun (x14 : Int32) =>
          o_pI σ12 a0 5 14 x14 fun σ15 =>
          jn (fun (x17 : Int32) =>
            o_pI σ15 a0 5 15 x17 fun σ18 =>
            jn (fun (x20 : Int32) =>
              o_pI σ18 a0 5 16 x20 fun σ21 =>
              jn (fun (x23 : Int32) =>
                o_pI σ21 a0 5 17 x23 fun σ24 =>
                some (x9, σ24)) fun j177 =>
              if a1 = 4 then
                j177 a2
              else
              o_gI σ21 a0 5 17 fun x22 =>
              j177 x22) fun j160 =>
            if a1 = 3 then
              j160 a2
            else
            o_gI σ18 a0 5 16 fun x19 =>
            j160 x19) fun j143 =>
          if a1 = 2 then
            j143 a2
          else
          o_gI σ15 a0 5 15 fun x16 =>
          j143 x16) fun j126 =>
        if a1 = 1 then
          j126 a2
        else
        o_gI σ12 a0 5 14 fun x13 =>
        j126 x13) fun j109 =>
      if a1 = 0 then
        j109 a2
      else
      o_gI σ a0 5 13 fun x10 =>
      j109 x10) fun j94 =>
    if a1 = 0 then
      o_gI σ a0 5 13 fun x8 =>
      j94 x8
    else
    if a1 = 1 then
      o_gI σ a0 5 14 fun x7 =>
      j94 x7
    else
    if a1 = 2 then
      o_gI σ a0 5 15 fun x6 =>
      j94 x6
    else
    if a1 = 3 then
      o_gI σ a0 5 16 fun x5 =>
      j94 x5
    else
    o_gI σ a0 5 17 fun x4 =>
    j94 x4) fun j21 =>
  if a1 = 0 then
    j21 60
  else
  if a1 = 4 then
    j21 9
  else
  j21 99

set_option maxHeartbeats 4000000 in
theorem wX7_set {l : Launch} {s0 : State} {A0 : Array Value} {D : va_G} {ac : Nat → ClassId} (G : Gl s0 A0 D ac) {σ : St} {a0 : Nat} {a1 : Int32} {a2 : Int32} {v : Int32} {σ' : St} (hf : fX7_set σ a0 a1 a2 = some (v, σ')) : Met l yX7_set (ws_ yX7_set cX7_set 5 (some (.int))) ({ frames := 1, cells := 0, slots := 0, locals := 22 } : Room) (Pn s0 D ac [.ref a0, .int a1, .int a2] σ) (Qn s0 D ac (some (.int v)) σ') 0 0 (fr s0) := by
  refine x_met (by decide) (Nat.le_of_ble_eq_true rfl) ?_
  intro p e s m args below meth c ls C hnm h hl
  have C : Cx s0 p s m args meth c cX7_set 5 "HutForShowModel" (some (.int)) := C
  have hx := C.1
  have hb := C.2.1
  have hl : lv_has ls 5 [(0, .ref a0), (1, .int a1), (2, .int a2)] := hl
  unfold fX7_set at hf
  refine lv_iload_n hx hb dX7_set_0 rfl (lv_at hl 1 rfl) ?_
  refine jn_of (P := fun j => ∀ (x1 : Int32), j x1 = some (v, σ') → ∀ (H : Heap) (locs : List Loc) (ls : Array Slot), Hs s0 D ac σ H locs → lv_has ls 5 [(0, .ref a0), (1, .int a1), (2, .int a2)] → W p l e ({ frames := 1, cells := 0, slots := 0, locals := 22 } : Room) s m args below meth c H locs 0 0 (MQ below (Qn s0 D ac (some (.int v)) σ') args s 0 0 (fr s0)) (F0 m 21 ls [.int x1])) hf ?_ ?_
  · intro x1 hf H locs ls h hl
    refine lv_istore_n (lv' := [(3, .int x1), (0, .ref a0), (1, .int a1), (2, .int a2)]) hx hb dX7_set_21 rfl hl (by decide) rfl (fun ls hl => ?_)
    refine lv_iload_n hx hb dX7_set_22 rfl (lv_at hl 2 rfl) ?_
    refine lv_iconst (v := 0) hx hb dX7_set_23 (by decide) ?_
    refine lv_iconst (v := 4) hx hb dX7_set_24 (by decide) ?_
    obtain ⟨x2, hc, hf⟩ := hf_b hf
    refine x_cS (rest := []) (As := [.int a1, .int 0, .int 4]) (n := 3) (ov := (some (.int x2))) C h (wX7_in G hc) (lw_S q1211 q1212 q61 q1213) (by decide +kernel) ⟨Nat.le_of_ble_eq_true rfl, Nat.le_of_ble_eq_true rfl⟩ rfl rfl rfl hl.1 rfl (Nat.le_of_ble_eq_true rfl) dX7_set_25 ⟨(Nat.le_of_ble_eq_true rfl), (Nat.le_of_ble_eq_true rfl)⟩ (fun H locs h => ?_)
    refine lv_if_eq (tgt := 40) hx hb dX7_set_28 (by decide) (fun hc => ?_) (fun hc => ?_)
    · have hf := hf_t hc hf
      refine lv_bipush (v := (-3)) hx hb dX7_set_40 (by decide) ?_
      cases hf
      refine W.widen (k := 0) (n := 0) (Nat.le_of_ble_eq_true rfl) (Nat.le_of_ble_eq_true rfl) ?_
      exact x_iret C h dX7_set_42
    · have hf := hf_f hc hf
      refine lv_iload_n hx hb dX7_set_31 rfl (lv_at hl 3 rfl) ?_
      refine lv_iconst (v := 0) hx hb dX7_set_32 (by decide) ?_
      refine lv_iload_n hx hb dX7_set_33 rfl (lv_at hl 0 rfl) ?_
      obtain ⟨x3, hc, hf⟩ := hf_b hf
      refine x_cS (rest := []) (As := [.int a2, .int 0, .int x1]) (n := 3) (ov := (some (.int x3))) C h (wX7_in G hc) (lw_S q1211 q1212 q61 q1213) (by decide +kernel) ⟨Nat.le_of_ble_eq_true rfl, Nat.le_of_ble_eq_true rfl⟩ rfl rfl rfl hl.1 rfl (Nat.le_of_ble_eq_true rfl) dX7_set_34 ⟨(Nat.le_of_ble_eq_true rfl), (Nat.le_of_ble_eq_true rfl)⟩ (fun H locs h => ?_)
      refine lv_if_ne (tgt := 43) hx hb dX7_set_37 (by decide) (fun hc => ?_) (fun hc => ?_)
      · have hf := hf_f hc hf
        refine lv_iload_n hx hb dX7_set_43 rfl (lv_at hl 2 rfl) ?_
        refine jn_of (P := fun j => ∀ (x9 : Int32), j x9 = some (v, σ') → ∀ (H : Heap) (locs : List Loc) (ls : Array Slot), Hs s0 D ac σ H locs → lv_has ls 5 [(0, .ref a0), (1, .int a1), (2, .int a2), (3, .int x1)] → W p l e ({ frames := 1, cells := 0, slots := 0, locals := 22 } : Room) s m args below meth c H locs 0 0 (MQ below (Qn s0 D ac (some (.int v)) σ') args s 0 0 (fr s0)) (F0 m 94 ls [.int x9])) hf ?_ ?_
        · intro x9 hf H locs ls h hl
          refine lv_istore (lv' := [(4, .int x9), (0, .ref a0), (1, .int a1), (2, .int a2), (3, .int x1)]) hx hb dX7_set_94 hl (by decide) rfl (fun ls hl => ?_)
          refine lv_aload_n hx hb dX7_set_96 rfl (lv_at hl 1 rfl) ?_
          refine lv_iload_n hx hb dX7_set_97 rfl (lv_at hl 2 rfl) ?_
          refine jn_of (P := fun j => ∀ (x11 : Int32), j x11 = some (v, σ') → ∀ (H : Heap) (locs : List Loc) (ls : Array Slot), Hs s0 D ac σ H locs → lv_has ls 5 [(0, .ref a0), (1, .int a1), (2, .int a2), (3, .int x1), (4, .int x9)] → W p l e ({ frames := 1, cells := 0, slots := 0, locals := 22 } : Room) s m args below meth c H locs 0 0 (MQ below (Qn s0 D ac (some (.int v)) σ') args s 0 0 (fr s0)) (F0 m 109 ls [.int x11, .ref a0])) hf ?_ ?_
          · intro x11 hf H locs ls h hl
            refine x_pI (q := (RX7, TX7, 50)) (j := 13) G C h rfl (by decide) rfl (lk C q1069) (fun _ z => z) (Or.inl rfl) dX7_set_109 hf (fun σ12 H locs h hf => ?_)
            refine lv_aload_n hx hb dX7_set_112 rfl (lv_at hl 0 rfl) ?_
            refine lv_iload_n hx hb dX7_set_113 rfl (lv_at hl 1 rfl) ?_
            refine lv_iconst (v := 1) hx hb dX7_set_114 (by decide) ?_
            refine jn_of (P := fun j => ∀ (x14 : Int32), j x14 = some (v, σ') → ∀ (H : Heap) (locs : List Loc) (ls : Array Slot), Hs s0 D ac σ12 H locs → lv_has ls 5 [(0, .ref a0), (1, .int a1), (2, .int a2), (3, .int x1), (4, .int x9)] → W p l e ({ frames := 1, cells := 0, slots := 0, locals := 22 } : Room) s m args below meth c H locs 0 0 (MQ below (Qn s0 D ac (some (.int v)) σ') args s 0 0 (fr s0)) (F0 m 126 ls [.int x14, .ref a0])) hf ?_ ?_
            · intro x14 hf H locs ls h hl
              refine x_pI (q := (RX7, TX7, 50)) (j := 14) G C h rfl (by decide) rfl (lk C q1070) (fun _ z => z) (Or.inl rfl) dX7_set_126 hf (fun σ15 H locs h hf => ?_)
              refine lv_aload_n hx hb dX7_set_129 rfl (lv_at hl 0 rfl) ?_
              refine lv_iload_n hx hb dX7_set_130 rfl (lv_at hl 1 rfl) ?_
              refine lv_iconst (v := 2) hx hb dX7_set_131 (by decide) ?_
              refine jn_of (P := fun j => ∀ (x17 : Int32), j x17 = some (v, σ') → ∀ (H : Heap) (locs : List Loc) (ls : Array Slot), Hs s0 D ac σ15 H locs → lv_has ls 5 [(0, .ref a0), (1, .int a1), (2, .int a2), (3, .int x1), (4, .int x9)] → W p l e ({ frames := 1, cells := 0, slots := 0, locals := 22 } : Room) s m args below meth c H locs 0 0 (MQ below (Qn s0 D ac (some (.int v)) σ') args s 0 0 (fr s0)) (F0 m 143 ls [.int x17, .ref a0])) hf ?_ ?_
              · intro x17 hf H locs ls h hl
                refine x_pI (q := (RX7, TX7, 50)) (j := 15) G C h rfl (by decide) rfl (lk C q1071) (fun _ z => z) (Or.inl rfl) dX7_set_143 hf (fun σ18 H locs h hf => ?_)
                refine lv_aload_n hx hb dX7_set_146 rfl (lv_at hl 0 rfl) ?_
                refine lv_iload_n hx hb dX7_set_147 rfl (lv_at hl 1 rfl) ?_
                refine lv_iconst (v := 3) hx hb dX7_set_148 (by decide) ?_
                refine jn_of (P := fun j => ∀ (x20 : Int32), j x20 = some (v, σ') → ∀ (H : Heap) (locs : List Loc) (ls : Array Slot), Hs s0 D ac σ18 H locs → lv_has ls 5 [(0, .ref a0), (1, .int a1), (2, .int a2), (3, .int x1), (4, .int x9)] → W p l e ({ frames := 1, cells := 0, slots := 0, locals := 22 } : Room) s m args below meth c H locs 0 0 (MQ below (Qn s0 D ac (some (.int v)) σ') args s 0 0 (fr s0)) (F0 m 160 ls [.int x20, .ref a0])) hf ?_ ?_
                · intro x20 hf H locs ls h hl
                  refine x_pI (q := (RX7, TX7, 50)) (j := 16) G C h rfl (by decide) rfl (lk C q1072) (fun _ z => z) (Or.inl rfl) dX7_set_160 hf (fun σ21 H locs h hf => ?_)
                  refine lv_aload_n hx hb dX7_set_163 rfl (lv_at hl 0 rfl) ?_
                  refine lv_iload_n hx hb dX7_set_164 rfl (lv_at hl 1 rfl) ?_
                  refine lv_iconst (v := 4) hx hb dX7_set_165 (by decide) ?_
                  refine jn_of (P := fun j => ∀ (x23 : Int32), j x23 = some (v, σ') → ∀ (H : Heap) (locs : List Loc) (ls : Array Slot), Hs s0 D ac σ21 H locs → lv_has ls 5 [(0, .ref a0), (1, .int a1), (2, .int a2), (3, .int x1), (4, .int x9)] → W p l e ({ frames := 1, cells := 0, slots := 0, locals := 22 } : Room) s m args below meth c H locs 0 0 (MQ below (Qn s0 D ac (some (.int v)) σ') args s 0 0 (fr s0)) (F0 m 177 ls [.int x23, .ref a0])) hf ?_ ?_
                  · intro x23 hf H locs ls h hl
                    refine x_pI (q := (RX7, TX7, 50)) (j := 17) G C h rfl (by decide) rfl (lk C q1073) (fun _ z => z) (Or.inl rfl) dX7_set_177 hf (fun σ24 H locs h hf => ?_)
                    refine lv_iload hx hb dX7_set_180 (lv_at hl 4 rfl) ?_
                    cases hf
                    refine W.widen (k := 0) (n := 0) (Nat.le_of_ble_eq_true rfl) (Nat.le_of_ble_eq_true rfl) ?_
                    exact x_iret C h dX7_set_182
                  intro j177 hj177 hf
                  refine lv_icmp_ne (tgt := 173) hx hb dX7_set_166 (by decide) (fun hc => ?_) (fun hc => ?_)
                  · have hf := hf_f hc hf
                    refine lv_aload_n hx hb dX7_set_173 rfl (lv_at hl 0 rfl) ?_
                    refine x_gI (q := (RX7, TX7, 50)) (j := 17) G C h rfl (by decide) (fun _ _ _ => rfl) (lk C q1073) (fun _ z => z) dX7_set_174 hf (fun x22 hf => ?_)
                    exact hj177 _ hf _ _ _ h (lv_sub hl [0, 1, 2, 3, 4] rfl)
                  · have hf := hf_t hc hf
                    refine lv_iload_n hx hb dX7_set_169 rfl (lv_at hl 2 rfl) ?_
                    refine lv_goto (tgt := 177) hx hb dX7_set_170 (by decide) ?_
                    exact hj177 _ hf _ _ _ h (lv_sub hl [0, 1, 2, 3, 4] rfl)
                intro j160 hj160 hf
                refine lv_icmp_ne (tgt := 156) hx hb dX7_set_149 (by decide) (fun hc => ?_) (fun hc => ?_)
                · have hf := hf_f hc hf
                  refine lv_aload_n hx hb dX7_set_156 rfl (lv_at hl 0 rfl) ?_
                  refine x_gI (q := (RX7, TX7, 50)) (j := 16) G C h rfl (by decide) (fun _ _ _ => rfl) (lk C q1072) (fun _ z => z) dX7_set_157 hf (fun x19 hf => ?_)
                  exact hj160 _ hf _ _ _ h (lv_sub hl [0, 1, 2, 3, 4] rfl)
                · have hf := hf_t hc hf
                  refine lv_iload_n hx hb dX7_set_152 rfl (lv_at hl 2 rfl) ?_
                  refine lv_goto (tgt := 160) hx hb dX7_set_153 (by decide) ?_
                  exact hj160 _ hf _ _ _ h (lv_sub hl [0, 1, 2, 3, 4] rfl)
              intro j143 hj143 hf
              refine lv_icmp_ne (tgt := 139) hx hb dX7_set_132 (by decide) (fun hc => ?_) (fun hc => ?_)
              · have hf := hf_f hc hf
                refine lv_aload_n hx hb dX7_set_139 rfl (lv_at hl 0 rfl) ?_
                refine x_gI (q := (RX7, TX7, 50)) (j := 15) G C h rfl (by decide) (fun _ _ _ => rfl) (lk C q1071) (fun _ z => z) dX7_set_140 hf (fun x16 hf => ?_)
                exact hj143 _ hf _ _ _ h (lv_sub hl [0, 1, 2, 3, 4] rfl)
              · have hf := hf_t hc hf
                refine lv_iload_n hx hb dX7_set_135 rfl (lv_at hl 2 rfl) ?_
                refine lv_goto (tgt := 143) hx hb dX7_set_136 (by decide) ?_
                exact hj143 _ hf _ _ _ h (lv_sub hl [0, 1, 2, 3, 4] rfl)
            intro j126 hj126 hf
            refine lv_icmp_ne (tgt := 122) hx hb dX7_set_115 (by decide) (fun hc => ?_) (fun hc => ?_)
            · have hf := hf_f hc hf
              refine lv_aload_n hx hb dX7_set_122 rfl (lv_at hl 0 rfl) ?_
              refine x_gI (q := (RX7, TX7, 50)) (j := 14) G C h rfl (by decide) (fun _ _ _ => rfl) (lk C q1070) (fun _ z => z) dX7_set_123 hf (fun x13 hf => ?_)
              exact hj126 _ hf _ _ _ h (lv_sub hl [0, 1, 2, 3, 4] rfl)
            · have hf := hf_t hc hf
              refine lv_iload_n hx hb dX7_set_118 rfl (lv_at hl 2 rfl) ?_
              refine lv_goto (tgt := 126) hx hb dX7_set_119 (by decide) ?_
              exact hj126 _ hf _ _ _ h (lv_sub hl [0, 1, 2, 3, 4] rfl)
          intro j109 hj109 hf
          refine lv_if_ne (tgt := 105) hx hb dX7_set_98 (by decide) (fun hc => ?_) (fun hc => ?_)
          · have hf := hf_f hc hf
            refine lv_aload_n hx hb dX7_set_105 rfl (lv_at hl 1 rfl) ?_
            refine x_gI (q := (RX7, TX7, 50)) (j := 13) G C h rfl (by decide) (fun _ _ _ => rfl) (lk C q1069) (fun _ z => z) dX7_set_106 hf (fun x10 hf => ?_)
            exact hj109 _ hf _ _ _ h (lv_sub hl [1, 2, 3, 4, 0] rfl)
          · have hf := hf_t hc hf
            refine lv_iload_n hx hb dX7_set_101 rfl (lv_at hl 3 rfl) ?_
            refine lv_goto (tgt := 109) hx hb dX7_set_102 (by decide) ?_
            exact hj109 _ hf _ _ _ h (lv_sub hl [1, 2, 3, 4, 0] rfl)
        intro j94 hj94 hf
        refine lv_if_ne (tgt := 54) hx hb dX7_set_44 (by decide) (fun hc => ?_) (fun hc => ?_)
        · have hf := hf_f hc hf
          refine lv_iload_n hx hb dX7_set_54 rfl (lv_at hl 2 rfl) ?_
          refine lv_iconst (v := 1) hx hb dX7_set_55 (by decide) ?_
          refine lv_icmp_ne (tgt := 66) hx hb dX7_set_56 (by decide) (fun hc => ?_) (fun hc => ?_)
          · have hf := hf_f hc hf
            refine lv_iload_n hx hb dX7_set_66 rfl (lv_at hl 2 rfl) ?_
            refine lv_iconst (v := 2) hx hb dX7_set_67 (by decide) ?_
            refine lv_icmp_ne (tgt := 78) hx hb dX7_set_68 (by decide) (fun hc => ?_) (fun hc => ?_)
            · have hf := hf_f hc hf
              refine lv_iload_n hx hb dX7_set_78 rfl (lv_at hl 2 rfl) ?_
              refine lv_iconst (v := 3) hx hb dX7_set_79 (by decide) ?_
              refine lv_icmp_ne (tgt := 90) hx hb dX7_set_80 (by decide) (fun hc => ?_) (fun hc => ?_)
              · have hf := hf_f hc hf
                refine lv_aload_n hx hb dX7_set_90 rfl (lv_at hl 1 rfl) ?_
                refine x_gI (q := (RX7, TX7, 50)) (j := 17) G C h rfl (by decide) (fun _ _ _ => rfl) (lk C q1073) (fun _ z => z) dX7_set_91 hf (fun x4 hf => ?_)
                exact hj94 _ hf _ _ _ h (lv_sub hl [1, 2, 3, 0] rfl)
              · have hf := hf_t hc hf
                refine lv_aload_n hx hb dX7_set_83 rfl (lv_at hl 1 rfl) ?_
                refine x_gI (q := (RX7, TX7, 50)) (j := 16) G C h rfl (by decide) (fun _ _ _ => rfl) (lk C q1072) (fun _ z => z) dX7_set_84 hf (fun x5 hf => ?_)
                refine lv_goto (tgt := 94) hx hb dX7_set_87 (by decide) ?_
                exact hj94 _ hf _ _ _ h (lv_sub hl [1, 2, 3, 0] rfl)
            · have hf := hf_t hc hf
              refine lv_aload_n hx hb dX7_set_71 rfl (lv_at hl 1 rfl) ?_
              refine x_gI (q := (RX7, TX7, 50)) (j := 15) G C h rfl (by decide) (fun _ _ _ => rfl) (lk C q1071) (fun _ z => z) dX7_set_72 hf (fun x6 hf => ?_)
              refine lv_goto (tgt := 94) hx hb dX7_set_75 (by decide) ?_
              exact hj94 _ hf _ _ _ h (lv_sub hl [1, 2, 3, 0] rfl)
          · have hf := hf_t hc hf
            refine lv_aload_n hx hb dX7_set_59 rfl (lv_at hl 1 rfl) ?_
            refine x_gI (q := (RX7, TX7, 50)) (j := 14) G C h rfl (by decide) (fun _ _ _ => rfl) (lk C q1070) (fun _ z => z) dX7_set_60 hf (fun x7 hf => ?_)
            refine lv_goto (tgt := 94) hx hb dX7_set_63 (by decide) ?_
            exact hj94 _ hf _ _ _ h (lv_sub hl [1, 2, 3, 0] rfl)
        · have hf := hf_t hc hf
          refine lv_aload_n hx hb dX7_set_47 rfl (lv_at hl 1 rfl) ?_
          refine x_gI (q := (RX7, TX7, 50)) (j := 13) G C h rfl (by decide) (fun _ _ _ => rfl) (lk C q1069) (fun _ z => z) dX7_set_48 hf (fun x8 hf => ?_)
          refine lv_goto (tgt := 94) hx hb dX7_set_51 (by decide) ?_
          exact hj94 _ hf _ _ _ h (lv_sub hl [1, 2, 3, 0] rfl)
      · have hf := hf_t hc hf
        refine lv_bipush (v := (-3)) hx hb dX7_set_40 (by decide) ?_
        cases hf
        refine W.widen (k := 0) (n := 0) (Nat.le_of_ble_eq_true rfl) (Nat.le_of_ble_eq_true rfl) ?_
        exact x_iret C h dX7_set_42
  intro j21 hj21 hf
  refine lv_if_ne (tgt := 9) hx hb dX7_set_1 (by decide) (fun hc => ?_) (fun hc => ?_)
  · have hf := hf_f hc hf
    refine lv_iload_n hx hb dX7_set_9 rfl (lv_at hl 1 rfl) ?_
    refine lv_iconst (v := 4) hx hb dX7_set_10 (by decide) ?_
    refine lv_icmp_ne (tgt := 19) hx hb dX7_set_11 (by decide) (fun hc => ?_) (fun hc => ?_)
    · have hf := hf_f hc hf
      refine lv_bipush (v := 99) hx hb dX7_set_19 (by decide) ?_
      exact hj21 _ hf _ _ _ h (lv_sub hl [0, 1, 2] rfl)
    · have hf := hf_t hc hf
      refine lv_bipush (v := 9) hx hb dX7_set_14 (by decide) ?_
      refine lv_goto (tgt := 21) hx hb dX7_set_16 (by decide) ?_
      exact hj21 _ hf _ _ _ h (lv_sub hl [0, 1, 2] rfl)
  · have hf := hf_t hc hf
    refine lv_bipush (v := 60) hx hb dX7_set_4 (by decide) ?_
    refine lv_goto (tgt := 21) hx hb dX7_set_6 (by decide) ?_
    exact hj21 _ hf _ _ _ h (lv_sub hl [0, 1, 2] rfl)

theorem dX7_reading_0 : decode cX7_reading 0 = .ok (.iload_n 2, 1) := by decide +kernel
theorem dX7_reading_1 : decode cX7_reading 1 = .ok (.tableswitch 75 0 4 #[35, 42, 48, 55, 65], 35) := by decide +kernel
theorem dX7_reading_36 : decode cX7_reading 36 = .ok (.aload_n 0, 1) := by decide +kernel
theorem dX7_reading_37 : decode cX7_reading 37 = .ok (.getfield 16, 3) := by decide +kernel
theorem dX7_reading_40 : decode cX7_reading 40 = .ok (.iload_n 1, 1) := by decide +kernel
theorem dX7_reading_41 : decode cX7_reading 41 = .ok (.iaload, 1) := by decide +kernel
theorem dX7_reading_42 : decode cX7_reading 42 = .ok (.ireturn, 1) := by decide +kernel
theorem dX7_reading_43 : decode cX7_reading 43 = .ok (.aload_n 0, 1) := by decide +kernel
theorem dX7_reading_44 : decode cX7_reading 44 = .ok (.iload_n 1, 1) := by decide +kernel
theorem dX7_reading_45 : decode cX7_reading 45 = .ok (.invokevirtual 132, 3) := by decide +kernel
theorem dX7_reading_48 : decode cX7_reading 48 = .ok (.ireturn, 1) := by decide +kernel
theorem dX7_reading_49 : decode cX7_reading 49 = .ok (.aload_n 0, 1) := by decide +kernel
theorem dX7_reading_50 : decode cX7_reading 50 = .ok (.iload_n 1, 1) := by decide +kernel
theorem dX7_reading_51 : decode cX7_reading 51 = .ok (.iconst 0, 1) := by decide +kernel
theorem dX7_reading_52 : decode cX7_reading 52 = .ok (.invokevirtual 135, 3) := by decide +kernel
theorem dX7_reading_55 : decode cX7_reading 55 = .ok (.ireturn, 1) := by decide +kernel
theorem dX7_reading_56 : decode cX7_reading 56 = .ok (.aload_n 0, 1) := by decide +kernel
theorem dX7_reading_57 : decode cX7_reading 57 = .ok (.getfield 16, 3) := by decide +kernel
theorem dX7_reading_60 : decode cX7_reading 60 = .ok (.bipush 6, 2) := by decide +kernel
theorem dX7_reading_62 : decode cX7_reading 62 = .ok (.iload_n 1, 1) := by decide +kernel
theorem dX7_reading_63 : decode cX7_reading 63 = .ok (.iadd, 1) := by decide +kernel
theorem dX7_reading_64 : decode cX7_reading 64 = .ok (.iaload, 1) := by decide +kernel
theorem dX7_reading_65 : decode cX7_reading 65 = .ok (.ireturn, 1) := by decide +kernel
theorem dX7_reading_66 : decode cX7_reading 66 = .ok (.aload_n 0, 1) := by decide +kernel
theorem dX7_reading_67 : decode cX7_reading 67 = .ok (.getfield 16, 3) := by decide +kernel
theorem dX7_reading_70 : decode cX7_reading 70 = .ok (.bipush 12, 2) := by decide +kernel
theorem dX7_reading_72 : decode cX7_reading 72 = .ok (.iload_n 1, 1) := by decide +kernel
theorem dX7_reading_73 : decode cX7_reading 73 = .ok (.iadd, 1) := by decide +kernel
theorem dX7_reading_74 : decode cX7_reading 74 = .ok (.iaload, 1) := by decide +kernel
theorem dX7_reading_75 : decode cX7_reading 75 = .ok (.ireturn, 1) := by decide +kernel
theorem dX7_reading_76 : decode cX7_reading 76 = .ok (.iload_n 3, 1) := by decide +kernel
theorem dX7_reading_77 : decode cX7_reading 77 = .ok (.bipush 24, 2) := by decide +kernel
theorem dX7_reading_79 : decode cX7_reading 79 = .ok (.irem, 1) := by decide +kernel
theorem dX7_reading_80 : decode cX7_reading 80 = .ok (.ireturn, 1) := by decide +kernel
def fX7_reading (σ : St) (a0 : Nat) (a1 : Int32) (a2 : Int32) (a3 : Int32) : Option (Int32) :=
  if a2 = 0 then
    o_gR σ a0 5 4 fun r1 =>
    o_aI σ r1 0 a1 fun x2 =>
    some x2
  else if a2 = 1 then
    o_k σ a0 5 <|
    (fX7_thingsOf σ a0 a1).bind fun x3 =>
    some x3
  else if a2 = 2 then
    o_k σ a0 5 <|
    (fX7_coloured σ a0 a1 0).bind fun x4 =>
    some x4
  else if a2 = 3 then
    o_gR σ a0 5 4 fun r5 =>
    o_aI σ r5 0 (6 + a1) fun x6 =>
    some x6
  else if a2 = 4 then
    o_gR σ a0 5 4 fun r7 =>
    o_aI σ r7 0 (12 + a1) fun x8 =>
    some x8
  else 
  some (a3 - a3 / 24 * 24)

set_option maxHeartbeats 4000000 in
theorem wX7_reading {l : Launch} {s0 : State} {A0 : Array Value} {D : va_G} {ac : Nat → ClassId} (G : Gl s0 A0 D ac) {σ : St} {a0 : Nat} {a1 : Int32} {a2 : Int32} {a3 : Int32} {v : Int32} (hf : fX7_reading σ a0 a1 a2 a3 = some (v)) : Met l yX7_reading (ws_ yX7_reading cX7_reading 4 (some (.int))) ({ frames := 1, cells := 0, slots := 0, locals := 24 } : Room) (Pn s0 D ac [.ref a0, .int a1, .int a2, .int a3] σ) (Qn s0 D ac (some (.int v)) σ) 0 0 (fr s0) := by
  refine x_met (by decide) (Nat.le_of_ble_eq_true rfl) ?_
  intro p e s m args below meth c ls C hnm h hl
  have C : Cx s0 p s m args meth c cX7_reading 4 "HutForShowModel" (some (.int)) := C
  have hx := C.1
  have hb := C.2.1
  have hl : lv_has ls 4 [(0, .ref a0), (1, .int a1), (2, .int a2), (3, .int a3)] := hl
  unfold fX7_reading at hf
  refine lv_iload_n hx hb dX7_reading_0 rfl (lv_at hl 2 rfl) ?_
  by_cases hc : a2 = 0
  · have hf := hf_t hc hf
    rw [hc]
    refine lv_tableIn (tgt := 36) hx hb dX7_reading_1 (by decide) (by decide) rfl (by decide) ?_
    refine lv_aload_n hx hb dX7_reading_36 rfl (lv_at hl 0 rfl) ?_
    refine x_gR (q := (RX7, TX7, 50)) (j := 4) G C h rfl (by decide) (fun _ _ _ => rfl) (lk C q1060) (fun _ z => z) dX7_reading_37 hf (fun r1 hf => ?_)
    refine lv_iload_n hx hb dX7_reading_40 rfl (lv_at hl 1 rfl) ?_
    refine x_iald G C h dX7_reading_41 hf (fun x2 hf => ?_)
    cases hf
    refine W.widen (k := 0) (n := 0) (Nat.le_of_ble_eq_true rfl) (Nat.le_of_ble_eq_true rfl) ?_
    exact x_iret C h dX7_reading_42
  have hf := hf_f hc hf
  have hc0 := hc
  clear hc
  by_cases hc : a2 = 1
  · have hf := hf_t hc hf
    rw [hc]
    refine lv_tableIn (tgt := 43) hx hb dX7_reading_1 (by decide) (by decide) rfl (by decide) ?_
    refine lv_aload_n hx hb dX7_reading_43 rfl (lv_at hl 0 rfl) ?_
    refine lv_iload_n hx hb dX7_reading_44 rfl (lv_at hl 1 rfl) ?_
    obtain ⟨hk, hf⟩ := k_of hf
    obtain ⟨x3, hc, hf⟩ := hf_b hf
    refine x_cV (q := (RX7, TX7, 50)) (rest := []) (As := [.int a1]) (n := 1) (ov := (some (.int x3))) G C h (wX7_thingsOf G hc) hk rfl (lw_V q1233 q1235 qs24 q61 q1236) (by decide +kernel) ⟨Nat.le_of_ble_eq_true rfl, Nat.le_of_ble_eq_true rfl⟩ rfl rfl rfl hl.1 rfl (Nat.le_of_ble_eq_true rfl) dX7_reading_45 ⟨(Nat.le_of_ble_eq_true rfl), (Nat.le_of_ble_eq_true rfl)⟩ (fun H locs h => ?_)
    cases hf
    refine W.widen (k := 0) (n := 0) (Nat.le_of_ble_eq_true rfl) (Nat.le_of_ble_eq_true rfl) ?_
    exact x_iret C h dX7_reading_48
  have hf := hf_f hc hf
  have hc1 := hc
  clear hc
  by_cases hc : a2 = 2
  · have hf := hf_t hc hf
    rw [hc]
    refine lv_tableIn (tgt := 49) hx hb dX7_reading_1 (by decide) (by decide) rfl (by decide) ?_
    refine lv_aload_n hx hb dX7_reading_49 rfl (lv_at hl 0 rfl) ?_
    refine lv_iload_n hx hb dX7_reading_50 rfl (lv_at hl 1 rfl) ?_
    refine lv_iconst (v := 0) hx hb dX7_reading_51 (by decide) ?_
    obtain ⟨hk, hf⟩ := k_of hf
    obtain ⟨x4, hc, hf⟩ := hf_b hf
    refine x_cV (q := (RX7, TX7, 50)) (rest := []) (As := [.int a1, .int 0]) (n := 2) (ov := (some (.int x4))) G C h (wX7_coloured G hc) hk rfl (lw_V q1245 q1247 qs25 q61 q1248) (by decide +kernel) ⟨Nat.le_of_ble_eq_true rfl, Nat.le_of_ble_eq_true rfl⟩ rfl rfl rfl hl.1 rfl (Nat.le_of_ble_eq_true rfl) dX7_reading_52 ⟨(Nat.le_of_ble_eq_true rfl), (Nat.le_of_ble_eq_true rfl)⟩ (fun H locs h => ?_)
    cases hf
    refine W.widen (k := 0) (n := 0) (Nat.le_of_ble_eq_true rfl) (Nat.le_of_ble_eq_true rfl) ?_
    exact x_iret C h dX7_reading_55
  have hf := hf_f hc hf
  have hc2 := hc
  clear hc
  by_cases hc : a2 = 3
  · have hf := hf_t hc hf
    rw [hc]
    refine lv_tableIn (tgt := 56) hx hb dX7_reading_1 (by decide) (by decide) rfl (by decide) ?_
    refine lv_aload_n hx hb dX7_reading_56 rfl (lv_at hl 0 rfl) ?_
    refine x_gR (q := (RX7, TX7, 50)) (j := 4) G C h rfl (by decide) (fun _ _ _ => rfl) (lk C q1060) (fun _ z => z) dX7_reading_57 hf (fun r5 hf => ?_)
    refine lv_bipush (v := 6) hx hb dX7_reading_60 (by decide) ?_
    refine lv_iload_n hx hb dX7_reading_62 rfl (lv_at hl 1 rfl) ?_
    refine lv_iadd hx hb dX7_reading_63 ?_
    refine x_iald G C h dX7_reading_64 hf (fun x6 hf => ?_)
    cases hf
    refine W.widen (k := 0) (n := 0) (Nat.le_of_ble_eq_true rfl) (Nat.le_of_ble_eq_true rfl) ?_
    exact x_iret C h dX7_reading_65
  have hf := hf_f hc hf
  have hc3 := hc
  clear hc
  by_cases hc : a2 = 4
  · have hf := hf_t hc hf
    rw [hc]
    refine lv_tableIn (tgt := 66) hx hb dX7_reading_1 (by decide) (by decide) rfl (by decide) ?_
    refine lv_aload_n hx hb dX7_reading_66 rfl (lv_at hl 0 rfl) ?_
    refine x_gR (q := (RX7, TX7, 50)) (j := 4) G C h rfl (by decide) (fun _ _ _ => rfl) (lk C q1060) (fun _ z => z) dX7_reading_67 hf (fun r7 hf => ?_)
    refine lv_bipush (v := 12) hx hb dX7_reading_70 (by decide) ?_
    refine lv_iload_n hx hb dX7_reading_72 rfl (lv_at hl 1 rfl) ?_
    refine lv_iadd hx hb dX7_reading_73 ?_
    refine x_iald G C h dX7_reading_74 hf (fun x8 hf => ?_)
    cases hf
    refine W.widen (k := 0) (n := 0) (Nat.le_of_ble_eq_true rfl) (Nat.le_of_ble_eq_true rfl) ?_
    exact x_iret C h dX7_reading_75
  have hf := hf_f hc hf
  have hc4 := hc
  clear hc
  refine lv_tableOut (tgt := 76) hx hb dX7_reading_1 (sw_out5 hc0 hc1 hc2 hc3 hc4) (by decide) ?_
  refine lv_iload_n hx hb dX7_reading_76 rfl (lv_at hl 3 rfl) ?_
  refine lv_bipush (v := 24) hx hb dX7_reading_77 (by decide) ?_
  refine lv_irem hx hb dX7_reading_79 (by decide) ?_
  cases hf
  refine W.widen (k := 0) (n := 0) (Nat.le_of_ble_eq_true rfl) (Nat.le_of_ble_eq_true rfl) ?_
  exact x_iret C h dX7_reading_80

theorem dX7_doesHold_0 : decode cX7_doesHold 0 = .ok (.iconst 1, 1) := by decide +kernel
theorem dX7_doesHold_1 : decode cX7_doesHold 1 = .ok (.istore 4, 2) := by decide +kernel
theorem dX7_doesHold_3 : decode cX7_doesHold 3 = .ok (.iconst 0, 1) := by decide +kernel
theorem dX7_doesHold_4 : decode cX7_doesHold 4 = .ok (.istore 5, 2) := by decide +kernel
theorem dX7_doesHold_6 : decode cX7_doesHold 6 = .ok (.iload 5, 2) := by decide +kernel
theorem dX7_doesHold_8 : decode cX7_doesHold 8 = .ok (.iconst 3, 1) := by decide +kernel
theorem dX7_doesHold_9 : decode cX7_doesHold 9 = .ok (.if_icmp .ge 101, 3) := by decide +kernel
theorem dX7_doesHold_12 : decode cX7_doesHold 12 = .ok (.iload_n 1, 1) := by decide +kernel
theorem dX7_doesHold_13 : decode cX7_doesHold 13 = .ok (.iconst 3, 1) := by decide +kernel
theorem dX7_doesHold_14 : decode cX7_doesHold 14 = .ok (.iadd, 1) := by decide +kernel
theorem dX7_doesHold_15 : decode cX7_doesHold 15 = .ok (.iconst 3, 1) := by decide +kernel
theorem dX7_doesHold_16 : decode cX7_doesHold 16 = .ok (.iload 5, 2) := by decide +kernel
theorem dX7_doesHold_18 : decode cX7_doesHold 18 = .ok (.imul, 1) := by decide +kernel
theorem dX7_doesHold_19 : decode cX7_doesHold 19 = .ok (.iadd, 1) := by decide +kernel
theorem dX7_doesHold_20 : decode cX7_doesHold 20 = .ok (.istore 6, 2) := by decide +kernel
theorem dX7_doesHold_22 : decode cX7_doesHold 22 = .ok (.aload_n 0, 1) := by decide +kernel
theorem dX7_doesHold_23 : decode cX7_doesHold 23 = .ok (.getfield 62, 3) := by decide +kernel
theorem dX7_doesHold_26 : decode cX7_doesHold 26 = .ok (.iload 6, 2) := by decide +kernel
theorem dX7_doesHold_28 : decode cX7_doesHold 28 = .ok (.iaload, 1) := by decide +kernel
theorem dX7_doesHold_29 : decode cX7_doesHold 29 = .ok (.iconst (-1), 1) := by decide +kernel
theorem dX7_doesHold_30 : decode cX7_doesHold 30 = .ok (.if_icmp .eq 74, 3) := by decide +kernel
theorem dX7_doesHold_33 : decode cX7_doesHold 33 = .ok (.aload_n 0, 1) := by decide +kernel
theorem dX7_doesHold_34 : decode cX7_doesHold 34 = .ok (.iload_n 2, 1) := by decide +kernel
theorem dX7_doesHold_35 : decode cX7_doesHold 35 = .ok (.aload_n 0, 1) := by decide +kernel
theorem dX7_doesHold_36 : decode cX7_doesHold 36 = .ok (.getfield 62, 3) := by decide +kernel
theorem dX7_doesHold_39 : decode cX7_doesHold 39 = .ok (.iload 6, 2) := by decide +kernel
theorem dX7_doesHold_41 : decode cX7_doesHold 41 = .ok (.iaload, 1) := by decide +kernel
theorem dX7_doesHold_42 : decode cX7_doesHold 42 = .ok (.iload_n 3, 1) := by decide +kernel
theorem dX7_doesHold_43 : decode cX7_doesHold 43 = .ok (.invokevirtual 141, 3) := by decide +kernel
theorem dX7_doesHold_46 : decode cX7_doesHold 46 = .ok (.istore 7, 2) := by decide +kernel
theorem dX7_doesHold_48 : decode cX7_doesHold 48 = .ok (.iload 4, 2) := by decide +kernel
theorem dX7_doesHold_50 : decode cX7_doesHold 50 = .ok (.ifCond .eq 51, 3) := by decide +kernel
theorem dX7_doesHold_53 : decode cX7_doesHold 53 = .ok (.aload_n 0, 1) := by decide +kernel
theorem dX7_doesHold_54 : decode cX7_doesHold 54 = .ok (.getfield 62, 3) := by decide +kernel
theorem dX7_doesHold_57 : decode cX7_doesHold 57 = .ok (.iload 6, 2) := by decide +kernel
theorem dX7_doesHold_59 : decode cX7_doesHold 59 = .ok (.iconst 1, 1) := by decide +kernel
theorem dX7_doesHold_60 : decode cX7_doesHold 60 = .ok (.iadd, 1) := by decide +kernel
theorem dX7_doesHold_61 : decode cX7_doesHold 61 = .ok (.iaload, 1) := by decide +kernel
theorem dX7_doesHold_62 : decode cX7_doesHold 62 = .ok (.iconst 1, 1) := by decide +kernel
theorem dX7_doesHold_63 : decode cX7_doesHold 63 = .ok (.if_icmp .ne 20, 3) := by decide +kernel
theorem dX7_doesHold_66 : decode cX7_doesHold 66 = .ok (.iload 7, 2) := by decide +kernel
theorem dX7_doesHold_68 : decode cX7_doesHold 68 = .ok (.aload_n 0, 1) := by decide +kernel
theorem dX7_doesHold_69 : decode cX7_doesHold 69 = .ok (.getfield 62, 3) := by decide +kernel
theorem dX7_doesHold_72 : decode cX7_doesHold 72 = .ok (.iload 6, 2) := by decide +kernel
theorem dX7_doesHold_74 : decode cX7_doesHold 74 = .ok (.iconst 2, 1) := by decide +kernel
theorem dX7_doesHold_75 : decode cX7_doesHold 75 = .ok (.iadd, 1) := by decide +kernel
theorem dX7_doesHold_76 : decode cX7_doesHold 76 = .ok (.iaload, 1) := by decide +kernel
theorem dX7_doesHold_77 : decode cX7_doesHold 77 = .ok (.if_icmp .le 24, 3) := by decide +kernel
theorem dX7_doesHold_80 : decode cX7_doesHold 80 = .ok (.goto 17, 3) := by decide +kernel
theorem dX7_doesHold_83 : decode cX7_doesHold 83 = .ok (.iload 7, 2) := by decide +kernel
theorem dX7_doesHold_85 : decode cX7_doesHold 85 = .ok (.aload_n 0, 1) := by decide +kernel
theorem dX7_doesHold_86 : decode cX7_doesHold 86 = .ok (.getfield 62, 3) := by decide +kernel
theorem dX7_doesHold_89 : decode cX7_doesHold 89 = .ok (.iload 6, 2) := by decide +kernel
theorem dX7_doesHold_91 : decode cX7_doesHold 91 = .ok (.iconst 2, 1) := by decide +kernel
theorem dX7_doesHold_92 : decode cX7_doesHold 92 = .ok (.iadd, 1) := by decide +kernel
theorem dX7_doesHold_93 : decode cX7_doesHold 93 = .ok (.iaload, 1) := by decide +kernel
theorem dX7_doesHold_94 : decode cX7_doesHold 94 = .ok (.if_icmp .ge 7, 3) := by decide +kernel
theorem dX7_doesHold_97 : decode cX7_doesHold 97 = .ok (.iconst 1, 1) := by decide +kernel
theorem dX7_doesHold_98 : decode cX7_doesHold 98 = .ok (.goto 4, 3) := by decide +kernel
theorem dX7_doesHold_101 : decode cX7_doesHold 101 = .ok (.iconst 0, 1) := by decide +kernel
theorem dX7_doesHold_102 : decode cX7_doesHold 102 = .ok (.istore 4, 2) := by decide +kernel
theorem dX7_doesHold_104 : decode cX7_doesHold 104 = .ok (.iinc 5 1, 3) := by decide +kernel
theorem dX7_doesHold_107 : decode cX7_doesHold 107 = .ok (.goto (-101), 3) := by decide +kernel
theorem dX7_doesHold_110 : decode cX7_doesHold 110 = .ok (.iload 4, 2) := by decide +kernel
theorem dX7_doesHold_112 : decode cX7_doesHold 112 = .ok (.ireturn, 1) := by decide +kernel
def lX7_doesHold_6 (σ : St) (a0 : Nat) (a1 : Int32) (a2 : Int32) (a3 : Int32) (x1 : Int32) (x2 : Int32) : Option ((Int32 × Int32) ⊕ (Int32)) :=
  if 3 ≤ x2 then
    some (.inr x1)
  else
  o_gR σ a0 5 29 fun r3 =>
  o_aI σ r3 0 ((a1 + 3) + (3 * x2)) fun x4 =>
  jn (fun (x15 : Int32) =>
    some (.inl (x15, x2 + 1))) fun j104 =>
  if x4 = ((-1)) then
    j104 x1
  else
  o_gR σ a0 5 29 fun r5 =>
  o_aI σ r5 0 ((a1 + 3) + (3 * x2)) fun x6 =>
  o_k σ a0 5 <|
  (fX7_reading σ a0 a2 x6 a3).bind fun x7 =>
  jn (fun (x14 : Int32) =>
    j104 x14) fun j102 =>
  jn (fun (_ : Unit) =>
    j102 0) fun j101 =>
  if x1 = 0 then
    j101 ()
  else
  o_gR σ a0 5 29 fun r8 =>
  o_aI σ r8 0 (((a1 + 3) + (3 * x2)) + 1) fun x9 =>
  jn (fun (_ : Unit) =>
    j102 1) fun j97 =>
  if x9 = 1 then
    o_gR σ a0 5 29 fun r12 =>
    o_aI σ r12 0 (((a1 + 3) + (3 * x2)) + 2) fun x13 =>
    if x7 ≤ x13 then
      j101 ()
    else
    j97 ()
  else
  o_gR σ a0 5 29 fun r10 =>
  o_aI σ r10 0 (((a1 + 3) + (3 * x2)) + 2) fun x11 =>
  if x11 ≤ x7 then
    j101 ()
  else
  j97 ()

def fX7_doesHold (σ : St) (a0 : Nat) (a1 : Int32) (a2 : Int32) (a3 : Int32) : Option (Int32) :=
  (loopF fuel (fun z => lX7_doesHold_6 σ a0 a1 a2 a3 z.1 z.2) (1, 0)).bind <| fun x16 =>
  o_bz x16 <| some x16

set_option maxHeartbeats 4000000 in
theorem wX7_doesHold {l : Launch} {s0 : State} {A0 : Array Value} {D : va_G} {ac : Nat → ClassId} (G : Gl s0 A0 D ac) {σ : St} {a0 : Nat} {a1 : Int32} {a2 : Int32} {a3 : Int32} {v : Int32} (hf : fX7_doesHold σ a0 a1 a2 a3 = some (v)) : Met l yX7_doesHold (ws_ yX7_doesHold cX7_doesHold 8 (some (.boolean))) ({ frames := 2, cells := 0, slots := 0, locals := 47 } : Room) (Pn s0 D ac [.ref a0, .int a1, .int a2, .int a3] σ) (Qn s0 D ac (some (.int v)) σ) 0 0 (fr s0) := by
  refine x_met (by decide) (Nat.le_of_ble_eq_true rfl) ?_
  intro p e s m args below meth c ls C hnm h hl
  have C : Cx s0 p s m args meth c cX7_doesHold 8 "HutForShowModel" (some (.boolean)) := C
  have hx := C.1
  have hb := C.2.1
  have hl : lv_has ls 8 [(0, .ref a0), (1, .int a1), (2, .int a2), (3, .int a3)] := hl
  unfold fX7_doesHold at hf
  refine lv_iconst (v := 1) hx hb dX7_doesHold_0 (by decide) ?_
  refine lv_istore (lv' := [(4, .int 1), (0, .ref a0), (1, .int a1), (2, .int a2), (3, .int a3)]) hx hb dX7_doesHold_1 hl (by decide) rfl (fun ls hl => ?_)
  refine lv_iconst (v := 0) hx hb dX7_doesHold_3 (by decide) ?_
  refine lv_istore (lv' := [(5, .int 0), (4, .int 1), (0, .ref a0), (1, .int a1), (2, .int a2), (3, .int a3)]) hx hb dX7_doesHold_4 hl (by decide) rfl (fun ls hl => ?_)
  obtain ⟨e6, hL, hK⟩ := hf_b hf
  have hE6_0 : ∀ (x16 : Int32), x16 = e6 → ∀  (H : Heap) (locs : List Loc) (ls : Array Slot), Hs s0 D ac σ H locs → lv_has ls 8 [(0, .ref a0), (1, .int a1), (2, .int a2), (3, .int a3), (4, .int x16)] → W p l e ({ frames := 2, cells := 0, slots := 0, locals := 47 } : Room) s m args below meth c H locs 0 0 (MQ below (Qn s0 D ac (some (.int v)) σ) args s 0 0 (fr s0)) (F0 m 110 ls []) := by
    intro x16 he H locs ls h hl
    subst he
    have hf := hK
    refine lv_iload hx hb dX7_doesHold_110 (lv_at hl 4 rfl) ?_
    obtain ⟨hz, hf⟩ := bz_of hf
    cases hf
    refine W.widen (k := 0) (n := 0) (Nat.le_of_ble_eq_true rfl) (Nat.le_of_ble_eq_true rfl) ?_
    exact x_zret C h hz dX7_doesHold_112
  refine loopF_ind (P := fun z => ∀ (H : Heap) (locs : List Loc) (ls : Array Slot), Hs s0 D ac σ H locs → lv_has ls 8 [(0, .ref a0), (1, .int a1), (2, .int a2), (3, .int a3), (4, .int z.1), (5, .int z.2)] → W p l e ({ frames := 2, cells := 0, slots := 0, locals := 47 } : Room) s m args below meth c H locs 0 0 (MQ below (Qn s0 D ac (some (.int v)) σ) args s 0 0 (fr s0)) (F0 m 6 ls [])) ?_ _ _ hL _ _ _ h (lv_sub hl [2, 3, 4, 5, 1, 0] rfl)
  clear hK hL h hl hf
  intro z o hf ih hX H locs ls h hl
  obtain ⟨x1, x2⟩ := z
  have h : Hs s0 D ac σ H locs := h
  have hl : lv_has ls 8 [(0, .ref a0), (1, .int a1), (2, .int a2), (3, .int a3), (4, .int x1), (5, .int x2)] := hl
  have hf : lX7_doesHold_6 σ a0 a1 a2 a3 x1 x2 = some o := hf
  unfold lX7_doesHold_6 at hf
  refine lv_iload hx hb dX7_doesHold_6 (lv_at hl 5 rfl) ?_
  refine lv_iconst (v := 3) hx hb dX7_doesHold_8 (by decide) ?_
  refine lv_icmp_ge (tgt := 110) hx hb dX7_doesHold_9 (by decide) (fun hc => ?_) (fun hc => ?_)
  · have hf := hf_t hc hf
    cases hf
    exact hE6_0 _ (hX _ rfl) _ _ _ h (lv_sub hl [0, 1, 2, 3, 4] rfl)
  · have hf := hf_f hc hf
    refine lv_iload_n hx hb dX7_doesHold_12 rfl (lv_at hl 1 rfl) ?_
    refine lv_iconst (v := 3) hx hb dX7_doesHold_13 (by decide) ?_
    refine lv_iadd hx hb dX7_doesHold_14 ?_
    refine lv_iconst (v := 3) hx hb dX7_doesHold_15 (by decide) ?_
    refine lv_iload hx hb dX7_doesHold_16 (lv_at hl 5 rfl) ?_
    refine lv_imul hx hb dX7_doesHold_18 ?_
    refine lv_iadd hx hb dX7_doesHold_19 ?_
    refine lv_istore (lv' := [(6, .int ((a1 + 3) + (3 * x2))), (0, .ref a0), (1, .int a1), (2, .int a2), (3, .int a3), (4, .int x1), (5, .int x2)]) hx hb dX7_doesHold_20 hl (by decide) rfl (fun ls hl => ?_)
    refine lv_aload_n hx hb dX7_doesHold_22 rfl (lv_at hl 1 rfl) ?_
    refine x_gR (q := (RX7, TX7, 50)) (j := 29) G C h rfl (by decide) (fun _ _ _ => rfl) (lk C q1085) (fun _ z => z) dX7_doesHold_23 hf (fun r3 hf => ?_)
    refine lv_iload hx hb dX7_doesHold_26 (lv_at hl 0 rfl) ?_
    refine x_iald G C h dX7_doesHold_28 hf (fun x4 hf => ?_)
    refine lv_iconst (v := (-1)) hx hb dX7_doesHold_29 (by decide) ?_
    refine jn_of (P := fun j => ∀ (x15 : Int32), j x15 = some o → ∀ (H : Heap) (locs : List Loc) (ls : Array Slot), Hs s0 D ac σ H locs → lv_has ls 8 [(0, .ref a0), (1, .int a1), (2, .int a2), (3, .int a3), (4, .int x15), (5, .int x2), (6, .int ((a1 + 3) + (3 * x2)))] → W p l e ({ frames := 2, cells := 0, slots := 0, locals := 47 } : Room) s m args below meth c H locs 0 0 (MQ below (Qn s0 D ac (some (.int v)) σ) args s 0 0 (fr s0)) (F0 m 104 ls [])) hf ?_ ?_
    · intro x15 hf H locs ls h hl
      refine lv_iinc (v := x2 + 1) (lv' := [(5, .int (x2 + 1)), (0, .ref a0), (1, .int a1), (2, .int a2), (3, .int a3), (4, .int x15), (6, .int ((a1 + 3) + (3 * x2)))]) hx hb dX7_doesHold_104 hl (k := 5) rfl rfl (by decide) rfl (fun ls hl => ?_)
      refine lv_goto (tgt := 6) hx hb dX7_doesHold_107 (by decide) ?_
      cases hf
      exact ih _ rfl _ _ _ h (lv_sub hl [1, 2, 3, 4, 5, 0] rfl)
    intro j104 hj104 hf
    refine lv_icmp_eq (tgt := 104) hx hb dX7_doesHold_30 (by decide) (fun hc => ?_) (fun hc => ?_)
    · have hf := hf_t hc hf
      exact hj104 _ hf _ _ _ h (lv_sub hl [1, 2, 3, 4, 5, 6, 0] rfl)
    · have hf := hf_f hc hf
      refine lv_aload_n hx hb dX7_doesHold_33 rfl (lv_at hl 1 rfl) ?_
      refine lv_iload_n hx hb dX7_doesHold_34 rfl (lv_at hl 3 rfl) ?_
      refine lv_aload_n hx hb dX7_doesHold_35 rfl (lv_at hl 1 rfl) ?_
      refine x_gR (q := (RX7, TX7, 50)) (j := 29) G C h rfl (by decide) (fun _ _ _ => rfl) (lk C q1085) (fun _ z => z) dX7_doesHold_36 hf (fun r5 hf => ?_)
      refine lv_iload hx hb dX7_doesHold_39 (lv_at hl 0 rfl) ?_
      refine x_iald G C h dX7_doesHold_41 hf (fun x6 hf => ?_)
      refine lv_iload_n hx hb dX7_doesHold_42 rfl (lv_at hl 4 rfl) ?_
      obtain ⟨hk, hf⟩ := k_of hf
      obtain ⟨x7, hc, hf⟩ := hf_b hf
      refine x_cV (q := (RX7, TX7, 50)) (rest := []) (As := [.int a2, .int x6, .int a3]) (n := 3) (ov := (some (.int x7))) G C h (wX7_reading G hc) hk rfl (lw_V q1269 q1271 qs29 q61 q1272) (by decide +kernel) ⟨Nat.le_of_ble_eq_true rfl, Nat.le_of_ble_eq_true rfl⟩ rfl rfl rfl hl.1 rfl (Nat.le_of_ble_eq_true rfl) dX7_doesHold_43 ⟨(Nat.le_of_ble_eq_true rfl), (Nat.le_of_ble_eq_true rfl)⟩ (fun H locs h => ?_)
      refine lv_istore (lv' := [(7, .int x7), (6, .int ((a1 + 3) + (3 * x2))), (0, .ref a0), (1, .int a1), (2, .int a2), (3, .int a3), (4, .int x1), (5, .int x2)]) hx hb dX7_doesHold_46 hl (by decide) rfl (fun ls hl => ?_)
      refine lv_iload hx hb dX7_doesHold_48 (lv_at hl 6 rfl) ?_
      refine jn_of (P := fun j => ∀ (x14 : Int32), j x14 = some o → ∀ (H : Heap) (locs : List Loc) (ls : Array Slot), Hs s0 D ac σ H locs → lv_has ls 8 [(0, .ref a0), (1, .int a1), (2, .int a2), (3, .int a3), (4, .int x1), (5, .int x2), (6, .int ((a1 + 3) + (3 * x2))), (7, .int x7)] → W p l e ({ frames := 2, cells := 0, slots := 0, locals := 47 } : Room) s m args below meth c H locs 0 0 (MQ below (Qn s0 D ac (some (.int v)) σ) args s 0 0 (fr s0)) (F0 m 102 ls [.int x14])) hf ?_ ?_
      · intro x14 hf H locs ls h hl
        refine lv_istore (lv' := [(4, .int x14), (0, .ref a0), (1, .int a1), (2, .int a2), (3, .int a3), (5, .int x2), (6, .int ((a1 + 3) + (3 * x2))), (7, .int x7)]) hx hb dX7_doesHold_102 hl (by decide) rfl (fun ls hl => ?_)
        exact hj104 _ hf _ _ _ h (lv_sub hl [1, 2, 3, 4, 0, 5, 6] rfl)
      intro j102 hj102 hf
      refine jn_of (P := fun j => ∀ (u0 : Unit), j u0 = some o → ∀ (H : Heap) (locs : List Loc) (ls : Array Slot), Hs s0 D ac σ H locs → lv_has ls 8 [(0, .ref a0), (1, .int a1), (2, .int a2), (3, .int a3), (4, .int x1), (5, .int x2), (6, .int ((a1 + 3) + (3 * x2))), (7, .int x7)] → W p l e ({ frames := 2, cells := 0, slots := 0, locals := 47 } : Room) s m args below meth c H locs 0 0 (MQ below (Qn s0 D ac (some (.int v)) σ) args s 0 0 (fr s0)) (F0 m 101 ls [])) hf ?_ ?_
      · intro u0 hf H locs ls h hl
        refine lv_iconst (v := 0) hx hb dX7_doesHold_101 (by decide) ?_
        exact hj102 _ hf _ _ _ h (lv_sub hl [0, 1, 2, 3, 4, 5, 6, 7] rfl)
      intro j101 hj101 hf
      refine lv_if_eq (tgt := 101) hx hb dX7_doesHold_50 (by decide) (fun hc => ?_) (fun hc => ?_)
      · have hf := hf_t hc hf
        exact hj101 () hf _ _ _ h (lv_sub hl [2, 3, 4, 5, 6, 7, 1, 0] rfl)
      · have hf := hf_f hc hf
        refine lv_aload_n hx hb dX7_doesHold_53 rfl (lv_at hl 2 rfl) ?_
        refine x_gR (q := (RX7, TX7, 50)) (j := 29) G C h rfl (by decide) (fun _ _ _ => rfl) (lk C q1085) (fun _ z => z) dX7_doesHold_54 hf (fun r8 hf => ?_)
        refine lv_iload hx hb dX7_doesHold_57 (lv_at hl 1 rfl) ?_
        refine lv_iconst (v := 1) hx hb dX7_doesHold_59 (by decide) ?_
        refine lv_iadd hx hb dX7_doesHold_60 ?_
        refine x_iald G C h dX7_doesHold_61 hf (fun x9 hf => ?_)
        refine lv_iconst (v := 1) hx hb dX7_doesHold_62 (by decide) ?_
        refine jn_of (P := fun j => ∀ (u0 : Unit), j u0 = some o → ∀ (H : Heap) (locs : List Loc) (ls : Array Slot), Hs s0 D ac σ H locs → lv_has ls 8 [(0, .ref a0), (1, .int a1), (2, .int a2), (3, .int a3), (4, .int x1), (5, .int x2), (6, .int ((a1 + 3) + (3 * x2))), (7, .int x7)] → W p l e ({ frames := 2, cells := 0, slots := 0, locals := 47 } : Room) s m args below meth c H locs 0 0 (MQ below (Qn s0 D ac (some (.int v)) σ) args s 0 0 (fr s0)) (F0 m 97 ls [])) hf ?_ ?_
        · intro u0 hf H locs ls h hl
          refine lv_iconst (v := 1) hx hb dX7_doesHold_97 (by decide) ?_
          refine lv_goto (tgt := 102) hx hb dX7_doesHold_98 (by decide) ?_
          exact hj102 _ hf _ _ _ h (lv_sub hl [0, 1, 2, 3, 4, 5, 6, 7] rfl)
        intro j97 hj97 hf
        refine lv_icmp_ne (tgt := 83) hx hb dX7_doesHold_63 (by decide) (fun hc => ?_) (fun hc => ?_)
        · have hf := hf_f hc hf
          refine lv_iload hx hb dX7_doesHold_83 (lv_at hl 0 rfl) ?_
          refine lv_aload_n hx hb dX7_doesHold_85 rfl (lv_at hl 2 rfl) ?_
          refine x_gR (q := (RX7, TX7, 50)) (j := 29) G C h rfl (by decide) (fun _ _ _ => rfl) (lk C q1085) (fun _ z => z) dX7_doesHold_86 hf (fun r10 hf => ?_)
          refine lv_iload hx hb dX7_doesHold_89 (lv_at hl 1 rfl) ?_
          refine lv_iconst (v := 2) hx hb dX7_doesHold_91 (by decide) ?_
          refine lv_iadd hx hb dX7_doesHold_92 ?_
          refine x_iald G C h dX7_doesHold_93 hf (fun x11 hf => ?_)
          refine lv_icmp_ge (tgt := 101) hx hb dX7_doesHold_94 (by decide) (fun hc => ?_) (fun hc => ?_)
          · have hf := hf_t hc hf
            exact hj101 () hf _ _ _ h (lv_sub hl [2, 3, 4, 5, 6, 7, 1, 0] rfl)
          · have hf := hf_f hc hf
            exact hj97 () hf _ _ _ h (lv_sub hl [2, 3, 4, 5, 6, 7, 1, 0] rfl)
        · have hf := hf_t hc hf
          refine lv_iload hx hb dX7_doesHold_66 (lv_at hl 0 rfl) ?_
          refine lv_aload_n hx hb dX7_doesHold_68 rfl (lv_at hl 2 rfl) ?_
          refine x_gR (q := (RX7, TX7, 50)) (j := 29) G C h rfl (by decide) (fun _ _ _ => rfl) (lk C q1085) (fun _ z => z) dX7_doesHold_69 hf (fun r12 hf => ?_)
          refine lv_iload hx hb dX7_doesHold_72 (lv_at hl 1 rfl) ?_
          refine lv_iconst (v := 2) hx hb dX7_doesHold_74 (by decide) ?_
          refine lv_iadd hx hb dX7_doesHold_75 ?_
          refine x_iald G C h dX7_doesHold_76 hf (fun x13 hf => ?_)
          refine lv_icmp_le (tgt := 101) hx hb dX7_doesHold_77 (by decide) (fun hc => ?_) (fun hc => ?_)
          · have hf := hf_t hc hf
            exact hj101 () hf _ _ _ h (lv_sub hl [2, 3, 4, 5, 6, 7, 1, 0] rfl)
          · have hf := hf_f hc hf
            refine lv_goto (tgt := 97) hx hb dX7_doesHold_80 (by decide) ?_
            exact hj97 () hf _ _ _ h (lv_sub hl [2, 3, 4, 5, 6, 7, 1, 0] rfl)
