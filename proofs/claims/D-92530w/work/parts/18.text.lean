set_option maxRecDepth 100000
/-! untracked fields, statics, texts, Throwable's constructors -/
theorem dX10_init_0 : decode cX10_init 0 = .ok (.aload_n 0, 1) := by decide +kernel
theorem dX10_init_1 : decode cX10_init 1 = .ok (.aload_n 1, 1) := by decide +kernel
theorem dX10_init_2 : decode cX10_init 2 = .ok (.putfield 1, 3) := by decide +kernel
theorem dX10_init_5 : decode cX10_init 5 = .ok (.aload_n 0, 1) := by decide +kernel
theorem dX10_init_6 : decode cX10_init 6 = .ok (.invokespecial 7, 3) := by decide +kernel
theorem dX10_init_9 : decode cX10_init 9 = .ok (.return_, 1) := by decide +kernel
theorem dJ5_init_2_0 : decode cJ5_init_2 0 = .ok (.aload_n 0, 1) := by decide +kernel
theorem dJ5_init_2_1 : decode cJ5_init_2 1 = .ok (.invokespecial 1, 3) := by decide +kernel
theorem dJ5_init_2_4 : decode cJ5_init_2 4 = .ok (.aload_n 0, 1) := by decide +kernel
theorem dJ5_init_2_5 : decode cJ5_init_2 5 = .ok (.aload_n 0, 1) := by decide +kernel
theorem dJ5_init_2_6 : decode cJ5_init_2 6 = .ok (.putfield 7, 3) := by decide +kernel
theorem dJ5_init_2_9 : decode cJ5_init_2 9 = .ok (.aload_n 0, 1) := by decide +kernel
theorem dJ5_init_2_10 : decode cJ5_init_2 10 = .ok (.getstatic 13, 3) := by decide +kernel
theorem dJ5_init_2_13 : decode cJ5_init_2 13 = .ok (.putfield 17, 3) := by decide +kernel
theorem dJ5_init_2_16 : decode cJ5_init_2 16 = .ok (.aload_n 0, 1) := by decide +kernel
theorem dJ5_init_2_17 : decode cJ5_init_2 17 = .ok (.getstatic 20, 3) := by decide +kernel
theorem dJ5_init_2_20 : decode cJ5_init_2 20 = .ok (.putfield 24, 3) := by decide +kernel
theorem dJ5_init_2_23 : decode cJ5_init_2 23 = .ok (.iload 4, 2) := by decide +kernel
theorem dJ5_init_2_25 : decode cJ5_init_2 25 = .ok (.ifCond .eq 11, 3) := by decide +kernel
theorem dJ5_init_2_28 : decode cJ5_init_2 28 = .ok (.aload_n 0, 1) := by decide +kernel
theorem dJ5_init_2_29 : decode cJ5_init_2 29 = .ok (.invokevirtual 27, 3) := by decide +kernel
theorem dJ5_init_2_32 : decode cJ5_init_2 32 = .ok (.pop, 1) := by decide +kernel
theorem dJ5_init_2_33 : decode cJ5_init_2 33 = .ok (.goto 8, 3) := by decide +kernel
theorem dJ5_init_2_36 : decode cJ5_init_2 36 = .ok (.aload_n 0, 1) := by decide +kernel
theorem dJ5_init_2_37 : decode cJ5_init_2 37 = .ok (.aconst_null, 1) := by decide +kernel
theorem dJ5_init_2_38 : decode cJ5_init_2 38 = .ok (.putfield 17, 3) := by decide +kernel
theorem dJ5_init_2_41 : decode cJ5_init_2 41 = .ok (.aload_n 0, 1) := by decide +kernel
theorem dJ5_init_2_42 : decode cJ5_init_2 42 = .ok (.aload_n 1, 1) := by decide +kernel
theorem dJ5_init_2_43 : decode cJ5_init_2 43 = .ok (.putfield 31, 3) := by decide +kernel
theorem dJ5_init_2_46 : decode cJ5_init_2 46 = .ok (.aload_n 0, 1) := by decide +kernel
theorem dJ5_init_2_47 : decode cJ5_init_2 47 = .ok (.aload_n 2, 1) := by decide +kernel
theorem dJ5_init_2_48 : decode cJ5_init_2 48 = .ok (.putfield 7, 3) := by decide +kernel
theorem dJ5_init_2_51 : decode cJ5_init_2 51 = .ok (.iload_n 3, 1) := by decide +kernel
theorem dJ5_init_2_52 : decode cJ5_init_2 52 = .ok (.ifCond .ne 8, 3) := by decide +kernel
theorem dJ5_init_2_55 : decode cJ5_init_2 55 = .ok (.aload_n 0, 1) := by decide +kernel
theorem dJ5_init_2_56 : decode cJ5_init_2 56 = .ok (.aconst_null, 1) := by decide +kernel
theorem dJ5_init_2_57 : decode cJ5_init_2 57 = .ok (.putfield 24, 3) := by decide +kernel
theorem dJ5_init_2_60 : decode cJ5_init_2 60 = .ok (.return_, 1) := by decide +kernel
theorem dJ6_init_0 : decode cJ6_init 0 = .ok (.aload_n 0, 1) := by decide +kernel
theorem dJ6_init_1 : decode cJ6_init 1 = .ok (.aload_n 1, 1) := by decide +kernel
theorem dJ6_init_2 : decode cJ6_init 2 = .ok (.aload_n 2, 1) := by decide +kernel
theorem dJ6_init_3 : decode cJ6_init 3 = .ok (.iload_n 3, 1) := by decide +kernel
theorem dJ6_init_4 : decode cJ6_init 4 = .ok (.iload 4, 2) := by decide +kernel
theorem dJ6_init_6 : decode cJ6_init 6 = .ok (.invokespecial 16, 3) := by decide +kernel
theorem dJ6_init_9 : decode cJ6_init 9 = .ok (.return_, 1) := by decide +kernel
theorem dJ1_length_0 : decode cJ1_length 0 = .ok (.aload_n 0, 1) := by decide +kernel
theorem dJ1_length_1 : decode cJ1_length 1 = .ok (.getfield 9, 3) := by decide +kernel
theorem dJ1_length_4 : decode cJ1_length 4 = .ok (.arraylength, 1) := by decide +kernel
theorem dJ1_length_5 : decode cJ1_length 5 = .ok (.aload_n 0, 1) := by decide +kernel
theorem dJ1_length_6 : decode cJ1_length 6 = .ok (.invokevirtual 335, 3) := by decide +kernel
theorem dJ1_length_9 : decode cJ1_length 9 = .ok (.ishr, 1) := by decide +kernel
theorem dJ1_length_10 : decode cJ1_length 10 = .ok (.ireturn, 1) := by decide +kernel
theorem dJ1_coder_0 : decode cJ1_coder 0 = .ok (.getstatic 38, 3) := by decide +kernel
theorem dJ1_coder_3 : decode cJ1_coder 3 = .ok (.ifCond .eq 10, 3) := by decide +kernel
theorem dJ1_coder_6 : decode cJ1_coder 6 = .ok (.aload_n 0, 1) := by decide +kernel
theorem dJ1_coder_7 : decode cJ1_coder 7 = .ok (.getfield 15, 3) := by decide +kernel
theorem dJ1_coder_10 : decode cJ1_coder 10 = .ok (.goto 4, 3) := by decide +kernel
theorem dJ1_coder_13 : decode cJ1_coder 13 = .ok (.iconst 1, 1) := by decide +kernel
theorem dJ1_coder_14 : decode cJ1_coder 14 = .ok (.ireturn, 1) := by decide +kernel
theorem dJ1_charAt_0 : decode cJ1_charAt 0 = .ok (.aload_n 0, 1) := by decide +kernel
theorem dJ1_charAt_1 : decode cJ1_charAt 1 = .ok (.invokevirtual 492, 3) := by decide +kernel
theorem dJ1_charAt_4 : decode cJ1_charAt 4 = .ok (.ifCond .eq 12, 3) := by decide +kernel
theorem dJ1_charAt_7 : decode cJ1_charAt 7 = .ok (.aload_n 0, 1) := by decide +kernel
theorem dJ1_charAt_8 : decode cJ1_charAt 8 = .ok (.getfield 9, 3) := by decide +kernel
theorem dJ1_charAt_11 : decode cJ1_charAt 11 = .ok (.iload_n 1, 1) := by decide +kernel
theorem dJ1_charAt_12 : decode cJ1_charAt 12 = .ok (.invokestatic 495, 3) := by decide +kernel
theorem dJ1_charAt_15 : decode cJ1_charAt 15 = .ok (.ireturn, 1) := by decide +kernel
theorem dJ1_charAt_16 : decode cJ1_charAt 16 = .ok (.aload_n 0, 1) := by decide +kernel
theorem dJ1_charAt_17 : decode cJ1_charAt 17 = .ok (.getfield 9, 3) := by decide +kernel
theorem dJ1_charAt_20 : decode cJ1_charAt 20 = .ok (.iload_n 1, 1) := by decide +kernel
theorem dJ1_charAt_21 : decode cJ1_charAt 21 = .ok (.invokestatic 498, 3) := by decide +kernel
theorem dJ1_charAt_24 : decode cJ1_charAt 24 = .ok (.ireturn, 1) := by decide +kernel
theorem dJ1_isLatin1_0 : decode cJ1_isLatin1 0 = .ok (.getstatic 38, 3) := by decide +kernel
theorem dJ1_isLatin1_3 : decode cJ1_isLatin1 3 = .ok (.ifCond .eq 14, 3) := by decide +kernel
theorem dJ1_isLatin1_6 : decode cJ1_isLatin1 6 = .ok (.aload_n 0, 1) := by decide +kernel
theorem dJ1_isLatin1_7 : decode cJ1_isLatin1 7 = .ok (.getfield 15, 3) := by decide +kernel
theorem dJ1_isLatin1_10 : decode cJ1_isLatin1 10 = .ok (.ifCond .ne 7, 3) := by decide +kernel
theorem dJ1_isLatin1_13 : decode cJ1_isLatin1 13 = .ok (.iconst 1, 1) := by decide +kernel
theorem dJ1_isLatin1_14 : decode cJ1_isLatin1 14 = .ok (.goto 4, 3) := by decide +kernel
theorem dJ1_isLatin1_17 : decode cJ1_isLatin1 17 = .ok (.iconst 0, 1) := by decide +kernel
theorem dJ1_isLatin1_18 : decode cJ1_isLatin1 18 = .ok (.ireturn, 1) := by decide +kernel
theorem dJ1_checkIndex_0 : decode cJ1_checkIndex 0 = .ok (.iload_n 0, 1) := by decide +kernel
theorem dJ1_checkIndex_1 : decode cJ1_checkIndex 1 = .ok (.iload_n 1, 1) := by decide +kernel
theorem dJ1_checkIndex_2 : decode cJ1_checkIndex 2 = .ok (.getstatic 1053, 3) := by decide +kernel
theorem dJ1_checkIndex_5 : decode cJ1_checkIndex 5 = .ok (.invokestatic 1059, 3) := by decide +kernel
theorem dJ1_checkIndex_8 : decode cJ1_checkIndex 8 = .ok (.pop, 1) := by decide +kernel
theorem dJ1_checkIndex_9 : decode cJ1_checkIndex 9 = .ok (.return_, 1) := by decide +kernel
theorem dJ2_charAt_0 : decode cJ2_charAt 0 = .ok (.iload_n 1, 1) := by decide +kernel
theorem dJ2_charAt_1 : decode cJ2_charAt 1 = .ok (.aload_n 0, 1) := by decide +kernel
theorem dJ2_charAt_2 : decode cJ2_charAt 2 = .ok (.arraylength, 1) := by decide +kernel
theorem dJ2_charAt_3 : decode cJ2_charAt 3 = .ok (.invokestatic 9, 3) := by decide +kernel
theorem dJ2_charAt_6 : decode cJ2_charAt 6 = .ok (.aload_n 0, 1) := by decide +kernel
theorem dJ2_charAt_7 : decode cJ2_charAt 7 = .ok (.iload_n 1, 1) := by decide +kernel
theorem dJ2_charAt_8 : decode cJ2_charAt 8 = .ok (.baload, 1) := by decide +kernel
theorem dJ2_charAt_9 : decode cJ2_charAt 9 = .ok (.sipush 255, 3) := by decide +kernel
theorem dJ2_charAt_12 : decode cJ2_charAt 12 = .ok (.iand, 1) := by decide +kernel
theorem dJ2_charAt_13 : decode cJ2_charAt 13 = .ok (.i2c, 1) := by decide +kernel
theorem dJ2_charAt_14 : decode cJ2_charAt 14 = .ok (.ireturn, 1) := by decide +kernel
theorem dJ3_checkIndex_0 : decode cJ3_checkIndex 0 = .ok (.iload_n 0, 1) := by decide +kernel
theorem dJ3_checkIndex_1 : decode cJ3_checkIndex 1 = .ok (.ifCond .lt 8, 3) := by decide +kernel
theorem dJ3_checkIndex_4 : decode cJ3_checkIndex 4 = .ok (.iload_n 0, 1) := by decide +kernel
theorem dJ3_checkIndex_5 : decode cJ3_checkIndex 5 = .ok (.iload_n 1, 1) := by decide +kernel
theorem dJ3_checkIndex_6 : decode cJ3_checkIndex 6 = .ok (.if_icmp .lt 10, 3) := by decide +kernel
theorem dJ3_checkIndex_9 : decode cJ3_checkIndex 9 = .ok (.aload_n 2, 1) := by decide +kernel
theorem dJ3_checkIndex_10 : decode cJ3_checkIndex 10 = .ok (.iload_n 0, 1) := by decide +kernel
theorem dJ3_checkIndex_11 : decode cJ3_checkIndex 11 = .ok (.iload_n 1, 1) := by decide +kernel
theorem dJ3_checkIndex_12 : decode cJ3_checkIndex 12 = .ok (.invokestatic 95, 3) := by decide +kernel
theorem dJ3_checkIndex_15 : decode cJ3_checkIndex 15 = .ok (.athrow, 1) := by decide +kernel
theorem dJ3_checkIndex_16 : decode cJ3_checkIndex 16 = .ok (.iload_n 0, 1) := by decide +kernel
theorem dJ3_checkIndex_17 : decode cJ3_checkIndex 17 = .ok (.ireturn, 1) := by decide +kernel
section ROWS
variable {p : Program} {l : Launch} {e : Env} {R : Room} {s : State} {m : MethodId} {args : Array Value} {below : List Frame} {meth : Method} {c : Code} {H : Heap} {locs : List Loc} {cells slots : Nat} {Q : State → Prop}
variable {s0 : State} {A0 : Array Value} {D : va_G} {ac : Nat → ClassId} {σ : St} {cc : ByteArray} {nL : Nat} {own : String} {ret : Option FieldType} {pc : Nat} {ls : Array Slot} {rest : List Value} {a ci idx : Nat} {α : Type} {r : α}
/-- a field that the pure heap doesn't follow, or that holds the value already -/
theorem x_putU {v : Value} {ty : FieldType} {O nf d : String} (G : Gl s0 A0 D ac) (C : Cx s0 p s m args meth c cc nL own ret) (h : Hs s0 D ac σ H locs) (hk : s_k σ a = some (.inl ci)) {q : vw_C} (hc : clA[ci]? = some q) (hlay : Cond.lays q.1 O nf d ∈ lw_all ∨ (Cond.laysFinal q.1 O nf d ∈ lw_all ∧ meth.name = "<init>" ∧ O = own)) (hlink : Cond.fieldLink own idx O nf d ∈ lw_all) (hd : parseFieldDescriptor d = some ty) (hn : narrow ty v = v) (hfit : fits ty v = true) (ho : ∀ k, k < q.2.2 → (q.2.1 k).2.1 ≠ nf ∨ sv σ (tyF ci k) a k = v) (hdg : decode cc pc = .ok (.putfield idx, 3))
    (kk : ∀ (H : Heap) (locs : List Loc), Hs s0 D ac σ H locs → W p l e R s m args below meth c H locs cells slots Q (F0 m (pc + 3) ls rest)) : W p l e R s m args below meth c H locs cells slots Q (F0 m pc ls (v :: .ref a :: rest)) := by
  have hcell := h.1.2.2.1 a
  rw [hk] at hcell
  obtain ⟨r', h1, ⟨cell, q1, q2, q3, q4⟩, q5⟩ := hcell
  cases h1.symm.trans hc
  obtain ⟨hS, hfc, kC, hkC, hkind⟩ := G.kn C hc
  have hts := C.2.2.2.2.1
  have hin := in_cl ci q hc
  have hl9 : (Cond.lays q.1 O nf d).before args s = true ∨ (Cond.laysFinal q.1 O nf d).before args s = true := by
    rcases hlay with h9 | h9
    · exact Or.inl (hts _ h9)
    · exact Or.inr (hts _ h9.1)
  obtain ⟨i, cf, kf, fi, f, hi, hsl⟩ := u_found hl9
  obtain ⟨hst, -, hty9⟩ := u_facts hfc hkC hl9 hi
  have h6 := u_fits hfc hkC hkind hl9 hi hd hn hfit
  have hfin2 : hasFlag f.accessFlags Acc.final = false ∨ (m.cls = cf ∧ meth.name = "<init>") := by
    rcases hlay with h9 | ⟨h9, hnm, hdecl⟩
    · exact Or.inl (u_store hfc hkC hkind (hts _ h9) hi hd hn hfit).1
    · obtain ⟨_, _, c', _, _, _, -, -, hf', -, -, -, hown2, -⟩ := Cond.laysFinal_spec (hts _ h9)
      have e1 : c' = cf := by have := hi.symm.trans hf'; simp at this; exact this.1.symm
      rw [hdecl] at hown2
      exact Or.inr ⟨by rw [← e1]; exact Option.some.inj (C.2.2.2.1.symm.trans hown2), hnm⟩
  have ha : a < H.size := (Array.getElem?_eq_some_iff.mp q1).1
  have hlt : f.slot < cell.slots.size := by
    rw [q5 cell q1, ← G.sz C hc hkC]
    exact (Array.getElem?_eq_some_iff.mp hty9).1
  refine W.putf C.1 C.2.1 C.2.2.2.1 (hts _ hlink) hi hst hfin2 q1 (by rw [q3]; exact fun h => by cases h) hlt h6.1 (by rw [q2, q3]; exact h6.2) rfl rfl hdg ?_
  refine kk _ _ (h.step (σ' := σ) (a := a) rfl rfl (by simp) (fun q hq => by simp [Array.getElem?_setIfInBounds, Ne.symm hq]) (fun b hb ty k => rfl) (by rw [hk]; exact fun h => by cases h) ?_)
  rw [hk]
  refine ⟨q, hc, ⟨cell.setSlot f.slot v, by simp [ha], q2, q3, fun k hk9 => ?_⟩, fun cell' h' => ?_⟩
  · by_cases hs : f.slot = D.2 ci k
    · rcases ho k hk9 with h9 | h9
      · exfalso
        obtain ⟨cf', kf', fi', f', hi', hsl'⟩ := hS k hk9
        refine u_apart hl9 (u_lays hts hin hk9) hi hi' ?_ (by rw [hs, hsl'])
        rw [(State.fieldFound?_type hi hd).1, (State.fieldFound?_type hi' (ty_cl ci q hc k hk9)).1]
        exact Ne.symm h9
      · rw [← hs, Cell.slots_setSlot_self _ hlt, ← h9]
    · rw [slot_ne _ _ hs]; exact q4 k hk9
  · simp [ha] at h'
    subst h'
    simp [Cell.setSlot]; exact q5 cell q1
/-- a static of the start -/
theorem x_gets {C' n d : String} {v : Value} (C : Cx s0 p s m args meth c cc nL own ret) (h : Hs s0 D ac σ H locs) (hZ : va_Z C' n d v (fun q => s0.heap.size ≤ q) s0 s0.heap) (hlink : Cond.fieldLink own idx C' n d ∈ lw_all) (hdg : decode cc pc = .ok (.getstatic idx, 3)) (kk : W p l e R s m args below meth c H locs cells slots Q (F0 m (pc + 3) ls (v :: rest))) : W p l e R s m args below meth c H locs cells slots Q (F0 m pc ls rest) := by
  obtain ⟨cf, kf, fi, f, a, cell, h1, h2, h3, h4, h5, h6, h7, h8⟩ := va_Z.moved C.2.2.2.2.2.2.2.alike hZ
  exact W.gets C.1 C.2.1 C.2.2.2.1 (C.2.2.2.2.1 _ hlink) h1 h2 h3 h4 (by rw [h.1.2.2.2.2 a (Nat.not_le.mp h8)]; exact h5) (fun e => by rw [e] at h6; cases h6) h7 rfl hdg kk
theorem x_getsN {C' n d host : String} {v : Value} (G : Gl s0 A0 D ac) (C : Cx s0 p s m args meth c cc nL own ret) (h : Hs s0 D ac σ H locs) (hZ : va_Z C' n d v (fun q => s0.heap.size ≤ q) s0 s0.heap) (hlink : Cond.fieldLinkNest own idx C' n d host ∈ lw_tbl) (hdg : decode cc pc = .ok (.getstatic idx, 3)) (kk : W p l e R s m args below meth c H locs cells slots Q (F0 m (pc + 3) ls (v :: rest))) : W p l e R s m args below meth c H locs cells slots Q (F0 m pc ls rest) := by
  obtain ⟨cf, kf, fi, f, a, cell, h1, h2, h3, h4, h5, h6, h7, h8⟩ := va_Z.moved C.2.2.2.2.2.2.2.alike hZ
  exact va_WgetsN C.1 C.2.1 C.2.2.2.1 (va_Nw.use rfl (va_Nw.warmF C.2.2.2.2.2.2.2 (va_Nw.of rfl (G.1 _ hlink)))) h1 h2 h3 h4 (by rw [h.1.2.2.2.2 a (Nat.not_le.mp h8)]; exact h5) (fun e => by rw [e] at h6; cases h6) h7 rfl hdg kk
theorem x_getsq {C' n d : String} (C : Cx s0 p s m args meth c cc nL own ret) (h : Hs s0 D ac σ H locs) (hZ : va_Zq C' n d (fun q => s0.heap.size ≤ q) s0 s0.heap) (hlink : Cond.fieldLink own idx C' n d ∈ lw_all) (hdg : decode cc pc = .ok (.getstatic idx, 3)) (kk : ∀ v : Value, v = .null ∨ (∃ t, v = .ref t) → W p l e R s m args below meth c H locs cells slots Q (F0 m (pc + 3) ls (v :: rest))) : W p l e R s m args below meth c H locs cells slots Q (F0 m pc ls rest) := by
  rcases hZ with hZ | ⟨t, hZ⟩
  · exact x_gets C h hZ hlink hdg (kk _ (Or.inl rfl))
  · exact x_gets C h hZ hlink hdg (kk _ (Or.inr ⟨t, rfl⟩))
/-- a text of the pool -/
theorem x_ldcS {i : Nat} (G : Gl s0 A0 D ac) (C : Cx s0 p s m args meth c cc nL own ret) (hi : i < 22) (ho : (txS.getD i ("", 0, "")).1 = own) (hx : (txS.getD i ("", 0, "")).2.1 = idx) (hdg : decode cc pc = .ok (.ldc idx, 2)) (kk : W p l e R s m args below meth c H locs cells slots Q (F0 m (pc + 2) ls (.ref (sA s0 i) :: rest))) : W p l e R s m args below meth c H locs cells slots Q (F0 m pc ls rest) := by
  have hz := vk_R.warm C.2.2.2.2.2.2.2 (G.2.2.2.2.2.1 i hi)
  rw [ho, hx] at hz
  exact va_ldcS C.1 C.2.1 C.2.2.2.1 hz hdg kk
/-- fields of objects of the start -/
theorem x_getO {o n d : String} {t : Nat} {v : Value} (C : Cx s0 p s m args meth c cc nL own ret) (h : Hs s0 D ac σ H locs) (hO : va_OF o n d v t (fun q => s0.heap.size ≤ q) s0 s0.heap) (hlink : Cond.fieldLink own idx o n d ∈ lw_all) (hdg : decode cc pc = .ok (.getfield idx, 3)) (kk : W p l e R s m args below meth c H locs cells slots Q (F0 m (pc + 3) ls (v :: rest))) : W p l e R s m args below meth c H locs cells slots Q (F0 m pc ls (.ref t :: rest)) := by
  obtain ⟨cf, k, i, f, cell, h1, h2, h3, h4, h5, h6⟩ := va_OF.moved C.2.2.2.2.2.2.2.alike hO
  exact W.getf C.1 C.2.1 C.2.2.2.1 (C.2.2.2.2.1 _ hlink) h1 h2 (by rw [h.1.2.2.2.2 t (Nat.not_le.mp h6)]; exact h3) h4 h5 rfl rfl hdg kk
theorem x_lenT {ty : FieldType} {t N : Nat} {f : Nat → Value} (C : Cx s0 p s m args meth c cc nL own ret) (h : Hs s0 D ac σ H locs) (hT : va_T ty t N f (fun q => s0.heap.size ≤ q) s0 s0.heap) (hdg : decode cc pc = .ok (.arraylength, 1)) (kk : W p l e R s m args below meth c H locs cells slots Q (F0 m (pc + 1) ls (.int (Int32.ofNat N) :: rest))) : W p l e R s m args below meth c H locs cells slots Q (F0 m pc ls (.ref t :: rest)) := by
  obtain ⟨cell, h1, h2, h3, h4, h5, h6, h7⟩ := va_T.moved C.2.2.2.2.2.2.2.alike hT
  exact W.alen (n := Int32.ofNat N) C.1 C.2.1 (by rw [h.1.2.2.2.2 t (Nat.not_le.mp h7)]; exact h1) h2 h5 rfl rfl hdg kk
theorem x_baldT {t N : Nat} {f : Nat → Value} {i : Int32} (C : Cx s0 p s m args meth c cc nL own ret) (h : Hs s0 D ac σ H locs) (hT : va_T .byte t N f (fun q => s0.heap.size ≤ q) s0 s0.heap) (hin : vp_in i N) (hdg : decode cc pc = .ok (.baload, 1)) (kk : W p l e R s m args below meth c H locs cells slots Q (F0 m (pc + 1) ls (f i.toNatClampNeg :: rest))) : W p l e R s m args below meth c H locs cells slots Q (F0 m pc ls (.int i :: .ref t :: rest)) := by
  obtain ⟨cell, h1, h2, h3, h4, h5, h6, h7⟩ := va_T.moved C.2.2.2.2.2.2.2.alike hT
  have hlt : i.toNatClampNeg < N := Nat.not_le.mp fun q => hin (Or.inr q)
  have hin' : ¬ (i < 0 ∨ cell.slots.size ≤ i.toNatClampNeg) := by
    intro q
    rcases q with q | q
    · exact hin (Or.inl q)
    · omega
  exact W.bald (v := f i.toNatClampNeg) C.1 C.2.1 (by rw [h.1.2.2.2.2 t (Nat.not_le.mp h7)]; exact h1) h2 h3 hin' (h6 _ hlt) rfl rfl hdg kk
theorem x_aaldT {t N : Nat} {f : Nat → Value} {i : Int32} {E : String} (C : Cx s0 p s m args meth c cc nL own ret) (h : Hs s0 D ac σ H locs) (hT : va_T (.object E) t N f (fun q => s0.heap.size ≤ q) s0 s0.heap) (hin : vp_in i N) (hdg : decode cc pc = .ok (.aaload, 1)) (kk : W p l e R s m args below meth c H locs cells slots Q (F0 m (pc + 1) ls (f i.toNatClampNeg :: rest))) : W p l e R s m args below meth c H locs cells slots Q (F0 m pc ls (.int i :: .ref t :: rest)) := by
  obtain ⟨cell, h1, h2, h3, h4, h5, h6, h7⟩ := va_T.moved C.2.2.2.2.2.2.2.alike hT
  have hlt : i.toNatClampNeg < N := Nat.not_le.mp fun q => hin (Or.inr q)
  have hin' : ¬ (i < 0 ∨ cell.slots.size ≤ i.toNatClampNeg) := by
    intro q
    rcases q with q | q
    · exact hin (Or.inl q)
    · omega
  exact W.aald (v := f i.toNatClampNeg) C.1 C.2.1 (by rw [h.1.2.2.2.2 t (Nat.not_le.mp h7)]; exact h1) h2 rfl h3 hin' (h6 _ hlt) rfl rfl hdg kk
variable {y : MethodName} {bytes : ByteArray} {maxL mc ms n : Nat} {rt : Option FieldType} {rm : Room} {As st0 : List Value} {ov : Option Value} {σ' : St}
/-- a call on a text -/
theorem x_cT {i : Nat} (G : Gl s0 A0 D ac) (C : Cx s0 p s m args meth c cc nL own ret) (h : Hs s0 D ac σ H locs) (hi : i < 22) (hM : Met l y (ws_ y bytes maxL rt) rm (Pn s0 D ac (.ref (sA s0 i) :: As) σ) (Qn s0 D ac ov σ') mc ms (fr s0)) (hT : GoodIn lw_all (wsV own idx "java/lang/String" y (ws_ y bytes maxL rt)))
    (hd : y.cls = "java/lang/String" ∧ y.cls ≠ "java/lang/invoke/MethodHandle" ∧ y.cls ≠ "java/lang/invoke/VarHandle" ∧ (parseMethodDescriptor y.desc).map (fun d => d.parameters.length) = some n) (hR : rm.frames + 1 ≤ R.frames ∧ 8 + (maxL + 11) + rm.locals ≤ R.locals) (hrc : rm.cells = mc) (hrs : rm.slots = ms) (hn : As.length = n) (hsize : ls.size = nL) (hst : st0 = As.reverse ++ .ref (sA s0 i) :: rest) (hW : (rest.map fun v => v.category).sum ≤ 8) (hdg : decode cc pc = .ok (.invokevirtual idx, 3)) (hf : cells + mc ≤ R.cells ∧ slots + ms ≤ R.slots)
    (kk : ∀ (H : Heap) (locs : List Loc), Hs s0 D ac σ' H locs → W p l e R s m args below meth c H locs (cells + mc) (slots + ms) Q (F0 m (pc + 3) ls (ov.toList ++ rest))) : W p l e R s m args below meth c H locs cells slots Q (F0 m pc ls st0) := by
  obtain ⟨adV, hS⟩ := G.2.2.2.2.1
  obtain ⟨cell, h1, h2, h3, h4⟩ := (hS.1 i hi).1
  refine x_run (va_runV ⟨C.1, C.2.1, C.2.2.1, C.2.2.2.1, C.2.2.2.2.1⟩ hM (cwV n C.2.2.2.2.1 hT rfl hrc hrs hd hR) ⟨Pn.blind, ⟨cell, ?_, h2, ?_⟩, h.pre C _⟩ rfl hn hsize hst (lv_room hW) hdg hf) h kk
  · rw [h.1.2.2.2.2 _ (Nat.not_le.mp h4)]; exact h1
  · rw [C.2.2.2.2.2.2.2.alike.findClass]; exact h3
theorem x_nret {v : Int32} {ty : FieldType} (C : Cx s0 p s m args meth c cc nL own (some ty)) (h : Hs s0 D ac σ H locs) (hz : narrow ty (.int v) = .int v) (hdg : decode cc pc = .ok (.ireturn, 1)) : W p l e R s m args below meth c H locs cells slots (MQ below (Qn s0 D ac (some (.int v)) σ) args s cells slots (fr s0)) (F0 m pc ls [.int v]) :=
  W.zret C.1 C.2.1 C.2.2.2.2.2.1 hz (fun t ht _ => ⟨rfl, by rw [ht]; exact h.1⟩) h.2 hdg C.2.2.2.2.2.2.1
end ROWS

/-! contracts: Told's constructor; Throwable's and Exception's; length and charAt of a text -/
section METS
variable {l : Launch} {s0 : State} {A0 : Array Value} {D : va_G} {ac : Nat → ClassId} {σ : St}
def fX10_init (σ : St) (a0 a1 : Nat) : Option Unit := if (s_k σ a0 = some (.inl 8) ∧ s_r σ a0 4 = some a1) ∨ (s_k σ a0 = some (.inl 14) ∧ s_r σ a0 6 = some a1) then some () else none
theorem wX10_init {a0 a1 : Nat} (G : Gl s0 A0 D ac) (hf : fX10_init σ a0 a1 = some ()) : Met l yX10_init (ws_ yX10_init cX10_init 2 none) ({ frames := 1, cells := 0, slots := 0, locals := 12 } : Room) (Pn s0 D ac [.ref a0, .ref a1] σ) (Qn s0 D ac none σ) 0 0 (fr s0) := by
  have hf : (s_k σ a0 = some (.inl 8) ∧ s_r σ a0 4 = some a1) ∨ (s_k σ a0 = some (.inl 14) ∧ s_r σ a0 6 = some a1) := by
    unfold fX10_init at hf
    split at hf
    · next h => exact h
    · cases hf
  refine x_met (by decide) (Nat.le_of_ble_eq_true rfl) ?_
  intro p e s m args below meth c ls C hnm h hl
  have C : Cx s0 p s m args meth c cX10_init 2 "HutForShow$Told" none := C
  have hx := C.1
  have hb := C.2.1
  have hl : lv_has ls 2 [(0, .ref a0), (1, .ref a1)] := hl
  refine lv_aload_n hx hb dX10_init_0 rfl (lv_at hl 0 rfl) ?_
  refine lv_aload_n hx hb dX10_init_1 rfl (lv_at hl 1 rfl) ?_
  have rest : ∀ (H : Heap) (locs : List Loc), Hs s0 D ac σ H locs → W p l e ({ frames := 1, cells := 0, slots := 0, locals := 12 } : Room) s m args below meth c H locs 0 0 (MQ below (Qn s0 D ac none σ) args s 0 0 (fr s0)) (F0 m 5 ls []) := by
    intro H locs h
    refine lv_aload_n hx hb dX10_init_5 rfl (lv_at hl 0 rfl) ?_
    refine W.objInit hx hb C.2.2.2.1 (C.2.2.2.2.1 _ q523) (C.2.2.2.2.1 _ q88) (C.2.2.2.2.1 _ q89) rfl (by rw [C.2.2.1]; exact hl.1) rfl dX10_init_6 (Nat.le_of_ble_eq_true rfl) (Nat.le_of_ble_eq_true rfl) ?_
    refine W.eq (g2 := F0 m 9 ls []) rfl ?_
    exact x_vret C h dX10_init_9
  rcases hf with ⟨hk, hr⟩ | ⟨hk, hr⟩
  · refine x_putU (q := (RX11, TY11, 5)) (ci := 8) (ty := .object "HutForShow") G C h hk rfl (Or.inr ⟨q549, hnm, rfl⟩) q538 (by decide +kernel) rfl rfl (fun k hk9 => ?_) dX10_init_2 rest
    match k, hk9 with
    | 0, _ => exact Or.inl (by decide)
    | 1, _ => exact Or.inl (by decide)
    | 2, _ => exact Or.inl (by decide)
    | 3, _ => exact Or.inl (by decide)
    | 4, _ => refine Or.inr ?_; unfold sv; rw [hr]; rfl
  · refine x_putU (q := (RX17, TY17, 7)) (ci := 14) (ty := .object "HutForShow") G C h hk rfl (Or.inr ⟨q813, hnm, rfl⟩) q538 (by decide +kernel) rfl rfl (fun k hk9 => ?_) dX10_init_2 rest
    match k, hk9 with
    | 0, _ => exact Or.inl (by decide)
    | 1, _ => exact Or.inl (by decide)
    | 2, _ => exact Or.inl (by decide)
    | 3, _ => exact Or.inl (by decide)
    | 4, _ => exact Or.inl (by decide)
    | 5, _ => exact Or.inl (by decide)
    | 6, _ => refine Or.inr ?_; unfold sv; rw [hr]; rfl
def fJ5_init_2 (σ : St) (a0 : Nat) (_ : Nat) (_ : Option Nat) (x y : Int32) : Option Unit := o_k σ a0 11 <| if x = 0 ∧ y = 0 then some () else none
theorem wJ5_init_2 {a0 w : Nat} {x y : Int32} (G : Gl s0 A0 D ac) (hf : fJ5_init_2 σ a0 w none x y = some ()) : Met l yJ5_init_2 (ws_ yJ5_init_2 cJ5_init_2 5 none) ({ frames := 1, cells := 0, slots := 0, locals := 12 } : Room) (Pn s0 D ac [.ref a0, .ref (sA s0 w), .null, .int x, .int y] σ) (Qn s0 D ac none σ) 0 0 (fr s0) := by
  obtain ⟨hk, hf⟩ := k_of hf
  obtain ⟨rfl, rfl⟩ : x = 0 ∧ y = 0 := by
    split at hf
    · next h => exact h
    · cases hf
  refine x_met (by decide) (Nat.le_of_ble_eq_true rfl) ?_
  intro p e s m args below meth c ls C hnm h hl
  have C : Cx s0 p s m args meth c cJ5_init_2 5 "java/lang/Throwable" none := C
  have hx := C.1
  have hb := C.2.1
  have hl : lv_has ls 5 [(0, .ref a0), (1, .ref (sA s0 w)), (2, .null), (3, .int 0), (4, .int 0)] := hl
  have ho : ∀ (v : Value) (nf : String), nf ≠ "place" → ∀ k, k < 1 → (TY14 k).2.1 ≠ nf ∨ sv σ (tyF 11 k) a0 k = v := by
    intro v nf hne k hk
    match k, hk with
    | 0, _ => exact Or.inl (Ne.symm hne)
  have nr : ∀ (v : Value) (ty : FieldType), ty.isReference = true → v = .null ∨ (∃ t, v = .ref t) → narrow ty v = v ∧ fits ty v = true := by
    intro v ty ht hv
    rcases hv with rfl | ⟨t, rfl⟩ <;> cases ty <;> first | exact ⟨rfl, rfl⟩ | (cases ht; done)
  refine lv_aload_n hx hb dJ5_init_2_0 rfl (lv_at hl 0 rfl) ?_
  refine W.objInit hx hb C.2.2.2.1 (C.2.2.2.2.1 _ q686) (C.2.2.2.2.1 _ q88) (C.2.2.2.2.1 _ q89) rfl (by rw [C.2.2.1]; exact hl.1) rfl dJ5_init_2_1 (Nat.le_of_ble_eq_true rfl) (Nat.le_of_ble_eq_true rfl) ?_
  refine W.eq (g2 := F0 m 4 ls []) rfl ?_
  refine lv_aload_n hx hb dJ5_init_2_4 rfl (lv_at hl 0 rfl) ?_
  refine lv_aload_n hx hb dJ5_init_2_5 rfl (lv_at hl 0 rfl) ?_
  refine x_putU (q := (RX14, TY14, 1)) (ty := .object "java/lang/Throwable") G C h hk rfl (Or.inl q672) q714 (by decide +kernel) rfl rfl (ho _ _ (by decide)) dJ5_init_2_6 (fun H locs h => ?_)
  refine lv_aload_n hx hb dJ5_init_2_9 rfl (lv_at hl 0 rfl) ?_
  refine x_getsq C h G.2.2.2.2.2.2.2.2.1 q687 dJ5_init_2_10 (fun v1 hv1 => ?_)
  refine x_putU (q := (RX14, TY14, 1)) (ty := .array (.object "java/lang/StackTraceElement")) G C h hk rfl (Or.inl q674) q715 (by decide +kernel) (nr v1 _ rfl hv1).1 (nr v1 _ rfl hv1).2 (ho _ _ (by decide)) dJ5_init_2_13 (fun H locs h => ?_)
  refine lv_aload_n hx hb dJ5_init_2_16 rfl (lv_at hl 0 rfl) ?_
  refine x_getsq C h G.2.2.2.2.2.2.2.2.2.1 q689 dJ5_init_2_17 (fun v2 hv2 => ?_)
  refine x_putU (q := (RX14, TY14, 1)) (ty := .object "java/util/List") G C h hk rfl (Or.inl q676) q716 (by decide +kernel) (nr v2 _ rfl hv2).1 (nr v2 _ rfl hv2).2 (ho _ _ (by decide)) dJ5_init_2_20 (fun H locs h => ?_)
  refine lv_iload hx hb dJ5_init_2_23 (lv_at hl 4 rfl) ?_
  refine lv_if_eq (tgt := 36) hx hb dJ5_init_2_25 (by decide) (fun _ => ?_) (fun hc => absurd rfl hc)
  refine lv_aload_n hx hb dJ5_init_2_36 rfl (lv_at hl 0 rfl) ?_
  refine lv_null hx hb dJ5_init_2_37 ?_
  refine x_putU (q := (RX14, TY14, 1)) (ty := .array (.object "java/lang/StackTraceElement")) G C h hk rfl (Or.inl q674) q715 (by decide +kernel) rfl rfl (ho _ _ (by decide)) dJ5_init_2_38 (fun H locs h => ?_)
  refine lv_aload_n hx hb dJ5_init_2_41 rfl (lv_at hl 0 rfl) ?_
  refine lv_aload_n hx hb dJ5_init_2_42 rfl (lv_at hl 1 rfl) ?_
  refine x_putU (q := (RX14, TY14, 1)) (ty := .object "java/lang/String") G C h hk rfl (Or.inl q678) q713 (by decide +kernel) rfl rfl (ho _ _ (by decide)) dJ5_init_2_43 (fun H locs h => ?_)
  refine lv_aload_n hx hb dJ5_init_2_46 rfl (lv_at hl 0 rfl) ?_
  refine lv_aload_nN hx hb dJ5_init_2_47 rfl (lv_at hl 2 rfl) ?_
  refine x_putU (q := (RX14, TY14, 1)) (ty := .object "java/lang/Throwable") G C h hk rfl (Or.inl q672) q714 (by decide +kernel) rfl rfl (ho _ _ (by decide)) dJ5_init_2_48 (fun H locs h => ?_)
  refine lv_iload_n hx hb dJ5_init_2_51 rfl (lv_at hl 3 rfl) ?_
  refine lv_if_ne (tgt := 60) hx hb dJ5_init_2_52 (by decide) (fun hc => absurd rfl hc) (fun _ => ?_)
  refine lv_aload_n hx hb dJ5_init_2_55 rfl (lv_at hl 0 rfl) ?_
  refine lv_null hx hb dJ5_init_2_56 ?_
  refine x_putU (q := (RX14, TY14, 1)) (ty := .object "java/util/List") G C h hk rfl (Or.inl q676) q716 (by decide +kernel) rfl rfl (ho _ _ (by decide)) dJ5_init_2_57 (fun H locs h => ?_)
  exact x_vret C h dJ5_init_2_60
def fJ6_init (σ : St) (a0 : Nat) (w : Nat) (o : Option Nat) (x y : Int32) : Option Unit := fJ5_init_2 σ a0 w o x y
theorem wJ6_init {a0 w : Nat} {x y : Int32} {v : Unit} (G : Gl s0 A0 D ac) (hf : fJ6_init σ a0 w none x y = some v) : Met l yJ6_init (ws_ yJ6_init cJ6_init 5 none) ({ frames := 2, cells := 0, slots := 0, locals := 36 } : Room) (Pn s0 D ac [.ref a0, .ref (sA s0 w), .null, .int x, .int y] σ) (Qn s0 D ac none σ) 0 0 (fr s0) := by
  have hc : fJ5_init_2 σ a0 w none x y = some () := hf
  refine x_met (by decide) (Nat.le_of_ble_eq_true rfl) ?_
  intro p e s m args below meth c ls C hnm h hl
  have C : Cx s0 p s m args meth c cJ6_init 5 "java/lang/Exception" none := C
  have hx := C.1
  have hb := C.2.1
  have hl : lv_has ls 5 [(0, .ref a0), (1, .ref (sA s0 w)), (2, .null), (3, .int x), (4, .int y)] := hl
  refine lv_aload_n hx hb dJ6_init_0 rfl (lv_at hl 0 rfl) ?_
  refine lv_aload_n hx hb dJ6_init_1 rfl (lv_at hl 1 rfl) ?_
  refine lv_aload_nN hx hb dJ6_init_2 rfl (lv_at hl 2 rfl) ?_
  refine lv_iload_n hx hb dJ6_init_3 rfl (lv_at hl 3 rfl) ?_
  refine lv_iload hx hb dJ6_init_4 (lv_at hl 4 rfl) ?_
  refine x_cI (rest := []) (As := [.ref (sA s0 w), .null, .int x, .int y]) (n := 4) (ov := none) C h (wJ5_init_2 G hc) q707 q708 q73 q709 rfl (by decide +kernel) ⟨Nat.le_of_ble_eq_true rfl, Nat.le_of_ble_eq_true rfl⟩ rfl rfl rfl hl.1 rfl (Nat.le_of_ble_eq_true rfl) dJ6_init_6 ⟨Nat.le_of_ble_eq_true rfl, Nat.le_of_ble_eq_true rfl⟩ (fun H locs h => ?_)
  exact x_vret C h dJ6_init_9
/-- coder() of a text -/
theorem wJ1_coder {i : Nat} (hi : i < 22) (G : Gl s0 A0 D ac) : Met l yJ1_coder (ws_ yJ1_coder cJ1_coder 1 (some .byte)) ({ frames := 0, cells := 0, slots := 0, locals := 0 } : Room) (Pn s0 D ac [.ref (sA s0 i)] σ) (Qn s0 D ac (some (.int 0)) σ) 0 0 (fr s0) := by
  obtain ⟨adV, hS⟩ := G.2.2.2.2.1
  refine x_met (by decide) (Nat.le_of_ble_eq_true rfl) ?_
  intro p e s m args below meth c ls C hnm h hl
  have C : Cx s0 p s m args meth c cJ1_coder 1 "java/lang/String" (some .byte) := C
  have hl : lv_has ls 1 [(0, .ref (sA s0 i))] := hl
  refine x_gets C h G.2.2.2.2.2.2.1 q601 dJ1_coder_0 ?_
  refine lv_if_eq (tgt := 13) C.1 C.2.1 dJ1_coder_3 (by decide) (fun hc => absurd hc (by decide)) (fun _ => ?_)
  refine lv_aload_n C.1 C.2.1 dJ1_coder_6 rfl (lv_at hl 0 rfl) ?_
  refine x_getO C h (hS.1 i hi).2.1 q1527 dJ1_coder_7 ?_
  refine lv_goto (tgt := 14) C.1 C.2.1 dJ1_coder_10 (by decide) ?_
  exact x_nret C h rfl dJ1_coder_14
theorem wJ1_isLatin1 {i : Nat} (hi : i < 22) (G : Gl s0 A0 D ac) : Met l yJ1_isLatin1 (ws_ yJ1_isLatin1 cJ1_isLatin1 1 (some .boolean)) ({ frames := 0, cells := 0, slots := 0, locals := 0 } : Room) (Pn s0 D ac [.ref (sA s0 i)] σ) (Qn s0 D ac (some (.int 1)) σ) 0 0 (fr s0) := by
  obtain ⟨adV, hS⟩ := G.2.2.2.2.1
  refine x_met (by decide) (Nat.le_of_ble_eq_true rfl) ?_
  intro p e s m args below meth c ls C hnm h hl
  have C : Cx s0 p s m args meth c cJ1_isLatin1 1 "java/lang/String" (some .boolean) := C
  have hl : lv_has ls 1 [(0, .ref (sA s0 i))] := hl
  refine x_gets C h G.2.2.2.2.2.2.1 q601 dJ1_isLatin1_0 ?_
  refine lv_if_eq (tgt := 17) C.1 C.2.1 dJ1_isLatin1_3 (by decide) (fun hc => absurd hc (by decide)) (fun _ => ?_)
  refine lv_aload_n C.1 C.2.1 dJ1_isLatin1_6 rfl (lv_at hl 0 rfl) ?_
  refine x_getO C h (hS.1 i hi).2.1 q1527 dJ1_isLatin1_7 ?_
  refine lv_if_ne (tgt := 17) C.1 C.2.1 dJ1_isLatin1_10 (by decide) (fun hc => absurd rfl hc) (fun _ => ?_)
  refine lv_iconst (v := 1) C.1 C.2.1 dJ1_isLatin1_13 (by decide) ?_
  refine lv_goto (tgt := 18) C.1 C.2.1 dJ1_isLatin1_14 (by decide) ?_
  exact x_zret C h (by decide) dJ1_isLatin1_18
theorem wJ1_length {i : Nat} (hi : i < 22) (G : Gl s0 A0 D ac) : Met l yJ1_length (ws_ yJ1_length cJ1_length 1 (some .int)) ({ frames := 1, cells := 0, slots := 0, locals := 20 } : Room) (Pn s0 D ac [.ref (sA s0 i)] σ) (Qn s0 D ac (some (.int (nI (lenS.getD i 0)))) σ) 0 0 (fr s0) := by
  obtain ⟨adV, hS⟩ := G.2.2.2.2.1
  refine x_met (by decide) (Nat.le_of_ble_eq_true rfl) ?_
  intro p e s m args below meth c ls C hnm h hl
  have C : Cx s0 p s m args meth c cJ1_length 1 "java/lang/String" (some .int) := C
  have hl : lv_has ls 1 [(0, .ref (sA s0 i))] := hl
  refine lv_aload_n C.1 C.2.1 dJ1_length_0 rfl (lv_at hl 0 rfl) ?_
  refine x_getO C h (hS.1 i hi).2.2.1 q1526 dJ1_length_1 ?_
  refine x_lenT C h (hS.1 i hi).2.2.2 dJ1_length_4 ?_
  refine lv_aload_n C.1 C.2.1 dJ1_length_5 rfl (lv_at hl 0 rfl) ?_
  refine x_cT (i := i) (rest := [.int (Int32.ofNat (lenS.getD i 0))]) (As := []) (n := 0) (ov := some (.int 0)) G C h hi (wJ1_coder hi G) (lw_V q597 q598 q599 q67 q600) (by decide +kernel) ⟨Nat.le_of_ble_eq_true rfl, Nat.le_of_ble_eq_true rfl⟩ rfl rfl rfl hl.1 rfl (Nat.le_of_ble_eq_true rfl) dJ1_length_6 ⟨Nat.le_of_ble_eq_true rfl, Nat.le_of_ble_eq_true rfl⟩ (fun H locs h => ?_)
  refine lv_ishr C.1 C.2.1 dJ1_length_9 ?_
  have e1 : Int32.ofNat (lenS.getD i 0) >>> ((0 : Int32) &&& 31) = nI (lenS.getD i 0) := sb_shr0 _
  refine W.eq (g2 := F0 m 10 ls [.int (nI (lenS.getD i 0))]) (by rw [← e1]) ?_
  exact x_iret C h dJ1_length_10
theorem wJ3_checkIndex {i n : Int32} {q : Value} (h1 : ¬ i < 0) (h2 : i < n) (hq : q = .null ∨ ∃ t, q = .ref t) : Met l yJ3_checkIndex (ws_ yJ3_checkIndex cJ3_checkIndex 3 (some .int)) ({ frames := 0, cells := 0, slots := 0, locals := 0 } : Room) (Pn s0 D ac [.int i, .int n, q] σ) (Qn s0 D ac (some (.int i)) σ) 0 0 (fr s0) := by
  have hcat : (lg_sl [.int i, .int n, q]).length ≤ 3 := by rcases hq with rfl | ⟨t, rfl⟩ <;> exact Nat.le_of_ble_eq_true rfl
  refine x_met (by decide) hcat ?_
  intro p e s m args below meth c ls C hnm h hl
  have C : Cx s0 p s m args meth c cJ3_checkIndex 3 "jdk/internal/util/Preconditions" (some .int) := C
  have hl : lv_has ls 3 [(0, .int i), (1, .int n), (2, q)] := by rcases hq with rfl | ⟨t, rfl⟩ <;> exact hl
  refine lv_iload_n C.1 C.2.1 dJ3_checkIndex_0 rfl (lv_at hl 0 rfl) ?_
  refine lv_if_lt (tgt := 9) C.1 C.2.1 dJ3_checkIndex_1 (by decide) (fun hc => absurd hc h1) (fun _ => ?_)
  refine lv_iload_n C.1 C.2.1 dJ3_checkIndex_4 rfl (lv_at hl 0 rfl) ?_
  refine lv_iload_n C.1 C.2.1 dJ3_checkIndex_5 rfl (lv_at hl 1 rfl) ?_
  refine lv_icmp_lt (tgt := 16) C.1 C.2.1 dJ3_checkIndex_6 (by decide) (fun _ => ?_) (fun hc => absurd h2 hc)
  refine lv_iload_n C.1 C.2.1 dJ3_checkIndex_16 rfl (lv_at hl 0 rfl) ?_
  exact x_iret C h dJ3_checkIndex_17
theorem wJ1_checkIndex {i n : Int32} (h1 : ¬ i < 0) (h2 : i < n) (G : Gl s0 A0 D ac) : Met l yJ1_checkIndex (ws_ yJ1_checkIndex cJ1_checkIndex 2 none) ({ frames := 1, cells := 0, slots := 0, locals := 22 } : Room) (Pn s0 D ac [.int i, .int n] σ) (Qn s0 D ac none σ) 0 0 (fr s0) := by
  refine x_met (by decide) (Nat.le_of_ble_eq_true rfl) ?_
  intro p e s m args below meth c ls C hnm h hl
  have C : Cx s0 p s m args meth c cJ1_checkIndex 2 "java/lang/String" none := C
  have hl : lv_has ls 2 [(0, .int i), (1, .int n)] := hl
  refine lv_iload_n C.1 C.2.1 dJ1_checkIndex_0 rfl (lv_at hl 0 rfl) ?_
  refine lv_iload_n C.1 C.2.1 dJ1_checkIndex_1 rfl (lv_at hl 1 rfl) ?_
  refine x_getsq C h G.2.2.2.2.2.2.2.1 q617 dJ1_checkIndex_2 (fun v1 hv1 => ?_)
  refine x_cS (rest := []) (As := [.int i, .int n, v1]) (n := 3) (ov := some (.int i)) C h (wJ3_checkIndex h1 h2 hv1) (lw_S q619 q620 q69 q621) (by decide +kernel) ⟨Nat.le_of_ble_eq_true rfl, Nat.le_of_ble_eq_true rfl⟩ rfl rfl rfl hl.1 rfl (Nat.le_of_ble_eq_true rfl) dJ1_checkIndex_5 ⟨Nat.le_of_ble_eq_true rfl, Nat.le_of_ble_eq_true rfl⟩ (fun H locs h => ?_)
  refine lv_pop C.1 C.2.1 dJ1_checkIndex_8 rfl ?_
  exact x_vret C h dJ1_checkIndex_9
/-- the sign at a place of a text -/
def schr (i k : Nat) : Int32 := (bytS.getD i []).getD k 0
theorem schr_ok : ∀ i, i < 22 → ∀ k, k < lenS.getD i 0 → narrow .char (.int (schr i k)) = .int (schr i k) ∧ ((schr i k &&& 255).toUInt32 % 65536).toInt32 = schr i k := by decide +kernel
theorem wJ2_charAt {i k t : Nat} (hi : i < 22) (hk : k < lenS.getD i 0) (hT : va_T .byte t (lenS.getD i 0) (fun j => .int ((bytS.getD i []).getD j 0)) (fun q => s0.heap.size ≤ q) s0 s0.heap) (hlen : lenS.getD i 0 < 2 ^ 31) (G : Gl s0 A0 D ac) : Met l yJ2_charAt (ws_ yJ2_charAt cJ2_charAt 2 (some .char)) ({ frames := 2, cells := 0, slots := 0, locals := 43 } : Room) (Pn s0 D ac [.ref t, .int (nI k)] σ) (Qn s0 D ac (some (.int (schr i k))) σ) 0 0 (fr s0) := by
  refine x_met (by decide) (Nat.le_of_ble_eq_true rfl) ?_
  intro p e s m args below meth c ls C hnm h hl
  have C : Cx s0 p s m args meth c cJ2_charAt 2 "java/lang/StringLatin1" (some .char) := C
  have hl : lv_has ls 2 [(0, .ref t), (1, .int (nI k))] := hl
  have hk31 : k < 2 ^ 31 := by omega
  refine lv_iload_n C.1 C.2.1 dJ2_charAt_0 rfl (lv_at hl 1 rfl) ?_
  refine lv_aload_n C.1 C.2.1 dJ2_charAt_1 rfl (lv_at hl 0 rfl) ?_
  refine x_lenT C h hT dJ2_charAt_2 ?_
  refine x_cS (rest := []) (As := [.int (nI k), .int (Int32.ofNat (lenS.getD i 0))]) (n := 2) (ov := none) C h (wJ1_checkIndex (nI_pos hk31) (nI_lt hk hlen) G) (lw_S q614 q615 q67 q616) (by decide +kernel) ⟨Nat.le_of_ble_eq_true rfl, Nat.le_of_ble_eq_true rfl⟩ rfl rfl rfl hl.1 rfl (Nat.le_of_ble_eq_true rfl) dJ2_charAt_3 ⟨Nat.le_of_ble_eq_true rfl, Nat.le_of_ble_eq_true rfl⟩ (fun H locs h => ?_)
  refine lv_aload_n C.1 C.2.1 dJ2_charAt_6 rfl (lv_at hl 0 rfl) ?_
  refine lv_iload_n C.1 C.2.1 dJ2_charAt_7 rfl (lv_at hl 1 rfl) ?_
  refine x_baldT C h hT (vp_in_nI hk hlen) dJ2_charAt_8 ?_
  refine lv_sipush (v := 255) C.1 C.2.1 dJ2_charAt_9 (by decide) ?_
  refine lv_iand C.1 C.2.1 dJ2_charAt_12 ?_
  refine lv_i2c (v := schr i k) C.1 C.2.1 dJ2_charAt_13 (by rw [nI_clamp hk31]; exact (schr_ok i hi k hk).2) ?_
  exact x_nret C h (schr_ok i hi k hk).1 dJ2_charAt_14
theorem lenS_lt : ∀ i, i < 22 → lenS.getD i 0 < 2 ^ 31 := by decide +kernel
theorem wJ1_charAt {i k : Nat} (hi : i < 22) (hk : k < lenS.getD i 0) (G : Gl s0 A0 D ac) : Met l yJ1_charAt (ws_ yJ1_charAt cJ1_charAt 2 (some .char)) ({ frames := 3, cells := 0, slots := 0, locals := 64 } : Room) (Pn s0 D ac [.ref (sA s0 i), .int (nI k)] σ) (Qn s0 D ac (some (.int (schr i k))) σ) 0 0 (fr s0) := by
  obtain ⟨adV, hS⟩ := G.2.2.2.2.1
  refine x_met (by decide) (Nat.le_of_ble_eq_true rfl) ?_
  intro p e s m args below meth c ls C hnm h hl
  have C : Cx s0 p s m args meth c cJ1_charAt 2 "java/lang/String" (some .char) := C
  have hl : lv_has ls 2 [(0, .ref (sA s0 i)), (1, .int (nI k))] := hl
  refine lv_aload_n C.1 C.2.1 dJ1_charAt_0 rfl (lv_at hl 0 rfl) ?_
  refine x_cT (i := i) (rest := []) (As := []) (n := 0) (ov := some (.int 1)) G C h hi (wJ1_isLatin1 hi G) (lw_V q607 q608 q609 q67 q610) (by decide +kernel) ⟨Nat.le_of_ble_eq_true rfl, Nat.le_of_ble_eq_true rfl⟩ rfl rfl rfl hl.1 rfl (Nat.le_of_ble_eq_true rfl) dJ1_charAt_1 ⟨Nat.le_of_ble_eq_true rfl, Nat.le_of_ble_eq_true rfl⟩ (fun H locs h => ?_)
  refine lv_if_eq (tgt := 16) C.1 C.2.1 dJ1_charAt_4 (by decide) (fun hc => absurd hc (by decide)) (fun _ => ?_)
  refine lv_aload_n C.1 C.2.1 dJ1_charAt_7 rfl (lv_at hl 0 rfl) ?_
  refine x_getO C h (hS.1 i hi).2.2.1 q1526 dJ1_charAt_8 ?_
  refine lv_iload_n C.1 C.2.1 dJ1_charAt_11 rfl (lv_at hl 1 rfl) ?_
  refine x_cS (rest := []) (As := [.ref (adV i), .int (nI k)]) (n := 2) (ov := some (.int (schr i k))) C h (wJ2_charAt hi hk (hS.1 i hi).2.2.2 (lenS_lt i hi) G) (lw_S q611 q612 q68 q613) (by decide +kernel) ⟨Nat.le_of_ble_eq_true rfl, Nat.le_of_ble_eq_true rfl⟩ rfl rfl rfl hl.1 rfl (Nat.le_of_ble_eq_true rfl) dJ1_charAt_12 ⟨Nat.le_of_ble_eq_true rfl, Nat.le_of_ble_eq_true rfl⟩ (fun H locs h => ?_)
  exact x_nret C h (schr_ok i hi k hk).1 dJ1_charAt_15
end METS
/-! the rows of the two calls on a text -/
def o_slen {α : Type} (i : Nat) (K : Int32 → Option α) : Option α := if i < 22 then K (nI (lenS.getD i 0)) else none
def o_schr {α : Type} (i : Nat) (k : Int32) (K : Int32 → Option α) : Option α := if i < 22 ∧ ¬ (k < 0 ∨ lenS.getD i 0 ≤ k.toNatClampNeg) then K (schr i k.toNatClampNeg) else none
section ROWS
variable {p : Program} {l : Launch} {e : Env} {R : Room} {s : State} {m : MethodId} {args : Array Value} {below : List Frame} {meth : Method} {c : Code} {H : Heap} {locs : List Loc} {cells slots : Nat} {Q : State → Prop}
variable {s0 : State} {A0 : Array Value} {D : va_G} {ac : Nat → ClassId} {σ : St} {cc : ByteArray} {nL : Nat} {own : String} {ret : Option FieldType} {pc : Nat} {ls : Array Slot} {rest : List Value} {idx i : Nat} {α : Type} {r : α}
theorem x_slen {K : Int32 → Option α} (G : Gl s0 A0 D ac) (C : Cx s0 p s m args meth c cc nL own ret) (h : Hs s0 D ac σ H locs) (hlk : Cond.methodLink own idx yJ1_length ∈ lw_all) (hR : 2 ≤ R.frames ∧ 40 ≤ R.locals) (hsize : ls.size = nL) (hW : (rest.map fun v => v.category).sum ≤ 8) (hdg : decode cc pc = .ok (.invokevirtual idx, 3)) (hfc : cells + 0 ≤ R.cells ∧ slots + 0 ≤ R.slots) (hf : o_slen i K = some r)
    (kk : ∀ x (H : Heap) (locs : List Loc), Hs s0 D ac σ H locs → K x = some r → W p l e R s m args below meth c H locs cells slots Q (F0 m (pc + 3) ls (.int x :: rest))) : W p l e R s m args below meth c H locs cells slots Q (F0 m pc ls (.ref (sA s0 i) :: rest)) := by
  unfold o_slen at hf
  split at hf
  · next hi => exact x_cT (i := i) (rest := rest) (As := []) (n := 0) (ov := some (.int (nI (lenS.getD i 0)))) G C h hi (wJ1_length hi G) (lw_V hlk q594 q595 q67 q596) (by decide +kernel) ⟨Nat.le_trans (by decide) hR.1, Nat.le_trans (by decide) hR.2⟩ rfl rfl rfl hsize rfl hW hdg hfc (fun H locs h => kk _ H locs h hf)
  · cases hf
theorem x_schr {K : Int32 → Option α} {k : Int32} (G : Gl s0 A0 D ac) (C : Cx s0 p s m args meth c cc nL own ret) (h : Hs s0 D ac σ H locs) (hlk : Cond.methodLink own idx yJ1_charAt ∈ lw_all) (hR : 4 ≤ R.frames ∧ 85 ≤ R.locals) (hsize : ls.size = nL) (hW : (rest.map fun v => v.category).sum ≤ 8) (hdg : decode cc pc = .ok (.invokevirtual idx, 3)) (hfc : cells + 0 ≤ R.cells ∧ slots + 0 ≤ R.slots) (hf : o_schr i k K = some r)
    (kk : ∀ x (H : Heap) (locs : List Loc), Hs s0 D ac σ H locs → K x = some r → W p l e R s m args below meth c H locs cells slots Q (F0 m (pc + 3) ls (.int x :: rest))) : W p l e R s m args below meth c H locs cells slots Q (F0 m pc ls (.int k :: .ref (sA s0 i) :: rest)) := by
  unfold o_schr at hf
  split at hf
  · next hc =>
    obtain ⟨hi, hk⟩ := hc
    obtain ⟨k', hk', rfl⟩ := vp_in_of (x := k) hk (lenS_lt i hi)
    rw [nI_clamp (by have := lenS_lt i hi; omega)] at hf
    exact x_cT (i := i) (rest := rest) (As := [.int (nI k')]) (n := 1) (ov := some (.int (schr i k'))) G C h hi (wJ1_charAt hi hk' G) (lw_V hlk q604 q605 q67 q606) (by decide +kernel) ⟨Nat.le_trans (by decide) hR.1, Nat.le_trans (by decide) hR.2⟩ rfl rfl rfl hsize rfl hW hdg hfc (fun H locs h => kk _ H locs h hf)
  · cases hf
end ROWS
