set_option maxRecDepth 100000
/-! faultOf: what is thrown is caught -/
theorem dX0_faultOf_0 : decode cX0_faultOf 0 = .ok (.aload_n 0, 1) := by decide +kernel
theorem dX0_faultOf_1 : decode cX0_faultOf 1 = .ok (.getfield 71, 3) := by decide +kernel
theorem dX0_faultOf_4 : decode cX0_faultOf 4 = .ok (.aload_n 1, 1) := by decide +kernel
theorem dX0_faultOf_5 : decode cX0_faultOf 5 = .ok (.invokevirtual 214, 3) := by decide +kernel
theorem dX0_faultOf_8 : decode cX0_faultOf 8 = .ok (.iconst (-1), 1) := by decide +kernel
theorem dX0_faultOf_9 : decode cX0_faultOf 9 = .ok (.ireturn, 1) := by decide +kernel
theorem dX0_faultOf_10 : decode cX0_faultOf 10 = .ok (.astore_n 2, 1) := by decide +kernel
theorem dX0_faultOf_11 : decode cX0_faultOf 11 = .ok (.aload_n 2, 1) := by decide +kernel
theorem dX0_faultOf_12 : decode cX0_faultOf 12 = .ok (.getfield 220, 3) := by decide +kernel
theorem dX0_faultOf_15 : decode cX0_faultOf 15 = .ok (.ireturn, 1) := by decide +kernel
def fX0_faultOf (σ : St) (a0 a1 : Nat) : Option (Int32 × St) :=
  o_gR σ a0 0 13 fun r =>
  o_k σ r 4 <|
  (fX6_read σ r a1).bind fun rx => match rx with
    | .inl q => some (-1, q.2)
    | .inr q => o_gI q.2 q.1 11 0 fun v => some (v, q.2)
theorem find_cold {e : Env} {s : State} {f : JFrame} {a : Addr} {meth : Method} {code : Code} {x : ExceptionTableEntry} {c : ClassId} {vm' : Vm} {cell : Cell} (hm : s.vm.method? f.method = some meth) (hc : meth.code = some code) (ht : code.exceptionTable.toList = [x]) (hx : covers x f.pc = true) (h0 : x.catchType ≠ 0)
    (hg : (Jvm.resolveClass f.method.cls x.catchType).Gives e.toSetting s.vm (.ok c) vm') (hsz : vm'.classes.size ≤ s.vm.classes.size) (hcell : s.heap[a]? = some cell) (hobj : ∀ k, cell.vm ≠ .statics k) (hk : ∃ k, vm'.classes[cell.cls]? = some k) (hcl : ∃ k, vm'.classes[c]? = some k) (hfit : vm'.assignable cell.cls c = true) :
    ∀ (Q : Handler → Pre) (E : CtlPost) (d : Bool) (acts : List Action), wp (findHandler f a) Q E e d acts s ↔ Q (.found x.handlerPc) d acts (s.setVm vm') := by
  intro Q E d acts
  rw [W.findHandler_eq hm hc, ht]
  obtain ⟨ha, htb⟩ := hg.op (op := VmOp.resolveClass f.method.cls x.catchType) rfl
  simp only [covers] at hx
  simp [findHandler.go, hx, h0, ha, htb, hsz, hcell, hobj, hk, hcl, hfit, VmOp.dirties, VmOp.acts]
theorem caught_cold {tb : Tables} {e : Env} {s target : State} {g : JFrame} {c : Code} {below : List Frame} {a : Addr} {vm' : Vm} {pc : Nat} (h : At s g.method c below)
    (hfind : ∀ (Q : Handler → Pre) (E : CtlPost) (d : Bool) (acts : List Action), wp (findHandler g a) Q E e d acts ((s.setTop g).pushFrame (.throwing a)) ↔ Q (.found pc) d acts (((s.setTop g).pushFrame (.throwing a)).setVm vm'))
    (hrest : Steps tb e below ((s.setVm vm').setTop { g with pc := pc, stack := [.ref a] }) target) : Steps tb e below ((s.setTop g).pushFrame (.throwing a)) target := by
  obtain ⟨hgo, hw⟩ := h.throwing a
  refine Steps.head hgo hw ?_
  have hstep : (stepThrowing e ((s.setTop g).pushFrame (.throwing a)) a (.java g :: s.frames.tail)).Is ((((s.setTop g).pushFrame (.throwing a)).setVm vm').setFrames (.java { g with pc := pc, stack := [.ref a] } :: s.frames.tail)) [] := by
    simp only [stepThrowing, searchFrame, vmDo]
    generalize hr : Sem.go _ e false [] _ = res
    obtain ⟨as, rfl, ha⟩ := Sem.eq_ok_of hr (a := Handler.found pc) (s' := ((s.setTop g).pushFrame (.throwing a)).setVm vm') (acts' := []) (by simp [hfind _ _ _ _])
    exact ⟨rfl, ha⟩
  rw [stepThread_throwing (frames_entered h.top _), hstep.1]
  obtain ⟨g₀, hg⟩ := Option.isSome_iff_exists.mp h.top
  obtain ⟨r, hr⟩ := State.topJava?_eq_some.mp hg
  have hr2 : (s.setVm vm').frames = .java g₀ :: r := hr
  rw [State.setTop_of_frames _ hr2] at hrest
  rw [State.pushFrame, State.setTop_of_frames _ hr, State.setFrames_setFrames]
  rw [hr]
  have e9 : ∀ X Y : List Frame, ((s.setFrames X).setVm vm').setFrames Y = (s.setVm vm').setFrames Y := fun X Y => by
    show ((s.setVm vm').setFrames X).setFrames Y = _
    rw [State.setFrames_setFrames]
  rw [e9]
  exact hrest
section ROWS
variable {p : Program} {l : Launch} {e : Env} {R : Room} {s : State} {m : MethodId} {args : Array Value} {below : List Frame} {meth : Method} {c : Code} {H : Heap} {locs : List Loc} {cells slots : Nat} {Q : State → Prop}
variable {s0 : State} {A0 : Array Value} {D : va_G} {ac : Nat → ClassId} {σ : St} {cc : ByteArray} {nL : Nat} {own : String} {ret : Option FieldType} {pc : Nat} {ls : Array Slot} {rest : List Value} {a ci idx : Nat}
variable {y : MethodName} {bytes : ByteArray} {maxL mc ms n : Nat} {rt : Option FieldType} {rm : Room} {As st0 : List Value} {b : Nat} {σ' : St} {ov : Option Value} {hh : List (Nat × Nat × Nat × Nat)}
/-- the call of a method with handlers -/
theorem x_cVW (G : Gl s0 A0 D ac) (C : Cx s0 p s m args meth c cc nL own ret) (h : Hs s0 D ac σ H locs) (hM : Met l y (wsW_ y bytes maxL rt hh) rm (Pn s0 D ac (.ref b :: As) σ) (Qn s0 D ac ov σ') mc ms (fr s0)) (hk : s_k σ b = some (.inl ci)) {q : vw_C} (hc : clA[ci]? = some q) (h1 : Cond.methodLink own idx y ∈ lw_all) (h2 : Cond.instanceMethod y ∈ lw_all) (h3 : Cond.selects q.1 y y ∈ lw_all) (h4 : Cond.initialized q.1 ∈ lw_all) (h5 : Cond.codeWith y bytes maxL rt hh ∈ lw_all)
    (hd : y.cls = q.1 ∧ y.cls ≠ "java/lang/invoke/MethodHandle" ∧ y.cls ≠ "java/lang/invoke/VarHandle" ∧ (parseMethodDescriptor y.desc).map (fun d => d.parameters.length) = some n) (hR : rm.frames + 1 ≤ R.frames ∧ 8 + (maxL + 11) + rm.locals ≤ R.locals) (hrc : rm.cells = mc) (hrs : rm.slots = ms) (hn : As.length = n) (hsize : ls.size = nL) (hst : st0 = As.reverse ++ .ref b :: rest) (hW : (rest.map fun v => v.category).sum ≤ 8) (hdg : decode cc pc = .ok (.invokevirtual idx, 3)) (hf : cells + mc ≤ R.cells ∧ slots + ms ≤ R.slots)
    (kk : ∀ (H : Heap) (locs : List Loc), Hs s0 D ac σ' H locs → W p l e R s m args below meth c H locs (cells + mc) (slots + ms) Q (F0 m (pc + 3) ls (ov.toList ++ rest))) : W p l e R s m args below meth c H locs cells slots Q (F0 m pc ls st0) := by
  refine x_run (σ := σ) (av := (Value.ref b :: As).toArray) ?_ h kk
  have hts := C.2.2.2.2.1
  have hK : Back l R p e below s args y 3 8 (PreOf R mc ms (Pn s0 D ac (.ref b :: As) σ)) (PostOf (Qn s0 D ac ov σ') mc ms (fr s0)) := va_backW hM Pn.blind hrc hrs hR.1 hR.2 (pay_in hts (lw_methW h5)) List.mem_cons_self (fun a' U hW => word_at hW (Or.inl (by first | rfl | simp [Cond.onTables, Cond.keeps, Cond.steady])) (hts _ (by rw [hd.1]; exact h4)))
  intro T hT X
  obtain ⟨cellB, hcB, hoB, hclB⟩ := h.recv G C hk hc
  have hcB : T.heap[b]? = some cellB := by rw [hT]; exact hcB
  obtain ⟨mk, methM, hnamed, hmethM, hstM, habM⟩ := Cond.instanceMethod_spec (hts _ h2)
  obtain ⟨m9, methM', cM, hn9, hmethM', -, -, -, -, -, -, hsigM⟩ := Cond.codeWith_spec (hts _ h5)
  cases hnamed.symm.trans hn9
  cases hmethM.symm.trans hmethM'
  obtain ⟨c2, r2, m2, q1, q2, q3, q4, kP, hkP, hkPi⟩ := Cond.selects_spec (hts _ h3)
  cases hclB.symm.trans q1
  cases (State.methodFound?_of_named hnamed ⟨hd.2.1, hd.2.2.1⟩).symm.trans q2
  cases hnamed.symm.trans q3
  have hselP : selectMethod e.platform s.vm cellB.cls mk = .method mk := by rw [Launch.admits_selectMethod X.admits]; exact q4
  have hlen : ∀ sig, parseMethodDescriptor y.desc = some sig → As.length = sig.parameters.length := by
    intro sig hs
    have h9 := hd.2.2.2
    rw [hs] at h9
    rw [hn]; exact (Option.some.inj h9).symm
  have hdg2 : decode c.code pc = .ok (.invokevirtual idx, 3) := by rw [C.2.1]; exact hdg
  have hsz2 : ls.size = c.maxLocals := by rw [C.2.2.1]; exact hsize
  obtain ⟨vm₁, X₁, hstep₁⟩ := X.invokevirtual C.1 C.2.2.2.1 (hts _ h1) hnamed hmethM hstM hkP hkPi ⟨hd.2.1, hd.2.2.1⟩ (a := b) (cell := cellB) hcB
    (fun z h => by rw [h] at hoB; cases hoB) hselP hmethM habM hkP hkPi (g := F0 m pc ls st0) rfl (argsL := As) (rest := rest) (hlen _ hsigM) hst hdg2
  obtain ⟨v, ⟨U', l2, c2, s2⟩, X', ⟨g', mk', t, L, e1, e2, hq, g1, hL, g2, g3⟩, hsteps⟩ := hK m meth c ⟨T.setVm vm₁, locs, cells, slots⟩ (F0 m pc ls rest) (.invokevirtual idx) mk (Value.ref b :: As).toArray X₁ rfl hsz2 hdg2 (lv_room hW) (X₁.named hnamed) ⟨hf.1, hf.2, h.pre C _ (T.setVm vm₁) hT X₁.warmed⟩
  dsimp only [Pt.U, Pt.locs, Pt.cells, Pt.slots] at X' e1 e2 g1 g2 g3 hsteps
  subst g1; subst g2; subst g3
  exact ⟨v, (T.setVm vm₁).calling g' mk' (Value.ref b :: As).toArray, t, U', L, hT, X', hL, e1, e2, hq, fun target h => hstep₁ _ fun acts => by rw [doInvoke_state]; exact hsteps.trans h⟩
end ROWS
theorem wX0_faultOf {l : Launch} {s0 : State} {A0 : Array Value} {D : va_G} {ac : Nat → ClassId} (G : Gl s0 A0 D ac) {σ : St} {a0 a1 : Nat} {v : Int32} {σ' : St} (hf : fX0_faultOf σ a0 a1 = some (v, σ')) : Met l yX0_faultOf (wsW_ yX0_faultOf cX0_faultOf 3 (some .int) [(0, 9, 10, 218)]) ({ frames := 9, cells := 199, slots := 1173, locals := 195 } : Room) (Pn s0 D ac [.ref a0, .ref a1] σ) (Qn s0 D ac (some (.int v)) σ') 199 1173 (fr s0) := by
  refine va_MetW (cc := cX0_faultOf) (maxL := 3) (ret := some .int) (hh := [(0, 9, 10, 218)]) (by decide) rfl ?_
  intro p e s m args below meth c s₁ B hml hv
  obtain ⟨rfl, hwarm, hH⟩ := hv
  have hts0 := atoms_spec (ws := wsW_ yX0_faultOf cX0_faultOf 3 (some .int) [(0, 9, 10, 218)]) B.pre
  have hts : ∀ w ∈ lw_all, w.before _ s = true := fun w h => hts0 w (List.mem_cons_of_mem _ h)
  have hown : s.vm.findClass "HutForShow" = some m.cls := findClass_of_methodNamed B.named
  have htab : c.exceptionTable.toList.map (fun h => (h.startPc, h.endPc, h.handlerPc, h.catchType)) = [(0, 9, 10, 218)] := by
    obtain ⟨m9, meth9, c9, n9, k1, k2, -, -, k5, -⟩ := Cond.codeWith_spec (hts0 _ List.mem_cons_self)
    cases B.named.symm.trans n9
    cases B.method.symm.trans k1
    cases (Stand.of_body B).code.symm.trans k2
    exact k5
  have hl := lv_entry [.ref a0, .ref a1] (n := 3) (Nat.le_of_ble_eq_true rfl)
  rw [lg_entry_eq]
  generalize (lg_sl [.ref a0, .ref a1] ++ List.replicate (3 - (lg_sl [.ref a0, .ref a1]).length) Slot.unset).toArray = ls at hl ⊢
  have hl : lv_has ls 3 [(0, .ref a0), (1, .ref a1)] := hl
  have C : Cx s0 p s m ([.ref a0, .ref a1] : List Value).toArray meth c cX0_faultOf 3 "HutForShow" (some .int) := ⟨B.exec, B.bytes, hml, hown, hts, B.returns, B.notSynchronized, hwarm⟩
  have h : Hs s0 D ac σ s.heap [] := ⟨hH, fun l h => by cases h⟩
  have hx := C.1
  have hb := C.2.1
  unfold fX0_faultOf at hf
  refine lv_aload_n hx hb dX0_faultOf_0 rfl (lv_at hl 0 rfl) ?_
  refine x_gR (q := (RX0, TX0, 33)) (j := 13) G C h rfl (by decide) (fun _ _ _ => rfl) (lk C q222) (fun _ z => z) dX0_faultOf_1 hf (fun r hf => ?_)
  refine lv_aload_n hx hb dX0_faultOf_4 rfl (lv_at hl 1 rfl) ?_
  obtain ⟨hk, hf⟩ := k_of hf
  obtain ⟨rx, hc, hf⟩ := hf_b hf
  have hM : MetX l yX6_read (ws_ yX6_read cX6_read 2 none) ({ frames := 8, cells := 199, slots := 1173, locals := 174 } : Room) (Pn s0 D ac [.ref r, .ref a1] σ) (Qx s0 D ac (resO kV rx) (resS rx)) 199 1173 (fr s0) := wX6_read G hc
  match rx, hM, hf with
  | .inl (u, σ1), hM, hf =>
    refine x_cV (q := (RX6, TX6, 4)) (rest := []) (As := [.ref a1]) (n := 1) (ov := none) (σ' := σ1) G C h (MetX.toMet (Qc := Qn s0 D ac none σ1) hM (fun _ _ _ _ h => ⟨_, h.1⟩)) hk rfl (lw_V q557 q558 q559 q60 q560) (by decide +kernel) ⟨Nat.le_of_ble_eq_true rfl, Nat.le_of_ble_eq_true rfl⟩ rfl rfl rfl hl.1 rfl (Nat.le_of_ble_eq_true rfl) dX0_faultOf_5 ⟨Nat.le_of_ble_eq_true rfl, Nat.le_of_ble_eq_true rfl⟩ (fun H locs h => ?_)
    have hf : some ((-1 : Int32), σ1) = some (v, σ') := hf
    cases hf
    refine lv_iconst (v := -1) hx hb dX0_faultOf_8 (by decide) ?_
    refine W.widen (k := 199) (n := 1173) (Nat.le_of_ble_eq_true rfl) (Nat.le_of_ble_eq_true rfl) ?_
    exact x_iret C h dX0_faultOf_9
  | .inr (x, σ1), hM, hf =>
    have hf : o_gI σ1 x 11 0 (fun v => some (v, σ1)) = some (v, σ') := hf
    have hkx : s_k σ1 x = some (.inl 11) := by
      unfold o_gI at hf
      split at hf
      · next h => exact h
      · cases hf
    intro T hT X
    obtain ⟨cellB, hcB, hoB, hclB⟩ := h.recv G C hk (q := (RX6, TX6, 4)) rfl
    have hcB : T.heap[r]? = some cellB := by rw [hT]; exact hcB
    obtain ⟨mk, methM, hnamed, hmethM, hstM, habM⟩ := Cond.instanceMethod_spec (hts _ q558)
    obtain ⟨methM', cM, hmethM', -, -, -, -, -, -, hsigM⟩ := Cond.code_spec hnamed (hts _ q560)
    cases hmethM.symm.trans hmethM'
    obtain ⟨c2, r2, m2, q1, q2, q3, q4, kP, hkP, hkPi⟩ := Cond.selects_spec (hts _ q559)
    cases hclB.symm.trans q1
    have hnm : yX6_read.cls ≠ "java/lang/invoke/MethodHandle" ∧ yX6_read.cls ≠ "java/lang/invoke/VarHandle" := by decide
    cases (State.methodFound?_of_named hnamed hnm).symm.trans q2
    cases hnamed.symm.trans q3
    have hselP : selectMethod e.platform s.vm cellB.cls mk = .method mk := by rw [Launch.admits_selectMethod X.admits]; exact q4
    have hlen : ∀ sig, parseMethodDescriptor yX6_read.desc = some sig → ([.ref a1] : List Value).length = sig.parameters.length := by
      intro sig hs
      have h9 : (parseMethodDescriptor yX6_read.desc).map (fun d => d.parameters.length) = some 1 := by decide +kernel
      rw [hs] at h9
      exact (Option.some.inj h9).symm
    have hdg2 : decode c.code 5 = .ok (.invokevirtual 214, 3) := by rw [C.2.1]; exact dX0_faultOf_5
    have hsz2 : ls.size = c.maxLocals := by rw [C.2.2.1]; exact hl.1
    obtain ⟨vm₁, X₁, hstep₁⟩ := X.invokevirtual C.1 C.2.2.2.1 (hts _ q557) hnamed hmethM hstM hkP hkPi hnm (a := r) (cell := cellB) hcB
      (fun z h => by rw [h] at hoB; cases hoB) hselP hmethM habM hkP hkPi (g := F0 m 5 ls [.ref a1, .ref r]) rfl (argsL := [.ref a1]) (rest := []) (hlen _ hsigM) rfl hdg2
    obtain ⟨v9, T', t, st, L, X', hL, e1, ⟨hv9, hH9⟩, hsteps⟩ := bkT (U := T.setVm vm₁) (g := F0 m 5 ls []) (Wn := 8) (ig := .invokevirtual 214) (maxL := 2) (rt := none) hM (fun _ _ _ _ h => ⟨_, h.1⟩) Pn.blind rfl rfl (Nat.le_of_ble_eq_true rfl) (Nat.le_of_ble_eq_true rfl) (pay_in hts (lw_meth q560)) List.mem_cons_self (fun a' U hW => word_at hW (Or.inl (by first | rfl | simp [Cond.onTables, Cond.keeps, Cond.steady])) (hts _ q60)) X₁ rfl hsz2 hdg2 (Nat.le_of_ble_eq_true rfl) (X₁.named hnamed) (Nat.le_of_ble_eq_true rfl) (Nat.le_of_ble_eq_true rfl) (h.pre C _ (T.setVm vm₁) hT X₁.warmed)
    have hv9 : Outcome.threw v9 = .threw x := hv9
    cases hv9
    have hH2 : Hs s0 D ac σ1 T'.heap ([] ++ L) := ⟨by rw [e1]; exact hH9, fun q hq => hL q hq⟩
    have hpl : e.platform.magicAccessors = ({} : Platform).magicAccessors := by rw [X.admits.platform]
    obtain ⟨cF, hfF, hclF⟩ := Cond.classLink_spec hown (hts _ q556) e.platform hpl
    obtain ⟨hg₁, hwarm₁, hready₁⟩ := State.classEntry (e := e) X'.warmed hclF
    generalize T'.vm.noted m.cls 218 (.cls cF) = vm₂ at hg₁ hwarm₁ hready₁
    obtain ⟨cellX, hX1, hX2, hX3⟩ := hH2.recv G C hkx (q := (RX14, TY14, 1)) rfl
    have eF : cF = cellX.cls := Option.some.inj (hfF.symm.trans hX3)
    obtain ⟨-, kF, hkF, -⟩ := (G.kn C (ci := 11) (q := (RX14, TY14, 1)) rfl).2
    have eD : D.1 11 = cellX.cls := Option.some.inj ((G.kn C (ci := 11) (q := (RX14, TY14, 1)) rfl).2.1.symm.trans hX3)
    rw [eD] at hkF
    obtain ⟨k2, hk2, -⟩ := hwarm₁.alike.2.2 _ _ hkF
    obtain ⟨xh, hxh⟩ : ∃ xh, c.exceptionTable.toList = [xh] := by
      cases hq9 : c.exceptionTable.toList with
      | nil => rw [hq9] at htab; cases htab
      | cons xh tl =>
        cases tl with
        | nil => exact ⟨xh, rfl⟩
        | cons y tl => rw [hq9] at htab; simp at htab
    rw [hxh] at htab
    have htab : xh.startPc = 0 ∧ xh.endPc = 9 ∧ xh.handlerPc = 10 ∧ xh.catchType = 218 := by simpa using htab
    have hfind := find_cold (e := e) (s := (T'.setTop (F0 m 5 ls [])).pushFrame (.throwing x)) (f := F0 m 5 ls []) (a := x) (meth := meth) (code := c) (x := xh) (c := cF) (vm' := vm₂) (cell := cellX) (by rw [Stand.throwing_vm]; exact X'.method') X'.code hxh (by simp [covers, htab.1, htab.2.1]) (by rw [htab.2.2.2]; decide) (by rw [Stand.throwing_vm, htab.2.2.2]; exact hg₁) (by rw [Stand.throwing_vm]; exact (alike_of X'.warmed hwarm₁).size_le) (by rw [Stand.throwing_heap]; exact hX1) (fun k hk => by rw [hk] at hX2; cases hX2) ⟨k2, hk2⟩ ⟨k2, by rw [eF]; exact hk2⟩ (by rw [hwarm₁.alike.assignable, eF]; rw [← eD]; exact va_assign (G.kn C (ci := 11) (q := (RX14, TY14, 1)) rfl).2)
    rw [htab.2.2.1] at hfind
    have hrest : W p l e ({ frames := 9, cells := 199, slots := 1173, locals := 195 } : Room) s m ([.ref a0, .ref a1] : List Value).toArray below meth c T'.heap ([] ++ L) (0 + 199) (0 + 1173) (MQ below (Qn s0 D ac (some (.int v)) σ') ([.ref a0, .ref a1] : List Value).toArray s 199 1173 (fr s0)) (F0 m 10 ls [.ref x]) := by
      refine lv_astore_n (lv' := [(2, .ref x), (0, .ref a0), (1, .ref a1)]) hx hb dX0_faultOf_10 rfl hl (by decide) rfl (fun ls hl => ?_)
      refine lv_aload_n hx hb dX0_faultOf_11 rfl (lv_at hl 0 rfl) ?_
      refine x_gI (q := (RX14, TY14, 1)) (j := 0) G C hH2 rfl (by decide) (fun _ _ _ => rfl) (lkn G C q711) (fun _ z => z) dX0_faultOf_12 hf (fun x1 hf => ?_)
      cases hf
      refine W.widen (k := 199) (n := 1173) (Nat.le_of_ble_eq_true rfl) (Nat.le_of_ble_eq_true rfl) ?_
      exact x_iret C hH2 dX0_faultOf_15
    obtain ⟨t2, a2, b2⟩ := hrest (T'.setVm vm₂) rfl (X'.noted hwarm₁)
    exact ⟨t2, (hstep₁ _ fun acts => by rw [doInvoke_state]; exact hsteps.trans (caught_cold (by exact X'.here) hfind a2)), b2⟩

theorem dX0_fault_0 : decode cX0_fault 0 = .ok (.iload_n 1, 1) := by decide +kernel
theorem dX0_fault_1 : decode cX0_fault 1 = .ok (.i2l, 1) := by decide +kernel
theorem dX0_fault_2 : decode cX0_fault 2 = .ok (.lconst 0, 1) := by decide +kernel
theorem dX0_fault_3 : decode cX0_fault 3 = .ok (.lconst 1, 1) := by decide +kernel
theorem dX0_fault_4 : decode cX0_fault 4 = .ok (.invokestatic 127, 3) := by decide +kernel
theorem dX0_fault_7 : decode cX0_fault 7 = .ok (.ifCond .ne 8, 3) := by decide +kernel
theorem dX0_fault_10 : decode cX0_fault 10 = .ok (.bipush (-3), 2) := by decide +kernel
theorem dX0_fault_12 : decode cX0_fault 12 = .ok (.goto 34, 3) := by decide +kernel
theorem dX0_fault_15 : decode cX0_fault 15 = .ok (.iload_n 1, 1) := by decide +kernel
theorem dX0_fault_16 : decode cX0_fault 16 = .ok (.ifCond .ne 18, 3) := by decide +kernel
theorem dX0_fault_19 : decode cX0_fault 19 = .ok (.aload_n 0, 1) := by decide +kernel
theorem dX0_fault_20 : decode cX0_fault 20 = .ok (.new 52, 3) := by decide +kernel
theorem dX0_fault_23 : decode cX0_fault 23 = .ok (.dup, 1) := by decide +kernel
theorem dX0_fault_24 : decode cX0_fault 24 = .ok (.aload_n 0, 1) := by decide +kernel
theorem dX0_fault_25 : decode cX0_fault 25 = .ok (.invokespecial 223, 3) := by decide +kernel
theorem dX0_fault_28 : decode cX0_fault 28 = .ok (.invokevirtual 224, 3) := by decide +kernel
theorem dX0_fault_31 : decode cX0_fault 31 = .ok (.goto 15, 3) := by decide +kernel
theorem dX0_fault_34 : decode cX0_fault 34 = .ok (.aload_n 0, 1) := by decide +kernel
theorem dX0_fault_35 : decode cX0_fault 35 = .ok (.new 58, 3) := by decide +kernel
theorem dX0_fault_38 : decode cX0_fault 38 = .ok (.dup, 1) := by decide +kernel
theorem dX0_fault_39 : decode cX0_fault 39 = .ok (.aload_n 0, 1) := by decide +kernel
theorem dX0_fault_40 : decode cX0_fault 40 = .ok (.invokespecial 228, 3) := by decide +kernel
theorem dX0_fault_43 : decode cX0_fault 43 = .ok (.invokevirtual 224, 3) := by decide +kernel
theorem dX0_fault_46 : decode cX0_fault 46 = .ok (.ireturn, 1) := by decide +kernel
def fX0_fault (σ : St) (a0 : Nat) (a1 : Int32) : Option (Int32 × St) :=
  (fX0_isIn σ (a1.toInt64) 0 1).bind fun x1 =>
  if x1 = 0 then
    some ((-3), σ)
  else
  if a1 = 0 then
    o_new σ 8 fun r7 σ8 =>
    (fX11_init σ8 r7 a0).bind fun σ9 =>
    o_k σ9 a0 0 <|
    (fX0_faultOf σ9 a0 r7).bind <| un2 fun x10 σ11 =>
    some (x10, σ11)
  else
  o_new σ 14 fun r2 σ3 =>
  (fX17_init σ3 r2 a0).bind fun σ4 =>
  o_k σ4 a0 0 <|
  (fX0_faultOf σ4 a0 r2).bind <| un2 fun x5 σ6 =>
  some (x5, σ6)

set_option maxHeartbeats 4000000 in
theorem wX0_fault {l : Launch} {s0 : State} {A0 : Array Value} {D : va_G} {ac : Nat → ClassId} (G : Gl s0 A0 D ac) {σ : St} {a0 : Nat} {a1 : Int32} {v : Int32} {σ' : St} (hf : fX0_fault σ a0 a1 = some (v, σ')) : Met l yX0_fault (ws_ yX0_fault cX0_fault 2 (some (.int))) ({ frames := 10, cells := 209, slots := 1215, locals := 217 } : Room) (Pn s0 D ac [.ref a0, .int a1] σ) (Qn s0 D ac (some (.int v)) σ') 209 1215 (fr s0) := by
  refine x_met (by decide) (Nat.le_of_ble_eq_true rfl) ?_
  intro p e s m args below meth c ls C hnm h hl
  have C : Cx s0 p s m args meth c cX0_fault 2 "HutForShow" (some (.int)) := C
  have hx := C.1
  have hb := C.2.1
  have hl : lv_has ls 2 [(0, .ref a0), (1, .int a1)] := hl
  unfold fX0_fault at hf
  refine lv_iload_n hx hb dX0_fault_0 rfl (lv_at hl 1 rfl) ?_
  refine lv_i2l hx hb dX0_fault_1 rfl ?_
  refine lv_lconst (v := 0) hx hb dX0_fault_2 (by decide) ?_
  refine lv_lconst (v := 1) hx hb dX0_fault_3 (by decide) ?_
  obtain ⟨x1, hc, hf⟩ := hf_b hf
  refine x_cS (rest := []) (As := [.long (a1.toInt64), .long 0, .long 1]) (n := 3) (ov := (some (.int x1))) C h (wX0_isIn G hc) (lw_S q318 q319 q54 q320) (by decide +kernel) ⟨Nat.le_of_ble_eq_true rfl, Nat.le_of_ble_eq_true rfl⟩ rfl rfl rfl hl.1 rfl (Nat.le_of_ble_eq_true rfl) dX0_fault_4 ⟨(Nat.le_of_ble_eq_true rfl), (Nat.le_of_ble_eq_true rfl)⟩ (fun H locs h => ?_)
  refine lv_if_ne (tgt := 15) hx hb dX0_fault_7 (by decide) (fun hc => ?_) (fun hc => ?_)
  · have hf := hf_f hc hf
    refine lv_iload_n hx hb dX0_fault_15 rfl (lv_at hl 1 rfl) ?_
    refine lv_if_ne (tgt := 34) hx hb dX0_fault_16 (by decide) (fun hc => ?_) (fun hc => ?_)
    · have hf := hf_f hc hf
      refine lv_aload_n hx hb dX0_fault_34 rfl (lv_at hl 0 rfl) ?_
      refine x_new (q := (RX17, TY17, 7)) G C h rfl (fun j _ => nf_all 14 j) q168 q789 q78 (Nat.le_of_ble_eq_true rfl) (Nat.le_of_ble_eq_true rfl) dX0_fault_35 hf (fun r2 σ3 H h hf => ?_)
      refine lv_dup hx hb dX0_fault_38 rfl ?_
      refine lv_aload_n hx hb dX0_fault_39 rfl (lv_at hl 0 rfl) ?_
      obtain ⟨σ4, hc, hf⟩ := hf_b hf
      refine x_cIN (rest := [.ref r2, .ref a0]) (As := [.ref a0]) (n := 1) (ov := none) G C h (wX17_init G hc) q790 q791 q78 q792 rfl (by decide +kernel) ⟨Nat.le_of_ble_eq_true rfl, Nat.le_of_ble_eq_true rfl⟩ rfl rfl rfl hl.1 rfl (Nat.le_of_ble_eq_true rfl) dX0_fault_40 ⟨(Nat.le_of_ble_eq_true rfl), (Nat.le_of_ble_eq_true rfl)⟩ (fun H locs h => ?_)
      obtain ⟨hk, hf⟩ := k_of hf
      obtain ⟨⟨x5, σ6⟩, hc, hf⟩ := hf_b hf
      have hf := hf_u2 hf
      refine x_cVW (q := (RX0, TX0, 33)) (rest := []) (As := [.ref r2]) (n := 1) (ov := (some (.int x5))) G C h (wX0_faultOf G hc) hk rfl q552 q554 qs3 q54 q555 (by decide +kernel) ⟨Nat.le_of_ble_eq_true rfl, Nat.le_of_ble_eq_true rfl⟩ rfl rfl rfl hl.1 rfl (Nat.le_of_ble_eq_true rfl) dX0_fault_43 ⟨(Nat.le_of_ble_eq_true rfl), (Nat.le_of_ble_eq_true rfl)⟩ (fun H locs h => ?_)
      cases hf
      refine W.widen (k := 209) (n := 1215) (Nat.le_of_ble_eq_true rfl) (Nat.le_of_ble_eq_true rfl) ?_
      exact x_iret C h dX0_fault_46
    · have hf := hf_t hc hf
      refine lv_aload_n hx hb dX0_fault_19 rfl (lv_at hl 0 rfl) ?_
      refine x_new (q := (RX11, TY11, 5)) G C h rfl (fun j _ => nf_all 8 j) q166 q516 q66 (Nat.le_of_ble_eq_true rfl) (Nat.le_of_ble_eq_true rfl) dX0_fault_20 hf (fun r7 σ8 H h hf => ?_)
      refine lv_dup hx hb dX0_fault_23 rfl ?_
      refine lv_aload_n hx hb dX0_fault_24 rfl (lv_at hl 0 rfl) ?_
      obtain ⟨σ9, hc, hf⟩ := hf_b hf
      refine x_cIN (rest := [.ref r7, .ref a0]) (As := [.ref a0]) (n := 1) (ov := none) G C h (wX11_init G hc) q517 q518 q66 q519 rfl (by decide +kernel) ⟨Nat.le_of_ble_eq_true rfl, Nat.le_of_ble_eq_true rfl⟩ rfl rfl rfl hl.1 rfl (Nat.le_of_ble_eq_true rfl) dX0_fault_25 ⟨(Nat.le_of_ble_eq_true rfl), (Nat.le_of_ble_eq_true rfl)⟩ (fun H locs h => ?_)
      obtain ⟨hk, hf⟩ := k_of hf
      obtain ⟨⟨x10, σ11⟩, hc, hf⟩ := hf_b hf
      have hf := hf_u2 hf
      refine x_cVW (q := (RX0, TX0, 33)) (rest := []) (As := [.ref r7]) (n := 1) (ov := (some (.int x10))) G C h (wX0_faultOf G hc) hk rfl q552 q554 qs3 q54 q555 (by decide +kernel) ⟨Nat.le_of_ble_eq_true rfl, Nat.le_of_ble_eq_true rfl⟩ rfl rfl rfl hl.1 rfl (Nat.le_of_ble_eq_true rfl) dX0_fault_28 ⟨(Nat.le_of_ble_eq_true rfl), (Nat.le_of_ble_eq_true rfl)⟩ (fun H locs h => ?_)
      refine lv_goto (tgt := 46) hx hb dX0_fault_31 (by decide) ?_
      cases hf
      refine W.widen (k := 209) (n := 1215) (Nat.le_of_ble_eq_true rfl) (Nat.le_of_ble_eq_true rfl) ?_
      exact x_iret C h dX0_fault_46
  · have hf := hf_t hc hf
    refine lv_bipush (v := (-3)) hx hb dX0_fault_10 (by decide) ?_
    refine lv_goto (tgt := 46) hx hb dX0_fault_12 (by decide) ?_
    cases hf
    refine W.widen (k := 209) (n := 1215) (Nat.le_of_ble_eq_true rfl) (Nat.le_of_ble_eq_true rfl) ?_
    exact x_iret C h dX0_fault_46

theorem dX0_habit_0 : decode cX0_habit 0 = .ok (.aload_n 0, 1) := by decide +kernel
theorem dX0_habit_1 : decode cX0_habit 1 = .ok (.iload_n 1, 1) := by decide +kernel
theorem dX0_habit_2 : decode cX0_habit 2 = .ok (.invokevirtual 145, 3) := by decide +kernel
theorem dX0_habit_5 : decode cX0_habit 5 = .ok (.ifCond .ne 6, 3) := by decide +kernel
theorem dX0_habit_8 : decode cX0_habit 8 = .ok (.bipush (-2), 2) := by decide +kernel
theorem dX0_habit_10 : decode cX0_habit 10 = .ok (.ireturn, 1) := by decide +kernel
theorem dX0_habit_11 : decode cX0_habit 11 = .ok (.new 52, 3) := by decide +kernel
theorem dX0_habit_14 : decode cX0_habit 14 = .ok (.dup, 1) := by decide +kernel
theorem dX0_habit_15 : decode cX0_habit 15 = .ok (.aload_n 0, 1) := by decide +kernel
theorem dX0_habit_16 : decode cX0_habit 16 = .ok (.invokespecial 223, 3) := by decide +kernel
theorem dX0_habit_19 : decode cX0_habit 19 = .ok (.astore_n 2, 1) := by decide +kernel
theorem dX0_habit_20 : decode cX0_habit 20 = .ok (.aload_n 0, 1) := by decide +kernel
theorem dX0_habit_21 : decode cX0_habit 21 = .ok (.aload_n 2, 1) := by decide +kernel
theorem dX0_habit_22 : decode cX0_habit 22 = .ok (.invokevirtual 224, 3) := by decide +kernel
theorem dX0_habit_25 : decode cX0_habit 25 = .ok (.iconst (-1), 1) := by decide +kernel
theorem dX0_habit_26 : decode cX0_habit 26 = .ok (.if_icmp .eq 6, 3) := by decide +kernel
theorem dX0_habit_29 : decode cX0_habit 29 = .ok (.bipush (-4), 2) := by decide +kernel
theorem dX0_habit_31 : decode cX0_habit 31 = .ok (.ireturn, 1) := by decide +kernel
theorem dX0_habit_32 : decode cX0_habit 32 = .ok (.aload_n 0, 1) := by decide +kernel
theorem dX0_habit_33 : decode cX0_habit 33 = .ok (.getfield 54, 3) := by decide +kernel
theorem dX0_habit_36 : decode cX0_habit 36 = .ok (.iload_n 1, 1) := by decide +kernel
theorem dX0_habit_37 : decode cX0_habit 37 = .ok (.aload_n 2, 1) := by decide +kernel
theorem dX0_habit_38 : decode cX0_habit 38 = .ok (.aastore, 1) := by decide +kernel
theorem dX0_habit_39 : decode cX0_habit 39 = .ok (.aload_n 0, 1) := by decide +kernel
theorem dX0_habit_40 : decode cX0_habit 40 = .ok (.iconst 0, 1) := by decide +kernel
theorem dX0_habit_41 : decode cX0_habit 41 = .ok (.putfield 211, 3) := by decide +kernel
theorem dX0_habit_44 : decode cX0_habit 44 = .ok (.aload_n 2, 1) := by decide +kernel
theorem dX0_habit_45 : decode cX0_habit 45 = .ok (.getfield 229, 3) := by decide +kernel
theorem dX0_habit_48 : decode cX0_habit 48 = .ok (.ireturn, 1) := by decide +kernel
def fX0_habit (σ : St) (a0 : Nat) (a1 : Int32) : Option (Int32 × St) :=
  o_k σ a0 0 <|
  (fX0_isHut σ a0 a1).bind fun x1 =>
  if x1 = 0 then
    some ((-2), σ)
  else
  o_new σ 8 fun r2 σ3 =>
  (fX11_init σ3 r2 a0).bind fun σ4 =>
  o_k σ4 a0 0 <|
  (fX0_faultOf σ4 a0 r2).bind <| un2 fun x5 σ6 =>
  if x5 = ((-1)) then
    o_gR σ6 a0 0 9 fun r7 =>
    o_sR σ6 r7 6 a1 r2 fun σ8 =>
    o_pI σ8 a0 0 12 0 fun σ9 =>
    o_gI σ9 r2 8 0 fun x10 =>
    some (x10, σ9)
  else
  some ((-4), σ6)

set_option maxHeartbeats 4000000 in
theorem wX0_habit {l : Launch} {s0 : State} {A0 : Array Value} {D : va_G} {ac : Nat → ClassId} (G : Gl s0 A0 D ac) {σ : St} {a0 : Nat} {a1 : Int32} {v : Int32} {σ' : St} (hf : fX0_habit σ a0 a1 = some (v, σ')) : Met l yX0_habit (ws_ yX0_habit cX0_habit 3 (some (.int))) ({ frames := 10, cells := 209, slots := 1215, locals := 217 } : Room) (Pn s0 D ac [.ref a0, .int a1] σ) (Qn s0 D ac (some (.int v)) σ') 209 1215 (fr s0) := by
  refine x_met (by decide) (Nat.le_of_ble_eq_true rfl) ?_
  intro p e s m args below meth c ls C hnm h hl
  have C : Cx s0 p s m args meth c cX0_habit 3 "HutForShow" (some (.int)) := C
  have hx := C.1
  have hb := C.2.1
  have hl : lv_has ls 3 [(0, .ref a0), (1, .int a1)] := hl
  unfold fX0_habit at hf
  refine lv_aload_n hx hb dX0_habit_0 rfl (lv_at hl 0 rfl) ?_
  refine lv_iload_n hx hb dX0_habit_1 rfl (lv_at hl 1 rfl) ?_
  obtain ⟨hk, hf⟩ := k_of hf
  obtain ⟨x1, hc, hf⟩ := hf_b hf
  refine x_cV (q := (RX0, TX0, 33)) (rest := []) (As := [.int a1]) (n := 1) (ov := (some (.int x1))) G C h (wX0_isHut G hc) hk rfl (lw_V q338 q340 qs0 q54 q341) (by decide +kernel) ⟨Nat.le_of_ble_eq_true rfl, Nat.le_of_ble_eq_true rfl⟩ rfl rfl rfl hl.1 rfl (Nat.le_of_ble_eq_true rfl) dX0_habit_2 ⟨(Nat.le_of_ble_eq_true rfl), (Nat.le_of_ble_eq_true rfl)⟩ (fun H locs h => ?_)
  refine lv_if_ne (tgt := 11) hx hb dX0_habit_5 (by decide) (fun hc => ?_) (fun hc => ?_)
  · have hf := hf_f hc hf
    refine x_new (q := (RX11, TY11, 5)) G C h rfl (fun j _ => nf_all 8 j) q166 q516 q66 (Nat.le_of_ble_eq_true rfl) (Nat.le_of_ble_eq_true rfl) dX0_habit_11 hf (fun r2 σ3 H h hf => ?_)
    refine lv_dup hx hb dX0_habit_14 rfl ?_
    refine lv_aload_n hx hb dX0_habit_15 rfl (lv_at hl 0 rfl) ?_
    obtain ⟨σ4, hc, hf⟩ := hf_b hf
    refine x_cIN (rest := [.ref r2]) (As := [.ref a0]) (n := 1) (ov := none) G C h (wX11_init G hc) q517 q518 q66 q519 rfl (by decide +kernel) ⟨Nat.le_of_ble_eq_true rfl, Nat.le_of_ble_eq_true rfl⟩ rfl rfl rfl hl.1 rfl (Nat.le_of_ble_eq_true rfl) dX0_habit_16 ⟨(Nat.le_of_ble_eq_true rfl), (Nat.le_of_ble_eq_true rfl)⟩ (fun H locs h => ?_)
    refine lv_astore_n (lv' := [(2, .ref r2), (0, .ref a0), (1, .int a1)]) hx hb dX0_habit_19 rfl hl (by decide) rfl (fun ls hl => ?_)
    refine lv_aload_n hx hb dX0_habit_20 rfl (lv_at hl 1 rfl) ?_
    refine lv_aload_n hx hb dX0_habit_21 rfl (lv_at hl 0 rfl) ?_
    obtain ⟨hk, hf⟩ := k_of hf
    obtain ⟨⟨x5, σ6⟩, hc, hf⟩ := hf_b hf
    have hf := hf_u2 hf
    refine x_cVW (q := (RX0, TX0, 33)) (rest := []) (As := [.ref r2]) (n := 1) (ov := (some (.int x5))) G C h (wX0_faultOf G hc) hk rfl q552 q554 qs3 q54 q555 (by decide +kernel) ⟨Nat.le_of_ble_eq_true rfl, Nat.le_of_ble_eq_true rfl⟩ rfl rfl rfl hl.1 rfl (Nat.le_of_ble_eq_true rfl) dX0_habit_22 ⟨(Nat.le_of_ble_eq_true rfl), (Nat.le_of_ble_eq_true rfl)⟩ (fun H locs h => ?_)
    refine lv_iconst (v := (-1)) hx hb dX0_habit_25 (by decide) ?_
    refine lv_icmp_eq (tgt := 32) hx hb dX0_habit_26 (by decide) (fun hc => ?_) (fun hc => ?_)
    · have hf := hf_t hc hf
      refine lv_aload_n hx hb dX0_habit_32 rfl (lv_at hl 1 rfl) ?_
      refine x_gR (q := (RX0, TX0, 33)) (j := 9) G C h rfl (by decide) (fun _ _ _ => rfl) (lk C q215) (fun _ z => z) dX0_habit_33 hf (fun r7 hf => ?_)
      refine lv_iload_n hx hb dX0_habit_36 rfl (lv_at hl 2 rfl) ?_
      refine lv_aload_n hx hb dX0_habit_37 rfl (lv_at hl 0 rfl) ?_
      refine x_aast G C h dX0_habit_38 hf (fun σ8 H locs h hf => ?_)
      refine lv_aload_n hx hb dX0_habit_39 rfl (lv_at hl 1 rfl) ?_
      refine lv_iconst (v := 0) hx hb dX0_habit_40 (by decide) ?_
      refine x_pI (q := (RX0, TX0, 33)) (j := 12) G C h rfl (by decide) rfl (lk C q221) (fun _ z => z) (Or.inl rfl) dX0_habit_41 hf (fun σ9 H locs h hf => ?_)
      refine lv_aload_n hx hb dX0_habit_44 rfl (lv_at hl 0 rfl) ?_
      refine x_gI (q := (RX11, TY11, 5)) (j := 0) G C h rfl (by decide) (fun _ _ _ => rfl) (lk C q535) (sf_X11 C) dX0_habit_45 hf (fun x10 hf => ?_)
      cases hf
      refine W.widen (k := 209) (n := 1215) (Nat.le_of_ble_eq_true rfl) (Nat.le_of_ble_eq_true rfl) ?_
      exact x_iret C h dX0_habit_48
    · have hf := hf_f hc hf
      refine lv_bipush (v := (-4)) hx hb dX0_habit_29 (by decide) ?_
      cases hf
      refine W.widen (k := 209) (n := 1215) (Nat.le_of_ble_eq_true rfl) (Nat.le_of_ble_eq_true rfl) ?_
      exact x_iret C h dX0_habit_31
  · have hf := hf_t hc hf
    refine lv_bipush (v := (-2)) hx hb dX0_habit_8 (by decide) ?_
    cases hf
    refine W.widen (k := 209) (n := 1215) (Nat.le_of_ble_eq_true rfl) (Nat.le_of_ble_eq_true rfl) ?_
    exact x_iret C h dX0_habit_10

theorem dX0_taste_0 : decode cX0_taste 0 = .ok (.iload_n 1, 1) := by decide +kernel
theorem dX0_taste_1 : decode cX0_taste 1 = .ok (.invokestatic 231, 3) := by decide +kernel
theorem dX0_taste_4 : decode cX0_taste 4 = .ok (.ifCond .ne 6, 3) := by decide +kernel
theorem dX0_taste_7 : decode cX0_taste 7 = .ok (.bipush (-2), 2) := by decide +kernel
theorem dX0_taste_9 : decode cX0_taste 9 = .ok (.ireturn, 1) := by decide +kernel
theorem dX0_taste_10 : decode cX0_taste 10 = .ok (.new 58, 3) := by decide +kernel
theorem dX0_taste_13 : decode cX0_taste 13 = .ok (.dup, 1) := by decide +kernel
theorem dX0_taste_14 : decode cX0_taste 14 = .ok (.aload_n 0, 1) := by decide +kernel
theorem dX0_taste_15 : decode cX0_taste 15 = .ok (.invokespecial 228, 3) := by decide +kernel
theorem dX0_taste_18 : decode cX0_taste 18 = .ok (.astore_n 2, 1) := by decide +kernel
theorem dX0_taste_19 : decode cX0_taste 19 = .ok (.aload_n 0, 1) := by decide +kernel
theorem dX0_taste_20 : decode cX0_taste 20 = .ok (.aload_n 2, 1) := by decide +kernel
theorem dX0_taste_21 : decode cX0_taste 21 = .ok (.invokevirtual 224, 3) := by decide +kernel
theorem dX0_taste_24 : decode cX0_taste 24 = .ok (.iconst (-1), 1) := by decide +kernel
theorem dX0_taste_25 : decode cX0_taste 25 = .ok (.if_icmp .eq 6, 3) := by decide +kernel
theorem dX0_taste_28 : decode cX0_taste 28 = .ok (.bipush (-4), 2) := by decide +kernel
theorem dX0_taste_30 : decode cX0_taste 30 = .ok (.ireturn, 1) := by decide +kernel
theorem dX0_taste_31 : decode cX0_taste 31 = .ok (.aload_n 0, 1) := by decide +kernel
theorem dX0_taste_32 : decode cX0_taste 32 = .ok (.getfield 60, 3) := by decide +kernel
theorem dX0_taste_35 : decode cX0_taste 35 = .ok (.iload_n 1, 1) := by decide +kernel
theorem dX0_taste_36 : decode cX0_taste 36 = .ok (.aload_n 2, 1) := by decide +kernel
theorem dX0_taste_37 : decode cX0_taste 37 = .ok (.aastore, 1) := by decide +kernel
theorem dX0_taste_38 : decode cX0_taste 38 = .ok (.aload_n 0, 1) := by decide +kernel
theorem dX0_taste_39 : decode cX0_taste 39 = .ok (.iconst 0, 1) := by decide +kernel
theorem dX0_taste_40 : decode cX0_taste 40 = .ok (.putfield 211, 3) := by decide +kernel
theorem dX0_taste_43 : decode cX0_taste 43 = .ok (.aload_n 2, 1) := by decide +kernel
theorem dX0_taste_44 : decode cX0_taste 44 = .ok (.getfield 234, 3) := by decide +kernel
theorem dX0_taste_47 : decode cX0_taste 47 = .ok (.ireturn, 1) := by decide +kernel
def fX0_taste (σ : St) (a0 : Nat) (a1 : Int32) : Option (Int32 × St) :=
  (fX0_isVisitor σ a1).bind fun x1 =>
  if x1 = 0 then
    some ((-2), σ)
  else
  o_new σ 14 fun r2 σ3 =>
  (fX17_init σ3 r2 a0).bind fun σ4 =>
  o_k σ4 a0 0 <|
  (fX0_faultOf σ4 a0 r2).bind <| un2 fun x5 σ6 =>
  if x5 = ((-1)) then
    o_gR σ6 a0 0 10 fun r7 =>
    o_sR σ6 r7 7 a1 r2 fun σ8 =>
    o_pI σ8 a0 0 12 0 fun σ9 =>
    o_gI σ9 r2 14 0 fun x10 =>
    some (x10, σ9)
  else
  some ((-4), σ6)

set_option maxHeartbeats 4000000 in
theorem wX0_taste {l : Launch} {s0 : State} {A0 : Array Value} {D : va_G} {ac : Nat → ClassId} (G : Gl s0 A0 D ac) {σ : St} {a0 : Nat} {a1 : Int32} {v : Int32} {σ' : St} (hf : fX0_taste σ a0 a1 = some (v, σ')) : Met l yX0_taste (ws_ yX0_taste cX0_taste 3 (some (.int))) ({ frames := 10, cells := 201, slots := 1185, locals := 217 } : Room) (Pn s0 D ac [.ref a0, .int a1] σ) (Qn s0 D ac (some (.int v)) σ') 201 1185 (fr s0) := by
  refine x_met (by decide) (Nat.le_of_ble_eq_true rfl) ?_
  intro p e s m args below meth c ls C hnm h hl
  have C : Cx s0 p s m args meth c cX0_taste 3 "HutForShow" (some (.int)) := C
  have hx := C.1
  have hb := C.2.1
  have hl : lv_has ls 3 [(0, .ref a0), (1, .int a1)] := hl
  unfold fX0_taste at hf
  refine lv_iload_n hx hb dX0_taste_0 rfl (lv_at hl 1 rfl) ?_
  obtain ⟨x1, hc, hf⟩ := hf_b hf
  refine x_cS (rest := []) (As := [.int a1]) (n := 1) (ov := (some (.int x1))) C h (wX0_isVisitor G hc) (lw_S q823 q824 q54 q825) (by decide +kernel) ⟨Nat.le_of_ble_eq_true rfl, Nat.le_of_ble_eq_true rfl⟩ rfl rfl rfl hl.1 rfl (Nat.le_of_ble_eq_true rfl) dX0_taste_1 ⟨(Nat.le_of_ble_eq_true rfl), (Nat.le_of_ble_eq_true rfl)⟩ (fun H locs h => ?_)
  refine lv_if_ne (tgt := 10) hx hb dX0_taste_4 (by decide) (fun hc => ?_) (fun hc => ?_)
  · have hf := hf_f hc hf
    refine x_new (q := (RX17, TY17, 7)) G C h rfl (fun j _ => nf_all 14 j) q168 q789 q78 (Nat.le_of_ble_eq_true rfl) (Nat.le_of_ble_eq_true rfl) dX0_taste_10 hf (fun r2 σ3 H h hf => ?_)
    refine lv_dup hx hb dX0_taste_13 rfl ?_
    refine lv_aload_n hx hb dX0_taste_14 rfl (lv_at hl 0 rfl) ?_
    obtain ⟨σ4, hc, hf⟩ := hf_b hf
    refine x_cIN (rest := [.ref r2]) (As := [.ref a0]) (n := 1) (ov := none) G C h (wX17_init G hc) q790 q791 q78 q792 rfl (by decide +kernel) ⟨Nat.le_of_ble_eq_true rfl, Nat.le_of_ble_eq_true rfl⟩ rfl rfl rfl hl.1 rfl (Nat.le_of_ble_eq_true rfl) dX0_taste_15 ⟨(Nat.le_of_ble_eq_true rfl), (Nat.le_of_ble_eq_true rfl)⟩ (fun H locs h => ?_)
    refine lv_astore_n (lv' := [(2, .ref r2), (0, .ref a0), (1, .int a1)]) hx hb dX0_taste_18 rfl hl (by decide) rfl (fun ls hl => ?_)
    refine lv_aload_n hx hb dX0_taste_19 rfl (lv_at hl 1 rfl) ?_
    refine lv_aload_n hx hb dX0_taste_20 rfl (lv_at hl 0 rfl) ?_
    obtain ⟨hk, hf⟩ := k_of hf
    obtain ⟨⟨x5, σ6⟩, hc, hf⟩ := hf_b hf
    have hf := hf_u2 hf
    refine x_cVW (q := (RX0, TX0, 33)) (rest := []) (As := [.ref r2]) (n := 1) (ov := (some (.int x5))) G C h (wX0_faultOf G hc) hk rfl q552 q554 qs3 q54 q555 (by decide +kernel) ⟨Nat.le_of_ble_eq_true rfl, Nat.le_of_ble_eq_true rfl⟩ rfl rfl rfl hl.1 rfl (Nat.le_of_ble_eq_true rfl) dX0_taste_21 ⟨(Nat.le_of_ble_eq_true rfl), (Nat.le_of_ble_eq_true rfl)⟩ (fun H locs h => ?_)
    refine lv_iconst (v := (-1)) hx hb dX0_taste_24 (by decide) ?_
    refine lv_icmp_eq (tgt := 31) hx hb dX0_taste_25 (by decide) (fun hc => ?_) (fun hc => ?_)
    · have hf := hf_t hc hf
      refine lv_aload_n hx hb dX0_taste_31 rfl (lv_at hl 1 rfl) ?_
      refine x_gR (q := (RX0, TX0, 33)) (j := 10) G C h rfl (by decide) (fun _ _ _ => rfl) (lk C q217) (fun _ z => z) dX0_taste_32 hf (fun r7 hf => ?_)
      refine lv_iload_n hx hb dX0_taste_35 rfl (lv_at hl 2 rfl) ?_
      refine lv_aload_n hx hb dX0_taste_36 rfl (lv_at hl 0 rfl) ?_
      refine x_aast G C h dX0_taste_37 hf (fun σ8 H locs h hf => ?_)
      refine lv_aload_n hx hb dX0_taste_38 rfl (lv_at hl 1 rfl) ?_
      refine lv_iconst (v := 0) hx hb dX0_taste_39 (by decide) ?_
      refine x_pI (q := (RX0, TX0, 33)) (j := 12) G C h rfl (by decide) rfl (lk C q221) (fun _ z => z) (Or.inl rfl) dX0_taste_40 hf (fun σ9 H locs h hf => ?_)
      refine lv_aload_n hx hb dX0_taste_43 rfl (lv_at hl 0 rfl) ?_
      refine x_gI (q := (RX17, TY17, 7)) (j := 0) G C h rfl (by decide) (fun _ _ _ => rfl) (lk C q536) (sf_X17 C) dX0_taste_44 hf (fun x10 hf => ?_)
      cases hf
      refine W.widen (k := 201) (n := 1185) (Nat.le_of_ble_eq_true rfl) (Nat.le_of_ble_eq_true rfl) ?_
      exact x_iret C h dX0_taste_47
    · have hf := hf_f hc hf
      refine lv_bipush (v := (-4)) hx hb dX0_taste_28 (by decide) ?_
      cases hf
      refine W.widen (k := 201) (n := 1185) (Nat.le_of_ble_eq_true rfl) (Nat.le_of_ble_eq_true rfl) ?_
      exact x_iret C h dX0_taste_30
  · have hf := hf_t hc hf
    refine lv_bipush (v := (-2)) hx hb dX0_taste_7 (by decide) ?_
    cases hf
    refine W.widen (k := 201) (n := 1185) (Nat.le_of_ble_eq_true rfl) (Nat.le_of_ble_eq_true rfl) ?_
    exact x_iret C h dX0_taste_9
