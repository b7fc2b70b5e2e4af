set_option maxRecDepth 100000
/-! methods that may throw: a contract with either end, and the rows -/
def MetX (l : Launch) (y : MethodName) (ws : List Cond) (rm : Room) (Pc : Array Value → State → Prop) (Qc : Array Value → State → Outcome → State → Prop) (mc ms : Nat) (free : Addr → Prop) : Prop :=
  MetFree l y (headSpec ws rm) Pc (fun _ _ _ _ _ => True) (fun a st o t => Qc a st o t ∧ ∃ L, (st.WarmedH t.vm ∧ st.sameButNew ({ t with vm := st.vm } : State) L mc ms) ∧ ∀ q ∈ L, free q.base)
def MQX (below : List Frame) (Qc : Array Value → State → Outcome → State → Prop) (a : Array Value) (s : State) (mc ms : Nat) (free : Addr → Prop) : State → Prop := fun t =>
  ∃ o, t.status = .running ∧ Ended t below o ∧ Qc a s o t ∧ ∃ L, (s.WarmedH t.vm ∧ s.sameButNew ({ t with vm := s.vm } : State) L mc ms) ∧ ∀ q ∈ L, free q.base
theorem MetX.toMet {l : Launch} {y : MethodName} {ws : List Cond} {rm : Room} {Pc : Array Value → State → Prop} {Qc : Array Value → State → Outcome → State → Prop} {mc ms : Nat} {free : Addr → Prop} (h : MetX l y ws rm Pc Qc mc ms free) (hr : ∀ a st o t, Qc a st o t → ∃ v, o = .returned v) : Met l y ws rm Pc Qc mc ms free := by
  intro p e h1 h2 h3 s m args below h4 h5 h6 h7
  obtain ⟨n, o, a1, a2, a3, a4, L, a5, a6⟩ := h p e h1 h2 h3 s m args below h4 h5 h6 h7
  exact ⟨n, o, a1, a2, a3, a4, L, ⟨hr _ _ _ _ a4, a5⟩, a6⟩
theorem MQ.toX {below : List Frame} {Qc : Array Value → State → Outcome → State → Prop} {a : Array Value} {s : State} {mc ms : Nat} {free : Addr → Prop} {t : State} (h : MQ below Qc a s mc ms free t) : MQX below Qc a s mc ms free t := by
  obtain ⟨o, h1, h2, h3, L, h4, h5⟩ := h
  exact ⟨o, h1, h2, h3, L, h4.2, h5⟩
/-- the pure result of such a method: what it returns and the heap, or what it throws and the heap -/
abbrev Rx (A : Type) : Type := (A × St) ⊕ (Nat × St)
def resO {A : Type} (k : A → Option Value) (r : Rx A) : Outcome := match r with
  | .inl p => .returned (k p.1)
  | .inr p => .threw p.1
def resS {A : Type} (r : Rx A) : St := match r with
  | .inl p => p.2
  | .inr p => p.2
def kV : Unit → Option Value := fun _ => none
def kI : Int32 → Option Value := fun v => some (.int v)
def kR : Nat → Option Value := fun v => some (.ref v)
def Qx (s0 : State) (D : va_G) (ac : Nat → ClassId) (oc : Outcome) (σ : St) : Array Value → State → Outcome → State → Prop := fun _ _ o t => o = oc ∧ Hol s0 D ac σ t.heap
/-- a call in the pure function: what is thrown is handed on -/
def xs {A B : Type} (K : A → St → Option (Rx B)) (r : Rx A) : Option (Rx B) := match r with
  | .inl p => K p.1 p.2
  | .inr p => some (.inr p)
/-- .. in a loop with one other end -/
def xsl {A S E : Type} (K : A → St → Option (S ⊕ (E ⊕ (Nat × St)))) (r : Rx A) : Option (S ⊕ (E ⊕ (Nat × St))) := match r with
  | .inl p => K p.1 p.2
  | .inr p => some (.inr (.inr p))
theorem hf_xs {A B : Type} {K : A → St → Option (Rx B)} {v : A} {σ : St} {r : Option (Rx B)} (h : xs K (.inl (v, σ)) = r) : K v σ = r := h
theorem hf_xsl {A S E : Type} {K : A → St → Option (S ⊕ (E ⊕ (Nat × St)))} {v : A} {σ : St} {r : Option (S ⊕ (E ⊕ (Nat × St)))} (h : xsl K (.inl (v, σ)) = r) : K v σ = r := h
section ROWS
variable {p : Program} {l : Launch} {e : Env} {R : Room} {s : State} {m : MethodId} {args : Array Value} {below : List Frame} {meth : Method} {c : Code} {H : Heap} {locs : List Loc} {cells slots : Nat} {Q : State → Prop}
variable {s0 : State} {A0 : Array Value} {D : va_G} {ac : Nat → ClassId} {σ : St} {cc : ByteArray} {nL : Nat} {own : String} {ret : Option FieldType} {pc : Nat} {ls : Array Slot} {rest : List Value} {a ci idx : Nat}
theorem W.monoQ {Q' : State → Prop} {g : JFrame} (h : ∀ t, Q t → Q' t) (k : W p l e R s m args below meth c H locs cells slots Q g) : W p l e R s m args below meth c H locs cells slots Q' g := by
  intro T hT X
  obtain ⟨t, a1, b1⟩ := k T hT X
  exact ⟨t, a1, h t b1⟩
variable {y : MethodName} {bytes : ByteArray} {maxL mc ms n : Nat} {rt : Option FieldType} {rm : Room} {As st0 : List Value} {b : Nat} {σ' : St}
theorem x_metX {av : List Value} {Qc : Array Value → State → Outcome → State → Prop} {free : Addr → Prop} (hy : plainName y.cls = true) (hlen : (lg_sl av).length ≤ nL)
    (body : ∀ (p : Program) (e : Env) (s : State) (m : MethodId) (args : Array Value) (below : List Frame) (meth : Method) (c : Code) (ls : Array Slot), Cx s0 p s m args meth c cc nL y.cls ret → c.exceptionTable.isEmpty = true → Hs s0 D ac σ s.heap [] → lv_has ls nL (lv_args 0 av) → W p l e rm s m args below meth c s.heap [] 0 0 (MQX below Qc args s mc ms free) (F0 m 0 ls [])) : MetX l y (ws_ y cc nL ret) rm (Pn s0 D ac av σ) Qc mc ms free := by
  refine MetFree.of_bodyS (code := cc) (maxLocals := nL) (ret := ret) hy ?_ ?_
  · intro args s m h hn
    obtain ⟨meth, c, h1, h2, h3, h4, h5, h6, -, -⟩ := Cond.code_spec hn (atoms_spec (ws := ws_ y cc nL ret) h _ List.mem_cons_self)
    exact ⟨meth, c, h1, h2, h3, h4, h5, h6⟩
  · intro p e s m args below meth c s₁ B hml hP _
    have hh0 : s₁.heap = s.heap := by rw [B.state]; rfl
    obtain ⟨rfl, hwarm, hH⟩ := hP
    have hts := atoms_spec (ws := ws_ y cc nL ret) B.pre
    have hts2 : ∀ w ∈ lw_all, w.before _ s = true := fun w h => hts w (List.mem_cons_of_mem _ h)
    have hown : s.vm.findClass y.cls = some m.cls := findClass_of_methodNamed B.named
    have hno : c.exceptionTable.isEmpty = true := B.noHandlers (hts _ List.mem_cons_self)
    have hl := lv_entry av (n := nL) hlen
    have hb9 : W p l e rm s m av.toArray below meth c s.heap [] 0 0 (MQX below Qc av.toArray s mc ms free) (entryFrame m av.toArray nL) := by
      rw [lg_entry_eq]
      generalize (lg_sl av ++ List.replicate (nL - (lg_sl av).length) Slot.unset).toArray = ls at hl ⊢
      exact body p e s m _ below meth c ls ⟨B.exec, B.bytes, hml, hown, hts2, B.returns, B.notSynchronized, hwarm⟩ hno ⟨hH, fun l h => by cases h⟩ hl
    obtain ⟨t, a1, o, b1, b2, b3⟩ := hb9 s₁ hh0 (Stand.of_body B)
    exact ⟨t, o, a1, b1, b2, ⟨b3.1, b3.2⟩⟩
theorem x_throws (C : Cx s0 p s m args meth c cc nL own ret) (hno : c.exceptionTable.isEmpty = true) (h : Hs s0 D ac σ H locs) {T : State} (hT : T.heap = H) (X : Stand p l e R s m args below meth c T locs cells slots) {st : List Value} :
    ∃ t, Steps p.tables e below ((T.setTop (F0 m pc ls st)).pushFrame (.throwing a)) t ∧ MQX below (Qx s0 D ac (.threw a) σ) args s cells slots (fr s0) t := by
  have hout : ∀ x ∈ c.exceptionTable.toList, covers x (F0 m pc ls st).pc = false := by
    intro x hx
    have : c.exceptionTable = #[] := by simpa using hno
    rw [this] at hx
    cases hx
  obtain ⟨h1, h2, h3, h4, h5⟩ := X.leaveThrown a (g := F0 m pc ls st) rfl rfl rfl hout (hlocks := C.2.2.2.2.2.2.1)
  exact ⟨_, h1, .threw a, h2, h3, ⟨rfl, by show Hol s0 D ac σ T.heap; rw [hT]; exact h.1⟩, locs, ⟨h4, h5⟩, h.2⟩
theorem x_athrow (C : Cx s0 p s m args meth c cc nL own ret) (hno : c.exceptionTable.isEmpty = true) (h : Hs s0 D ac σ H locs) (hdg : decode cc pc = .ok (.athrow, 1)) : W p l e R s m args below meth c H locs cells slots (MQX below (Qx s0 D ac (.threw a) σ) args s cells slots (fr s0)) (F0 m pc ls (.ref a :: rest)) := by
  intro T hT X
  have hout : ∀ x ∈ c.exceptionTable.toList, covers x (F0 m pc ls (.ref a :: rest)).pc = false := by
    intro x hx
    have : c.exceptionTable = #[] := by simpa using hno
    rw [this] at hx
    cases hx
  obtain ⟨h1, h2, h3, h4, h5⟩ := X.athrowLeaves C.1 (g := F0 m pc ls (.ref a :: rest)) rfl rfl rfl hout rfl (by rw [C.2.1]; exact hdg) (hlocks := C.2.2.2.2.2.2.1)
  exact ⟨_, h1, .threw a, h2, h3, ⟨rfl, by show Hol s0 D ac σ T.heap; rw [hT]; exact h.1⟩, locs, ⟨h4, h5⟩, h.2⟩
theorem x_vretX (C : Cx s0 p s m args meth c cc nL own none) (h : Hs s0 D ac σ H locs) (hdg : decode cc pc = .ok (.return_, 1)) : W p l e R s m args below meth c H locs cells slots (MQX below (Qx s0 D ac (.returned none) σ) args s cells slots (fr s0)) (F0 m pc ls []) := W.monoQ (fun _ h => MQ.toX h) (x_vret C h hdg)
theorem x_iretX {v : Int32} (C : Cx s0 p s m args meth c cc nL own (some .int)) (h : Hs s0 D ac σ H locs) (hdg : decode cc pc = .ok (.ireturn, 1)) : W p l e R s m args below meth c H locs cells slots (MQX below (Qx s0 D ac (.returned (some (.int v))) σ) args s cells slots (fr s0)) (F0 m pc ls [.int v]) := W.monoQ (fun _ h => MQ.toX h) (x_iret C h hdg)
theorem x_aretX {v : Nat} {E : String} (C : Cx s0 p s m args meth c cc nL own (some (.object E))) (h : Hs s0 D ac σ H locs) (hdg : decode cc pc = .ok (.areturn, 1)) : W p l e R s m args below meth c H locs cells slots (MQX below (Qx s0 D ac (.returned (some (.ref v))) σ) args s cells slots (fr s0)) (F0 m pc ls [.ref v]) := W.monoQ (fun _ h => MQ.toX h) (x_aret C h hdg)
/-- a callee that throws: the machine behind it, the note over the caller's frame -/
theorem bkT {ws : List Cond} {Pc : Array Value → State → Prop} {Qc : Array Value → State → Outcome → State → Prop} {free : Addr → Prop} {Wn : Nat} {U : State} {g : JFrame} {ig : Instr} {mk : MethodId} {av : Array Value}
    (hM : MetX l y ws rm Pc Qc mc ms free) (hthr : ∀ a st o t, Qc a st o t → ∃ v, o = .threw v) (hblind : FrameBlind Pc) (hrc : rm.cells = mc) (hrs : rm.slots = ms) (hfr : rm.frames + 1 ≤ R.frames) (hlo : Wn + (maxL + 11) + rm.locals ≤ R.locals)
    (hws : ∀ w ∈ ws, ∀ a' U, s.WarmedH U.vm → w.before a' U = true) (hcode : Cond.code y bytes maxL rt ∈ ws) (hinit : ∀ a' U, s.WarmedH U.vm → (Cond.initialized y.cls).before a' U = true)
    (X : Stand p l e R s m args below meth c U locs cells slots) (hg : g.method = m) (hsize : g.locals.size = c.maxLocals) (hdg : decode c.code g.pc = .ok (ig, 3)) (hW : 2 * g.monitorRoom + (g.stack.map fun v => v.category).sum ≤ Wn) (hn : U.methodNamed? y = some mk)
    (hc : cells + mc ≤ R.cells) (hs : slots + ms ≤ R.slots) (hP : Pc av U) :
    ∃ (v : Addr) (T' t st : State) (L : List Loc), Stand p l e R s m args below meth c T' (locs ++ L) (cells + mc) (slots + ms) ∧ (∀ q ∈ L, free q.base) ∧ T'.heap = t.heap ∧ Qc av st (.threw v) t ∧ Steps p.tables e below (doInvoke e (U.setTop g) [] mk av).1 ((T'.setTop g).pushFrame (.throwing v)) := by
  have h2 := hws _ hcode av U X.warmed
  obtain ⟨methY, cY, hmY, hcY, -, hlY, -, -, -, -⟩ := Cond.code_spec hn h2
  obtain ⟨kY, hkY, -⟩ := className_of_methodNamed hn
  have hinitY : kY.init = .initialized := Cond.initialized_spec (findClass_of_methodNamed hn) hkY (hinit av U X.warmed)
  have h : At U g.method c below := by rw [hg]; exact X.here
  have h1 : (headSpec ws rm).pre.before av U = true := atoms_intro fun w hw => hws w hw _ _ X.warmed
  have happ : (headSpec ws rm).appliesLoose y e.platform (U.calling g mk av) = true :=
    Spec.appliesLoose_calling (g := g) h hdg hn hkY hinitY
      (X.room_calling (g := g) (R' := (headSpec ws rm).room) hsize hmY hcY hfr (by rw [hlY]; show _ + rm.locals ≤ _; omega) (by show cells + rm.cells ≤ _; rw [hrc]; exact hc) (by show slots + rm.slots ≤ _; rw [hrs]; exact hs)) h1
  obtain ⟨mid, hmid⟩ := h.above
  have hfrm : (U.setTop g).frames = (.java g :: mid) ++ below := by rw [State.frames_setTop' g h.top, hmid]; rfl
  obtain ⟨o, s₂, hsteps, -, hend, hq⟩ := Steps.callFree hM p X.admits X.cas X.clock (acts := []) hfrm happ (hblind _ _ _ _ hP) trivial
  rw [State.frames_setTop' g h.top, X.tail] at hend
  obtain ⟨hq1, L, ⟨hWm, hsame⟩, hL⟩ := hq
  obtain ⟨v, rfl⟩ := hthr _ _ _ _ hq1
  obtain ⟨T', X', -, -, ht⟩ := X.outOfThrown hg hend hWm hsame
  refine ⟨v, T', s₂, _, L, X', hL, ?_, hq1, by rw [← ht]; exact hsteps⟩
  rw [ht]; rfl
variable {A B : Type} {rx : Rx A} {res : Rx B} {kA : A → Option Value} {kB : B → Option Value} {mcx msx : Nat}
/-- the call of such a method in another one -/
theorem x_cVX (G : Gl s0 A0 D ac) (C : Cx s0 p s m args meth c cc nL own ret) (hno : c.exceptionTable.isEmpty = true) (h : Hs s0 D ac σ H locs) (hM : MetX l y (ws_ y bytes maxL rt) rm (Pn s0 D ac (.ref b :: As) σ) (Qx s0 D ac (resO kA rx) (resS rx)) mc ms (fr s0)) (hk : s_k σ b = some (.inl ci)) {q : vw_C} (hc : clA[ci]? = some q) (h1 : Cond.methodLink own idx y ∈ lw_all) (h2 : Cond.instanceMethod y ∈ lw_all) (h3 : Cond.selects q.1 y y ∈ lw_all) (h4 : Cond.initialized q.1 ∈ lw_all) (h5 : Cond.code y bytes maxL rt ∈ lw_all)
    (hd : y.cls = q.1 ∧ y.cls ≠ "java/lang/invoke/MethodHandle" ∧ y.cls ≠ "java/lang/invoke/VarHandle" ∧ (parseMethodDescriptor y.desc).map (fun d => d.parameters.length) = some n) (hR : rm.frames + 1 ≤ R.frames ∧ 8 + (maxL + 11) + rm.locals ≤ R.locals) (hrc : rm.cells = mc) (hrs : rm.slots = ms) (hn : As.length = n) (hsize : ls.size = nL) (hst : st0 = As.reverse ++ .ref b :: rest) (hW : (rest.map fun v => v.category).sum ≤ 8) (hdg : decode cc pc = .ok (.invokevirtual idx, 3)) (hf : cells + mc ≤ R.cells ∧ slots + ms ≤ R.slots) (hw : cells + mc ≤ mcx ∧ slots + ms ≤ msx) (ht : ∀ (x9 : Nat) (σ9 : St), rx = .inr (x9, σ9) → res = .inr (x9, σ9))
    (kk : ∀ (v : A) (σ : St) (H : Heap) (locs : List Loc), Hs s0 D ac σ H locs → rx = .inl (v, σ) → W p l e R s m args below meth c H locs (cells + mc) (slots + ms) (MQX below (Qx s0 D ac (resO kB res) (resS res)) args s mcx msx (fr s0)) (F0 m (pc + 3) ls ((kA v).toList ++ rest))) : W p l e R s m args below meth c H locs cells slots (MQX below (Qx s0 D ac (resO kB res) (resS res)) args s mcx msx (fr s0)) (F0 m pc ls st0) := by
  match rx, hM, ht, kk with
  | .inl (v, σ1), hM, ht, kk =>
    exact x_cV (q := q) (n := n) G C h (MetX.toMet (Qc := Qn s0 D ac (kA v) σ1) hM (fun _ _ _ _ h => ⟨_, h.1⟩)) hk hc (lw_V h1 h2 h3 h4 h5) hd hR hrc hrs hn hsize hst hW hdg hf (fun H locs h => kk v σ1 H locs h rfl)
  | .inr (x, σ1), hM, ht, kk =>
    cases ht x σ1 rfl
    intro T hT X
    have hts := C.2.2.2.2.1
    obtain ⟨cellB, hcB, hoB, hclB⟩ := h.recv G C hk hc
    have hcB : T.heap[b]? = some cellB := by rw [hT]; exact hcB
    obtain ⟨mk, methM, hnamed, hmethM, hstM, habM⟩ := Cond.instanceMethod_spec (hts _ h2)
    obtain ⟨methM', cM, hmethM', -, -, -, -, -, -, hsigM⟩ := Cond.code_spec hnamed (hts _ h5)
    cases hmethM.symm.trans hmethM'
    obtain ⟨c2, r2, m2, q1, q2, q3, q4, kP, hkP, hkPi⟩ := Cond.selects_spec (hts _ h3)
    cases hclB.symm.trans q1
    cases (State.methodFound?_of_named hnamed ⟨hd.2.1, hd.2.2.1⟩).symm.trans q2
    cases hnamed.symm.trans q3
    have hselP : selectMethod e.platform s.vm cellB.cls mk = .method mk := by rw [Launch.admits_selectMethod X.admits]; exact q4
    have hlen : ∀ sig, parseMethodDescriptor y.desc = some sig → As.length = sig.parameters.length := by
      intro sig hs
      have h9 := hd.2.2.2
      rw [hs] at h9
      rw [hn]; exact (Option.some.inj h9).symm
    have hdg2 : decode c.code pc = .ok (.invokevirtual idx, 3) := by rw [C.2.1]; exact hdg
    have hsz2 : ls.size = c.maxLocals := by rw [C.2.2.1]; exact hsize
    obtain ⟨vm₁, X₁, hstep₁⟩ := X.invokevirtual C.1 C.2.2.2.1 (hts _ h1) hnamed hmethM hstM hkP hkPi ⟨hd.2.1, hd.2.2.1⟩ (a := b) (cell := cellB) hcB
      (fun z h => by rw [h] at hoB; cases hoB) hselP hmethM habM hkP hkPi (g := F0 m pc ls st0) rfl (argsL := As) (rest := rest) (hlen _ hsigM) hst hdg2
    obtain ⟨v, T', t, st, L, X', hL, e1, ⟨hv, hH⟩, hsteps⟩ := bkT (U := T.setVm vm₁) (g := F0 m pc ls rest) (Wn := 8) (ig := .invokevirtual idx) hM (fun _ _ _ _ h => ⟨_, h.1⟩) Pn.blind hrc hrs hR.1 hR.2 (pay_in hts (lw_meth h5)) List.mem_cons_self (fun a' U hW => word_at hW (Or.inl (by first | rfl | simp [Cond.onTables, Cond.keeps, Cond.steady])) (hts _ (by rw [hd.1]; exact h4))) X₁ rfl hsz2 hdg2 (lv_room hW) (X₁.named hnamed) hf.1 hf.2 (h.pre C _ (T.setVm vm₁) hT X₁.warmed)
    have hv : Outcome.threw v = .threw x := hv
    cases hv
    have hH2 : Hs s0 D ac σ1 T'.heap (locs ++ L) := ⟨by rw [e1]; exact hH, fun q hq => by
      rcases List.mem_append.mp hq with h9 | h9
      · exact h.2 q h9
      · exact hL q h9⟩
    obtain ⟨t2, a1, b1⟩ := x_throws (a := x) (st := rest) (pc := pc) (ls := ls) C hno hH2 rfl (stand_widen X' hw.1 hw.2)
    exact ⟨t2, (hstep₁ _ fun acts => by rw [doInvoke_state]; exact hsteps.trans a1), b1⟩
theorem x_cAX (G : Gl s0 A0 D ac) (C : Cx s0 p s m args meth c cc nL own ret) (hno : c.exceptionTable.isEmpty = true) (h : Hs s0 D ac σ H locs) (hM : MetX l y (ws_ y bytes maxL rt) rm (Pn s0 D ac (.ref b :: As) σ) (Qx s0 D ac (resO kA rx) (resS rx)) mc ms (fr s0)) (hk : s_k σ b = some (.inl ci)) {q : vw_C} (hc : clA[ci]? = some q) {x : MethodName} {owner : String} (hl : Cond.methodLink own idx x ∈ lw_all) (hsm : Cond.sameMethod x.cls owner x.name x.desc ∈ lw_all) (hz : va_Decl s ⟨owner, x.name, x.desc⟩) (hsel : Cond.selects q.1 x y ∈ lw_all) (hin : Cond.instanceMethod y ∈ lw_all) (hi : Cond.initialized y.cls ∈ lw_all) (hco : Cond.code y bytes maxL rt ∈ lw_all)
    (hd : owner ≠ "java/lang/invoke/MethodHandle" ∧ owner ≠ "java/lang/invoke/VarHandle" ∧ (parseMethodDescriptor x.desc).map (fun d => d.parameters.length) = some n) (hR : rm.frames + 1 ≤ R.frames ∧ 8 + (maxL + 11) + rm.locals ≤ R.locals) (hrc : rm.cells = mc) (hrs : rm.slots = ms) (hn : As.length = n) (hsize : ls.size = nL) (hst : st0 = As.reverse ++ .ref b :: rest) (hW : (rest.map fun v => v.category).sum ≤ 8) (hdg : decode cc pc = .ok (.invokevirtual idx, 3)) (hf : cells + mc ≤ R.cells ∧ slots + ms ≤ R.slots) (hw : cells + mc ≤ mcx ∧ slots + ms ≤ msx) (ht : ∀ (x9 : Nat) (σ9 : St), rx = .inr (x9, σ9) → res = .inr (x9, σ9))
    (kk : ∀ (v : A) (σ : St) (H : Heap) (locs : List Loc), Hs s0 D ac σ H locs → rx = .inl (v, σ) → W p l e R s m args below meth c H locs (cells + mc) (slots + ms) (MQX below (Qx s0 D ac (resO kB res) (resS res)) args s mcx msx (fr s0)) (F0 m (pc + 3) ls ((kA v).toList ++ rest))) : W p l e R s m args below meth c H locs cells slots (MQX below (Qx s0 D ac (resO kB res) (resS res)) args s mcx msx (fr s0)) (F0 m pc ls st0) := by
  match rx, hM, ht, kk with
  | .inl (v, σ1), hM, ht, kk =>
    exact x_cA (q := q) (owner := owner) (n := n) G C h (MetX.toMet (Qc := Qn s0 D ac (kA v) σ1) hM (fun _ _ _ _ h => ⟨_, h.1⟩)) hk hc hl hsm hz hsel hin hi hco hd hR hrc hrs hn hsize hst hW hdg hf (fun H locs h => kk v σ1 H locs h rfl)
  | .inr (z, σ1), hM, ht, kk =>
    cases ht z σ1 rfl
    intro T hT X
    have hts := C.2.2.2.2.1
    obtain ⟨cellB, hcB, hoB, hclB⟩ := h.recv G C hk hc
    have hcB : T.heap[b]? = some cellB := by rw [hT]; exact hcB
    obtain ⟨r0, r, hnn, hrm, hstR, hsigR⟩ := hz
    obtain ⟨cn, ck, r1, hcn, hck, hni, hfn, hn1⟩ := Cond.sameMethod_found (hts _ hsm)
    cases hnn.symm.trans hn1
    obtain ⟨mk, methM, hnamed, hmethM, -, habM⟩ := Cond.instanceMethod_spec (hts _ hin)
    obtain ⟨c2, r2, m2, q1, q2, q3, q4, kP, hkP, hkPi⟩ := Cond.selects_spec (hts _ hsel)
    cases hclB.symm.trans q1
    cases hfn.symm.trans q2
    cases hnamed.symm.trans q3
    have hselP : selectMethod e.platform s.vm cellB.cls r0 = .method mk := by rw [Launch.admits_selectMethod X.admits]; exact q4
    have hlen : ∀ sig, parseMethodDescriptor x.desc = some sig → As.length = sig.parameters.length := by
      intro sig hs
      have h9 := hd.2.2
      rw [hs] at h9
      rw [hn]; exact (Option.some.inj h9).symm
    have hdg2 : decode c.code pc = .ok (.invokevirtual idx, 3) := by rw [C.2.1]; exact hdg
    have hsz2 : ls.size = c.maxLocals := by rw [C.2.2.1]; exact hsize
    obtain ⟨vm₁, X₁, hstep₁⟩ := X.invokevirtualUp C.1 C.2.2.2.1 (hts _ hl) (hts _ hsm) ⟨hd.1, hd.2.1⟩ hnn hrm hstR (a := b) (cell := cellB) hcB
      (fun z h => by rw [h] at hoB; cases hoB) hselP hmethM habM hkP hkPi (g := F0 m pc ls st0) rfl (argsL := As) (rest := rest) (hlen _ hsigR) hst hdg2
    obtain ⟨v, T', t, st, L, X', hL, e1, ⟨hv, hH⟩, hsteps⟩ := bkT (U := T.setVm vm₁) (g := F0 m pc ls rest) (Wn := 8) (ig := .invokevirtual idx) hM (fun _ _ _ _ h => ⟨_, h.1⟩) Pn.blind hrc hrs hR.1 hR.2 (pay_in hts (lw_meth hco)) List.mem_cons_self (fun a' U hW => word_at hW (Or.inl (by first | rfl | simp [Cond.onTables, Cond.keeps, Cond.steady])) (hts _ hi)) X₁ rfl hsz2 hdg2 (lv_room hW) (X₁.named hnamed) hf.1 hf.2 (h.pre C _ (T.setVm vm₁) hT X₁.warmed)
    have hv : Outcome.threw v = .threw z := hv
    cases hv
    have hH2 : Hs s0 D ac σ1 T'.heap (locs ++ L) := ⟨by rw [e1]; exact hH, fun q hq => by
      rcases List.mem_append.mp hq with h9 | h9
      · exact h.2 q h9
      · exact hL q h9⟩
    obtain ⟨t2, a1, b1⟩ := x_throws (a := z) (st := rest) (pc := pc) (ls := ls) C hno hH2 rfl (stand_widen X' hw.1 hw.2)
    exact ⟨t2, (hstep₁ _ fun acts => by rw [doInvoke_state]; exact hsteps.trans a1), b1⟩
end ROWS
