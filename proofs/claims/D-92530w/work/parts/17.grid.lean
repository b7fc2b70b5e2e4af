set_option maxRecDepth 100000
/-! an array of arrays, made at once -/
def grid (σ : St) (q1 q0 N M : Nat) : St :=
  (fun b => if b = s_z σ then some (.inr (q1, N)) else if s_z σ < b ∧ b < s_z σ + 1 + N then some (.inr (q0, M)) else s_k σ b,
   fun b j => if b = s_z σ then (if j < N then some (s_z σ + 1 + j) else none) else if s_z σ < b ∧ b < s_z σ + 1 + N then none else s_r σ b j,
   fun b j => if s_z σ ≤ b ∧ b < s_z σ + 1 + N then 0 else s_i σ b j,
   fun b j => if s_z σ ≤ b ∧ b < s_z σ + 1 + N then 0 else s_l σ b j,
   s_z σ + 1 + N)
def o_grid {α : Type} (σ : St) (q1 q0 N M : Nat) (K : Nat → St → Option α) : Option α := K (s_z σ) (grid σ q1 q0 N M)
/-- the outer row when i inner ones are laid; the state then -/
def mgC (cA : ClassId) (N z i : Nat) : Cell := arrV cA N (fun j => if j < i then .ref (z + 1 + j) else .null)
def mgS (u : State) (cA cB : ClassId) (N M : Nat) (dv : Value) : Nat → State
  | 0 => u.pushCell (mgC cA N u.heap.size 0)
  | i + 1 => ((mgS u cA cB N M dv i).pushCell (arrV cB M (fun _ => dv))).setCell u.heap.size (mgC cA N u.heap.size (i + 1))
theorem mgC_next (cA : ClassId) (N z i : Nat) : (mgC cA N z i).setSlot i (.ref (z + 1 + i)) = mgC cA N z (i + 1) := by
  unfold mgC
  rw [arrV_store]
  congr 1
  funext j
  by_cases hj : j = i
  · subst hj; simp [updV]
  · simp only [updV, if_neg hj]
    by_cases h : j < i
    · rw [if_pos h, if_pos (by omega)]
    · rw [if_neg h, if_neg (by omega)]
theorem mgS_size (u : State) (cA cB : ClassId) (N M : Nat) (dv : Value) : ∀ i, (mgS u cA cB N M dv i).heap.size = u.heap.size + 1 + i ∧ (mgS u cA cB N M dv i).vm = u.vm ∧ (mgS u cA cB N M dv i).slotsUsed = u.slotsUsed + N + i * M
  | 0 => ⟨by simp [mgS], rfl, by simp [mgS, mgC, arrV_size]⟩
  | i + 1 => by
    obtain ⟨h1, h2, h3⟩ := mgS_size u cA cB N M dv i
    refine ⟨by simp [mgS, State.setCell, h1]; omega, by simp [mgS, h2], ?_⟩
    simp [mgS, h3, arrV_size, Nat.succ_mul]; omega
theorem mgS_heap (u : State) (cA cB : ClassId) (N M : Nat) (dv : Value) : ∀ i, (∀ a, a < u.heap.size → (mgS u cA cB N M dv i).heap[a]? = u.heap[a]?) ∧ (mgS u cA cB N M dv i).heap[u.heap.size]? = some (mgC cA N u.heap.size i) ∧ ∀ j, j < i → (mgS u cA cB N M dv i).heap[u.heap.size + 1 + j]? = some (arrV cB M (fun _ => dv))
  | 0 => ⟨fun a ha => State.heap_pushCell_of_lt _ _ ha, State.heap_pushCell_size _ _, fun j hj => absurd hj (Nat.not_lt_zero j)⟩
  | i + 1 => by
    obtain ⟨h1, h2, h3⟩ := mgS_heap u cA cB N M dv i
    have hz := (mgS_size u cA cB N M dv i).1
    have lt0 : u.heap.size < (mgS u cA cB N M dv i).heap.size := by omega
    refine ⟨fun a ha => ?_, State.heap_setCell_self (c := mgC cA N u.heap.size i) (by rw [State.heap_pushCell_of_lt _ _ lt0]; exact h2), fun j hj => ?_⟩
    · show (((mgS u cA cB N M dv i).pushCell _).setCell u.heap.size _).heap[a]? = _
      have hlt : a < (mgS u cA cB N M dv i).heap.size := by omega
      rw [State.heap_setCell_other (Nat.ne_of_gt ha), State.heap_pushCell_of_lt _ _ hlt]
      exact h1 a ha
    · show (((mgS u cA cB N M dv i).pushCell _).setCell u.heap.size _).heap[_]? = _
      have hne : u.heap.size ≠ u.heap.size + 1 + j := by omega
      rw [State.heap_setCell_other hne]
      by_cases hj2 : j < i
      · have hlt : u.heap.size + 1 + j < (mgS u cA cB N M dv i).heap.size := by omega
        rw [State.heap_pushCell_of_lt _ _ hlt]; exact h3 j hj2
      · have : j = i := by omega
        subst this
        rw [← hz]; exact State.heap_pushCell_size _ _
theorem mgS_top (u : State) (f : JFrame) (cA cB : ClassId) (N M : Nat) (dv : Value) : ∀ i, mgS (u.setTop f) cA cB N M dv i = (mgS u cA cB N M dv i).setTop f
  | 0 => rfl
  | i + 1 => by simp only [mgS, mgS_top u f cA cB N M dv i, State.heap_setTop, State.pushCell_setTop, State.setCell_setTop]
theorem mg_over {args : Array Value} {s : State} {t : FieldType} (h : (Cond.arrayOver (.array t)).before args s = true) : ∃ comp c k, s.vm.findClass (FieldType.array t).toString = some comp ∧ s.vm.classes[c]? = some k ∧ k.kind = .array comp (.array t) ∧ s.vm.findClass ("[" ++ (FieldType.array t).toString) = some c := by
  simp only [Cond.before, Cond.holds, Cond.value, beq_iff_eq] at h
  cases hc : s.vm.findClass (FieldType.array t).toString with
  | none => simp [hc] at h
  | some comp =>
    simp only [hc, Option.bind_some, Option.bind_eq_some_iff, Option.map_eq_some_iff] at h
    obtain ⟨c, hi, k, hk, hb⟩ := h
    obtain ⟨hlt, hp, -⟩ := Array.findIdx?_eq_some_iff_getElem.mp hi
    have e9 : s.vm.classes[c] = k := (Array.getElem?_eq_some_iff.mp hk).2
    rw [e9] at hp
    cases hkind : k.kind with
    | array component ty =>
      rw [hkind] at hb hp
      simp at hb hp
      exact ⟨comp, c, k, rfl, hk, by rw [hkind, hp, hb.1], hb.2⟩
    | _ => rw [hkind] at hb; simp at hb
theorem mg_fits {t : FieldType} (h : t.isReference = true) (a : Nat) : fits t .null = true ∧ fits t (.ref a) = true := by
  cases t <;> first | exact ⟨rfl, rfl⟩ | (cases h)
section WPS
variable {E : CtlPost} {e : Env} {d : Bool} {acts : List Action} {s : State}
theorem mg_newArray {c comp : ClassId} {k : Class} {ty : FieldType} {len : Nat} {x : Value} (hk : s.vm.classes[c]? = some k) (hkind : k.kind = .array comp ty)
    (hlimit : ¬ len > e.platform.arrayLengthLimit) (hheap : ¬ len * componentBytes ty > e.platform.maxHeapBytes) (hfit : fits ty x = true) (hdef : x.isDefault = true) {Q : Addr → Pre}
    (h1 : s.heap.size < e.platform.maxCells) (h2 : s.slotsUsed + len ≤ e.platform.maxSlots)
    (hq : Q s.heap.size d acts (s.pushCell (arrV c len (fun _ => x)))) : wp (Jvm.newArray c len x) Q E e d acts s := by
  have hfits : ∀ i v, (Array.replicate len x)[i]? = some v → s.fitsSlot c .none i v = true := by
    intro i v hv
    rw [Array.getElem?_replicate] at hv
    split at hv
    · cases hv; simp [State.fitsSlot, State.slotType?, hk, hkind, hfit]
    · cases hv
  have hda : allocActs (Array.replicate len x) s.heap.size acts = acts := by
    have hall : ((Array.replicate len x).all (·.isDefault)) = true := by
      rw [Array.all_replicate]; split <;> simp [hdef]
    unfold allocActs; rw [if_pos hall]
  rw [← arrV_new] at hq
  simp only [Jvm.newArray, Jvm.arrayFits, wp_bind', W.ask, W.ite, hlimit, if_false, wp_pure', W.theClass, hk, hkind, hheap, W.alloc, W.stop, Option.some.injEq, exists_eq_left', Array.size_replicate, hda]
  rw [if_neg (by omega)]
  exact ⟨h1, h2, hfits, hq⟩
theorem mg_make {cA cB cE : ClassId} {kA kB : Class} {tA tB : FieldType} {n m : Int32} (hkA : s.vm.classes[cA]? = some kA) (hkindA : kA.kind = .array cB tA) (href : tA.isReference = true)
    (hkB : s.vm.classes[cB]? = some kB) (hkindB : kB.kind = .array cE tB) (hn : ¬ n < 0) (hm : ¬ m < 0)
    (hl1 : ¬ n.toNatClampNeg > e.platform.arrayLengthLimit) (hh1 : ¬ n.toNatClampNeg * componentBytes tA > e.platform.maxHeapBytes)
    (hl2 : ¬ m.toNatClampNeg > e.platform.arrayLengthLimit) (hh2 : ¬ m.toNatClampNeg * componentBytes tB > e.platform.maxHeapBytes)
    (hdf : fits tB (defaultValue tB) = true) (hdd : (defaultValue tB).isDefault = true)
    (hc : s.heap.size + 1 + n.toNatClampNeg ≤ e.platform.maxCells) (hs : s.slotsUsed + n.toNatClampNeg + n.toNatClampNeg * m.toNatClampNeg ≤ e.platform.maxSlots)
    {Q : Addr → Pre} (hq : ∀ d' acts', Q s.heap.size d' acts' (mgS s cA cB n.toNatClampNeg m.toNatClampNeg (defaultValue tB) n.toNatClampNeg)) :
    wp (multianewarray.make cA [n, m]) Q E e d acts s := by
  have hfind : ([m].find? (· < 0)) = none := by simp [hm]
  generalize hN : n.toNatClampNeg = N at hl1 hh1 hc hs hq
  generalize hM : m.toNatClampNeg = M at hl2 hh2 hs hq
  rw [multianewarray.make]
  simp only [wp_bind', W.ite, hn, if_false, wp_pure', W.theClass, hkA, hkindA, Option.some.injEq, exists_eq_left', hN]
  refine mg_newArray hkA hkindA hl1 hh1 (mg_fits href 0).1 rfl (by omega) (by omega) ?_
  simp only [hfind]
  rw [ite_self, wp_bind', Std.Legacy.Range.forIn_eq_forIn_range']
  have hsz : ([:N] : Std.Legacy.Range).size = N := by simp [Std.Legacy.Range.size]
  rw [hsz]
  show wp (forIn (List.range' 0 N 1) PUnit.unit _) _ E e d acts _
  have h0 : s.pushCell (arrV cA N (fun _ => .null)) = mgS s cA cB N M (defaultValue tB) 0 := by
    show _ = s.pushCell (mgC cA N s.heap.size 0)
    unfold mgC
    congr 2
  refine wp_forIn_inv (fun rest u => ∃ i, i ≤ N ∧ rest = List.range' i (N - i) ∧ u = mgS s cA cB N M (defaultValue tB) i) _ _ ⟨0, Nat.zero_le _, rfl, h0⟩ ?_ ?_
  · rintro x rest u d' acts' Q' ⟨i, hi, hl, rfl⟩ hnext
    have hlt : i < N := by
      rcases Nat.lt_or_ge i N with h | h
      · exact h
      · rw [show N - i = 0 from by omega] at hl; simp at hl
    rw [show N - i = (N - (i + 1)) + 1 from by omega, List.range'_succ] at hl
    obtain ⟨rfl, hrest⟩ := List.cons.inj hl
    obtain ⟨f1, f3, f4⟩ := mgS_size s cA cB N M (defaultValue tB) x
    have f2 := (mgS_heap s cA cB N M (defaultValue tB) x).2.1
    have hmul : x * M + M ≤ N * M := by
      have := Nat.mul_le_mul_right M (show x + 1 ≤ N from hlt)
      rw [Nat.succ_mul] at this; exact this
    simp only [wp_bind']
    rw [multianewarray.make]
    simp only [wp_bind', W.ite, hm, if_false, wp_pure', W.theClass, f3, hkB, hkindB, Option.some.injEq, exists_eq_left', hM]
    refine mg_newArray (by rw [f3]; exact hkB) hkindB hl2 hh2 hdf hdd (by rw [f1]; omega) (by rw [f4]; omega) ?_
    have lt0 : s.heap.size < (mgS s cA cB N M (defaultValue tB) x).heap.size := by rw [f1]; omega
    simp only [wp_bind', W.writeLoc, wp_pure']
    refine ⟨mgC cA N s.heap.size x, by rw [State.heap_pushCell_of_lt _ _ lt0]; exact f2, by simp [mgC, arrV], by rw [mgC, arrV_size]; exact hlt, ?_, hnext _ _ _ ⟨x + 1, hlt, hrest, ?_⟩⟩
    · simp [mgC, arrV, State.fitsSlot, State.slotType?, f3, hkA, hkindA, (mg_fits href _).2]
    · rw [f1, mgC_next]; rfl
  · rintro u d' acts' ⟨i, hi, hl, rfl⟩
    have hiN : i = N := by
      rcases Nat.lt_or_ge i N with h | h
      · rw [show N - i = (N - (i + 1)) + 1 from by omega, List.range'_succ] at hl; cases hl
      · omega
    subst hiN
    simp only [wp_pure']
    exact hq _ _
end WPS
section STEP
variable {p : Program} {l : Launch} {e : Env} {R : Room} {s : State} {m : MethodId} {args : Array Value} {below : List Frame} {meth : Method} {c : Code} {T : State} {locs : List Loc} {cells slots : Nat}
theorem mg_stand (X : Stand p l e R s m args below meth c T locs cells slots) (cA cB : ClassId) (N M : Nat) (dv : Value) :
    ∀ i, Stand p l e R s m args below meth c (mgS T cA cB N M dv i) (locs ++ (List.range i).map fun j => ⟨T.heap.size, j⟩) (cells + 1 + i) (slots + N + i * M)
  | 0 => by
    have h := X.pushed (mgC cA N T.heap.size 0)
    rw [mgC, arrV_size] at h
    simpa [mgS, mgC] using h
  | i + 1 => by
    have Xi := mg_stand X cA cB N M dv i
    have f1 := (mgS_size T cA cB N M dv i).1
    have f2 := (mgS_heap T cA cB N M dv i).2.1
    have lt0 : T.heap.size < (mgS T cA cB N M dv i).heap.size := by rw [f1]; omega
    have hcell : ((mgS T cA cB N M dv i).pushCell (arrV cB M (fun _ => dv))).heap[T.heap.size]? = some (mgC cA N T.heap.size i) := by rw [State.heap_pushCell_of_lt _ _ lt0]; exact f2
    have h := (Xi.pushed (arrV cB M (fun _ => dv))).stored hcell i (.ref (T.heap.size + 1 + i))
    rw [arrV_size, mgC_next] at h
    have e2 : (locs ++ (List.range (i + 1)).map fun j => (⟨T.heap.size, j⟩ : Loc)) = (locs ++ (List.range i).map fun j => (⟨T.heap.size, j⟩ : Loc)) ++ [⟨T.heap.size, i⟩] := by simp [List.range_succ, List.append_assoc]
    have e3 : slots + N + (i + 1) * M = slots + N + i * M + M := by rw [Nat.succ_mul]; omega
    rw [e2, e3]
    exact h
theorem mg_step (X : Stand p l e R s m args below meth c T locs cells slots) (hexec : p.tables.exec = Jvm.exec) {own nm : String} {index : Nat} {ty : FieldType} {cA cB cE : ClassId} {kA kB : Class}
    (hown : s.vm.findClass own = some m.cls) (hclink : (Cond.classLink own index nm).before args s = true) (hfA : s.vm.findClass nm = some cA)
    (hkA : s.vm.classes[cA]? = some kA) (hkindA : kA.kind = .array cB (.array ty)) (hkB : s.vm.classes[cB]? = some kB) (hkindB : kB.kind = .array cE ty)
    {g : JFrame} (hg : g.method = m) (hdg : decode c.code g.pc = .ok (.multianewarray index 2, 4)) {n k : Int32} {rest : List Value} (hstack : g.stack = .int k :: .int n :: rest)
    (hn : ¬ n < 0) (hk : ¬ k < 0) {N M : Nat} (hN : n.toNatClampNeg = N) (hM : k.toNatClampNeg = M) (hb1 : N * 4 ≤ 536870912) (hb2 : M * componentBytes ty ≤ 536870912) (hb3 : M ≤ 536870912)
    (hdf : fits ty (defaultValue ty) = true) (hdd : (defaultValue ty).isDefault = true)
    (hcells : cells + (1 + N) ≤ R.cells) (hslots : slots + (N + N * M) ≤ R.slots) :
    ∃ vm₁ : Vm, Stand p l e R s m args below meth c (mgS (T.setVm vm₁) cA cB N M (defaultValue ty) N) (locs ++ (List.range N).map fun j => ⟨T.heap.size, j⟩) (cells + 1 + N) (slots + N + N * M) ∧
      ∀ target, Steps p.tables e below ((mgS (T.setVm vm₁) cA cB N M (defaultValue ty) N).setTop { g with pc := g.pc + 4, stack := .ref T.heap.size :: rest }) target → Steps p.tables e below (T.setTop g) target := by
  subst hg
  have hpl : e.platform.magicAccessors = ({} : Platform).magicAccessors := by rw [X.admits.platform]
  obtain ⟨c0, hfc0, hcl⟩ := Cond.classLink_spec hown hclink e.platform hpl
  cases hfA.symm.trans hfc0
  obtain ⟨hg₁, hwarm₁, hready₁⟩ := State.classEntry (e := e) X.warmed hcl
  generalize T.vm.noted g.method.cls index (.cls cA) = vm₁ at hg₁ hwarm₁ hready₁
  have hal : s.vm.Alike vm₁ := hwarm₁.alike
  obtain ⟨kA₁, hkA₁, heA⟩ := hal.2.2 _ _ hkA
  obtain ⟨kB₁, hkB₁, heB⟩ := hal.2.2 _ _ hkB
  have hkindA₁ : kA₁.kind = .array cB (.array ty) := by rw [heA]; exact hkindA
  have hkindB₁ : kB₁.kind = .array cE ty := by rw [heB]; exact hkindB
  have XF := mg_stand (X.noted hwarm₁) cA cB N M (defaultValue ty) N
  obtain ⟨hr1, hr2⟩ := X.roomAbove hcells hslots
  refine ⟨vm₁, XF, fun target hrest => ?_⟩
  subst hN; subst hM
  have hl1 : ¬ n.toNatClampNeg > e.platform.arrayLengthLimit := by rw [Launch.admits_arrayLengthLimit X.admits]; omega
  have hh1 : ¬ n.toNatClampNeg * componentBytes (.array ty) > e.platform.maxHeapBytes := by
    rw [Launch.admits_maxHeapBytes X.admits]; show ¬ n.toNatClampNeg * 4 > 536870912; omega
  have hl2 : ¬ k.toNatClampNeg > e.platform.arrayLengthLimit := by rw [Launch.admits_arrayLengthLimit X.admits]; omega
  have hh2 : ¬ k.toNatClampNeg * componentBytes ty > e.platform.maxHeapBytes := by rw [Launch.admits_maxHeapBytes X.admits]; omega
  jvm_step X.here [hexec, hdg]
  simp only [multianewarray.sem, wp_bind', W.resolveClassAt_links (State.method?_setTop g X.here.top) hg₁]
  rw [W.popN, if_neg (by decide)]
  refine ⟨g, State.topJava?_setTop' (s := T.setVm vm₁) g X.here.top, [.int n, .int k], rest, rfl, hstack, ?_⟩
  simp only [List.mapM_cons, List.mapM_nil, wp_bind', wp_pure']
  refine mg_make (kA := kA₁) (kB := kB₁) (cB := cB) (cE := cE) (tA := .array ty) (tB := ty) hkA₁ hkindA₁ rfl hkB₁ hkindB₁ hn hk hl1 hh1 hl2 hh2 hdf hdd (by show T.heap.size + 1 + _ ≤ _; omega) (by show T.slotsUsed + _ + _ ≤ _; omega) (fun d' acts' => ?_)
  have eS : ((T.setTop g).setVm vm₁).setTop { g with stack := rest } = (T.setVm vm₁).setTop { g with stack := rest } := by
    show ((T.setVm vm₁).setTop g).setTop _ = _
    rw [State.setTop_setTop]
  rw [eS, mgS_top]
  simp only [wp_bind', W.mark, W.pushRef, State.topJava?_setTop' _ XF.here.top, Option.some.injEq, exists_eq_left', State.setTop_setTop, State.heap_setTop]
  intro acts
  simp [jvm, XF.here.top]
  exact hrest
end STEP
section ROWS
variable {p : Program} {l : Launch} {e : Env} {R : Room} {s : State} {m : MethodId} {args : Array Value} {below : List Frame} {meth : Method} {c : Code} {H : Heap} {locs : List Loc} {cells slots : Nat} {Q : State → Prop}
variable {s0 : State} {A0 : Array Value} {D : va_G} {ac : Nat → ClassId} {σ : St} {cc : ByteArray} {nL : Nat} {own : String} {ret : Option FieldType} {pc : Nat} {ls : Array Slot} {rest : List Value} {idx : Nat} {α : Type} {r : α}
theorem x_grid {K : Nat → St → Option α} {n k : Int32} {q1 q0 N M : Nat} {ty : FieldType} {nm : String} (G : Gl s0 A0 D ac) (C : Cx s0 p s m args meth c cc nL own ret) (h : Hs s0 D ac σ H locs) (hq1 : tyL[q1]? = some (.array ty)) (hq0 : tyL[q0]? = some ty) (hnm : "[" ++ (FieldType.array ty).toString = nm) (hnm0 : "[" ++ ty.toString = (FieldType.array ty).toString) (hcl : Cond.classLink own idx nm ∈ lw_all) (hdv : defaultValue ty = fv (tyA q0) 0 0 none)
    (hn : ¬ n < 0) (hk : ¬ k < 0) (hN : n.toNatClampNeg = N) (hM : k.toNatClampNeg = M) (hb1 : N * 4 ≤ 536870912) (hb2 : M * componentBytes ty ≤ 536870912) (hb3 : M ≤ 536870912) (hdf : fits ty (defaultValue ty) = true) (hdd : (defaultValue ty).isDefault = true)
    (hcells : cells + (1 + N) ≤ R.cells) (hslots : slots + (N + N * M) ≤ R.slots) (hdg : decode cc pc = .ok (.multianewarray idx 2, 4)) (hf : o_grid σ q1 q0 N M K = some r)
    (kk : ∀ (a : Nat) (σ : St) (H : Heap) (locs : List Loc), Hs s0 D ac σ H locs → K a σ = some r → W p l e R s m args below meth c H locs (cells + 1 + N) (slots + N + N * M) Q (F0 m (pc + 4) ls (.ref a :: rest))) : W p l e R s m args below meth c H locs cells slots Q (F0 m pc ls (.int k :: .int n :: rest)) := by
  obtain ⟨f1, kA, comp, hkA, hkindA, -, hcomp⟩ := (G.ak C) q1 _ hq1
  obtain ⟨g1, kB, cE, hkB, hkindB, -⟩ := (G.ak C) q0 _ hq0
  have ecomp : comp = ac q0 := by
    have h9 := hcomp _ rfl
    rw [← hnm0, g1] at h9
    exact (Option.some.inj h9).symm
  subst ecomp
  intro T hT X
  obtain ⟨vm₁, X', st⟩ := mg_step X C.1 (own := own) (nm := nm) C.2.2.2.1 (C.2.2.2.2.1 _ hcl) (by rw [← hnm]; exact f1) hkA hkindA hkB hkindB (g := F0 m pc ls (.int k :: .int n :: rest)) rfl (by rw [C.2.1]; exact hdg) rfl hn hk hN hM hb1 hb2 hb3 hdf hdd hcells hslots
  have hTz : (T.setVm vm₁).heap.size = H.size := by rw [← hT]; rfl
  have hTh : ∀ a : Nat, (T.setVm vm₁).heap[a]? = H[a]? := fun a => by rw [← hT]; rfl
  obtain ⟨z1, -, -⟩ := mgS_size (T.setVm vm₁) (ac q1) (ac q0) N M (defaultValue ty) N
  obtain ⟨y1, y2, y3⟩ := mgS_heap (T.setVm vm₁) (ac q1) (ac q0) N M (defaultValue ty) N
  obtain ⟨⟨h1, h2, h3, h4, h5⟩, h6⟩ := h
  rw [hTz] at z1 y1 y2 y3
  have hA1 : tyA q1 = .array ty := by unfold tyA; rw [List.getD_eq_getElem?_getD, hq1]; rfl
  have hH : Hs s0 D ac (grid σ q1 q0 N M) (mgS (T.setVm vm₁) (ac q1) (ac q0) N M (defaultValue ty) N).heap (locs ++ (List.range N).map fun j => ⟨T.heap.size, j⟩) := by
    refine ⟨⟨by rw [z1, h1]; rfl, by show _ ≤ s_z σ + 1 + N; omega, fun a => ?_, fun a ha => ?_, fun q hq => ?_⟩, fun q hq => ?_⟩
    · show cellOk D ac _ _ a (if a = s_z σ then _ else if s_z σ < a ∧ a < s_z σ + 1 + N then _ else _)
      by_cases ha : a = s_z σ
      · subst ha
        rw [if_pos rfl]
        show _ = some (arrV (ac q1) N (fun j => sv _ (tyA q1) _ j))
        rw [← h1, y2, mgC]
        congr 2
        funext j
        unfold sv
        rw [hA1]
        show _ = va_rf (if H.size = s_z σ then (if j < N then some (s_z σ + 1 + j) else none) else _)
        rw [if_pos h1, h1]
        split <;> rfl
      · rw [if_neg ha]
        by_cases hb : s_z σ < a ∧ a < s_z σ + 1 + N
        · rw [if_pos hb]
          show _ = some (arrV (ac q0) M (fun j => sv _ (tyA q0) _ j))
          have h9 := y3 (a - (H.size + 1)) (by omega)
          rw [show H.size + 1 + (a - (H.size + 1)) = a from by omega] at h9
          rw [h9, hdv]
          congr 2
          funext j
          unfold sv
          show _ = fv _ (if s_z σ ≤ a ∧ a < s_z σ + 1 + N then _ else _) (if s_z σ ≤ a ∧ a < s_z σ + 1 + N then _ else _) (if a = s_z σ then _ else if s_z σ < a ∧ a < s_z σ + 1 + N then _ else _)
          rw [if_pos (by omega), if_pos (by omega), if_neg ha, if_pos hb]
        · rw [if_neg hb]
          by_cases hno : s_k σ a = none
          · rw [hno]; trivial
          · have hlt := (h4 a hno).2
            refine (h3 a).kept (by rw [y1 a (by omega)]; exact hTh a) (fun ty j => ?_)
            unfold sv
            show fv _ (if s_z σ ≤ a ∧ a < s_z σ + 1 + N then _ else _) (if s_z σ ≤ a ∧ a < s_z σ + 1 + N then _ else _) (if a = s_z σ then _ else if s_z σ < a ∧ a < s_z σ + 1 + N then _ else _) = _
            rw [if_neg (by omega), if_neg (by omega), if_neg ha, if_neg hb]
    · have ha : (if a = s_z σ then some (.inr (q1, N)) else if s_z σ < a ∧ a < s_z σ + 1 + N then some (.inr (q0, M)) else s_k σ a) ≠ none := ha
      show _ ∧ a < s_z σ + 1 + N
      by_cases h9 : a = s_z σ
      · omega
      · rw [if_neg h9] at ha
        by_cases hb : s_z σ < a ∧ a < s_z σ + 1 + N
        · omega
        · rw [if_neg hb] at ha
          have := h4 a ha
          omega
    · rw [y1 q (by omega), hTh]; exact h5 q hq
    · rcases List.mem_append.mp hq with h9 | h9
      · exact h6 q h9
      · obtain ⟨z, -, hz⟩ := List.mem_map.mp h9
        rw [← hz]
        show _ ≤ T.heap.size
        rw [hT]; omega
  have hz9 : T.heap.size = s_z σ := by rw [hT]; exact h1
  obtain ⟨t, a1, b1⟩ := kk (s_z σ) _ _ _ hH hf _ rfl X'
  rw [hz9] at st
  exact ⟨t, st t a1, b1⟩
end ROWS
