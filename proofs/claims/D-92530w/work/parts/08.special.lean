set_option maxRecDepth 100000
/-! rows: overriding methods, copies of arrays, instanceof and checkcast of Raid -/
def cpyI (σ : St) (a0 sp a dp n : Nat) : St := (σ.1, σ.2.1, fun b k => if b = a then va_cpy (s_i σ a0) (s_i σ a) sp dp n k else s_i σ b k, σ.2.2.2)
def o_cpy {α : Type} (σ : St) (a0 : Nat) (sp : Int32) (a : Nat) (dp n : Int32) (K : St → Option α) : Option α := match s_k σ a0, s_k σ a with
  | some (.inr (q0, n0)), some (.inr (q1, n1)) => if q0 = 0 ∧ q1 = 0 ∧ ¬ sp < 0 ∧ ¬ dp < 0 ∧ ¬ n < 0 ∧ sp.toNatClampNeg + n.toNatClampNeg ≤ n0 ∧ dp.toNatClampNeg + n.toNatClampNeg ≤ n1 then K (cpyI σ a0 sp.toNatClampNeg a dp.toNatClampNeg n.toNatClampNeg) else none
  | _, _ => none
theorem o_cpy_of {α : Type} {σ : St} {a0 a : Nat} {sp dp n : Int32} {K : St → Option α} {r : α} (hf : o_cpy σ a0 sp a dp n K = some r) : ∃ n0 n1, s_k σ a0 = some (.inr (0, n0)) ∧ s_k σ a = some (.inr (0, n1)) ∧ ¬ sp < 0 ∧ ¬ dp < 0 ∧ ¬ n < 0 ∧ sp.toNatClampNeg + n.toNatClampNeg ≤ n0 ∧ dp.toNatClampNeg + n.toNatClampNeg ≤ n1 ∧ K (cpyI σ a0 sp.toNatClampNeg a dp.toNatClampNeg n.toNatClampNeg) = some r := by
  unfold o_cpy at hf
  split at hf
  · next q0 n0 q1 n1 h0 h1 =>
    split at hf
    · next h => obtain ⟨rfl, rfl, h2, h3, h4, h5, h6⟩ := h; exact ⟨n0, n1, h0, h1, h2, h3, h4, h5, h6, hf⟩
    · cases hf
  · cases hf
def o_inst {α : Type} (σ : St) (a : Nat) (K : Int32 → Option α) : Option α := if s_k σ a = some (.inl 12) then K 1 else if s_k σ a = some (.inl 1) ∨ s_k σ a = some (.inl 2) ∨ s_k σ a = some (.inl 9) ∨ s_k σ a = some (.inl 10) then K 0 else none
section ROWS
variable {p : Program} {l : Launch} {e : Env} {R : Room} {s : State} {m : MethodId} {args : Array Value} {below : List Frame} {meth : Method} {c : Code} {H : Heap} {locs : List Loc} {cells slots : Nat} {Q : State → Prop}
variable {s0 : State} {A0 : Array Value} {D : va_G} {ac : Nat → ClassId} {σ : St} {cc : ByteArray} {nL : Nat} {own : String} {ret : Option FieldType} {pc : Nat} {ls : Array Slot} {rest : List Value} {a ci j idx : Nat} {α : Type} {r : α}
theorem Hs.stepL {σ' : St} {H1 : Heap} {L : List Loc} (h : Hs s0 D ac σ H locs) (hk : s_k σ' = s_k σ) (hz : s_z σ' = s_z σ) (z : H1.size = H.size) (oq : ∀ q : Nat, q ≠ a → H1[q]? = H[q]?) (hv : ∀ (b : Nat), b ≠ a → ∀ (ty : FieldType) (j : Nat), sv σ' ty b j = sv σ ty b j) (hka : s_k σ a ≠ none) (hc : cellOk D ac σ' H1 a (s_k σ a)) (hL : ∀ l ∈ L, l.base = a) : Hs s0 D ac σ' H1 (locs ++ L) := by
  have h1 := h.step (i := 0) hk hz z oq hv hka hc
  refine ⟨h1.1, fun l hl => ?_⟩
  rcases List.mem_append.mp hl with h9 | h9
  · exact h.2 l h9
  · rw [hL l h9]; exact (h.1.2.2.2.1 a hka).1
variable {y : MethodName} {bytes : ByteArray} {maxL mc ms n : Nat} {rt : Option FieldType} {rm : Room} {As st0 : List Value} {b : Nat} {ov : Option Value} {σ' : St}
theorem x_cA (G : Gl s0 A0 D ac) (C : Cx s0 p s m args meth c cc nL own ret) (h : Hs s0 D ac σ H locs) (hM : Met l y (ws_ y bytes maxL rt) rm (Pn s0 D ac (.ref b :: As) σ) (Qn s0 D ac ov σ') mc ms (fr s0)) (hk : s_k σ b = some (.inl ci)) {q : vw_C} (hc : clA[ci]? = some q) {x : MethodName} {owner : String} (hl : Cond.methodLink own idx x ∈ lw_all) (hsm : Cond.sameMethod x.cls owner x.name x.desc ∈ lw_all) (hz : va_Decl s ⟨owner, x.name, x.desc⟩) (hsel : Cond.selects q.1 x y ∈ lw_all) (hin : Cond.instanceMethod y ∈ lw_all) (hi : Cond.initialized y.cls ∈ lw_all) (hco : Cond.code y bytes maxL rt ∈ lw_all)
    (hd : owner ≠ "java/lang/invoke/MethodHandle" ∧ owner ≠ "java/lang/invoke/VarHandle" ∧ (parseMethodDescriptor x.desc).map (fun d => d.parameters.length) = some n) (hR : rm.frames + 1 ≤ R.frames ∧ 8 + (maxL + 11) + rm.locals ≤ R.locals) (hrc : rm.cells = mc) (hrs : rm.slots = ms) (hn : As.length = n) (hsize : ls.size = nL) (hst : st0 = As.reverse ++ .ref b :: rest) (hW : (rest.map fun v => v.category).sum ≤ 8) (hdg : decode cc pc = .ok (.invokevirtual idx, 3)) (hf : cells + mc ≤ R.cells ∧ slots + ms ≤ R.slots)
    (kk : ∀ (H : Heap) (locs : List Loc), Hs s0 D ac σ' H locs → W p l e R s m args below meth c H locs (cells + mc) (slots + ms) Q (F0 m (pc + 3) ls (ov.toList ++ rest))) : W p l e R s m args below meth c H locs cells slots Q (F0 m pc ls st0) :=
  x_run (va_runU (C := q.1) ⟨C.1, C.2.1, C.2.2.1, C.2.2.2.1, C.2.2.2.2.1⟩ hM ⟨⟨hrc, hrs, hR.1, hR.2, pay_in C.2.2.2.2.1 (lw_meth hco), List.mem_cons_self⟩, C.2.2.2.2.1 _ hco, C.2.2.2.2.1 _ hi, ⟨hd.1, hd.2.1⟩, fun sig hs => by have h2 := hd.2.2; rw [hs] at h2; exact (Option.some.inj h2).symm, C.2.2.2.2.1 _ hl, C.2.2.2.2.1 _ hsm, hz, C.2.2.2.2.1 _ hsel, C.2.2.2.2.1 _ hin⟩ ⟨Pn.blind, h.recv G C hk hc, h.pre C _⟩ rfl hn hsize hst (lv_room hW) hdg hf) h kk
theorem x_copy {K : St → Option α} {sp dp n : Int32} {a0 : Nat} (G : Gl s0 A0 D ac) (C : Cx s0 p s m args meth c cc nL own ret) (h : Hs s0 D ac σ H locs) (hlink : Cond.methodLink own idx arraycopyName ∈ lw_all) (hnat : Cond.native arraycopyName ∈ lw_all) (hstat : Cond.static arraycopyName ∈ lw_all) (hini : Cond.initialized "java/lang/System" ∈ lw_all) (hsize : ls.size = nL) (hframes : 1 ≤ R.frames) (hlocals : (rest.map fun v => v.category).sum + (nativeFrameWords "java/lang/System" "arraycopy" 5 + 11) ≤ R.locals) (hdg : decode cc pc = .ok (.invokestatic idx, 3)) (hf : o_cpy σ a0 sp a dp n K = some r)
    (kk : ∀ (σ : St) (H : Heap) (locs : List Loc), Hs s0 D ac σ H locs → K σ = some r → W p l e R s m args below meth c H locs cells slots Q (F0 m (pc + 3) ls rest)) : W p l e R s m args below meth c H locs cells slots Q (F0 m pc ls (.int n :: .int dp :: .ref a :: .int sp :: .ref a0 :: rest)) := by
  obtain ⟨n0, n1, hk0, hk1, h1, h2, h3, h4, h5, hf⟩ := o_cpy_of hf
  have nn : ∀ z : Int32, ¬ z < 0 → z.toInt = (z.toNatClampNeg : Int) := by
    intro z hz
    have hz0 : (0 : Int) ≤ z.toInt := by
      have := Int32.not_lt.mp hz
      simpa using Int32.le_iff_toInt_le.mp this
    show z.toInt = ((z.toInt.toNat : Nat) : Int)
    omega
  have hc0 : H[a0]? = some (arrV (ac 0) n0 (fun j => .int (s_i σ a0 j))) := arr_cell h hk0
  have hc1 : H[a]? = some (arrV (ac 0) n1 (fun j => .int (s_i σ a j))) := arr_cell h hk1
  intro T hT X
  obtain ⟨-, k0, hkk, cm0, hkk0⟩ := (G.ak C).arr (q := 0) rfl n0 (fun j => .int (s_i σ a0 j))
  obtain ⟨vm', X', step⟩ := X.arraycopy C.1 C.2.2.2.1 (C.2.2.2.2.1 _ hlink) (C.2.2.2.2.1 _ hnat) (C.2.2.2.2.1 _ hstat) (C.2.2.2.2.1 _ hini) (src := a0) (dst := a) (cs := arrV (ac 0) n0 (fun j => .int (s_i σ a0 j))) (cd := arrV (ac 0) n1 (fun j => .int (s_i σ a j))) (srcPos := sp) (destPos := dp) (n := n) (by rw [hT]; exact hc0) (by rw [hT]; exact hc1)
    (fun _ h => by cases h) (fun _ h => by cases h) (fun h => by cases h) (fun h => by cases h) hkk hkk hkk0 hkk0 (by simp [refKind]) h1 h2 h3
    (by rw [nn sp h1, nn n h3, arrV_size]; omega)
    (by rw [nn dp h2, nn n h3, arrV_size]; omega)
    (fun vm₁ _ i hi => by
      have e : (arrV (ac 0) n0 (fun j => .int (s_i σ a0 j))).slots.getD (sp.toNatClampNeg + i) .null = .int (s_i σ a0 (sp.toNatClampNeg + i)) := by
        rw [Array.getD_eq_getD_getElem?, arrV_read _ _ (by omega)]
        rfl
      refine ⟨?_, ?_⟩
      · rw [e]; rfl
      · rw [e]
        exact trivial)
    (g := F0 m pc ls (.int n :: .int dp :: .ref a :: .int sp :: .ref a0 :: rest)) rfl (by rw [C.2.2.1]; exact hsize) (rest := rest) rfl (by rw [C.2.1]; exact hdg) hframes (by show 2 * 0 + _ + _ ≤ _; omega)
  have e1 : copied (arrV (ac 0) n0 (fun j => .int (s_i σ a0 j))) (arrV (ac 0) n1 (fun j => .int (s_i σ a j))) sp dp n = arrV (ac 0) n1 (fun j => .int (va_cpy (s_i σ a0) (s_i σ a) sp.toNatClampNeg dp.toNatClampNeg n.toNatClampNeg j)) := va_copied (fun z => .int z) (ac 0) (ac 0) (s_i σ a0) (s_i σ a) h4
  rw [e1] at X' step
  have hl : a < H.size := (Array.getElem?_eq_some_iff.mp hc1).1
  have hheap : ((T.setVm vm').setCell a (arrV (ac 0) n1 (fun j => .int (va_cpy (s_i σ a0) (s_i σ a) sp.toNatClampNeg dp.toNatClampNeg n.toNatClampNeg j)))).heap = H.setIfInBounds a (arrV (ac 0) n1 (fun j => .int (va_cpy (s_i σ a0) (s_i σ a) sp.toNatClampNeg dp.toNatClampNeg n.toNatClampNeg j))) := by rw [← hT]; rfl
  obtain ⟨t, a1, b1⟩ := kk (cpyI σ a0 sp.toNatClampNeg a dp.toNatClampNeg n.toNatClampNeg) _ _ (h.stepL (a := a) rfl rfl (by simp) (fun q hq => by simp [Array.getElem?_setIfInBounds, Ne.symm hq]) (fun b hb ty j => by unfold sv; show fv ty (if b = a then _ else _) _ _ = _; rw [if_neg hb]; rfl) (by rw [hk1]; exact fun h => by cases h) (by
      rw [hk1]
      show _ = some (arrV (ac 0) n1 (fun j => .int (if a = a then _ else _)))
      simp [hl]) (fun l hl => by obtain ⟨z, -, hz⟩ := List.mem_map.mp hl; rw [← hz])) hf _ hheap X'
  exact ⟨t, step t a1, b1⟩
theorem x_inst {K : Int32 → Option α} (G : Gl s0 A0 D ac) (C : Cx s0 p s m args meth c cc nL own ret) (h : Hs s0 D ac σ H locs) (hcl : Cond.classLink own idx "HutForShow$Raid" ∈ lw_all) (hdg : decode cc pc = .ok (.instanceof idx, 3)) (hf : o_inst σ a K = some r)
    (kk : ∀ x, K x = some r → W p l e R s m args below meth c H locs cells slots Q (F0 m (pc + 3) ls (.int x :: rest))) : W p l e R s m args below meth c H locs cells slots Q (F0 m pc ls (.ref a :: rest)) := by
  have no : ∀ (ci : Nat) (q : vw_C), clA[ci]? = some q → s_k σ a = some (.inl ci) → q.1 ∈ ["HutForShow$Guard", "HutForShow$Feed", "HutForShow$Mend", "HutForShow$Find"] → K 0 = some r → W p l e R s m args below meth c H locs cells slots Q (F0 m pc ls (.ref a :: rest)) := fun ci q hc hk hq hf =>
    va_instNo C.1 C.2.1 C.2.2.2.1 (C.2.2.2.2.1 _ hcl) (va_Nc.moved C.2.2.2.2.2.2.2.alike (G.2.2.2.1 _ hq)) (h.recv G C hk hc) hdg (kk _ hf)
  unfold o_inst at hf
  split at hf
  · next hk => exact va_instS C.1 C.2.1 C.2.2.2.1 (C.2.2.2.2.1 _ hcl) (G.kn C (ci := 12) (q := (RX15, TX15, 1)) rfl).2 (h.recv G C hk rfl) hdg (kk _ hf)
  · split at hf
    · next hk =>
      rcases hk with hk | hk | hk | hk
      · exact no 1 _ rfl hk (by decide) hf
      · exact no 2 _ rfl hk (by decide) hf
      · exact no 9 _ rfl hk (by decide) hf
      · exact no 10 _ rfl hk (by decide) hf
    · cases hf
theorem x_cast (G : Gl s0 A0 D ac) (C : Cx s0 p s m args meth c cc nL own ret) (h : Hs s0 D ac σ H locs) (hk : s_k σ a = some (.inl 12)) (hcl : Cond.classLink own idx "HutForShow$Raid" ∈ lw_all) (hdg : decode cc pc = .ok (.checkcast idx, 3))
    (kk : W p l e R s m args below meth c H locs cells slots Q (F0 m (pc + 3) ls (.ref a :: rest))) : W p l e R s m args below meth c H locs cells slots Q (F0 m pc ls (.ref a :: rest)) :=
  va_castS C.1 C.2.1 C.2.2.2.1 (C.2.2.2.2.1 _ hcl) (G.kn C (ci := 12) (q := (RX15, TX15, 1)) rfl).2 (h.recv G C hk rfl) hdg kk
end ROWS
