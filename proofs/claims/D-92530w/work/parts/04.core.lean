set_option maxRecDepth 100000
/-! the pure heap: kinds of cells, references, ints, longs, the size -/
abbrev Kd : Type := Option (Nat ⊕ Nat × Nat)
abbrev St : Type := (Nat → Kd) × (Nat → Nat → Option Nat) × (Nat → Nat → Int32) × (Nat → Nat → Int64) × Nat
def s_k (σ : St) : Nat → Kd := σ.1
def s_r (σ : St) : Nat → Nat → Option Nat := σ.2.1
def s_i (σ : St) : Nat → Nat → Int32 := σ.2.2.1
def s_l (σ : St) : Nat → Nat → Int64 := σ.2.2.2.1
def s_z (σ : St) : Nat := σ.2.2.2.2
def up2 {α : Type} (f : Nat → Nat → α) (a j : Nat) (v : α) : Nat → Nat → α := fun b k => if b = a ∧ k = j then v else f b k
def setI (σ : St) (a j : Nat) (v : Int32) : St := (σ.1, σ.2.1, up2 σ.2.2.1 a j v, σ.2.2.2)
def setR (σ : St) (a j : Nat) (v : Option Nat) : St := (σ.1, up2 σ.2.1 a j v, σ.2.2)
def setL (σ : St) (a j : Nat) (v : Int64) : St := (σ.1, σ.2.1, σ.2.2.1, up2 σ.2.2.2.1 a j v, σ.2.2.2.2)
def born (σ : St) (k : Nat ⊕ Nat × Nat) : St := (fun b => if b = s_z σ then some k else s_k σ b, fun b j => if b = s_z σ then none else s_r σ b j, fun b j => if b = s_z σ then 0 else s_i σ b j, fun b j => if b = s_z σ then 0 else s_l σ b j, s_z σ + 1)
theorem k_setI (σ : St) (a j : Nat) (v : Int32) : s_k (setI σ a j v) = s_k σ := rfl
theorem r_setI (σ : St) (a j : Nat) (v : Int32) : s_r (setI σ a j v) = s_r σ := rfl
theorem i_setI (σ : St) (a j : Nat) (v : Int32) : s_i (setI σ a j v) = up2 (s_i σ) a j v := rfl
theorem l_setI (σ : St) (a j : Nat) (v : Int32) : s_l (setI σ a j v) = s_l σ := rfl
theorem z_setI (σ : St) (a j : Nat) (v : Int32) : s_z (setI σ a j v) = s_z σ := rfl
theorem k_setR (σ : St) (a j : Nat) (v : Option Nat) : s_k (setR σ a j v) = s_k σ := rfl
theorem r_setR (σ : St) (a j : Nat) (v : Option Nat) : s_r (setR σ a j v) = up2 (s_r σ) a j v := rfl
theorem i_setR (σ : St) (a j : Nat) (v : Option Nat) : s_i (setR σ a j v) = s_i σ := rfl
theorem l_setR (σ : St) (a j : Nat) (v : Option Nat) : s_l (setR σ a j v) = s_l σ := rfl
theorem z_setR (σ : St) (a j : Nat) (v : Option Nat) : s_z (setR σ a j v) = s_z σ := rfl
theorem k_setL (σ : St) (a j : Nat) (v : Int64) : s_k (setL σ a j v) = s_k σ := rfl
theorem r_setL (σ : St) (a j : Nat) (v : Int64) : s_r (setL σ a j v) = s_r σ := rfl
theorem i_setL (σ : St) (a j : Nat) (v : Int64) : s_i (setL σ a j v) = s_i σ := rfl
theorem l_setL (σ : St) (a j : Nat) (v : Int64) : s_l (setL σ a j v) = up2 (s_l σ) a j v := rfl
theorem z_setL (σ : St) (a j : Nat) (v : Int64) : s_z (setL σ a j v) = s_z σ := rfl
theorem z_born (σ : St) (k : Nat ⊕ Nat × Nat) : s_z (born σ k) = s_z σ + 1 := rfl
theorem k_born (σ : St) (k : Nat ⊕ Nat × Nat) (b : Nat) : s_k (born σ k) b = if b = s_z σ then some k else s_k σ b := rfl
theorem r_born (σ : St) (k : Nat ⊕ Nat × Nat) (b j : Nat) : s_r (born σ k) b j = if b = s_z σ then none else s_r σ b j := rfl
theorem i_born (σ : St) (k : Nat ⊕ Nat × Nat) (b j : Nat) : s_i (born σ k) b j = if b = s_z σ then 0 else s_i σ b j := rfl
theorem l_born (σ : St) (k : Nat ⊕ Nat × Nat) (b j : Nat) : s_l (born σ k) b j = if b = s_z σ then 0 else s_l σ b j := rfl
def fv (ty : FieldType) (x : Int32) (y : Int64) (z : Option Nat) : Value := match ty with
  | .long => .long y
  | .object _ => va_rf z
  | .array _ => va_rf z
  | _ => .int x
def sv (σ : St) (ty : FieldType) (a j : Nat) : Value := fv ty (s_i σ a j) (s_l σ a j) (s_r σ a j)
def cellOk (D : va_G) (ac : Nat → ClassId) (σ : St) (H : Heap) (a : Nat) (k : Kd) : Prop := match k with
  | none => True
  | some (.inl c) => ∃ r : vw_C, clA[c]? = some r ∧ t_OB a (D.1 c) r.2.2 (D.2 c) H (fun j => sv σ (tyF c j) a j) ∧ ∀ cell : Cell, H[a]? = some cell → cell.slots.size = D.2 c r.2.2
  | some (.inr q) => H[a]? = some (arrV (ac q.1) q.2 (fun j => sv σ (tyA q.1) a j))
/-- the machine's heap holds the pure heap; below the law's start it is as it was -/
def Hol (s0 : State) (D : va_G) (ac : Nat → ClassId) (σ : St) (H : Heap) : Prop :=
  H.size = s_z σ ∧ s0.heap.size ≤ s_z σ ∧ (∀ a, cellOk D ac σ H a (s_k σ a)) ∧ (∀ a, s_k σ a ≠ none → s0.heap.size ≤ a ∧ a < s_z σ) ∧ ∀ q : Nat, q < s0.heap.size → H[q]? = s0.heap[q]?
def Hs (s0 : State) (D : va_G) (ac : Nat → ClassId) (σ : St) (H : Heap) (locs : List Loc) : Prop := Hol s0 D ac σ H ∧ ∀ l ∈ locs, s0.heap.size ≤ l.base
/-- the array classes -/
def AK (U : State) (ac : Nat → ClassId) : Prop := ∀ (q : Nat) (ty : FieldType), tyL[q]? = some ty → U.vm.findClass ("[" ++ ty.toString) = some (ac q) ∧ ∃ (kA : Class) (comp : ClassId), U.vm.classes[ac q]? = some kA ∧ kA.kind = .array comp ty ∧ (∀ C, ty = .object C → U.vm.findClass C = some comp) ∧ ∀ t, ty = .array t → U.vm.findClass ty.toString = some comp
theorem AK.moved {u U : State} {ac : Nat → ClassId} (hvm : u.vm.Alike U.vm) (h : AK u ac) : AK U ac := by
  intro q ty hq
  obtain ⟨h1, kA, comp, h2, h3, h4⟩ := h q ty hq
  obtain ⟨k', hk', he⟩ := hvm.2.2 _ _ h2
  exact ⟨by rw [hvm.findClass]; exact h1, k', comp, hk', by rw [he]; exact h3, fun C hC => by rw [hvm.findClass]; exact h4.1 C hC, fun t ht => by rw [hvm.findClass]; exact h4.2 t ht⟩
theorem AK.arr {U : State} {ac : Nat → ClassId} (h : AK U ac) {q : Nat} {ty : FieldType} (hq : tyL[q]? = some ty) : ArrOfT U (ac q) ty := by
  obtain ⟨-, kA, comp, h2, h3, -⟩ := h q ty hq
  exact fun n z => ⟨fun k h => (by cases h), kA, h2, comp, h3⟩
/-! the texts: class, place in its pool, text -/
def txS : List (String × Nat × String) := [("HutForShow", 383, "sticks"), ("HutForShow", 384, "things"), ("HutForShow", 385, "blue"), ("HutForShow", 386, "hunger"), ("HutForShow", 387, "lost"), ("HutForShow", 389, "hour"), ("HutForShow$Habit", 40, "when"), ("HutForShow$Habit", 50, "and"), ("HutForShow$Fault", 1, ""), ("HutForShow$Taste", 19, "stick"), ("HutForShow$Taste", 34, "colour"), ("HutForShow$Taste", 36, "size"), ("HutForShow$Taste", 40, "row"), ("HutForShow$Taste", 44, "least"), ("HutForShow$Reader", 73, "mend"), ("HutForShow$Reader", 81, "find"), ("HutForShow$Reader", 86, "feed"), ("HutForShow$Reader", 91, "guard"), ("HutForShow$Reader", 95, "raid"), ("HutForShow$Reader", 107, "above"), ("HutForShow$Reader", 109, "below"), ("HutForShow$Reader", 125, ";")]
def lenS : List Nat := [6, 6, 4, 6, 4, 4, 4, 3, 0, 5, 6, 4, 3, 5, 4, 4, 4, 5, 4, 5, 5, 1]
def bytS : List (List Int32) := [[115, 116, 105, 99, 107, 115], [116, 104, 105, 110, 103, 115], [98, 108, 117, 101], [104, 117, 110, 103, 101, 114], [108, 111, 115, 116], [104, 111, 117, 114], [119, 104, 101, 110], [97, 110, 100], [], [115, 116, 105, 99, 107], [99, 111, 108, 111, 117, 114], [115, 105, 122, 101], [114, 111, 119], [108, 101, 97, 115, 116], [109, 101, 110, 100], [102, 105, 110, 100], [102, 101, 101, 100], [103, 117, 97, 114, 100], [114, 97, 105, 100], [97, 98, 111, 118, 101], [98, 101, 108, 111, 119], [59]]
def tmS (i : Nat) : Term := Term.string (txS.getD i ("", 0, "")).1 (txS.getD i ("", 0, "")).2.1
/-- the address of a text -/
def sA (s0 : State) (i : Nat) : Nat := match (tmS i).eval #[] s0 none [] s0 with
  | some (.ref a) => a
  | _ => 0
/-- what else is known at the law's start: what is not castable, the texts, statics -/
def Gx (s0 : State) : Prop :=
  (∀ C ∈ ["HutForShow$Guard", "HutForShow$Feed", "HutForShow$Mend", "HutForShow$Find"], va_Nc C "HutForShow$Raid" s0) ∧
  (∃ adV : Nat → Nat, vk_S 22 lenS bytS (sA s0) adV (fun q => s0.heap.size ≤ q) s0 s0.heap) ∧
  (∀ i, i < 22 → vk_R (txS.getD i ("", 0, "")).1 (txS.getD i ("", 0, "")).2.1 (txS.getD i ("", 0, "")).2.2 (sA s0 i) s0) ∧
  va_Z "java/lang/String" "COMPACT_STRINGS" "Z" (.int 1) (fun q => s0.heap.size ≤ q) s0 s0.heap ∧
  va_Zq "jdk/internal/util/Preconditions" "SIOOBE_FORMATTER" "Ljava/util/function/BiFunction;" (fun q => s0.heap.size ≤ q) s0 s0.heap ∧
  va_Zq "java/lang/Throwable" "UNASSIGNED_STACK" "[Ljava/lang/StackTraceElement;" (fun q => s0.heap.size ≤ q) s0 s0.heap ∧
  va_Zq "java/lang/Throwable" "SUPPRESSED_SENTINEL" "Ljava/util/List;" (fun q => s0.heap.size ≤ q) s0 s0.heap ∧
  ∃ t, va_Z "HutForShow" "READS" "[Ljava/lang/String;" (.ref t) (fun q => s0.heap.size ≤ q) s0 s0.heap ∧ va_T (.object "java/lang/String") t 6 (fun j => .ref (sA s0 j)) (fun q => s0.heap.size ≤ q) s0 s0.heap
/-- what holds at the law's start, all through the run -/
def Gl (s0 : State) (A0 : Array Value) (D : va_G) (ac : Nat → ClassId) : Prop := (∀ w ∈ lw_tbl, w.before A0 s0 = true) ∧ (∀ (c : Nat) (r : vw_C), clA[c]? = some r → u_Kn s0 r.1 r.2.1 r.2.2 (D.1 c) (D.2 c) ∧ ∀ kC : Class, s0.vm.classes[D.1 c]? = some kC → kC.instanceTypes.size = D.2 c r.2.2) ∧ AK s0 ac ∧ Gx s0
/-- what holds in a method's body -/
def Cx (s0 : State) (p : Program) (s : State) (m : MethodId) (args : Array Value) (meth : Method) (c : Code) (cc : ByteArray) (nL : Nat) (own : String) (ret : Option FieldType) : Prop :=
  p.tables.exec = Jvm.exec ∧ c.code = cc ∧ c.maxLocals = nL ∧ s.vm.findClass own = some m.cls ∧ (∀ w ∈ lw_all, w.before args s = true) ∧ meth.sig.returnType = ret ∧ meth.locks = false ∧ s0.WarmedH s.vm
abbrev fr (s0 : State) : Addr → Prop := fun q => s0.heap.size ≤ q
def Pn (s0 : State) (D : va_G) (ac : Nat → ClassId) (av : List Value) (σ : St) : Array Value → State → Prop := fun v U => v = av.toArray ∧ s0.WarmedH U.vm ∧ Hol s0 D ac σ U.heap
def Qn (s0 : State) (D : va_G) (ac : Nat → ClassId) (o : Option Value) (σ : St) : Array Value → State → Outcome → State → Prop := fun _ _ oc t => oc = .returned o ∧ Hol s0 D ac σ t.heap
/-- joins -/
def jn {α β : Type} (J : α) (B : α → β) : β := B J
theorem jn_of {α β : Type} {J : α} {B : α → β} {r : β} {P : α → Prop} {G : Prop} (hf : jn J B = r) (hP : P J) (k : ∀ j, P j → B j = r → G) : G := k J hP hf
theorem hf_t {α : Type} {c : Prop} [Decidable c] {A B R : α} (h : c) (hf : (if c then A else B) = R) : A = R := by rw [if_pos h] at hf; exact hf
theorem hf_f {α : Type} {c : Prop} [Decidable c] {A B R : α} (h : ¬ c) (hf : (if c then A else B) = R) : B = R := by rw [if_neg h] at hf; exact hf
theorem hf_b {α β : Type} {f : Option α} {K : α → Option β} {r : β} (hf : f.bind K = some r) : ∃ x, f = some x ∧ K x = some r := by
  cases f with
  | none => cases hf
  | some x => exact ⟨x, rfl, hf⟩
def fuel : Nat := 1000000000000000000
/-- the steps on the pure heap -/
def o_gI {α : Type} (σ : St) (a ci j : Nat) (K : Int32 → Option α) : Option α := if s_k σ a = some (.inl ci) then K (s_i σ a j) else none
def o_gL {α : Type} (σ : St) (a ci j : Nat) (K : Int64 → Option α) : Option α := if s_k σ a = some (.inl ci) then K (s_l σ a j) else none
def o_gR {α : Type} (σ : St) (a ci j : Nat) (K : Nat → Option α) : Option α := if s_k σ a = some (.inl ci) then (match s_r σ a j with | some b => K b | none => none) else none
def o_pI {α : Type} (σ : St) (a ci j : Nat) (v : Int32) (K : St → Option α) : Option α := if s_k σ a = some (.inl ci) then K (setI σ a j v) else none
def o_pL {α : Type} (σ : St) (a ci j : Nat) (v : Int64) (K : St → Option α) : Option α := if s_k σ a = some (.inl ci) then K (setL σ a j v) else none
def o_pR {α : Type} (σ : St) (a ci j : Nat) (v : Option Nat) (K : St → Option α) : Option α := if s_k σ a = some (.inl ci) then K (setR σ a j v) else none
def o_bz {α : Type} (v : Int32) (K : Option α) : Option α := if v = 0 ∨ v = 1 then K else none
def o_nz {α : Type} (v : Int32) (K : Option α) : Option α := if v = 0 then none else K
def o_at {α : Type} (σ : St) (a q : Nat) (i : Int32) (K : Nat → Option α) : Option α := match s_k σ a with
  | some (.inr (q', n)) => if q' = q ∧ ¬ (i < 0 ∨ n ≤ i.toNatClampNeg) then K i.toNatClampNeg else none
  | _ => none
def o_aI {α : Type} (σ : St) (a q : Nat) (i : Int32) (K : Int32 → Option α) : Option α := o_at σ a q i fun j => K (s_i σ a j)
def o_aQ {α : Type} (σ : St) (a q : Nat) (i : Int32) (K : Option Nat → Option α) : Option α := o_at σ a q i fun j => K (s_r σ a j)
def o_aR {α : Type} (σ : St) (a q : Nat) (i : Int32) (K : Nat → Option α) : Option α := o_at σ a q i fun j => match s_r σ a j with | some b => K b | none => none
def o_sI {α : Type} (σ : St) (a q : Nat) (i v : Int32) (K : St → Option α) : Option α := o_at σ a q i fun j => K (setI σ a j v)
def o_len {α : Type} (σ : St) (a q : Nat) (K : Int32 → Option α) : Option α := match s_k σ a with
  | some (.inr (q', n)) => if q' = q then K (Int32.ofNat n) else none
  | _ => none
