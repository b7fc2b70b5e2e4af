set_option maxRecDepth 100000
/-! rows: arrays, new cells, calls, returns -/
def o_new {α : Type} (σ : St) (ci : Nat) (K : Nat → St → Option α) : Option α := K (s_z σ) (born σ (.inl ci))
def o_newa {α : Type} (σ : St) (q n : Nat) (K : Nat → St → Option α) : Option α := K (s_z σ) (born σ (.inr (q, n)))
def okA (q ci : Nat) : Bool := match q with
  | 3 => ci == 6
  | 4 => ci == 7
  | 5 => ci == 1 || ci == 2 || ci == 9 || ci == 10 || ci == 12
  | 6 => ci == 8
  | 7 => ci == 14
  | 8 => ci == 15
  | 9 => ci == 13
  | _ => false
def o_ok (k : Kd) (q : Nat) : Bool := match k with
  | some (.inl ci) => okA q ci
  | _ => false
def o_sR {α : Type} (σ : St) (a q : Nat) (i : Int32) (v : Nat) (K : St → Option α) : Option α := o_at σ a q i fun j => if o_ok (s_k σ v) q = true then K (setR σ a j (some v)) else none
theorem o_at_of {α : Type} {σ : St} {a q : Nat} {i : Int32} {K : Nat → Option α} {r : α} (hf : o_at σ a q i K = some r) : ∃ n, s_k σ a = some (.inr (q, n)) ∧ ¬ (i < 0 ∨ n ≤ i.toNatClampNeg) ∧ K i.toNatClampNeg = some r := by
  unfold o_at at hf
  split at hf
  · next q' n hk =>
    split at hf
    · next h => obtain ⟨rfl, h⟩ := h; exact ⟨n, hk, h, hf⟩
    · cases hf
  · cases hf
theorem o_at_eq {α : Type} {σ : St} {a q n : Nat} {i : Int32} {K : Nat → Option α} (hk : s_k σ a = some (.inr (q, n))) (hi : ¬ (i < 0 ∨ n ≤ i.toNatClampNeg)) : o_at σ a q i K = K i.toNatClampNeg := by
  unfold o_at; rw [hk]; exact if_pos ⟨rfl, hi⟩
section ROWS
variable {p : Program} {l : Launch} {e : Env} {R : Room} {s : State} {m : MethodId} {args : Array Value} {below : List Frame} {meth : Method} {c : Code} {H : Heap} {locs : List Loc} {cells slots : Nat} {Q : State → Prop}
variable {s0 : State} {A0 : Array Value} {D : va_G} {ac : Nat → ClassId} {σ : St} {cc : ByteArray} {nL : Nat} {own : String} {ret : Option FieldType} {pc : Nat} {ls : Array Slot} {rest : List Value} {a ci j idx q : Nat} {α : Type} {r : α} {i : Int32}
theorem arr_cell (h : Hs s0 D ac σ H locs) {n : Nat} (hk : s_k σ a = some (.inr (q, n))) : H[a]? = some (arrV (ac q) n (fun j => sv σ (tyA q) a j)) := by
  have hc := h.1.2.2.1 a
  rw [hk] at hc
  exact hc
theorem x_iald {K : Int32 → Option α} (G : Gl s0 A0 D ac) (C : Cx s0 p s m args meth c cc nL own ret) (h : Hs s0 D ac σ H locs) (hdg : decode cc pc = .ok (.iaload, 1)) (hf : o_aI σ a 0 i K = some r)
    (kk : ∀ x, K x = some r → W p l e R s m args below meth c H locs cells slots Q (F0 m (pc + 1) ls (.int x :: rest))) : W p l e R s m args below meth c H locs cells slots Q (F0 m pc ls (.int i :: .ref a :: rest)) := by
  obtain ⟨n, hk, hin, hf⟩ := o_at_of hf
  have hlt : i.toNatClampNeg < n := Nat.not_le.mp fun q => hin (Or.inr q)
  exact W.iald (v := .int (s_i σ a i.toNatClampNeg)) C.1 C.2.1 (arr_cell h hk) ((G.ak C).arr (q := 0) rfl n _) (fun q => by cases q) (by rw [arrV_size]; exact hin) (by rw [arrV_read _ _ hlt]; rfl) rfl rfl hdg (kk _ hf)
theorem x_bald {K : Int32 → Option α} (G : Gl s0 A0 D ac) (C : Cx s0 p s m args meth c cc nL own ret) (h : Hs s0 D ac σ H locs) (hdg : decode cc pc = .ok (.baload, 1)) (hf : o_aI σ a 1 i K = some r)
    (kk : ∀ x, K x = some r → W p l e R s m args below meth c H locs cells slots Q (F0 m (pc + 1) ls (.int x :: rest))) : W p l e R s m args below meth c H locs cells slots Q (F0 m pc ls (.int i :: .ref a :: rest)) := by
  obtain ⟨n, hk, hin, hf⟩ := o_at_of hf
  have hlt : i.toNatClampNeg < n := Nat.not_le.mp fun q => hin (Or.inr q)
  exact W.bald (v := .int (s_i σ a i.toNatClampNeg)) C.1 C.2.1 (arr_cell h hk) ((G.ak C).arr (q := 1) rfl n _) (fun q => by cases q) (by rw [arrV_size]; exact hin) (by rw [arrV_read _ _ hlt]; rfl) rfl rfl hdg (kk _ hf)
theorem x_zald {K : Int32 → Option α} (G : Gl s0 A0 D ac) (C : Cx s0 p s m args meth c cc nL own ret) (h : Hs s0 D ac σ H locs) (hdg : decode cc pc = .ok (.baload, 1)) (hf : o_aI σ a 2 i K = some r)
    (kk : ∀ x, K x = some r → W p l e R s m args below meth c H locs cells slots Q (F0 m (pc + 1) ls (.int x :: rest))) : W p l e R s m args below meth c H locs cells slots Q (F0 m pc ls (.int i :: .ref a :: rest)) := by
  obtain ⟨n, hk, hin, hf⟩ := o_at_of hf
  have hlt : i.toNatClampNeg < n := Nat.not_le.mp fun q => hin (Or.inr q)
  exact W.zald (v := .int (s_i σ a i.toNatClampNeg)) C.1 C.2.1 (arr_cell h hk) ((G.ak C).arr (q := 2) rfl n _) (fun q => by cases q) (by rw [arrV_size]; exact hin) (by rw [arrV_read _ _ hlt]; rfl) rfl rfl hdg (kk _ hf)
theorem x_aaldQ {K : Option Nat → Option α} {ty : FieldType} (hq : tyL[q]? = some ty) (hty : ty.isReference = true) (hfv : ∀ x y z, fv (tyA q) x y z = va_rf z) (G : Gl s0 A0 D ac) (C : Cx s0 p s m args meth c cc nL own ret) (h : Hs s0 D ac σ H locs) (hdg : decode cc pc = .ok (.aaload, 1)) (hf : o_aQ σ a q i K = some r)
    (kk : ∀ x, K x = some r → W p l e R s m args below meth c H locs cells slots Q (F0 m (pc + 1) ls (va_rf x :: rest))) : W p l e R s m args below meth c H locs cells slots Q (F0 m pc ls (.int i :: .ref a :: rest)) := by
  obtain ⟨n, hk, hin, hf⟩ := o_at_of hf
  have hlt : i.toNatClampNeg < n := Nat.not_le.mp fun q => hin (Or.inr q)
  exact W.aald (v := va_rf (s_r σ a i.toNatClampNeg)) C.1 C.2.1 (arr_cell h hk) ((G.ak C).arr hq n _) hty (fun q => by cases q) (by rw [arrV_size]; exact hin) (by rw [arrV_read _ _ hlt]; unfold sv; rw [hfv]) rfl rfl hdg (kk _ hf)
theorem x_aald {K : Nat → Option α} {ty : FieldType} (hq : tyL[q]? = some ty) (hty : ty.isReference = true) (hfv : ∀ x y z, fv (tyA q) x y z = va_rf z) (G : Gl s0 A0 D ac) (C : Cx s0 p s m args meth c cc nL own ret) (h : Hs s0 D ac σ H locs) (hdg : decode cc pc = .ok (.aaload, 1)) (hf : o_aR σ a q i K = some r)
    (kk : ∀ x, K x = some r → W p l e R s m args below meth c H locs cells slots Q (F0 m (pc + 1) ls (.ref x :: rest))) : W p l e R s m args below meth c H locs cells slots Q (F0 m pc ls (.int i :: .ref a :: rest)) := by
  refine x_aaldQ (K := fun z => match z with | some b => K b | none => none) hq hty hfv G C h hdg hf (fun x hx => ?_)
  cases x with
  | none => cases hx
  | some b => exact kk b hx
theorem x_len {K : Int32 → Option α} {ty : FieldType} (hq : tyL[q]? = some ty) (G : Gl s0 A0 D ac) (C : Cx s0 p s m args meth c cc nL own ret) (h : Hs s0 D ac σ H locs) (hdg : decode cc pc = .ok (.arraylength, 1)) (hf : o_len σ a q K = some r)
    (kk : ∀ x, K x = some r → W p l e R s m args below meth c H locs cells slots Q (F0 m (pc + 1) ls (.int x :: rest))) : W p l e R s m args below meth c H locs cells slots Q (F0 m pc ls (.ref a :: rest)) := by
  unfold o_len at hf
  split at hf
  · next q' n hk =>
    split at hf
    · next h9 =>
      subst h9
      exact W.alen (n := Int32.ofNat n) C.1 C.2.1 (arr_cell h hk) ((G.ak C).arr hq n _) (by rw [arrV_size] <;> rfl) rfl rfl hdg (kk _ hf)
    · cases hf
  · cases hf
theorem x_iast {v : Int32} {K : St → Option α} (G : Gl s0 A0 D ac) (C : Cx s0 p s m args meth c cc nL own ret) (h : Hs s0 D ac σ H locs) (hdg : decode cc pc = .ok (.iastore, 1)) (hf : o_sI σ a 0 i v K = some r)
    (kk : ∀ (σ : St) (H : Heap) (locs : List Loc), Hs s0 D ac σ H locs → K σ = some r → W p l e R s m args below meth c H locs cells slots Q (F0 m (pc + 1) ls rest)) : W p l e R s m args below meth c H locs cells slots Q (F0 m pc ls (.int v :: .int i :: .ref a :: rest)) := by
  obtain ⟨n, hk, hin, hf⟩ := o_at_of hf
  refine W.iast C.1 C.2.1 (arr_cell h hk) ((G.ak C).arr (q := 0) rfl n _) (fun q => by cases q) (by rw [arrV_size]; exact hin) rfl rfl hdg fun H1 e z oq => ?_
  refine kk _ H1 _ (h.step (σ' := setI σ a i.toNatClampNeg v) rfl rfl z oq (fun b hb ty k => sv_setI (fun x => hb x.1) ty) (by rw [hk]; exact fun h => by cases h) ?_) hf
  rw [hk]
  exact cell_elem (σ := σ) e (by unfold sv; rw [i_setI, up2_same]; rfl) (fun k hk ty => sv_setI (fun x => hk x.2) ty)
theorem x_bast {v : Int32} {K : St → Option α} (G : Gl s0 A0 D ac) (C : Cx s0 p s m args meth c cc nL own ret) (h : Hs s0 D ac σ H locs) (hdg : decode cc pc = .ok (.bastore, 1)) (hf : o_sI σ a 1 i (vp_nar .byte v) K = some r)
    (kk : ∀ (σ : St) (H : Heap) (locs : List Loc), Hs s0 D ac σ H locs → K σ = some r → W p l e R s m args below meth c H locs cells slots Q (F0 m (pc + 1) ls rest)) : W p l e R s m args below meth c H locs cells slots Q (F0 m pc ls (.int v :: .int i :: .ref a :: rest)) := by
  obtain ⟨n, hk, hin, hf⟩ := o_at_of hf
  refine W.bast C.1 C.2.1 (arr_cell h hk) ((G.ak C).arr (q := 1) rfl n _) (fun q => by cases q) (by rw [arrV_size]; exact hin) rfl rfl hdg fun H1 e z oq => ?_
  refine kk _ H1 _ (h.step (σ' := setI σ a i.toNatClampNeg (vp_nar .byte v)) rfl rfl z oq (fun b hb ty k => sv_setI (fun x => hb x.1) ty) (by rw [hk]; exact fun h => by cases h) ?_) hf
  rw [hk]
  exact cell_elem (σ := σ) e (by unfold sv; rw [i_setI, up2_same]; rfl) (fun k hk ty => sv_setI (fun x => hk x.2) ty)
theorem x_zast {v : Int32} {K : St → Option α} (G : Gl s0 A0 D ac) (C : Cx s0 p s m args meth c cc nL own ret) (h : Hs s0 D ac σ H locs) (hdg : decode cc pc = .ok (.bastore, 1)) (hf : o_sI σ a 2 i (vp_nar .boolean v) K = some r)
    (kk : ∀ (σ : St) (H : Heap) (locs : List Loc), Hs s0 D ac σ H locs → K σ = some r → W p l e R s m args below meth c H locs cells slots Q (F0 m (pc + 1) ls rest)) : W p l e R s m args below meth c H locs cells slots Q (F0 m pc ls (.int v :: .int i :: .ref a :: rest)) := by
  obtain ⟨n, hk, hin, hf⟩ := o_at_of hf
  refine W.zast C.1 C.2.1 (arr_cell h hk) ((G.ak C).arr (q := 2) rfl n _) (fun q => by cases q) (by rw [arrV_size]; exact hin) rfl rfl hdg fun H1 e z oq => ?_
  refine kk _ H1 _ (h.step (σ' := setI σ a i.toNatClampNeg (vp_nar .boolean v)) rfl rfl z oq (fun b hb ty k => sv_setI (fun x => hb x.1) ty) (by rw [hk]; exact fun h => by cases h) ?_) hf
  rw [hk]
  exact cell_elem (σ := σ) e (by unfold sv; rw [i_setI, up2_same]; rfl) (fun k hk ty => sv_setI (fun x => hk x.2) ty)
/-- an object of a class that may lie in such an array -/
theorem asgA (G : Gl s0 A0 D ac) (C : Cx s0 p s m args meth c cc nL own ret) (hok : okA q ci = true) : ∃ E vc, tyL[q]? = some (.object E) ∧ clA[ci]? = some vc ∧ ∀ comp, s.vm.findClass E = some comp → s.vm.assignable (D.1 ci) comp = true := by
  have hw := C.2.2.2.2.2.2.2
  have same : ∀ (vc : vw_C), clA[ci]? = some vc → ∀ comp, s.vm.findClass vc.1 = some comp → s.vm.assignable (D.1 ci) comp = true := fun vc hc comp h1 => by
    have h2 := (G.kn C hc).2
    cases h2.1.symm.trans h1
    exact va_assign h2
  have sub : ∀ (vc : vw_C), clA[ci]? = some vc → ∀ E, Cond.castable vc.1 E ∈ lw_tbl → ∀ comp, s.vm.findClass E = some comp → s.vm.assignable (D.1 ci) comp = true := fun vc hc E hE comp h1 =>
    vb_asgC (va_Nw.warmC hw (va_Nw.of rfl (G.1 _ hE))) comp _ h1 (G.kn C hc).2.1
  unfold okA at hok
  split at hok
  · obtain rfl := of_decide_eq_true hok; exact ⟨_, _, rfl, rfl, same _ rfl⟩
  · obtain rfl := of_decide_eq_true hok; exact ⟨_, _, rfl, rfl, same _ rfl⟩
  · simp only [Bool.or_eq_true, beq_iff_eq] at hok
    rcases hok with (((rfl | rfl) | rfl) | rfl) | rfl
    · exact ⟨_, _, rfl, rfl, sub _ rfl _ q1521⟩
    · exact ⟨_, _, rfl, rfl, sub _ rfl _ q1522⟩
    · exact ⟨_, _, rfl, rfl, sub _ rfl _ q1523⟩
    · exact ⟨_, _, rfl, rfl, sub _ rfl _ q1524⟩
    · exact ⟨_, _, rfl, rfl, sub _ rfl _ q1525⟩
  · obtain rfl := of_decide_eq_true hok; exact ⟨_, _, rfl, rfl, same _ rfl⟩
  · obtain rfl := of_decide_eq_true hok; exact ⟨_, _, rfl, rfl, same _ rfl⟩
  · obtain rfl := of_decide_eq_true hok; exact ⟨_, _, rfl, rfl, same _ rfl⟩
  · obtain rfl := of_decide_eq_true hok; exact ⟨_, _, rfl, rfl, same _ rfl⟩
  · cases hok
theorem x_aast {v : Nat} {K : St → Option α} (G : Gl s0 A0 D ac) (C : Cx s0 p s m args meth c cc nL own ret) (h : Hs s0 D ac σ H locs) (hdg : decode cc pc = .ok (.aastore, 1)) (hf : o_sR σ a q i v K = some r)
    (kk : ∀ (σ : St) (H : Heap) (locs : List Loc), Hs s0 D ac σ H locs → K σ = some r → W p l e R s m args below meth c H locs cells slots Q (F0 m (pc + 1) ls rest)) : W p l e R s m args below meth c H locs cells slots Q (F0 m pc ls (.ref v :: .int i :: .ref a :: rest)) := by
  obtain ⟨n, hk, hin, hf⟩ := o_at_of hf
  split at hf
  · next hok =>
    unfold o_ok at hok
    split at hok
    · next ci hkv =>
      obtain ⟨E, vc, hq, hvc, hasg⟩ := asgA G C hok
      obtain ⟨-, kA, comp, k1, k2, k3⟩ := (G.ak C) q _ hq
      have hcv := h.1.2.2.1 v
      rw [hkv] at hcv
      obtain ⟨r', hr', ⟨cellV, g1, g2, g3, -⟩, -⟩ := hcv
      obtain ⟨-, kC, hkC, -⟩ := (G.kn C hvc).2
      have hcomp := k3.1 E rfl
      have hA := hasg comp hcomp
      obtain ⟨kcomp, hkcomp⟩ := Vm.classAt_of_findClass hcomp
      have hlt : i.toNatClampNeg < n := Nat.not_le.mp fun q => hin (Or.inr q)
      refine W.aast C.1 C.2.1 (arr_cell h hk) (fun q h => by cases h) (fun h => by cases h) k1 k2 rfl hkcomp ⟨fun q => hin (Or.inl q), by rw [arrV_size]; exact hlt⟩ g1 (fun q h => by rw [g3] at h; cases h) (by rw [g2]; exact hkC) (by rw [g2]; exact hA) rfl rfl hdg fun H1 e z oq => ?_
      refine kk _ H1 _ (h.step (σ' := setR σ a i.toNatClampNeg (some v)) rfl rfl z oq (fun b hb ty k => sv_setR (fun x => hb x.1) ty) (by rw [hk]; exact fun h => by cases h) ?_) hf
      rw [hk]
      refine cell_elem (σ := σ) e ?_ (fun k hk ty => sv_setR (fun x => hk x.2) ty)
      have htA : tyA q = .object E := by unfold tyA; rw [List.getD_eq_getElem?_getD, hq]; rfl
      show _ = sv _ (tyA q) _ _
      unfold sv; rw [r_setR, up2_same, htA]; rfl
    · cases hok
  · cases hf
theorem Hs.born {k : Nat ⊕ Nat × Nat} {H1 : Heap} (h : Hs s0 D ac σ H locs) (z1 : H1.size = H.size + 1) (o1 : ∀ q : Nat, q < H.size → H1[q]? = H[q]?) (hc : cellOk D ac (born σ k) H1 (s_z σ) (some k)) : Hs s0 D ac (born σ k) H1 locs := by
  obtain ⟨⟨h1, h2, h3, h4, h5⟩, h6⟩ := h
  refine ⟨⟨by rw [z1, h1]; rfl, by rw [z_born]; omega, fun b => ?_, fun b hb => ?_, fun q hq => ?_⟩, h6⟩
  · rw [k_born]
    by_cases hb : b = s_z σ
    · subst hb; rw [if_pos rfl]; exact hc
    · rw [if_neg hb]
      by_cases hn : s_k σ b = none
      · rw [hn]; trivial
      · have hlt := (h4 b hn).2
        exact (h3 b).kept (o1 b (by omega)) (fun ty j => by unfold sv; rw [i_born, l_born, r_born, if_neg hb, if_neg hb, if_neg hb])
  · rw [k_born] at hb
    rw [z_born]
    by_cases hb2 : b = s_z σ
    · subst hb2; omega
    · rw [if_neg hb2] at hb
      have := h4 b hb
      omega
  · rw [o1 q (by omega)]; exact h5 q hq
theorem dv_fv {ty : FieldType} (h : ty ≠ .float ∧ ty ≠ .double) : defaultValue ty = fv ty 0 0 none := by
  cases ty <;> first | rfl | exact absurd rfl h.1 | exact absurd rfl h.2
theorem x_new {K : Nat → St → Option α} {n : Nat} (G : Gl s0 A0 D ac) (C : Cx s0 p s m args meth c cc nL own ret) (h : Hs s0 D ac σ H locs) {q : vw_C} (hc : clA[ci]? = some q) (hnf : ∀ j, j < q.2.2 → tyF ci j ≠ .float ∧ tyF ci j ≠ .double) (hcl : Cond.classLink own idx q.1 ∈ lw_all) (hinst : Cond.instantiable q.1 n ∈ lw_all) (hini : Cond.initialized q.1 ∈ lw_all) (hcells : cells + 1 ≤ R.cells) (hslots : slots + n ≤ R.slots) (hdg : decode cc pc = .ok (.new idx, 3)) (hf : o_new σ ci K = some r)
    (kk : ∀ (a : Nat) (σ : St) (H : Heap), Hs s0 D ac σ H locs → K a σ = some r → W p l e R s m args below meth c H locs (cells + 1) (slots + n) Q (F0 m (pc + 3) ls (.ref a :: rest))) : W p l e R s m args below meth c H locs cells slots Q (F0 m pc ls rest) := by
  have hts := C.2.2.2.2.1
  have hKn := G.kn C hc
  refine W.newcK C.1 C.2.1 C.2.2.2.1 (hts _ hcl) (hts _ hinst) (hts _ hini) rfl hdg hcells hslots hKn.2.1 rfl fun H1 kC hkC e1 z1 o1 => ?_
  have hsz := h.1.1
  rw [hsz]
  refine kk (s_z σ) _ H1 (h.born (k := .inl ci) z1 (fun q hq => o1 q hq) ⟨q, hc, ?_, fun cell' h' => ?_⟩) hf
  rotate_left
  · rw [← hsz, e1] at h'; cases h'
    simp only [blank, Array.size_map]
    exact G.sz C hc hkC
  refine (u_born (o := s_z σ) (tyF ci) hts (in_cl ci q hc) hKn hkC (by rw [← hsz]; exact e1) (ty_cl ci q hc)).to (fun j hj => ?_)
  rw [dv_fv (hnf j hj)]
  unfold sv; rw [i_born, l_born, r_born, if_pos rfl, if_pos rfl, if_pos rfl]
theorem x_newa {K : Nat → St → Option α} {N : Nat} {n : Int32} {atype : ArrayType} (G : Gl s0 A0 D ac) (C : Cx s0 p s m args meth c cc nL own ret) (h : Hs s0 D ac σ H locs) (hq : tyL[q]? = some (newarray.typeOf atype)) (hdv : defaultValue (newarray.typeOf atype) = fv (tyA q) 0 0 none) (harr : Cond.arrayClass (newarray.typeOf atype) ∈ lw_all) (hn : ¬ n < 0) (hN : n.toNatClampNeg = N) (hbytes : N * componentBytes (newarray.typeOf atype) ≤ 536870912) (hcells : cells + 1 ≤ R.cells) (hslots : slots + N ≤ R.slots) (hdg : decode cc pc = .ok (.newarray atype, 2)) (hf : o_newa σ q N K = some r)
    (kk : ∀ (a : Nat) (σ : St) (H : Heap), Hs s0 D ac σ H locs → K a σ = some r → W p l e R s m args below meth c H locs (cells + 1) (slots + N) Q (F0 m (pc + 2) ls (.ref a :: rest))) : W p l e R s m args below meth c H locs cells slots Q (F0 m pc ls (.int n :: rest)) := by
  refine va_newaK C.1 C.2.1 (C.2.2.2.2.1 _ harr) rfl hdg rfl hn hN hbytes hcells hslots rfl fun H1 cA e1 z1 o1 hAr hNm => ?_
  have hsz := h.1.1
  have hcA : cA = ac q := Option.some.inj (hNm.symm.trans ((G.ak C) q _ hq).1)
  subst hcA
  rw [hsz]
  refine kk (s_z σ) _ H1 (h.born (k := .inr (q, N)) z1 (fun q hq => o1 q hq) ?_) hf
  show H1[s_z σ]? = some (arrV (ac q) N (fun j => sv _ (tyA q) _ j))
  rw [← hsz, e1, hdv]
  congr 2
  funext j
  unfold sv; rw [i_born, l_born, r_born, if_pos hsz, if_pos hsz, if_pos hsz]
theorem x_anew {K : Nat → St → Option α} {N : Nat} {n : Int32} {E : String} (G : Gl s0 A0 D ac) (C : Cx s0 p s m args meth c cc nL own ret) (h : Hs s0 D ac σ H locs) (hq : tyL[q]? = some (.object E)) (hcl : Cond.classLink own idx E ∈ lw_all) (hover : Cond.arrayOver (.object E) ∈ lw_tbl) (hn : ¬ n < 0) (hN : n.toNatClampNeg = N) (hbytes : N * 4 ≤ 536870912) (hcells : cells + 1 ≤ R.cells) (hslots : slots + N ≤ R.slots) (hdg : decode cc pc = .ok (.anewarray idx, 3)) (hf : o_newa σ q N K = some r)
    (kk : ∀ (a : Nat) (σ : St) (H : Heap), Hs s0 D ac σ H locs → K a σ = some r → W p l e R s m args below meth c H locs (cells + 1) (slots + N) Q (F0 m (pc + 3) ls (.ref a :: rest))) : W p l e R s m args below meth c H locs cells slots Q (F0 m pc ls (.int n :: rest)) := by
  subst hN
  have hAO : va_AO E s := va_AO.moved C.2.2.2.2.2.2.2.alike (va_AO.of (G.1 _ hover))
  refine W.anew C.1 C.2.1 C.2.2.2.1 (C.2.2.2.2.1 _ hcl) (va_AO.use hAO) rfl hdg rfl hn hbytes hcells hslots fun cA kA comp f1 f2 f3 f4 => ?_
  have hcA : cA = ac q := Option.some.inj (f1.symm.trans ((G.ak C) q _ hq).1)
  subst hcA
  have hsz := h.1.1
  rw [hsz]
  refine kk (s_z σ) _ _ (h.born (k := .inr (q, n.toNatClampNeg)) (by simp) (fun q hq => by rw [Array.getElem?_push, if_neg (Nat.ne_of_lt hq)]) ?_) hf
  show (H.push _)[s_z σ]? = some (arrV (ac q) n.toNatClampNeg (fun j => sv _ (tyA q) _ j))
  rw [← hsz, Array.getElem?_push_size, arrV_new]
  congr 2
  funext j
  have htA : tyA q = .object E := by unfold tyA; rw [List.getD_eq_getElem?_getD, hq]; rfl
  unfold sv; rw [r_born, if_pos hsz, htA]; rfl
/-! calls -/
theorem Pn.blind {av : List Value} : FrameBlind (Pn s0 D ac av σ) := fun _ _ _ _ q => ⟨q.1, q.2.1, q.2.2⟩
theorem Hs.pre (C : Cx s0 p s m args meth c cc nL own ret) (h : Hs s0 D ac σ H locs) (av : List Value) : ∀ U : State, U.heap = H → s.WarmedH U.vm → Pn s0 D ac av σ av.toArray U := fun U hU hW => ⟨rfl, State.WarmedH.trans C.2.2.2.2.2.2.2 hW, by rw [hU]; exact h.1⟩
theorem Hs.recv (G : Gl s0 A0 D ac) (C : Cx s0 p s m args meth c cc nL own ret) (h : Hs s0 D ac σ H locs) (hk : s_k σ a = some (.inl ci)) {q : vw_C} (hc : clA[ci]? = some q) : ∃ cellB : Cell, H[a]? = some cellB ∧ cellB.vm.isStatics = false ∧ s.vm.findClass q.1 = some cellB.cls := by
  have hcell := h.1.2.2.1 a
  rw [hk] at hcell
  obtain ⟨r', h1, ⟨cell, q1, q2, q3, q4⟩, -⟩ := hcell
  cases h1.symm.trans hc
  exact ⟨cell, q1, by rw [q3]; rfl, by rw [q2]; exact (G.kn C hc).2.1⟩
theorem x_run {ov : Option Value} {σ' : St} {mc ms : Nat} {st0 : List Value} {av : Array Value} (hr : va_Run p l e R s m args below meth c H locs cells slots mc ms (F0 m pc ls st0) rest (Qn s0 D ac ov σ' av) (fr s0)) (h : Hs s0 D ac σ H locs)
    (kk : ∀ (H : Heap) (locs : List Loc), Hs s0 D ac σ' H locs → W p l e R s m args below meth c H locs (cells + mc) (slots + ms) Q (F0 m (pc + 3) ls (ov.toList ++ rest))) : W p l e R s m args below meth c H locs cells slots Q (F0 m pc ls st0) := by
  intro T hT X
  obtain ⟨v, st₀, t, T', L, h0, X', hL, e1, e2, ⟨hv, hH⟩, st⟩ := hr T hT X
  cases hv
  obtain ⟨t2, a1, b1⟩ := kk T'.heap (locs ++ L) ⟨by rw [e1]; exact hH, fun q hq => by
      rcases List.mem_append.mp hq with h9 | h9
      · exact h.2 q h9
      · exact hL q h9⟩ T' rfl X'
  exact ⟨t2, st t2 a1, b1⟩
variable {y : MethodName} {bytes : ByteArray} {maxL mc ms n : Nat} {rt : Option FieldType} {rm : Room} {As st0 : List Value} {b : Nat} {ov : Option Value} {σ' : St}
theorem x_cV (G : Gl s0 A0 D ac) (C : Cx s0 p s m args meth c cc nL own ret) (h : Hs s0 D ac σ H locs) (hM : Met l y (ws_ y bytes maxL rt) rm (Pn s0 D ac (.ref b :: As) σ) (Qn s0 D ac ov σ') mc ms (fr s0)) (hk : s_k σ b = some (.inl ci)) {q : vw_C} (hc : clA[ci]? = some q) (hT : GoodIn lw_all (wsV own idx q.1 y (ws_ y bytes maxL rt)))
    (hd : y.cls = q.1 ∧ y.cls ≠ "java/lang/invoke/MethodHandle" ∧ y.cls ≠ "java/lang/invoke/VarHandle" ∧ (parseMethodDescriptor y.desc).map (fun d => d.parameters.length) = some n) (hR : rm.frames + 1 ≤ R.frames ∧ 8 + (maxL + 11) + rm.locals ≤ R.locals) (hrc : rm.cells = mc) (hrs : rm.slots = ms) (hn : As.length = n) (hsize : ls.size = nL) (hst : st0 = As.reverse ++ .ref b :: rest) (hW : (rest.map fun v => v.category).sum ≤ 8) (hdg : decode cc pc = .ok (.invokevirtual idx, 3)) (hf : cells + mc ≤ R.cells ∧ slots + ms ≤ R.slots)
    (kk : ∀ (H : Heap) (locs : List Loc), Hs s0 D ac σ' H locs → W p l e R s m args below meth c H locs (cells + mc) (slots + ms) Q (F0 m (pc + 3) ls (ov.toList ++ rest))) : W p l e R s m args below meth c H locs cells slots Q (F0 m pc ls st0) :=
  x_run (va_runV ⟨C.1, C.2.1, C.2.2.1, C.2.2.2.1, C.2.2.2.2.1⟩ hM (cwV n C.2.2.2.2.1 hT rfl hrc hrs hd hR) ⟨Pn.blind, h.recv G C hk hc, h.pre C _⟩ rfl hn hsize hst (lv_room hW) hdg hf) h kk
theorem x_cS (C : Cx s0 p s m args meth c cc nL own ret) (h : Hs s0 D ac σ H locs) (hM : Met l y (ws_ y bytes maxL rt) rm (Pn s0 D ac As σ) (Qn s0 D ac ov σ') mc ms (fr s0)) (hT : GoodIn lw_all (va_wsS own idx y (ws_ y bytes maxL rt)))
    (hd : y.cls ≠ "java/lang/invoke/MethodHandle" ∧ y.cls ≠ "java/lang/invoke/VarHandle" ∧ (parseMethodDescriptor y.desc).map (fun d => d.parameters.length) = some n) (hR : rm.frames + 1 ≤ R.frames ∧ 8 + (maxL + 11) + rm.locals ≤ R.locals) (hrc : rm.cells = mc) (hrs : rm.slots = ms) (hn : As.length = n) (hsize : ls.size = nL) (hst : st0 = As.reverse ++ rest) (hW : (rest.map fun v => v.category).sum ≤ 8) (hdg : decode cc pc = .ok (.invokestatic idx, 3)) (hf : cells + mc ≤ R.cells ∧ slots + ms ≤ R.slots)
    (kk : ∀ (H : Heap) (locs : List Loc), Hs s0 D ac σ' H locs → W p l e R s m args below meth c H locs (cells + mc) (slots + ms) Q (F0 m (pc + 3) ls (ov.toList ++ rest))) : W p l e R s m args below meth c H locs cells slots Q (F0 m pc ls st0) :=
  x_run (va_runS ⟨C.1, C.2.1, C.2.2.1, C.2.2.2.1, C.2.2.2.2.1⟩ hM (va_cwS n C.2.2.2.2.1 hT rfl hrc hrs hd hR) ⟨Pn.blind, h.pre C _⟩ rfl hn hsize hst (lv_room hW) hdg hf) h kk
theorem x_cSN (G : Gl s0 A0 D ac) (C : Cx s0 p s m args meth c cc nL own ret) (h : Hs s0 D ac σ H locs) (hM : Met l y (ws_ y bytes maxL rt) rm (Pn s0 D ac As σ) (Qn s0 D ac ov σ') mc ms (fr s0)) {host : String} (hl : Cond.methodLinkNest own idx y host ∈ lw_tbl) (hs : Cond.static y ∈ lw_all) (hi : Cond.initialized y.cls ∈ lw_all) (hco : Cond.code y bytes maxL rt ∈ lw_all)
    (hd : y.cls ≠ "java/lang/invoke/MethodHandle" ∧ y.cls ≠ "java/lang/invoke/VarHandle" ∧ (parseMethodDescriptor y.desc).map (fun d => d.parameters.length) = some n) (hR : rm.frames + 1 ≤ R.frames ∧ 8 + (maxL + 11) + rm.locals ≤ R.locals) (hrc : rm.cells = mc) (hrs : rm.slots = ms) (hn : As.length = n) (hsize : ls.size = nL) (hst : st0 = As.reverse ++ rest) (hW : (rest.map fun v => v.category).sum ≤ 8) (hdg : decode cc pc = .ok (.invokestatic idx, 3)) (hf : cells + mc ≤ R.cells ∧ slots + ms ≤ R.slots)
    (kk : ∀ (H : Heap) (locs : List Loc), Hs s0 D ac σ' H locs → W p l e R s m args below meth c H locs (cells + mc) (slots + ms) Q (F0 m (pc + 3) ls (ov.toList ++ rest))) : W p l e R s m args below meth c H locs cells slots Q (F0 m pc ls st0) :=
  x_run (va_runSN ⟨C.1, C.2.1, C.2.2.1, C.2.2.2.1, C.2.2.2.2.1⟩ hM ⟨va_cnB n C.2.2.2.2.1 (lw_meth hco) rfl hrc hrs (va_Nw.warmM C.2.2.2.2.2.2.2 (va_Nw.of rfl (G.1 _ hl))) (C.2.2.2.2.1 _ hi) hd hR, C.2.2.2.2.1 _ hs, trivial⟩ ⟨Pn.blind, h.pre C _⟩ rfl hn hsize hst (lv_room hW) hdg hf) h kk
theorem x_cI (C : Cx s0 p s m args meth c cc nL own ret) (h : Hs s0 D ac σ H locs) (hM : Met l y (ws_ y bytes maxL none) rm (Pn s0 D ac (.ref b :: As) σ) (Qn s0 D ac ov σ') mc ms (fr s0)) (hl : Cond.methodLink own idx y ∈ lw_all) (hin : Cond.instanceMethod y ∈ lw_all) (hi : Cond.initialized y.cls ∈ lw_all) (hco : Cond.code y bytes maxL none ∈ lw_all) (hy : y.name = "<init>")
    (hd : y.cls ≠ "java/lang/invoke/MethodHandle" ∧ y.cls ≠ "java/lang/invoke/VarHandle" ∧ (parseMethodDescriptor y.desc).map (fun d => d.parameters.length) = some n) (hR : rm.frames + 1 ≤ R.frames ∧ 8 + (maxL + 11) + rm.locals ≤ R.locals) (hrc : rm.cells = mc) (hrs : rm.slots = ms) (hn : As.length = n) (hsize : ls.size = nL) (hst : st0 = As.reverse ++ .ref b :: rest) (hW : (rest.map fun v => v.category).sum ≤ 8) (hdg : decode cc pc = .ok (.invokespecial idx, 3)) (hf : cells + mc ≤ R.cells ∧ slots + ms ≤ R.slots)
    (kk : ∀ (H : Heap) (locs : List Loc), Hs s0 D ac σ' H locs → W p l e R s m args below meth c H locs (cells + mc) (slots + ms) Q (F0 m (pc + 3) ls (ov.toList ++ rest))) : W p l e R s m args below meth c H locs cells slots Q (F0 m pc ls st0) :=
  x_run (va_runI ⟨C.1, C.2.1, C.2.2.1, C.2.2.2.1, C.2.2.2.2.1⟩ hM (cwI n C.2.2.2.2.1 (lw_meth hco) rfl hrc hrs (C.2.2.2.2.1 _ hi) (C.2.2.2.2.1 _ hl) (C.2.2.2.2.1 _ hin) hy hd hR) ⟨Pn.blind, h.pre C _⟩ rfl hn hsize hst (lv_room hW) hdg hf) h kk
theorem x_cIN (G : Gl s0 A0 D ac) (C : Cx s0 p s m args meth c cc nL own ret) (h : Hs s0 D ac σ H locs) (hM : Met l y (ws_ y bytes maxL none) rm (Pn s0 D ac (.ref b :: As) σ) (Qn s0 D ac ov σ') mc ms (fr s0)) {host : String} (hl : Cond.methodLinkNest own idx y host ∈ lw_tbl) (hin : Cond.instanceMethod y ∈ lw_all) (hi : Cond.initialized y.cls ∈ lw_all) (hco : Cond.code y bytes maxL none ∈ lw_all) (hy : y.name = "<init>")
    (hd : y.cls ≠ "java/lang/invoke/MethodHandle" ∧ y.cls ≠ "java/lang/invoke/VarHandle" ∧ (parseMethodDescriptor y.desc).map (fun d => d.parameters.length) = some n) (hR : rm.frames + 1 ≤ R.frames ∧ 8 + (maxL + 11) + rm.locals ≤ R.locals) (hrc : rm.cells = mc) (hrs : rm.slots = ms) (hn : As.length = n) (hsize : ls.size = nL) (hst : st0 = As.reverse ++ .ref b :: rest) (hW : (rest.map fun v => v.category).sum ≤ 8) (hdg : decode cc pc = .ok (.invokespecial idx, 3)) (hf : cells + mc ≤ R.cells ∧ slots + ms ≤ R.slots)
    (kk : ∀ (H : Heap) (locs : List Loc), Hs s0 D ac σ' H locs → W p l e R s m args below meth c H locs (cells + mc) (slots + ms) Q (F0 m (pc + 3) ls (ov.toList ++ rest))) : W p l e R s m args below meth c H locs cells slots Q (F0 m pc ls st0) :=
  x_run (va_runIN ⟨C.1, C.2.1, C.2.2.1, C.2.2.2.1, C.2.2.2.2.1⟩ hM ⟨va_cnB n C.2.2.2.2.1 (lw_meth hco) rfl hrc hrs (va_Nw.warmM C.2.2.2.2.2.2.2 (va_Nw.of rfl (G.1 _ hl))) (C.2.2.2.2.1 _ hi) hd hR, hy, C.2.2.2.2.1 _ hin⟩ ⟨Pn.blind, h.pre C _⟩ rfl hn hsize hst (lv_room hW) hdg hf) h kk
/-! returns and starts -/
theorem x_iret {v : Int32} (C : Cx s0 p s m args meth c cc nL own (some .int)) (h : Hs s0 D ac σ H locs) (hdg : decode cc pc = .ok (.ireturn, 1)) : W p l e R s m args below meth c H locs cells slots (MQ below (Qn s0 D ac (some (.int v)) σ) args s cells slots (fr s0)) (F0 m pc ls [.int v]) :=
  W.iret C.1 C.2.1 C.2.2.2.2.2.1 (fun t ht _ => ⟨rfl, by rw [ht]; exact h.1⟩) h.2 hdg C.2.2.2.2.2.2.1
theorem x_zret {v : Int32} (C : Cx s0 p s m args meth c cc nL own (some .boolean)) (h : Hs s0 D ac σ H locs) (hz : v = 0 ∨ v = 1) (hdg : decode cc pc = .ok (.ireturn, 1)) : W p l e R s m args below meth c H locs cells slots (MQ below (Qn s0 D ac (some (.int v)) σ) args s cells slots (fr s0)) (F0 m pc ls [.int v]) :=
  W.zret C.1 C.2.1 C.2.2.2.2.2.1 (by rcases hz with rfl | rfl <;> rfl) (fun t ht _ => ⟨rfl, by rw [ht]; exact h.1⟩) h.2 hdg C.2.2.2.2.2.2.1
theorem x_vret (C : Cx s0 p s m args meth c cc nL own none) (h : Hs s0 D ac σ H locs) (hdg : decode cc pc = .ok (.return_, 1)) : W p l e R s m args below meth c H locs cells slots (MQ below (Qn s0 D ac none σ) args s cells slots (fr s0)) (F0 m pc ls []) :=
  W.vret C.1 C.2.1 C.2.2.2.2.2.1 (fun t ht _ => ⟨rfl, by rw [ht]; exact h.1⟩) h.2 hdg C.2.2.2.2.2.2.1
theorem x_aret {v : Nat} {E : String} (C : Cx s0 p s m args meth c cc nL own (some (.object E))) (h : Hs s0 D ac σ H locs) (hdg : decode cc pc = .ok (.areturn, 1)) : W p l e R s m args below meth c H locs cells slots (MQ below (Qn s0 D ac (some (.ref v)) σ) args s cells slots (fr s0)) (F0 m pc ls [.ref v]) :=
  W.aret C.1 C.2.1 C.2.2.2.2.2.1 (Or.inl ⟨_, rfl⟩) (Or.inr ⟨_, rfl⟩) (fun t ht _ => ⟨rfl, by rw [ht]; exact h.1⟩) h.2 hdg C.2.2.2.2.2.2.1
theorem x_met {av : List Value} {Qc : Array Value → State → Outcome → State → Prop} {free : Addr → Prop} (hy : plainName y.cls = true) (hlen : (lg_sl av).length ≤ nL)
    (body : ∀ (p : Program) (e : Env) (s : State) (m : MethodId) (args : Array Value) (below : List Frame) (meth : Method) (c : Code) (ls : Array Slot), Cx s0 p s m args meth c cc nL y.cls ret → meth.name = y.name → Hs s0 D ac σ s.heap [] → lv_has ls nL (lv_args 0 av) → W p l e rm s m args below meth c s.heap [] 0 0 (MQ below Qc args s mc ms free) (F0 m 0 ls [])) : Met l y (ws_ y cc nL ret) rm (Pn s0 D ac av σ) Qc mc ms free := by
  refine Met.ofW (cc := cc) (maxL := nL) (ret := ret) hy rfl ?_
  intro p e s m args below meth c s₁ B hml hv
  obtain ⟨rfl, hwarm, hH⟩ := hv
  have hts := atoms_spec (ws := ws_ y cc nL ret) B.pre
  have hts2 : ∀ w ∈ lw_all, w.before _ s = true := fun w h => hts w (List.mem_cons_of_mem _ h)
  have hown : s.vm.findClass y.cls = some m.cls := findClass_of_methodNamed B.named
  have hin : meth.name = y.name := (name_of_methodNamed B.named B.method).1
  have hl := lv_entry av (n := nL) hlen
  rw [lg_entry_eq]
  generalize (lg_sl av ++ List.replicate (nL - (lg_sl av).length) Slot.unset).toArray = ls at hl ⊢
  exact body p e s m _ below meth c ls ⟨B.exec, B.bytes, hml, hown, hts2, B.returns, B.notSynchronized, hwarm⟩ hin ⟨hH, fun l h => by cases h⟩ hl
end ROWS
