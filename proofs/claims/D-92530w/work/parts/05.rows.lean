set_option maxRecDepth 100000
/-! the rows over the pure heap -/
section UPD
variable {s0 : State} {D : va_G} {ac : Nat → ClassId} {σ σ' : St} {H H1 : Heap} {locs : List Loc} {a : Nat}
theorem cellOk.kept {k : Kd} (h : cellOk D ac σ H a k) (hq : H1[a]? = H[a]?) (hv : ∀ (ty : FieldType) (j : Nat), sv σ' ty a j = sv σ ty a j) : cellOk D ac σ' H1 a k := by
  match k, h with
  | none, _ => trivial
  | some (.inl c), h =>
    obtain ⟨r, h1, h2, h5⟩ := h
    exact ⟨r, h1, (h2.kept hq).to (fun j _ => (hv _ j).symm), fun cell hc => h5 cell (by rw [← hq]; exact hc)⟩
  | some (.inr q), h =>
    have h : H[a]? = some (arrV (ac q.1) q.2 (fun j => sv σ (tyA q.1) a j)) := h
    show H1[a]? = some (arrV (ac q.1) q.2 (fun j => sv σ' (tyA q.1) a j))
    rw [hq, h]
    congr 2
    funext j
    exact (hv _ j).symm
theorem Hs.step (h : Hs s0 D ac σ H locs) (hk : s_k σ' = s_k σ) (hz : s_z σ' = s_z σ) (z : H1.size = H.size) (oq : ∀ q : Nat, q ≠ a → H1[q]? = H[q]?) (hv : ∀ (b : Nat), b ≠ a → ∀ (ty : FieldType) (j : Nat), sv σ' ty b j = sv σ ty b j) (hka : s_k σ a ≠ none) (hc : cellOk D ac σ' H1 a (s_k σ a)) {i : Nat} : Hs s0 D ac σ' H1 (locs ++ [⟨a, i⟩]) := by
  obtain ⟨⟨h1, h2, h3, h4, h5⟩, h6⟩ := h
  have ha := h4 a hka
  refine ⟨⟨by rw [z, h1, hz], by rw [hz]; exact h2, fun b => ?_, fun b hb => ?_, fun q hq => ?_⟩, fun l hl => ?_⟩
  · rw [hk]
    by_cases hb : b = a
    · subst hb; exact hc
    · exact (h3 b).kept (oq b hb) (hv b hb)
  · rw [hk] at hb; rw [hz]; exact h4 b hb
  · rw [oq q (by omega)]; exact h5 q hq
  · rcases List.mem_append.mp hl with h | h
    · exact h6 l h
    · rw [List.mem_singleton.mp h]; exact ha.1
theorem up2_same {α : Type} {f : Nat → Nat → α} {j : Nat} {v : α} : up2 f a j v a j = v := by simp [up2]
theorem up2_ne {α : Type} {f : Nat → Nat → α} {j b k : Nat} {v : α} (h : ¬ (b = a ∧ k = j)) : up2 f a j v b k = f b k := by simp only [up2]; rw [if_neg h]
theorem sv_setI {j b k : Nat} {v : Int32} (h : ¬ (b = a ∧ k = j)) (ty : FieldType) : sv (setI σ a j v) ty b k = sv σ ty b k := by
  unfold sv; rw [i_setI, l_setI, r_setI, up2_ne h]
theorem sv_setR {j b k : Nat} {v : Option Nat} (h : ¬ (b = a ∧ k = j)) (ty : FieldType) : sv (setR σ a j v) ty b k = sv σ ty b k := by
  unfold sv; rw [i_setR, l_setR, r_setR, up2_ne h]
theorem sv_setL {j b k : Nat} {v : Int64} (h : ¬ (b = a ∧ k = j)) (ty : FieldType) : sv (setL σ a j v) ty b k = sv σ ty b k := by
  unfold sv; rw [i_setL, l_setL, r_setL, up2_ne h]
theorem cell_field {ci j : Nat} {r : vw_C} {cell : Cell} {v : Value} (hc : clA[ci]? = some r) (hj : j < r.2.2) (q2 : cell.cls = D.1 ci) (q3 : cell.vm = .none) (q4 : ∀ k, k < r.2.2 → cell.slots[D.2 ci k]? = some (sv σ (tyF ci k) a k)) (q5 : cell.slots.size = D.2 ci r.2.2) (hap : ∀ x y, x < r.2.2 → y < r.2.2 → x ≠ y → D.2 ci x ≠ D.2 ci y) (e1 : H1[a]? = some (cell.setSlot (D.2 ci j) v)) (hv : v = sv σ' (tyF ci j) a j) (ho : ∀ k, k ≠ j → ∀ ty, sv σ' ty a k = sv σ ty a k) : cellOk D ac σ' H1 a (some (.inl ci)) := by
  refine ⟨r, hc, t_OB.to (V := updV (fun k => sv σ (tyF ci k) a k) j v) ⟨_, e1, q2, q3, t_set q4 hap hj v⟩ (fun k _ => ?_), fun cell' h' => by rw [e1] at h'; cases h'; simp [Cell.setSlot]; exact q5⟩
  by_cases hk : k = j
  · subst hk; simp [updV]; exact hv
  · simp [updV, hk]; exact (ho k hk _).symm
theorem cell_elem {q : Nat × Nat} {i : Nat} {v : Value} (e1 : H1[a]? = some ((arrV (ac q.1) q.2 (fun j => sv σ (tyA q.1) a j)).setSlot i v)) (hv : v = sv σ' (tyA q.1) a i) (ho : ∀ k, k ≠ i → ∀ ty, sv σ' ty a k = sv σ ty a k) : cellOk D ac σ' H1 a (some (.inr q)) := by
  show H1[a]? = some (arrV (ac q.1) q.2 (fun j => sv σ' (tyA q.1) a j))
  rw [e1, arrV_store]
  congr 2
  funext k
  by_cases hk : k = i
  · subst hk; simp [updV]; exact hv
  · simp [updV, hk]; exact (ho k hk _).symm
end UPD
def Lk (s : State) (args : Array Value) (own : String) (idx : Nat) (ref n d : String) : Prop := (Cond.fieldLink own idx ref n d).before args s = true ∨ ∃ host, (Cond.fieldLinkNest own idx ref n d host).before args s = true
section ROWS
variable {p : Program} {l : Launch} {e : Env} {R : Room} {s : State} {m : MethodId} {args : Array Value} {below : List Frame} {meth : Method} {c : Code} {H : Heap} {locs : List Loc} {cells slots : Nat} {Q : State → Prop}
variable {s0 : State} {A0 : Array Value} {D : va_G} {ac : Nat → ClassId} {σ : St} {cc : ByteArray} {nL : Nat} {own : String} {ret : Option FieldType} {pc : Nat} {ls : Array Slot} {rest : List Value} {a ci j idx : Nat} {α : Type} {r : α}
theorem lk (C : Cx s0 p s m args meth c cc nL own ret) {ref n d : String} (h : Cond.fieldLink own idx ref n d ∈ lw_all) : Lk s args own idx ref n d := Or.inl (C.2.2.2.2.1 _ h)
theorem lkn (G : Gl s0 A0 D ac) (C : Cx s0 p s m args meth c cc nL own ret) {ref n d host : String} (h : Cond.fieldLinkNest own idx ref n d host ∈ lw_tbl) : Lk s args own idx ref n d := Or.inr ⟨host, va_Nw.use rfl (va_Nw.warmF C.2.2.2.2.2.2.2 (va_Nw.of rfl (G.1 _ h)))⟩
theorem Gl.kn (G : Gl s0 A0 D ac) (C : Cx s0 p s m args meth c cc nL own ret) {q : vw_C} (h : clA[ci]? = some q) : u_Kn s q.1 q.2.1 q.2.2 (D.1 ci) (D.2 ci) := u_Kn_moved C.2.2.2.2.2.2.2.alike (G.2.1 ci q h).1
theorem Gl.sz (G : Gl s0 A0 D ac) (C : Cx s0 p s m args meth c cc nL own ret) {q : vw_C} (h : clA[ci]? = some q) {kC : Class} (hk : s.vm.classes[D.1 ci]? = some kC) : kC.instanceTypes.size = D.2 ci q.2.2 := by
  obtain ⟨hS, hfc, kC0, hkC0, hkind⟩ := (G.2.1 ci q h).1
  obtain ⟨k', hk', he⟩ := C.2.2.2.2.2.2.2.alike.2.2 _ _ hkC0
  cases hk'.symm.trans hk
  rw [he]
  exact (G.2.1 ci q h).2 kC0 hkC0
theorem Gl.ak (G : Gl s0 A0 D ac) (C : Cx s0 p s m args meth c cc nL own ret) : AK s ac := G.2.2.1.moved C.2.2.2.2.2.2.2.alike
theorem Gl.ap (G : Gl s0 A0 D ac) (C : Cx s0 p s m args meth c cc nL own ret) {q : vw_C} (h : clA[ci]? = some q) : ∀ x y, x < q.2.2 → y < q.2.2 → x ≠ y → D.2 ci x ≠ D.2 ci y := by
  intro x y hx hy hne
  obtain ⟨hS, -⟩ := G.kn C h
  obtain ⟨_, _, _, fa, hia, ea⟩ := hS x hx
  obtain ⟨_, _, _, fb, hib, eb⟩ := hS y hy
  rw [← ea, ← eb]
  have hts := C.2.2.2.2.1
  have hin := in_cl ci q h
  refine u_apart (u_lays hts hin hx) (u_lays hts hin hy) hia hib ?_
  rw [(State.fieldFound?_type hia (ty_cl ci q h x hx)).1, (State.fieldFound?_type hib (ty_cl ci q h y hy)).1]
  exact nm_cl ci q h x hx y hy hne
theorem x_get (G : Gl s0 A0 D ac) (C : Cx s0 p s m args meth c cc nL own ret) (h : Hs s0 D ac σ H locs) (hk : s_k σ a = some (.inl ci)) {q : vw_C} (hc : clA[ci]? = some q) (hj : j < q.2.2) {ref : String} (hlink : Lk s args own idx ref (q.2.1 j).2.1 (q.2.1 j).2.2.1) (hsame : ∀ x, s.fieldFound? (q.2.1 j).1 (q.2.1 j).2.1 (q.2.1 j).2.2.1 = some x → s.fieldFound? ref (q.2.1 j).2.1 (q.2.1 j).2.2.1 = some x) (hdg : decode cc pc = .ok (.getfield idx, 3))
    (kk : W p l e R s m args below meth c H locs cells slots Q (F0 m (pc + 3) ls (sv σ (tyF ci j) a j :: rest))) : W p l e R s m args below meth c H locs cells slots Q (F0 m pc ls (.ref a :: rest)) := by
  have hcell := h.1.2.2.1 a
  rw [hk] at hcell
  obtain ⟨r', h1, ⟨cell, q1, q2, q3, q4⟩, q5⟩ := hcell
  cases h1.symm.trans hc
  obtain ⟨hS, hfc, kC, hkC, hkind⟩ := G.kn C hc
  obtain ⟨cf, kf, fi, f, hi, hsl⟩ := hS j hj
  have hst := (u_facts hfc hkC (u_lays C.2.2.2.2.1 (in_cl ci q hc) hj) hi).1
  have hsl2 : cell.slots[f.slot]? = some (sv σ (tyF ci j) a j) := by rw [hsl]; exact q4 j hj
  rcases hlink with hl | ⟨host, hl⟩
  · exact W.getf C.1 C.2.1 C.2.2.2.1 hl (hsame _ hi) hst q1 (by rw [q3]; exact fun h => by cases h) hsl2 rfl rfl hdg kk
  · exact va_Wgetf C.1 C.2.1 C.2.2.2.1 hl (hsame _ hi) hst q1 (by rw [q3]; exact fun h => by cases h) hsl2 rfl rfl hdg kk
theorem x_gI {K : Int32 → Option α} (G : Gl s0 A0 D ac) (C : Cx s0 p s m args meth c cc nL own ret) (h : Hs s0 D ac σ H locs) {q : vw_C} (hc : clA[ci]? = some q) (hj : j < q.2.2) (hty : ∀ x y z, fv (tyF ci j) x y z = .int x) {ref : String} (hlink : Lk s args own idx ref (q.2.1 j).2.1 (q.2.1 j).2.2.1) (hsame : ∀ x, s.fieldFound? (q.2.1 j).1 (q.2.1 j).2.1 (q.2.1 j).2.2.1 = some x → s.fieldFound? ref (q.2.1 j).2.1 (q.2.1 j).2.2.1 = some x) (hdg : decode cc pc = .ok (.getfield idx, 3)) (hf : o_gI σ a ci j K = some r)
    (kk : ∀ x, K x = some r → W p l e R s m args below meth c H locs cells slots Q (F0 m (pc + 3) ls (.int x :: rest))) : W p l e R s m args below meth c H locs cells slots Q (F0 m pc ls (.ref a :: rest)) := by
  unfold o_gI at hf
  split at hf
  · next hk =>
    refine x_get G C h hk hc hj hlink hsame hdg ?_
    unfold sv; rw [hty]; exact kk _ hf
  · cases hf
theorem x_gL {K : Int64 → Option α} (G : Gl s0 A0 D ac) (C : Cx s0 p s m args meth c cc nL own ret) (h : Hs s0 D ac σ H locs) {q : vw_C} (hc : clA[ci]? = some q) (hj : j < q.2.2) (hty : ∀ x y z, fv (tyF ci j) x y z = .long y) {ref : String} (hlink : Lk s args own idx ref (q.2.1 j).2.1 (q.2.1 j).2.2.1) (hsame : ∀ x, s.fieldFound? (q.2.1 j).1 (q.2.1 j).2.1 (q.2.1 j).2.2.1 = some x → s.fieldFound? ref (q.2.1 j).2.1 (q.2.1 j).2.2.1 = some x) (hdg : decode cc pc = .ok (.getfield idx, 3)) (hf : o_gL σ a ci j K = some r)
    (kk : ∀ x, K x = some r → W p l e R s m args below meth c H locs cells slots Q (F0 m (pc + 3) ls (.long x :: rest))) : W p l e R s m args below meth c H locs cells slots Q (F0 m pc ls (.ref a :: rest)) := by
  unfold o_gL at hf
  split at hf
  · next hk =>
    refine x_get G C h hk hc hj hlink hsame hdg ?_
    unfold sv; rw [hty]; exact kk _ hf
  · cases hf
theorem x_gR {K : Nat → Option α} (G : Gl s0 A0 D ac) (C : Cx s0 p s m args meth c cc nL own ret) (h : Hs s0 D ac σ H locs) {q : vw_C} (hc : clA[ci]? = some q) (hj : j < q.2.2) (hty : ∀ x y z, fv (tyF ci j) x y z = va_rf z) {ref : String} (hlink : Lk s args own idx ref (q.2.1 j).2.1 (q.2.1 j).2.2.1) (hsame : ∀ x, s.fieldFound? (q.2.1 j).1 (q.2.1 j).2.1 (q.2.1 j).2.2.1 = some x → s.fieldFound? ref (q.2.1 j).2.1 (q.2.1 j).2.2.1 = some x) (hdg : decode cc pc = .ok (.getfield idx, 3)) (hf : o_gR σ a ci j K = some r)
    (kk : ∀ x, K x = some r → W p l e R s m args below meth c H locs cells slots Q (F0 m (pc + 3) ls (.ref x :: rest))) : W p l e R s m args below meth c H locs cells slots Q (F0 m pc ls (.ref a :: rest)) := by
  unfold o_gR at hf
  split at hf
  · next hk =>
    split at hf
    · next b hb =>
      refine x_get G C h hk hc hj hlink hsame hdg ?_
      unfold sv; rw [hty, hb]; exact kk _ hf
    · cases hf
  · cases hf
theorem x_put {σ' : St} {v : Value} (G : Gl s0 A0 D ac) (C : Cx s0 p s m args meth c cc nL own ret) (h : Hs s0 D ac σ H locs) (hk : s_k σ a = some (.inl ci)) {q : vw_C} (hc : clA[ci]? = some q) (hj : j < q.2.2) {ref : String} (hlink : Lk s args own idx ref (q.2.1 j).2.1 (q.2.1 j).2.2.1) (hsame : ∀ x, s.fieldFound? (q.2.1 j).1 (q.2.1 j).2.1 (q.2.1 j).2.2.1 = some x → s.fieldFound? ref (q.2.1 j).2.1 (q.2.1 j).2.2.1 = some x) (hfin : (q.2.1 j).2.2.2 = false ∨ (meth.name = "<init>" ∧ (q.2.1 j).1 = own)) (hn : narrow (tyF ci j) v = v) (hfit : fits (tyF ci j) v = true) (hdg : decode cc pc = .ok (.putfield idx, 3))
    (hsk : s_k σ' = s_k σ) (hsz : s_z σ' = s_z σ) (hv : v = sv σ' (tyF ci j) a j) (ho : ∀ b k, ¬ (b = a ∧ k = j) → ∀ ty, sv σ' ty b k = sv σ ty b k)
    (kk : ∀ (H : Heap) (locs : List Loc), Hs s0 D ac σ' H locs → W p l e R s m args below meth c H locs cells slots Q (F0 m (pc + 3) ls rest)) : W p l e R s m args below meth c H locs cells slots Q (F0 m pc ls (v :: .ref a :: rest)) := by
  have hcell := h.1.2.2.1 a
  rw [hk] at hcell
  obtain ⟨r', h1, ⟨cell, q1, q2, q3, q4⟩, q5⟩ := hcell
  cases h1.symm.trans hc
  obtain ⟨hS, hfc, kC, hkC, hkind⟩ := G.kn C hc
  obtain ⟨cf, kf, fi, f, hi, hsl⟩ := hS j hj
  have hts := C.2.2.2.2.1
  have hin := in_cl ci q hc
  have hst := (u_facts hfc hkC (u_lays hts hin hj) hi).1
  have h6 := u_fits hfc hkC hkind (u_lays hts hin hj) hi (ty_cl ci q hc j hj) hn hfit
  have hfin2 : hasFlag f.accessFlags Acc.final = false ∨ (m.cls = cf ∧ meth.name = "<init>") := by
    have hlay := hts _ (hin _ (u_in_lay hj))
    unfold u_lay at hlay
    rcases hfin with hfin | ⟨hnm, hdecl⟩
    · rw [if_neg (by rw [hfin]; decide)] at hlay
      exact Or.inl (u_store hfc hkC hkind hlay hi (ty_cl ci q hc j hj) hn hfit).1
    · split at hlay
      · obtain ⟨_, _, c', _, _, _, -, -, hf', -, -, -, hown2, -⟩ := Cond.laysFinal_spec hlay
        have e1 : c' = cf := by have := hi.symm.trans hf'; simp at this; exact this.1.symm
        rw [hdecl] at hown2
        exact Or.inr ⟨by rw [← e1]; exact Option.some.inj (C.2.2.2.1.symm.trans hown2), hnm⟩
      · exact Or.inl (u_store hfc hkC hkind hlay hi (ty_cl ci q hc j hj) hn hfit).1
  have ha : a < H.size := (Array.getElem?_eq_some_iff.mp q1).1
  have hlt : f.slot < cell.slots.size := by rw [hsl]; exact k2_hasslot (q4 j hj)
  have goal : W p l e R s m args below meth c (H.setIfInBounds a (cell.setSlot f.slot v)) (locs ++ [⟨a, f.slot⟩]) cells slots Q (F0 m (pc + 3) ls rest) := by
    refine kk _ _ (h.step (a := a) hsk hsz (by simp) (fun q hq => by simp [Array.getElem?_setIfInBounds, Ne.symm hq]) (fun b hb ty k => ho b k (fun x => hb x.1) ty) (by rw [hk]; exact fun h => by cases h) ?_)
    rw [hk]
    refine cell_field hc hj q2 q3 q4 (q5 cell q1) (G.ap C hc) (v := v) ?_ hv (fun k hk ty => ho a k (fun x => hk x.2) ty)
    rw [← hsl]
    simp [ha]
  rcases hlink with hl | ⟨host, hl⟩
  · exact W.putf C.1 C.2.1 C.2.2.2.1 hl (hsame _ hi) hst hfin2 q1 (by rw [q3]; exact fun h => by cases h) hlt h6.1 (by rw [q2, q3]; exact h6.2) rfl rfl hdg goal
  · exact va_Wputf C.1 C.2.1 C.2.2.2.1 hl (hsame _ hi) hst hfin2 q1 (by rw [q3]; exact fun h => by cases h) hlt h6.1 (by rw [q2, q3]; exact h6.2) rfl rfl hdg goal
theorem x_pI {v : Int32} {K : St → Option α} (G : Gl s0 A0 D ac) (C : Cx s0 p s m args meth c cc nL own ret) (h : Hs s0 D ac σ H locs) {q : vw_C} (hc : clA[ci]? = some q) (hj : j < q.2.2) (hty : tyF ci j = .int) {ref : String} (hlink : Lk s args own idx ref (q.2.1 j).2.1 (q.2.1 j).2.2.1) (hsame : ∀ x, s.fieldFound? (q.2.1 j).1 (q.2.1 j).2.1 (q.2.1 j).2.2.1 = some x → s.fieldFound? ref (q.2.1 j).2.1 (q.2.1 j).2.2.1 = some x) (hfin : (q.2.1 j).2.2.2 = false ∨ (meth.name = "<init>" ∧ (q.2.1 j).1 = own)) (hdg : decode cc pc = .ok (.putfield idx, 3)) (hf : o_pI σ a ci j v K = some r)
    (kk : ∀ (σ : St) (H : Heap) (locs : List Loc), Hs s0 D ac σ H locs → K σ = some r → W p l e R s m args below meth c H locs cells slots Q (F0 m (pc + 3) ls rest)) : W p l e R s m args below meth c H locs cells slots Q (F0 m pc ls (.int v :: .ref a :: rest)) := by
  unfold o_pI at hf
  split at hf
  · next hk => exact x_put (σ' := setI σ a j v) G C h hk hc hj hlink hsame hfin (by rw [hty]; rfl) (by rw [hty]; rfl) hdg rfl rfl (by unfold sv; rw [hty, i_setI, up2_same]; rfl) (fun b k hbk ty => sv_setI hbk ty) (fun H locs h => kk _ H locs h hf)
  · cases hf
theorem x_pZ {v : Int32} {K : St → Option α} (G : Gl s0 A0 D ac) (C : Cx s0 p s m args meth c cc nL own ret) (h : Hs s0 D ac σ H locs) {q : vw_C} (hc : clA[ci]? = some q) (hj : j < q.2.2) (hty : tyF ci j = .boolean) {ref : String} (hlink : Lk s args own idx ref (q.2.1 j).2.1 (q.2.1 j).2.2.1) (hsame : ∀ x, s.fieldFound? (q.2.1 j).1 (q.2.1 j).2.1 (q.2.1 j).2.2.1 = some x → s.fieldFound? ref (q.2.1 j).2.1 (q.2.1 j).2.2.1 = some x) (hfin : (q.2.1 j).2.2.2 = false ∨ (meth.name = "<init>" ∧ (q.2.1 j).1 = own)) (hdg : decode cc pc = .ok (.putfield idx, 3)) (hf : o_bz v (o_pI σ a ci j v K) = some r)
    (kk : ∀ (σ : St) (H : Heap) (locs : List Loc), Hs s0 D ac σ H locs → K σ = some r → W p l e R s m args below meth c H locs cells slots Q (F0 m (pc + 3) ls rest)) : W p l e R s m args below meth c H locs cells slots Q (F0 m pc ls (.int v :: .ref a :: rest)) := by
  unfold o_bz at hf
  split at hf
  · next hz =>
    unfold o_pI at hf
    split at hf
    · next hk => exact x_put (σ' := setI σ a j v) G C h hk hc hj hlink hsame hfin (by rw [hty]; rcases hz with rfl | rfl <;> rfl) (by rw [hty]; rcases hz with rfl | rfl <;> rfl) hdg rfl rfl (by unfold sv; rw [hty, i_setI, up2_same]; rfl) (fun b k hbk ty => sv_setI hbk ty) (fun H locs h => kk _ H locs h hf)
    · cases hf
  · cases hf
theorem x_pL {v : Int64} {K : St → Option α} (G : Gl s0 A0 D ac) (C : Cx s0 p s m args meth c cc nL own ret) (h : Hs s0 D ac σ H locs) {q : vw_C} (hc : clA[ci]? = some q) (hj : j < q.2.2) (hty : tyF ci j = .long) {ref : String} (hlink : Lk s args own idx ref (q.2.1 j).2.1 (q.2.1 j).2.2.1) (hsame : ∀ x, s.fieldFound? (q.2.1 j).1 (q.2.1 j).2.1 (q.2.1 j).2.2.1 = some x → s.fieldFound? ref (q.2.1 j).2.1 (q.2.1 j).2.2.1 = some x) (hfin : (q.2.1 j).2.2.2 = false ∨ (meth.name = "<init>" ∧ (q.2.1 j).1 = own)) (hdg : decode cc pc = .ok (.putfield idx, 3)) (hf : o_pL σ a ci j v K = some r)
    (kk : ∀ (σ : St) (H : Heap) (locs : List Loc), Hs s0 D ac σ H locs → K σ = some r → W p l e R s m args below meth c H locs cells slots Q (F0 m (pc + 3) ls rest)) : W p l e R s m args below meth c H locs cells slots Q (F0 m pc ls (.long v :: .ref a :: rest)) := by
  unfold o_pL at hf
  split at hf
  · next hk => exact x_put (σ' := setL σ a j v) G C h hk hc hj hlink hsame hfin (by rw [hty]; rfl) (by rw [hty]; rfl) hdg rfl rfl (by unfold sv; rw [hty, l_setL, up2_same]; rfl) (fun b k hbk ty => sv_setL hbk ty) (fun H locs h => kk _ H locs h hf)
  · cases hf
theorem x_pR {v : Nat} {K : St → Option α} (G : Gl s0 A0 D ac) (C : Cx s0 p s m args meth c cc nL own ret) (h : Hs s0 D ac σ H locs) {q : vw_C} (hc : clA[ci]? = some q) (hj : j < q.2.2) (hty : (tyF ci j).isReference = true) {ref : String} (hlink : Lk s args own idx ref (q.2.1 j).2.1 (q.2.1 j).2.2.1) (hsame : ∀ x, s.fieldFound? (q.2.1 j).1 (q.2.1 j).2.1 (q.2.1 j).2.2.1 = some x → s.fieldFound? ref (q.2.1 j).2.1 (q.2.1 j).2.2.1 = some x) (hfin : (q.2.1 j).2.2.2 = false ∨ (meth.name = "<init>" ∧ (q.2.1 j).1 = own)) (hdg : decode cc pc = .ok (.putfield idx, 3)) (hf : o_pR σ a ci j (some v) K = some r)
    (kk : ∀ (σ : St) (H : Heap) (locs : List Loc), Hs s0 D ac σ H locs → K σ = some r → W p l e R s m args below meth c H locs cells slots Q (F0 m (pc + 3) ls rest)) : W p l e R s m args below meth c H locs cells slots Q (F0 m pc ls (.ref v :: .ref a :: rest)) := by
  unfold o_pR at hf
  split at hf
  · next hk =>
    have hA : narrow (tyF ci j) (.ref v) = .ref v ∧ fits (tyF ci j) (.ref v) = true ∧ ∀ x y, Value.ref v = fv (tyF ci j) x y (some v) := by
      cases hq : tyF ci j <;> rw [hq] at hty <;> first | (cases hty; done) | exact ⟨rfl, rfl, fun _ _ => rfl⟩
    exact x_put (σ' := setR σ a j (some v)) G C h hk hc hj hlink hsame hfin hA.1 hA.2.1 hdg rfl rfl (by unfold sv; rw [r_setR, up2_same]; exact hA.2.2 _ _) (fun b k hbk ty => sv_setR hbk ty) (fun H locs h => kk _ H locs h hf)
  · cases hf
end ROWS
