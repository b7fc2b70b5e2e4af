set_option maxRecDepth 100000
/-! loops, joins, checks of the pure functions -/
def loopF {S R : Type} : Nat → (S → Option (S ⊕ R)) → S → Option R
  | 0, _, _ => none
  | n + 1, b, s => match b s with
    | none => none
    | some (.inl t) => loopF n b t
    | some (.inr r) => some r
theorem loopF_ind {S R : Type} {b : S → Option (S ⊕ R)} {e : R} {P : S → Prop} (step : ∀ s o, b s = some o → (∀ t, o = .inl t → P t) → (∀ r, o = .inr r → r = e) → P s) : ∀ n s, loopF n b s = some e → P s := by
  intro n
  induction n with
  | zero => intro s h; cases h
  | succ n ih =>
    intro s h
    unfold loopF at h
    split at h
    · cases h
    · next t hb => exact step s _ hb (fun u hu => by cases hu; exact ih t h) (fun r hr => by cases hr)
    · next r hb => exact step s _ hb (fun u hu => by cases hu) (fun q hq => by cases hq; exact Option.some.inj h)
/-- .. with the number of turns left, for loops that make cells -/
theorem loopF_indN {S R : Type} {b : S → Option (S ⊕ R)} {e : R} {P : Nat → S → Prop} (step : ∀ n s o, b s = some o → (∀ t, o = .inl t → P n t) → (∀ r, o = .inr r → r = e) → P (n + 1) s) : ∀ n s, loopF n b s = some e → P n s := by
  intro n
  induction n with
  | zero => intro s h; cases h
  | succ n ih =>
    intro s h
    unfold loopF at h
    split at h
    · cases h
    · next t hb => exact step n s _ hb (fun u hu => by cases hu; exact ih t h) (fun r hr => by cases hr)
    · next r hb => exact step n s _ hb (fun u hu => by cases hu) (fun q hq => by cases hq; exact Option.some.inj h)
def un2 {A B Z : Type} (K : A → B → Z) (p : A × B) : Z := K p.1 p.2
def un3 {A B C Z : Type} (K : A → B → C → Z) (p : A × B × C) : Z := K p.1 p.2.1 p.2.2
def un4 {A B C E Z : Type} (K : A → B → C → E → Z) (p : A × B × C × E) : Z := K p.1 p.2.1 p.2.2.1 p.2.2.2
def un5 {A B C E F Z : Type} (K : A → B → C → E → F → Z) (p : A × B × C × E × F) : Z := K p.1 p.2.1 p.2.2.1 p.2.2.2.1 p.2.2.2.2
def sm {A B Z : Type} (f : A → Z) (g : B → Z) (e : A ⊕ B) : Z := match e with
  | .inl a => f a
  | .inr b => g b
theorem hf_u2 {A B Z : Type} {K : A → B → Z} {a : A} {b : B} {r : Z} (h : un2 K (a, b) = r) : K a b = r := h
theorem hf_u3 {A B C Z : Type} {K : A → B → C → Z} {a : A} {b : B} {c : C} {r : Z} (h : un3 K (a, b, c) = r) : K a b c = r := h
theorem hf_u4 {A B C E Z : Type} {K : A → B → C → E → Z} {a : A} {b : B} {c : C} {d : E} {r : Z} (h : un4 K (a, b, c, d) = r) : K a b c d = r := h
theorem hf_u5 {A B C E F Z : Type} {K : A → B → C → E → F → Z} {a : A} {b : B} {c : C} {d : E} {f : F} {r : Z} (h : un5 K (a, b, c, d, f) = r) : K a b c d f = r := h
theorem hf_sl {A B Z : Type} {f : A → Z} {g : B → Z} {a : A} {r : Z} (h : sm f g (.inl a) = r) : f a = r := h
theorem hf_sr {A B Z : Type} {f : A → Z} {g : B → Z} {b : B} {r : Z} (h : sm f g (.inr b) = r) : g b = r := h
def o_let {A B : Type} (v : A) (K : A → B) : B := K v
def o_k {α : Type} (σ : St) (a ci : Nat) (K : Option α) : Option α := if s_k σ a = some (.inl ci) then K else none
def o_opt {α : Type} (o : Option Nat) (A : Option α) (B : Nat → Option α) : Option α := match o with
  | none => A
  | some b => B b
theorem k_of {α : Type} {σ : St} {a ci : Nat} {K : Option α} {r : α} (h : o_k σ a ci K = some r) : s_k σ a = some (.inl ci) ∧ K = some r := by
  unfold o_k at h
  split at h
  · next hk => exact ⟨hk, h⟩
  · cases h
theorem bz_of {α : Type} {v : Int32} {K : Option α} {r : α} (h : o_bz v K = some r) : (v = 0 ∨ v = 1) ∧ K = some r := by
  unfold o_bz at h
  split at h
  · next hk => exact ⟨hk, h⟩
  · cases h
theorem nz_of {α : Type} {v : Int32} {K : Option α} {r : α} (h : o_nz v K = some r) : ¬ v = 0 ∧ K = some r := by
  unfold o_nz at h
  split at h
  · cases h
  · next hk => exact ⟨hk, h⟩
section LETS
variable {p : Program} {l : Launch} {e : Env} {R : Room} {s : State} {m : MethodId} {args : Array Value} {below : List Frame} {meth : Method} {c : Code} {H : Heap} {locs : List Loc} {cells slots : Nat} {Q : State → Prop} {pc : Nat} {ls : Array Slot} {rest : List Value} {α : Type} {r : α}
theorem x_letI {v : Int32} {K : Int32 → Option α} (hf : o_let v K = some r) (kk : ∀ x, K x = some r → W p l e R s m args below meth c H locs cells slots Q (F0 m pc ls (.int x :: rest))) : W p l e R s m args below meth c H locs cells slots Q (F0 m pc ls (.int v :: rest)) := kk v hf
theorem x_letJ {v : Int64} {K : Int64 → Option α} (hf : o_let v K = some r) (kk : ∀ x, K x = some r → W p l e R s m args below meth c H locs cells slots Q (F0 m pc ls (.long x :: rest))) : W p l e R s m args below meth c H locs cells slots Q (F0 m pc ls (.long v :: rest)) := kk v hf
end LETS
theorem nf_all (ci j : Nat) : tyF ci j ≠ .float ∧ tyF ci j ≠ .double := by
  unfold tyF
  split
  · unfold tyX0; split <;> exact ⟨fun h => (by cases h), fun h => (by cases h)⟩
  · unfold tyZ0; exact ⟨fun h => (by cases h), fun h => (by cases h)⟩
  · unfold tyZ0; exact ⟨fun h => (by cases h), fun h => (by cases h)⟩
  · unfold tyX5; split <;> exact ⟨fun h => (by cases h), fun h => (by cases h)⟩
  · unfold tyX6; split <;> exact ⟨fun h => (by cases h), fun h => (by cases h)⟩
  · unfold tyX7; split <;> exact ⟨fun h => (by cases h), fun h => (by cases h)⟩
  · unfold tyX8; split <;> exact ⟨fun h => (by cases h), fun h => (by cases h)⟩
  · unfold tyX9; split <;> exact ⟨fun h => (by cases h), fun h => (by cases h)⟩
  · unfold tyY11; split <;> exact ⟨fun h => (by cases h), fun h => (by cases h)⟩
  · unfold tyZ0; exact ⟨fun h => (by cases h), fun h => (by cases h)⟩
  · unfold tyZ0; exact ⟨fun h => (by cases h), fun h => (by cases h)⟩
  · unfold tyY14; exact ⟨fun h => (by cases h), fun h => (by cases h)⟩
  · unfold tyX15; exact ⟨fun h => (by cases h), fun h => (by cases h)⟩
  · unfold tyX16; split <;> exact ⟨fun h => (by cases h), fun h => (by cases h)⟩
  · unfold tyY17; split <;> exact ⟨fun h => (by cases h), fun h => (by cases h)⟩
  · unfold tyX18; split <;> exact ⟨fun h => (by cases h), fun h => (by cases h)⟩
theorem sw_out4 {x : Int32} (h0 : ¬ x = 0) (h1 : ¬ x = 1) (h2 : ¬ x = 2) (h3 : ¬ x = 3) : x.toInt < 0 ∨ 3 < x.toInt := by
  have e0 := lv_neT (a := 0) h0 (by decide)
  have e1 := lv_neT (a := 1) h1 (by decide)
  have e2 := lv_neT (a := 2) h2 (by decide)
  have e3 := lv_neT (a := 3) h3 (by decide)
  omega
theorem sw_out5 {x : Int32} (h0 : ¬ x = 0) (h1 : ¬ x = 1) (h2 : ¬ x = 2) (h3 : ¬ x = 3) (h4 : ¬ x = 4) : x.toInt < 0 ∨ 4 < x.toInt := by
  have e0 := lv_neT (a := 0) h0 (by decide)
  have e1 := lv_neT (a := 1) h1 (by decide)
  have e2 := lv_neT (a := 2) h2 (by decide)
  have e3 := lv_neT (a := 3) h3 (by decide)
  have e4 := lv_neT (a := 4) h4 (by decide)
  omega
theorem sw_out6 {x : Int32} (h0 : ¬ x = 0) (h1 : ¬ x = 1) (h2 : ¬ x = 2) (h3 : ¬ x = 3) (h4 : ¬ x = 4) (h5 : ¬ x = 5) : x.toInt < 0 ∨ 5 < x.toInt := by
  have e0 := lv_neT (a := 0) h0 (by decide)
  have e1 := lv_neT (a := 1) h1 (by decide)
  have e2 := lv_neT (a := 2) h2 (by decide)
  have e3 := lv_neT (a := 3) h3 (by decide)
  have e4 := lv_neT (a := 4) h4 (by decide)
  have e5 := lv_neT (a := 5) h5 (by decide)
  omega
theorem sw_out10 {x : Int32} (h0 : ¬ x = 0) (h1 : ¬ x = 1) (h2 : ¬ x = 2) (h3 : ¬ x = 3) (h4 : ¬ x = 4) (h5 : ¬ x = 5) (h6 : ¬ x = 6) (h7 : ¬ x = 7) (h8 : ¬ x = 8) (h9 : ¬ x = 9) : x.toInt < 0 ∨ 9 < x.toInt := by
  have e0 := lv_neT (a := 0) h0 (by decide)
  have e1 := lv_neT (a := 1) h1 (by decide)
  have e2 := lv_neT (a := 2) h2 (by decide)
  have e3 := lv_neT (a := 3) h3 (by decide)
  have e4 := lv_neT (a := 4) h4 (by decide)
  have e5 := lv_neT (a := 5) h5 (by decide)
  have e6 := lv_neT (a := 6) h6 (by decide)
  have e7 := lv_neT (a := 7) h7 (by decide)
  have e8 := lv_neT (a := 8) h8 (by decide)
  have e9 := lv_neT (a := 9) h9 (by decide)
  omega
theorem sw_out36 {x : Int32} (h0 : ¬ x = 0) (h1 : ¬ x = 1) (h2 : ¬ x = 2) (h3 : ¬ x = 3) (h4 : ¬ x = 4) (h5 : ¬ x = 5) (h6 : ¬ x = 6) (h7 : ¬ x = 7) (h8 : ¬ x = 8) (h9 : ¬ x = 9) (h10 : ¬ x = 10) (h11 : ¬ x = 11) (h12 : ¬ x = 12) (h13 : ¬ x = 13) (h14 : ¬ x = 14) (h15 : ¬ x = 15) (h16 : ¬ x = 16) (h17 : ¬ x = 17) (h18 : ¬ x = 18) (h19 : ¬ x = 19) (h20 : ¬ x = 20) (h21 : ¬ x = 21) (h22 : ¬ x = 22) (h23 : ¬ x = 23) (h24 : ¬ x = 24) (h25 : ¬ x = 25) (h26 : ¬ x = 26) (h27 : ¬ x = 27) (h28 : ¬ x = 28) (h29 : ¬ x = 29) (h30 : ¬ x = 30) (h31 : ¬ x = 31) (h32 : ¬ x = 32) (h33 : ¬ x = 33) (h34 : ¬ x = 34) (h35 : ¬ x = 35) : x.toInt < 0 ∨ 35 < x.toInt := by
  have e0 := lv_neT (a := 0) h0 (by decide)
  have e1 := lv_neT (a := 1) h1 (by decide)
  have e2 := lv_neT (a := 2) h2 (by decide)
  have e3 := lv_neT (a := 3) h3 (by decide)
  have e4 := lv_neT (a := 4) h4 (by decide)
  have e5 := lv_neT (a := 5) h5 (by decide)
  have e6 := lv_neT (a := 6) h6 (by decide)
  have e7 := lv_neT (a := 7) h7 (by decide)
  have e8 := lv_neT (a := 8) h8 (by decide)
  have e9 := lv_neT (a := 9) h9 (by decide)
  have e10 := lv_neT (a := 10) h10 (by decide)
  have e11 := lv_neT (a := 11) h11 (by decide)
  have e12 := lv_neT (a := 12) h12 (by decide)
  have e13 := lv_neT (a := 13) h13 (by decide)
  have e14 := lv_neT (a := 14) h14 (by decide)
  have e15 := lv_neT (a := 15) h15 (by decide)
  have e16 := lv_neT (a := 16) h16 (by decide)
  have e17 := lv_neT (a := 17) h17 (by decide)
  have e18 := lv_neT (a := 18) h18 (by decide)
  have e19 := lv_neT (a := 19) h19 (by decide)
  have e20 := lv_neT (a := 20) h20 (by decide)
  have e21 := lv_neT (a := 21) h21 (by decide)
  have e22 := lv_neT (a := 22) h22 (by decide)
  have e23 := lv_neT (a := 23) h23 (by decide)
  have e24 := lv_neT (a := 24) h24 (by decide)
  have e25 := lv_neT (a := 25) h25 (by decide)
  have e26 := lv_neT (a := 26) h26 (by decide)
  have e27 := lv_neT (a := 27) h27 (by decide)
  have e28 := lv_neT (a := 28) h28 (by decide)
  have e29 := lv_neT (a := 29) h29 (by decide)
  have e30 := lv_neT (a := 30) h30 (by decide)
  have e31 := lv_neT (a := 31) h31 (by decide)
  have e32 := lv_neT (a := 32) h32 (by decide)
  have e33 := lv_neT (a := 33) h33 (by decide)
  have e34 := lv_neT (a := 34) h34 (by decide)
  have e35 := lv_neT (a := 35) h35 (by decide)
  omega
section SAME
variable {s0 : State} {p : Program} {s : State} {m : MethodId} {args : Array Value} {meth : Method} {c : Code} {cc : ByteArray} {nL : Nat} {own : String} {ret : Option FieldType}
theorem sf_X11 (C : Cx s0 p s m args meth c cc nL own ret) (x : ClassId × Class × Nat × Field) (h : s.fieldFound? "HutForShow$Told" "many" "I" = some x) : s.fieldFound? "HutForShow$Habit" "many" "I" = some x := u_same (C.2.2.2.2.1 _ q533) x h
theorem sf_X17 (C : Cx s0 p s m args meth c cc nL own ret) (x : ClassId × Class × Nat × Field) (h : s.fieldFound? "HutForShow$Told" "many" "I" = some x) : s.fieldFound? "HutForShow$Taste" "many" "I" = some x := u_same (C.2.2.2.2.1 _ q537) x h
end SAME
