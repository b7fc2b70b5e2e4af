set_option maxRecDepth 100000
/-! what a loop reaches -/
def Rch {S R : Type} (b : S → Option (S ⊕ R)) : Nat → S → S → Prop
  | 0, s, t => s = t
  | n + 1, s, t => ∃ u, b s = some (.inl u) ∧ Rch b n u t
theorem Rch.trans {S R : Type} {b : S → Option (S ⊕ R)} : ∀ {n m : Nat} {s t u : S}, Rch b n s t → Rch b m t u → Rch b (n + m) s u
  | 0, m, s, t, u, h, h2 => by
    cases h
    rw [Nat.zero_add]
    exact h2
  | n + 1, m, s, t, u, ⟨v, h1, h2⟩, h3 => by
    rw [show n + 1 + m = (n + m) + 1 by omega]
    exact ⟨v, h1, Rch.trans h2 h3⟩
theorem Rch.loop {S R : Type} {b : S → Option (S ⊕ R)} {r : R} : ∀ {n : Nat} {s t : S}, Rch b n s t → b t = some (.inr r) → ∀ fuel, n < fuel → loopF fuel b s = some r
  | 0, s, t, h, hr, fuel, hf => by
    cases h
    obtain ⟨f, rfl⟩ : ∃ f, fuel = f + 1 := ⟨fuel - 1, by omega⟩
    simp only [loopF, hr]
  | n + 1, s, t, ⟨v, h1, h2⟩, hr, fuel, hf => by
    obtain ⟨f, rfl⟩ : ∃ f, fuel = f + 1 := ⟨fuel - 1, by omega⟩
    simp only [loopF, h1]
    exact Rch.loop h2 hr f (by omega)
/-- .. in at most so many turns -/
def Rcl {S R : Type} (b : S → Option (S ⊕ R)) (B : Nat) (s t : S) : Prop := ∃ n, n ≤ B ∧ Rch b n s t
theorem Rcl.refl {S R : Type} {b : S → Option (S ⊕ R)} {B : Nat} {s : S} : Rcl b B s s := ⟨0, Nat.zero_le _, rfl⟩
theorem Rcl.one {S R : Type} {b : S → Option (S ⊕ R)} {s t : S} (h : b s = some (.inl t)) : Rcl b 1 s t := ⟨1, Nat.le_refl 1, t, h, rfl⟩
theorem Rcl.trans {S R : Type} {b : S → Option (S ⊕ R)} {B C : Nat} {s t u : S} (h : Rcl b B s t) (h2 : Rcl b C t u) : Rcl b (B + C) s u := by
  obtain ⟨n, h1, h3⟩ := h
  obtain ⟨m, g1, g3⟩ := h2
  exact ⟨n + m, by omega, h3.trans g3⟩
theorem Rcl.mono {S R : Type} {b : S → Option (S ⊕ R)} {B C : Nat} {s t : S} (h : Rcl b B s t) (hBC : B ≤ C) : Rcl b C s t := by
  obtain ⟨n, h1, h3⟩ := h
  exact ⟨n, by omega, h3⟩
theorem Rcl.loop {S R : Type} {b : S → Option (S ⊕ R)} {B : Nat} {s t : S} {r : R} (h : Rcl b B s t) (hr : b t = some (.inr r)) (hB : B < 1000000000) : loopF fuel b s = some r := by
  obtain ⟨n, h1, h3⟩ := h
  exact h3.loop hr fuel (fuel_lt (by omega))
theorem Rcl.loop' {S R : Type} {b : S → Option (S ⊕ R)} {B : Nat} {s t : S} {r : R} (h : Rcl b B s t) (hr : b t = some (.inr r)) (hB : B < fuel) : loopF fuel b s = some r := by
  obtain ⟨n, h1, h3⟩ := h
  exact h3.loop hr fuel (by omega)
/-- turns by a counter, from one value on -/
theorem Rcl.count {S R : Type} {b : S → Option (S ⊕ R)} (I : Nat → S → Prop) (B lo hi : Nat) (hstep : ∀ k s, lo ≤ k → k < hi → I k s → ∃ t, Rcl b B s t ∧ I (k + 1) t) (hlh : lo ≤ hi) {s : S} (h0 : I lo s) : ∃ t, Rcl b ((hi - lo) * B) s t ∧ I hi t := by
  have key : ∀ j k, k + j = hi → lo ≤ k → ∀ s, I k s → ∃ t, Rcl b (j * B) s t ∧ I hi t := by
    intro j
    induction j with
    | zero =>
      intro k hk _ s hs
      have : k = hi := by omega
      subst this
      exact ⟨s, Rcl.refl, hs⟩
    | succ j ih =>
      intro k hk hl s hs
      obtain ⟨t, h1, h2⟩ := hstep k s hl (by omega) hs
      obtain ⟨u, h3, h4⟩ := ih (k + 1) (by omega) (by omega) t h2
      exact ⟨u, (h1.trans h3).mono (by rw [Nat.succ_mul]; omega), h4⟩
  exact key (hi - lo) lo (by omega) (Nat.le_refl lo) s h0
