set_option maxRecDepth 100000
/-! even, ring -/
theorem shl_pow : ∀ n, n ≤ 10 → (1 : Int32) <<< (nI n &&& 31) = nI (2 ^ n) := by decide +kernel
/-- two loops in step -/
theorem loopF_sim {S S' R R' : Type} {b : S → Option (S ⊕ R)} {b' : S' → Option (S' ⊕ R')} (I : S → S' → Prop) (Q : R → R' → Prop)
    (hl : ∀ s s' t, I s s' → b s = some (.inl t) → ∃ t', b' s' = some (.inl t') ∧ I t t') (hr : ∀ s s' r, I s s' → b s = some (.inr r) → ∃ r', b' s' = some (.inr r') ∧ Q r r') : ∀ fuel s s' r, I s s' → loopF fuel b s = some r → ∃ r', loopF fuel b' s' = some r' ∧ Q r r' := by
  intro fuel
  induction fuel with
  | zero => intro s s' r _ h; cases h
  | succ f ih =>
    intro s s' r hI h
    simp only [loopF] at h
    split at h
    · cases h
    · next t hb =>
      obtain ⟨t', h1, h2⟩ := hl s s' t hI hb
      obtain ⟨r', h3, h4⟩ := ih t t' r h2 h
      exact ⟨r', by simp only [loopF, h1]; exact h3, h4⟩
    · next q hb =>
      cases h
      obtain ⟨r', h1, h2⟩ := hr s s' r hI hb
      exact ⟨r', by simp only [loopF, h1], h2⟩
section EVEN
variable {σ : St} {z n : Nat}
theorem even_sim (hS : Sh σ z) (h : Hu σ z n) (hse : Se σ z) (a : Int32) : ∃ v, fX0_even σ z a = some v ∧ fX7_even σ (z + 1064) a = some v := by
  have hn := h.1.1
  unfold fX0_even fX7_even
  simp only [e_0_i hS, e_1064_i hS, h.1.2.1, h.1.2.2]
  by_cases c2 : 2 ≤ n
  · have e : ∀ x y, lX0_even_22 σ z a x y = lX7_even_22 σ (z + 1064) a x y := by
      intro x y
      obtain ⟨v, v1, v2, -⟩ := changes_eq hS h hse c2 y
      unfold lX0_even_22 lX7_even_22
      simp only [e_0_i hS, e_1064_i hS, h.1.2.1, h.1.2.2, e_0_k hS, e_1064_k hS, v1, v2]
    obtain ⟨r, e1, -⟩ := loopF_mu (b := fun y : Int32 × Int32 => lX7_even_22 σ (z + 1064) a y.1 y.2) (fun s => ∃ k, k ≤ 2 ^ n ∧ s.2 = nI k) (fun s => 2 ^ n - s.2.toNatClampNeg) (Q := fun _ => True) (by
        rintro ⟨x, y⟩ ⟨k, hk, hy⟩
        simp only at hy
        subst hy
        have hp : 2 ^ n ≤ 64 := Nat.pow_le_pow_right (n := 2) (by decide) hn
        obtain ⟨v, -, v2, -⟩ := changes_eq hS h hse c2 (nI k)
        show (∃ t, lX7_even_22 σ (z + 1064) a x (nI k) = _ ∧ _) ∨ ∃ r, lX7_even_22 σ (z + 1064) a x (nI k) = _ ∧ _
        unfold lX7_even_22
        rw [e_1064_i hS, h.1.2.2, shl_pow n (by omega)]
        by_cases c : k = 2 ^ n
        · right
          rw [if_pos (nI_le (by omega) (by omega))]
          exact ⟨_, rfl, trivial⟩
        · rw [if_neg (nI_ge (by omega) (by omega)), e_1064_k hS, v2, sb]
          simp only [jn, nI_1]
          have hk1 : (nI (k + 1)).toNatClampNeg = k + 1 := nI_clamp (by omega)
          have hk0 : (nI k).toNatClampNeg = k := nI_clamp (by omega)
          split
          · split
            · exact Or.inr ⟨_, rfl, trivial⟩
            · refine Or.inl ⟨_, rfl, ⟨k + 1, by omega, rfl⟩, ?_⟩
              show 2 ^ n - (nI (k + 1)).toNatClampNeg < 2 ^ n - (nI k).toNatClampNeg
              rw [hk1, hk0]; omega
          · refine Or.inl ⟨_, rfl, ⟨k + 1, by omega, rfl⟩, ?_⟩
            show 2 ^ n - (nI (k + 1)).toNatClampNeg < 2 ^ n - (nI k).toNatClampNeg
            rw [hk1, hk0]; omega) fuel (0, 0) ⟨0, Nat.zero_le _, rfl⟩ (by
        have hp : 2 ^ n ≤ 64 := Nat.pow_le_pow_right (n := 2) (by decide) hn
        exact fuel_lt (by omega))
    simp only [e, e1, sb]
    cases r with
    | inl x => simp only [sm]; (repeat' split) <;> exact ⟨_, rfl, rfl⟩
    | inr x => simp only [sm]; (repeat' split) <;> exact ⟨_, rfl, rfl⟩
  · have c3 : ¬ (2 : Int32) ≤ nI n := lit_nle 2 2 n rfl (by omega) (by decide)
    rw [if_neg c3, if_neg c3]
    split <;> exact ⟨_, rfl, rfl⟩
end EVEN
/-- how many places are not met -/
def cn (f : Nat → Int32) : Nat → Nat
  | 0 => 0
  | k + 1 => cn f k + (if f k = -1 then 1 else 0)
theorem cn_le (f : Nat → Int32) : ∀ k, cn f k ≤ k
  | 0 => Nat.le_refl 0
  | k + 1 => by
    have := cn_le f k
    unfold cn
    split <;> omega
theorem cn_all {f : Nat → Int32} : ∀ k, (∀ a, a < k → f a = -1) → cn f k = k
  | 0, _ => rfl
  | k + 1, h => by
    unfold cn
    rw [cn_all k (fun a ha => h a (by omega)), if_pos (h k (by omega))]
theorem cn_congr {f g : Nat → Int32} : ∀ k, (∀ a, a < k → g a = f a) → cn g k = cn f k
  | 0, _ => rfl
  | k + 1, h => by
    unfold cn
    rw [cn_congr k (fun a ha => h a (by omega)), h k (by omega)]
theorem cn_upd {f g : Nat → Int32} {a : Nat} (hf : f a = -1) (hg : ¬ g a = -1) (ho : ∀ b, b ≠ a → g b = f b) : ∀ k, a < k → cn g k + 1 = cn f k
  | 0, h => absurd h (Nat.not_lt_zero a)
  | k + 1, h => by
    unfold cn
    by_cases e : a = k
    · subst e
      rw [cn_congr (f := f) (g := g) a (fun b hb => ho b (by omega)), if_pos hf, if_neg hg]
    · have := cn_upd hf hg ho k (by omega)
      rw [ho k (fun q => e q.symm)]
      omega
