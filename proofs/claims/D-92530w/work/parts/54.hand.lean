set_option maxRecDepth 100000
/-! rows of things: what is told is laid -/
theorem six_of (x : Int64) : ∃ b, b < 64 ∧ (x &&& 63).toInt32 = nI b := by
  refine ⟨x.toBitVec.toNat % 64, Nat.mod_lt _ (by decide), ?_⟩
  apply Int32.toBitVec_inj.mp
  apply BitVec.eq_of_toNat_eq
  have e : (x &&& 63).toInt32.toBitVec = (x.toBitVec &&& 63#64).setWidth 32 := by
    show ((x &&& 63).toBitVec.signExtend 32) = _
    rw [BitVec.signExtend_eq_setWidth_of_le _ (by decide)]
    rfl
  rw [e]
  show _ = (Int32.ofNat (x.toBitVec.toNat % 64)).toBitVec.toNat
  have e2 : (Int32.ofNat (x.toBitVec.toNat % 64)).toBitVec = BitVec.ofNat 32 (x.toBitVec.toNat % 64) := rfl
  have e3 : (63#64).toNat = 2 ^ 6 - 1 := rfl
  rw [e2, BitVec.toNat_setWidth, BitVec.toNat_and, e3, Nat.and_two_pow_sub_one_eq_mod, BitVec.toNat_ofNat]
def Unl (f : Nat → Nat) (k : Nat) : Prop := ∀ i j, i < j → j < k → f i ≠ f j
theorem Unl.succ {f : Nat → Nat} {k : Nat} : Unl f (k + 1) ↔ Unl f k ∧ ∀ i, i < k → f i ≠ f k := by
  constructor
  · intro h
    exact ⟨fun i j h1 h2 => h i j h1 (by omega), fun i hi => h i k hi (by omega)⟩
  · rintro ⟨h1, h2⟩ i j hij hj
    by_cases e : j = k
    · rw [e]; exact h2 i (by omega)
    · exact h1 i j hij (by omega)
/-- what is laid: the numbers told, six bits each -/
def Told (a : Int64) (f : Nat → Nat) : Prop := ∀ k, f k < 64 ∧ ((a >>> ((6 * nI k).toInt64 &&& 63)) &&& 63).toInt32 = nI (f k)
theorem told_ex (a : Int64) : ∃ f, Told a f := ⟨fun k => Classical.choose (six_of (a >>> ((6 * nI k).toInt64 &&& 63))), fun k => Classical.choose_spec (six_of (a >>> ((6 * nI k).toInt64 &&& 63)))⟩
section HAND
variable {σ : St} {z nt m : Nat}
theorem layHand_eq (hS : Sh σ z) (h5 : s_i σ z 5 = nI nt) (hnt : nt ≤ 40) {a : Int64} {f : Nat → Nat} (hf : Told a f) (h1 : 1 ≤ m) (h7 : m ≤ 7) : ∃ v σ1, fX0_layHand σ z a (nI m) = some (v, σ1) ∧ Fr (PL z [(26, none)]) σ σ1 ∧ (∀ k, k < m → s_i σ1 (z + 26) k = nI (f k)) ∧ ((v = -2 ∧ ¬ ∀ k, k < m → f k < nt) ∨ (v = -3 ∧ (∀ k, k < m → f k < nt) ∧ ¬ Unl f m) ∨ (v = 0 ∧ (∀ k, k < m → f k < nt) ∧ Unl f m)) := by
  have cin : (1 : Int32) ≤ nI m ∧ nI m ≤ 7 := ⟨lit_le 1 1 m rfl h1 (by omega), nI_le (b := 7) h7 (by decide)⟩
  obtain ⟨⟨τ, x, y⟩, e, q1, q2, q3, q4⟩ := loopF_inv (b := fun y : St × Int32 × Int32 × Int32 => lX0_layHand_24 (nI m) z a y.1 y.2.1 y.2.2.1 y.2.2.2) (fun k s => Fr (PL z [(26, none)]) σ s.1 ∧ (∀ i, i < k → s_i s.1 (z + 26) i = nI (f i)) ∧ ((s.2.1 = 1 ∧ ∀ i, i < k → f i < nt) ∨ (s.2.1 = 0 ∧ ¬ ∀ i, i < k → f i < nt)) ∧ ((s.2.2.1 = 1 ∧ Unl f k) ∨ (s.2.2.1 = 0 ∧ ¬ Unl f k)) ∧ s.2.2.2 = nI k) m (Q := fun s => Fr (PL z [(26, none)]) σ s.1 ∧ (∀ i, i < m → s_i s.1 (z + 26) i = nI (f i)) ∧ ((s.2.1 = 1 ∧ ∀ i, i < m → f i < nt) ∨ (s.2.1 = 0 ∧ ¬ ∀ i, i < m → f i < nt)) ∧ ((s.2.2 = 1 ∧ Unl f m) ∨ (s.2.2 = 0 ∧ ¬ Unl f m))) (by
      rintro k ⟨τ, x, y, w⟩ hk ⟨i1, i2, i3, i4, i5⟩
      simp only at i1 i2 i3 i4 i5
      subst i5
      have hT : Sh τ z := i1.sh hS (by decide)
      have b7 : k < 7 := by omega
      obtain ⟨τ1, e1⟩ : ∃ τ1, τ1 = setI τ (z + 26) k (nI (f k)) := ⟨_, rfl⟩
      have hT1 : Sh τ1 z := by rw [e1]; exact hT
      have hF1 : Fr (PL z [(26, none)]) σ τ1 := by rw [e1]; exact i1.aS (o := 26) rfl
      have v1 : ∀ i, i < k + 1 → s_i τ1 (z + 26) i = nI (f i) := fun i hi => by
        rw [e1]
        by_cases e : i = k
        · rw [e, gi_eq]
        · rw [gi_nj e]; exact i2 i (by omega)
      have g5 : s_i τ1 z 5 = nI nt := (hF1.ki hS 0 5 (by decide) rfl).trans h5
      -- the inner loop
      obtain ⟨r, r1, r2⟩ := loopF_inv (b := fun u : Int32 × Int32 => lX0_layHand_78 (nI k) τ1 z u.1 u.2) (fun j s => s.2 = nI j ∧ ((s.1 = 1 ∧ Unl f k ∧ ∀ i, i < j → f i ≠ f k) ∨ (s.1 = 0 ∧ ¬ (Unl f k ∧ ∀ i, i < j → f i ≠ f k)))) k (Q := fun r => (r = 1 ∧ Unl f (k + 1)) ∨ (r = 0 ∧ ¬ Unl f (k + 1))) (by
          rintro j ⟨u, v⟩ hj ⟨j1, j2⟩
          simp only at j1 j2
          subst j1
          show ∃ t, lX0_layHand_78 (nI k) τ1 z u (nI j) = _ ∧ _
          unfold lX0_layHand_78
          rw [if_neg (nI_ge hj (by omega))]
          simp only [jn, nI_1, e_0_14 hT1, a_26 hT1 b7, a_26 hT1 (show j < 7 by omega), v1 k (by omega), v1 j (by omega)]
          rcases j2 with ⟨j2, j3, j4⟩ | ⟨j2, j3⟩
          · subst j2
            rw [if_neg (by decide)]
            by_cases c : f j = f k
            · rw [if_pos (by rw [c])]
              exact ⟨_, rfl, rfl, Or.inr ⟨rfl, fun q => q.2 j (by omega) c⟩⟩
            · rw [if_neg (fun q => c ((nI_eq (by have := (hf j).1; omega) (by have := (hf k).1; omega)).mp q))]
              refine ⟨_, rfl, rfl, Or.inl ⟨rfl, j3, fun i hi => ?_⟩⟩
              by_cases e : i = j
              · rw [e]; exact c
              · exact j4 i (by omega)
          · subst j2
            rw [if_pos rfl]
            exact ⟨_, rfl, rfl, Or.inr ⟨rfl, fun q => j3 ⟨q.1, fun i hi => q.2 i (by omega)⟩⟩⟩) (by
          rintro ⟨u, v⟩ ⟨j1, j2⟩
          simp only at j1 j2
          subst j1
          show ∃ t, lX0_layHand_78 (nI k) τ1 z u (nI k) = _ ∧ _
          unfold lX0_layHand_78
          rw [if_pos (nI_le (Nat.le_refl k) (by omega))]
          refine ⟨_, rfl, ?_⟩
          rcases j2 with ⟨j2, j3⟩ | ⟨j2, j3⟩
          · exact Or.inl ⟨j2, Unl.succ.mpr j3⟩
          · exact Or.inr ⟨j2, fun q => j3 (Unl.succ.mp q)⟩) (s := (y, 0)) ⟨rfl, by
            rcases i4 with ⟨i4, i6⟩ | ⟨i4, i6⟩
            · exact Or.inl ⟨i4, i6, fun i hi => absurd hi (Nat.not_lt_zero i)⟩
            · exact Or.inr ⟨i4, fun q => i6 q.1⟩⟩ fuel (fuel_lt (by omega))
      show ∃ t, lX0_layHand_24 (nI m) z a τ x y (nI k) = _ ∧ _
      unfold lX0_layHand_24
      rw [if_neg (nI_ge hk (by omega)), e_0_14 hT, (hf k).2, s_26 hT b7, ← e1]
      simp only [jn, e_0_14 hT1, a_26 hT1 b7, e_0_k hT1, v1 k (by omega), isThing_eq hT1 g5, sb, if01, r1, nI_1]
      rcases i3 with ⟨i3, i6⟩ | ⟨i3, i6⟩
      · subst i3
        rw [if_neg (by decide)]
        by_cases c : f k < nt
        · rw [if_pos (nat_in (by omega) c)]
          refine ⟨_, rfl, hF1, v1, Or.inl ⟨rfl, fun i hi => ?_⟩, r2, rfl⟩
          by_cases e : i = k
          · rw [e]; exact c
          · exact i6 i (by omega)
        · rw [if_neg (fun q => by
            obtain ⟨j, j1, j2⟩ := in_nat (show nt < 2 ^ 30 by omega) q
            have := (nI_eq (by have := (hf k).1; omega) (by omega)).mp j2
            omega)]
          exact ⟨_, rfl, hF1, v1, Or.inr ⟨rfl, fun q => c (q k (by omega))⟩, r2, rfl⟩
      · subst i3
        rw [if_pos rfl]
        exact ⟨_, rfl, hF1, v1, Or.inr ⟨rfl, fun q => i6 fun i hi => q i (by omega)⟩, r2, rfl⟩) (by
      rintro ⟨τ, x, y, w⟩ ⟨i1, i2, i3, i4, i5⟩
      simp only at i1 i2 i3 i4 i5
      subst i5
      show ∃ t, lX0_layHand_24 (nI m) z a τ x y (nI m) = _ ∧ _
      unfold lX0_layHand_24
      rw [if_pos (nI_le (Nat.le_refl m) (by omega))]
      exact ⟨_, rfl, i1, i2, i3, i4⟩) (s := (σ, 1, 1, 0)) ⟨Fr.refl, fun i hi => absurd hi (Nat.not_lt_zero i), Or.inl ⟨rfl, fun i hi => absurd hi (Nat.not_lt_zero i)⟩, Or.inl ⟨rfl, fun i j h1 h2 => absurd h2 (Nat.not_lt_zero j)⟩, rfl⟩ fuel (fuel_lt (by omega))
  simp only at q1 q2 q3 q4
  have X := Eq.refl (fX0_layHand σ z a (nI m))
  conv at X => rhs; unfold fX0_layHand
  rw [isIn_lit σ σ (nI m) 1 7 (lo' := 1) (hi' := 7) rfl rfl, in_eq, sb, if01, if_pos cin, e, sb] at X
  simp only [un3] at X
  rcases q3 with ⟨rfl, q5⟩ | ⟨rfl, q5⟩
  · rw [if_neg (by decide)] at X
    rcases q4 with ⟨rfl, q6⟩ | ⟨rfl, q6⟩
    · rw [if_neg (by decide)] at X
      exact ⟨_, _, X, q1, q2, Or.inr (Or.inr ⟨rfl, q5, q6⟩)⟩
    · rw [if_pos rfl] at X
      exact ⟨_, _, X, q1, q2, Or.inr (Or.inl ⟨rfl, q5, q6⟩)⟩
  · rw [if_pos rfl] at X
    exact ⟨_, _, X, q1, q2, Or.inl ⟨rfl, q5⟩⟩
theorem take_eq (hS : Sh σ z) (h5 : s_i σ (z + 1064) 7 = nI nt) (hnt : nt ≤ 40) {a : Int64} {f : Nat → Nat} (hf : Told a f) (h7 : m ≤ 7) : ∃ v σ1, fX7_take σ (z + 1064) a (nI m) = some (v, σ1) ∧ Fr (PL z [(1081, none)]) σ σ1 ∧ ((v = -2 ∧ ¬ ∀ k, k < m → f k < nt) ∨ (v = -3 ∧ (∀ k, k < m → f k < nt) ∧ ¬ Unl f m) ∨ (v = 1 ∧ (∀ k, k < m → f k < nt) ∧ Unl f m ∧ ∀ k, k < m → s_i σ1 (z + 1081) k = nI (f k))) := by
  obtain ⟨r, e, q⟩ := loopF_mu (b := fun y : St × Int32 × Int32 => lX7_take_6 (nI m) (z + 1064) a y.1 y.2.1 y.2.2) (fun s => ∃ k, k ≤ m ∧ s.2.2 = nI k ∧ Fr (PL z [(1081, none)]) σ s.1 ∧ (∀ i, i < k → s_i s.1 (z + 1081) i = nI (f i)) ∧ (∀ i, i < k → f i < nt) ∧ ((s.2.1 = 0 ∧ Unl f k) ∨ (s.2.1 = 1 ∧ ¬ Unl f k))) (fun s => m - s.2.2.toNatClampNeg) (Q := fun r => match r with
      | .inl τ => Fr (PL z [(1081, none)]) σ τ ∧ ¬ ∀ k, k < m → f k < nt
      | .inr s => Fr (PL z [(1081, none)]) σ s.1 ∧ (∀ i, i < m → s_i s.1 (z + 1081) i = nI (f i)) ∧ (∀ i, i < m → f i < nt) ∧ ((s.2 = 0 ∧ Unl f m) ∨ (s.2 = 1 ∧ ¬ Unl f m))) (by
      rintro ⟨τ, y, w⟩ ⟨k, hk, i5, i1, i2, i3, i4⟩
      simp only at i1 i2 i3 i4 i5
      subst i5
      have hT : Sh τ z := i1.sh hS (by decide)
      show (∃ t, lX7_take_6 (nI m) (z + 1064) a τ y (nI k) = _ ∧ _) ∨ ∃ t, lX7_take_6 (nI m) (z + 1064) a τ y (nI k) = _ ∧ _
      unfold lX7_take_6
      by_cases ck : k = m
      · subst ck
        right
        rw [if_pos (nI_le (Nat.le_refl k) (by omega))]
        exact ⟨_, rfl, i1, i2, i3, i4⟩
      · have hk : k < m := by omega
        have b7 : k < 7 := by omega
        obtain ⟨τ1, e1⟩ : ∃ τ1, τ1 = setI τ (z + 1081) k (nI (f k)) := ⟨_, rfl⟩
        have hT1 : Sh τ1 z := by rw [e1]; exact hT
        have hF1 : Fr (PL z [(1081, none)]) σ τ1 := by rw [e1]; exact i1.aS (o := 1081) rfl
        have v1 : ∀ i, i < k + 1 → s_i τ1 (z + 1081) i = nI (f i) := fun i hi => by
          rw [e1]
          by_cases e : i = k
          · rw [e, gi_eq]
          · rw [gi_nj e]; exact i2 i (by omega)
        have g5 : s_i τ1 (z + 1064) 7 = nI nt := (hF1.ki hS 1064 7 (by decide) rfl).trans h5
        rw [if_neg (nI_ge hk (by omega)), e_1064_32 hT, (hf k).2, s_1081 hT b7, ← e1, e_1064_32 hT1, a_1081 hT1 b7, v1 k (by omega), e_1064_i hT1, g5]
        by_cases c : f k < nt
        · left
          obtain ⟨r, r1, r2⟩ := loopF_inv (b := fun u : Int32 × Int32 => lX7_take_51 (nI k) τ1 (z + 1064) u.1 u.2) (fun j s => s.2 = nI j ∧ ((s.1 = 0 ∧ Unl f k ∧ ∀ i, i < j → f i ≠ f k) ∨ (s.1 = 1 ∧ ¬ (Unl f k ∧ ∀ i, i < j → f i ≠ f k)))) k (Q := fun r => (r = 0 ∧ Unl f (k + 1)) ∨ (r = 1 ∧ ¬ Unl f (k + 1))) (by
              rintro j ⟨u, v⟩ hj ⟨j1, j2⟩
              simp only at j1 j2
              subst j1
              show ∃ t, lX7_take_51 (nI k) τ1 (z + 1064) u (nI j) = _ ∧ _
              unfold lX7_take_51
              rw [if_neg (nI_ge hj (by omega))]
              simp only [jn, nI_1, e_1064_32 hT1, a_1081 hT1 b7, a_1081 hT1 (show j < 7 by omega), v1 k (by omega), v1 j (by omega)]
              rcases j2 with ⟨j2, j3, j4⟩ | ⟨j2, j3⟩
              · subst j2
                rw [if_pos rfl]
                by_cases c : f j = f k
                · rw [if_pos (by rw [c])]
                  exact ⟨_, rfl, rfl, Or.inr ⟨rfl, fun q => q.2 j (by omega) c⟩⟩
                · rw [if_neg (fun q => c ((nI_eq (by have := (hf j).1; omega) (by have := (hf k).1; omega)).mp q))]
                  refine ⟨_, rfl, rfl, Or.inl ⟨rfl, j3, fun i hi => ?_⟩⟩
                  by_cases e : i = j
                  · rw [e]; exact c
                  · exact j4 i (by omega)
              · subst j2
                rw [if_neg (by decide)]
                exact ⟨_, rfl, rfl, Or.inr ⟨rfl, fun q => j3 ⟨q.1, fun i hi => q.2 i (by omega)⟩⟩⟩) (by
              rintro ⟨u, v⟩ ⟨j1, j2⟩
              simp only at j1 j2
              subst j1
              show ∃ t, lX7_take_51 (nI k) τ1 (z + 1064) u (nI k) = _ ∧ _
              unfold lX7_take_51
              rw [if_pos (nI_le (Nat.le_refl k) (by omega))]
              refine ⟨_, rfl, ?_⟩
              rcases j2 with ⟨j2, j3⟩ | ⟨j2, j3⟩
              · exact Or.inl ⟨j2, Unl.succ.mpr j3⟩
              · exact Or.inr ⟨j2, fun q => j3 (Unl.succ.mp q)⟩) (s := (y, 0)) ⟨rfl, by
                rcases i4 with ⟨i4, i6⟩ | ⟨i4, i6⟩
                · exact Or.inl ⟨i4, i6, fun i hi => absurd hi (Nat.not_lt_zero i)⟩
                · exact Or.inr ⟨i4, fun q => i6 q.1⟩⟩ fuel (fuel_lt (by omega))
          rw [if_pos (nI_lt c (by omega)), r1, sb, nI_1]
          refine ⟨_, rfl, ⟨k + 1, hk, rfl, hF1, v1, fun i hi => ?_, r2⟩, ?_⟩
          · by_cases e : i = k
            · rw [e]; exact c
            · exact i3 i (by omega)
          · show m - (nI (k + 1)).toNatClampNeg < m - (nI k).toNatClampNeg
            rw [nI_clamp (by omega), nI_clamp (by omega)]
            omega
        · right
          rw [if_neg (nI_nlt (by omega) (by have := (hf k).1; omega))]
          exact ⟨_, rfl, hF1, fun q => c (q k hk)⟩) fuel (σ, 0, 0) ⟨0, Nat.zero_le _, rfl, Fr.refl, fun i hi => absurd hi (Nat.not_lt_zero i), fun i hi => absurd hi (Nat.not_lt_zero i), Or.inl ⟨rfl, fun i j h1 h2 => absurd h2 (Nat.not_lt_zero j)⟩⟩ (by
      show m - _ < fuel
      exact fuel_lt (by omega))
  have M := Eq.refl (fX7_take σ (z + 1064) a (nI m))
  conv at M => rhs; unfold fX7_take
  rw [e, sb] at M
  cases r with
  | inl τ => exact ⟨_, _, M, q.1, Or.inl ⟨rfl, q.2⟩⟩
  | inr s =>
    obtain ⟨τ, x⟩ := s
    obtain ⟨q1, q2, q3, q4⟩ := q
    simp only at q1 q2 q4
    simp only [sm, un2] at M
    rcases q4 with ⟨rfl, q4⟩ | ⟨rfl, q4⟩
    · rw [if_pos rfl] at M
      exact ⟨_, _, M, q1, Or.inr (Or.inr ⟨rfl, q3, q4, q2⟩)⟩
    · rw [if_neg (by decide)] at M
      exact ⟨_, _, M, q1, Or.inr (Or.inl ⟨rfl, q3, q4⟩)⟩
end HAND
