set_option maxRecDepth 100000
/-! huts: their places, how far; nearest, gains -/
def Hu (σ : St) (z n : Nat) : Prop := Hn σ z n ∧ ∀ h, h < n → ∃ p, s_r σ (z + 3) h = some p ∧ s_k σ p = some (.inl 6) ∧ s_i σ p 0 = s_i σ (z + 1065) h ∧ s_i σ p 1 = s_i σ (z + 1066) h
def Hus (σ : St) (z : Nat) : Prop := ∃ n, Hu σ z n
theorem Hn.keep {σ σ' : St} {z n : Nat} {L : PlL} (h : Hn σ z n) (hS : Sh σ z) (hF : Fr (PL z L) σ σ') (hL : (plno L 0 (some 3) && plno L 1064 (some 1)) = true) : Hn σ' z n := by
  simp only [Bool.and_eq_true] at hL
  exact ⟨h.1, (hF.ki hS 0 3 (by decide) hL.1).trans h.2.1, (hF.ki hS 1064 1 (by decide) hL.2).trans h.2.2⟩
theorem Hu.keep {σ σ' : St} {z n : Nat} {L : PlL} (h : Hu σ z n) (hS : Sh σ z) (hF : Fr (PL z L) σ σ') (hL : (plno L 0 (some 3) && plno L 1064 (some 1) && plno L 3 none && plno L 1065 none && plno L 1066 none && plk L (some (.inl 6))) = true) : Hu σ' z n := by
  simp only [Bool.and_eq_true] at hL
  obtain ⟨⟨⟨⟨⟨l1, l2⟩, l3⟩, l4⟩, l5⟩, l6⟩ := hL
  refine ⟨h.1.keep hS hF (by simp only [Bool.and_eq_true]; exact ⟨l1, l2⟩), fun k hk => ?_⟩
  obtain ⟨p, p1, p2, p3, p4⟩ := h.2 k hk
  obtain ⟨q1, q2⟩ := hF.kd hS p2 l6
  exact ⟨p, by rw [hF.kra hS 3 (by decide) l3]; exact p1, q1, by rw [(q2 0).1, hF.kia hS 1065 (by decide) l4]; exact p3, by rw [(q2 1).1, hF.kia hS 1066 (by decide) l5]; exact p4⟩
/-- how far two huts lie -/
def farS (σ : St) (z a b : Nat) : Int32 := jabs (s_i σ (z + 1065) a - s_i σ (z + 1065) b) + jabs (s_i σ (z + 1066) a - s_i σ (z + 1066) b)
theorem jabs_sym (x y : Int32) : jabs (x - y) = jabs (y - x) := by
  have e : y - x = -(x - y) := (Int32.neg_sub).symm
  rw [e]
  generalize x - y = d
  unfold jabs
  rw [Int32.zero_sub, Int32.zero_sub, Int32.neg_neg]
  by_cases h0 : d = Int32.minValue
  · subst h0; decide
  · have h1 : (-d).toInt = -d.toInt := by
      have a1 := Int32.le_toInt d
      have a2 := Int32.toInt_lt d
      have a3 : d.toInt ≠ -2147483648 := fun q => h0 (i32_eq.mpr (by rw [q]; decide))
      rw [Int32.toInt_neg]
      exact Int.bmod_eq_of_le (by omega) (by omega)
    by_cases h2 : 0 ≤ d
    · rw [if_pos h2]
      by_cases h3 : 0 ≤ -d
      · rw [if_pos h3]
        rw [i32_le] at h2 h3
        rw [h1] at h3
        rw [i32_eq, h1]
        simp at h2 h3
        omega
      · rw [if_neg h3]
    · rw [if_neg h2]
      have h3 : 0 ≤ -d := by
        rw [i32_le] at h2 ⊢
        rw [h1]
        simp at h2 ⊢
        omega
      rw [if_pos h3]
theorem farS_sym (σ : St) (z a b : Nat) : farS σ z a b = farS σ z b a := by unfold farS; rw [jabs_sym, jabs_sym (s_i σ (z + 1066) a)]
section HUTS
variable {σ : St} {z n : Nat}
theorem farOf_eq (hS : Sh σ z) {a b : Nat} (ha : a < 6) (hb : b < 6) : fX7_farOf σ (z + 1064) (nI a) (nI b) = some (farS σ z a b) := by
  unfold fX7_farOf
  rw [e_1064_2 hS, a_1065 hS ha, e_1064_2 hS, a_1065 hS hb, jabs_much, sb, e_1064_3 hS, a_1066 hS ha, e_1064_3 hS, a_1066 hS hb, jabs_much, sb]
  rfl
theorem far8_eq (h : Hu σ z n) {a b p q : Nat} (ha : a < n) (hb : b < n) (hp : s_r σ (z + 3) a = some p) (hq : s_r σ (z + 3) b = some q) : s_k σ p = some (.inl 6) ∧ fX8_far σ p q = some (farS σ z a b) := by
  obtain ⟨p', p1, p2, p3, p4⟩ := h.2 a ha
  obtain ⟨q', q1, q2, q3, q4⟩ := h.2 b hb
  cases p1.symm.trans hp
  cases q1.symm.trans hq
  refine ⟨p2, ?_⟩
  unfold fX8_far
  simp only [o_gI_eq p2, o_gI_eq q2, o_let, p3, q3, p4, q4]
  rfl
theorem far_sim (hS : Sh σ z) (h : Hu σ z n) (a b : Int32) : ∃ v, fX0_far σ z a b = some v ∧ fX7_far σ (z + 1064) a b = some v := by
  unfold fX0_far fX7_far
  simp only [jn, e_0_k hS, e_1064_k hS, isHut_eq hS h.1, isHutM_eq hS h.1, sb, if01]
  have hn := h.1.1
  by_cases c1 : 0 ≤ a ∧ a ≤ nI n - 1
  · by_cases c2 : 0 ≤ b ∧ b ≤ nI n - 1
    · obtain ⟨ka, hka, rfl⟩ := in_nat (by omega) c1
      obtain ⟨kb, hkb, rfl⟩ := in_nat (by omega) c2
      obtain ⟨p, p1, p2, -⟩ := h.2 ka hka
      obtain ⟨q, q1, q2, -⟩ := h.2 kb hkb
      rw [if_pos c1, if_pos c2, if_pos c1, if_pos c2, e_0_2 hS, a_3 hS (by omega) p1, e_0_2 hS, a_3 hS (by omega) q1, o_k_eq p2, (far8_eq h hka hkb p1 q1).2, farOf_eq hS (by omega) (by omega)]
      exact ⟨_, rfl, rfl⟩
    · rw [if_pos c1, if_neg c2, if_pos c1, if_neg c2]; exact ⟨_, rfl, rfl⟩
  · rw [if_neg c1, if_neg c1]; exact ⟨_, rfl, rfl⟩
/-- the nearest hut so far -/
def nrS (f : Nat → Nat → Int32) (h : Nat) : Nat → Int32
  | 0 => -1
  | k + 1 => if k = h then nrS f h k else if nrS f h k = -1 then nI k else if f h (nrS f h k).toNatClampNeg ≤ f h k then nrS f h k else nI k
theorem nrS_in (f : Nat → Nat → Int32) (h : Nat) : ∀ k, k < 2 ^ 31 → (nrS f h k = -1 ∧ ∀ j, j < k → j = h) ∨ ∃ j, j < k ∧ nrS f h k = nI j
  | 0, _ => Or.inl ⟨rfl, fun j hj => absurd hj (Nat.not_lt_zero j)⟩
  | k + 1, hk => by
    have ih := nrS_in f h k (by omega)
    unfold nrS
    by_cases c1 : k = h
    · rw [if_pos c1]
      rcases ih with ⟨q, hq⟩ | ⟨j, hj, e⟩
      · exact Or.inl ⟨q, fun j hj => by by_cases hjk : j = k; · rw [hjk, c1]
                                        · exact hq j (by omega)⟩
      · exact Or.inr ⟨j, by omega, e⟩
    · rw [if_neg c1]
      split
      · exact Or.inr ⟨k, by omega, rfl⟩
      · split
        · rcases ih with ⟨q, -⟩ | ⟨j, hj, e⟩
          · next h9 _ => exact absurd q h9
          · exact Or.inr ⟨j, by omega, e⟩
        · exact Or.inr ⟨k, by omega, rfl⟩
theorem neg1_ne {k : Nat} (h : k < 2 ^ 31) : ¬ nI k = -1 := fun q => by
  have := i32_eq.mp q
  have h2 : (-1 : Int32).toInt = -1 := by decide
  rw [nI_toInt h, h2] at this
  omega
theorem nearest_eq (hS : Sh σ z) (h : Hu σ z n) {a : Nat} (ha : a < n) : fX0_nearest σ z (nI a) = some (nrS (farS σ z) a n) := by
  have hn := h.1.1
  have key : loopF fuel (fun y => lX0_nearest_4 σ z (nI a) y.1 y.2) (-1, 0) = some (nrS (farS σ z) a n) := by
    refine loopF_seq (st := fun k => (nrS (farS σ z) a k, nI k)) n (fun k hk => ?_) ?_ fuel (fuel_lt (by omega))
    · show lX0_nearest_4 σ z (nI a) (nrS (farS σ z) a k) (nI k) = _
      unfold lX0_nearest_4
      simp only [jn, nI_1]
      rw [e_0_i hS, h.1.2.1, if_neg (nI_ge hk (by omega))]
      show _ = some (Sum.inl (nrS (farS σ z) a (k + 1), nI (k + 1)))
      conv => rhs; unfold nrS
      by_cases c1 : k = a
      · rw [if_pos (by rw [c1]), if_pos c1]
      · rw [if_neg (fun q => c1 ((nI_eq (by omega) (by omega)).mp q)), if_neg c1]
        by_cases c2 : nrS (farS σ z) a k = -1
        · rw [if_pos c2, if_pos c2]
        · rw [if_neg c2, if_neg c2]
          rcases nrS_in (farS σ z) a k (by omega) with ⟨q, -⟩ | ⟨j, hj, e⟩
          · exact absurd q c2
          · obtain ⟨p, p1, p2, -⟩ := h.2 k hk
            obtain ⟨pa, pa1, pa2, -⟩ := h.2 a ha
            obtain ⟨pj, pj1, pj2, -⟩ := h.2 j (by omega)
            rw [e, nI_clamp (by omega), e_0_2 hS, a_3 hS (by omega) p1, e_0_2 hS, a_3 hS (by omega) pa1, o_k_eq p2, (far8_eq h hk ha p1 pa1).2, sb, e_0_2 hS, a_3 hS (by omega) pj1, e_0_2 hS, a_3 hS (by omega) pa1, o_k_eq pj2, (far8_eq h (by omega) ha pj1 pa1).2, sb, farS_sym σ z j a, farS_sym σ z k a]
            split <;> rfl
    · show lX0_nearest_4 σ z (nI a) (nrS (farS σ z) a n) (nI n) = _
      unfold lX0_nearest_4
      rw [e_0_i hS, h.1.2.1, if_pos (nI_le (Nat.le_refl n) (by omega))]
  unfold fX0_nearest
  rw [key, sb]
theorem nearestM_eq (hS : Sh σ z) (h : Hn σ z n) {a : Nat} (ha : a < n) : fX7_nearest σ (z + 1064) (nI a) = some (nrS (farS σ z) a n) := by
  have hn := h.1
  have key : loopF fuel (fun y => lX7_nearest_4 σ (z + 1064) (nI a) y.1 y.2) (-1, 0) = some (nrS (farS σ z) a n) := by
    refine loopF_seq (st := fun k => (nrS (farS σ z) a k, nI k)) n (fun k hk => ?_) ?_ fuel (fuel_lt (by omega))
    · show lX7_nearest_4 σ (z + 1064) (nI a) (nrS (farS σ z) a k) (nI k) = _
      unfold lX7_nearest_4
      simp only [jn, nI_1]
      rw [e_1064_i hS, h.2.2, if_neg (nI_ge hk (by omega))]
      show _ = some (Sum.inl (nrS (farS σ z) a (k + 1), nI (k + 1)))
      conv => rhs; unfold nrS
      by_cases c1 : k = a
      · rw [if_pos (by rw [c1]), if_pos c1]
      · rw [if_neg (fun q => c1 ((nI_eq (by omega) (by omega)).mp q)), if_neg c1]
        by_cases c2 : nrS (farS σ z) a k = -1
        · rw [if_pos c2, if_pos c2]
        · rw [if_neg c2, if_neg c2]
          rcases nrS_in (farS σ z) a k (by omega) with ⟨q, -⟩ | ⟨j, hj, e⟩
          · exact absurd q c2
          · rw [e, nI_clamp (by omega), e_1064_k hS, farOf_eq hS (by omega) (by omega), sb, e_1064_k hS, farOf_eq hS (by omega) (by omega), sb]
            split <;> rfl
    · show lX7_nearest_4 σ (z + 1064) (nI a) (nrS (farS σ z) a n) (nI n) = _
      unfold lX7_nearest_4
      rw [e_1064_i hS, h.2.2, if_pos (nI_le (Nat.le_refl n) (by omega))]
  unfold fX7_nearest
  rw [key, sb]
end HUTS
/-- settings -/
def Se (σ : St) (z : Nat) : Prop := s_i σ (z + 5) 0 = s_i σ (z + 1064) 13 ∧ s_i σ (z + 5) 1 = s_i σ (z + 1064) 14 ∧ s_i σ (z + 5) 2 = s_i σ (z + 1064) 15 ∧ s_i σ (z + 5) 3 = s_i σ (z + 1064) 16 ∧ s_i σ (z + 5) 4 = s_i σ (z + 1064) 17
theorem Se.keep {σ σ' : St} {z : Nat} {L : PlL} (h : Se σ z) (hS : Sh σ z) (hF : Fr (PL z L) σ σ') (hL : (plno L 5 none && plno L 1064 (some 13) && plno L 1064 (some 14) && plno L 1064 (some 15) && plno L 1064 (some 16) && plno L 1064 (some 17)) = true) : Se σ' z := by
  simp only [Bool.and_eq_true] at hL
  obtain ⟨⟨⟨⟨⟨l1, l2⟩, l3⟩, l4⟩, l5⟩, l6⟩ := hL
  unfold Se
  rw [hF.kia hS 5 (by decide) l1, hF.kia hS 5 (by decide) l1, hF.kia hS 5 (by decide) l1, hF.kia hS 5 (by decide) l1, hF.kia hS 5 (by decide) l1, hF.ki hS 1064 13 (by decide) l2, hF.ki hS 1064 14 (by decide) l3, hF.ki hS 1064 15 (by decide) l4, hF.ki hS 1064 16 (by decide) l5, hF.ki hS 1064 17 (by decide) l6]
  exact h
