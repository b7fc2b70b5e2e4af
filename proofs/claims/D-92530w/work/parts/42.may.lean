set_option maxRecDepth 100000
/-! tastes that are not known: may, parting -/
/-- whether the choices so far fit -/
def mbS (c : Nat → Int32) (a b : Int32) : Nat → Int32
  | 0 => 1
  | k + 1 => if mbS c a b k = 0 then 0 else if (if a * (c (5 * k) - c (5 * k + 2)) + b * (c (5 * k + 1) - c (5 * k + 3)) < 0 then (0 : Int32) else 1) = c (5 * k + 4) then 1 else 0
theorem mbS_01 (c : Nat → Int32) (a b : Int32) : ∀ k, mbS c a b k = 0 ∨ mbS c a b k = 1
  | 0 => Or.inr rfl
  | k + 1 => by
    unfold mbS
    (repeat' split) <;> simp
theorem ten_add (a b : Nat) : 10 * nI a + nI b = nI (10 * a + b) := by
  rw [← nI_add (10 * a) b, ← nI_mul 10 a]
  rfl
def Chn (σ : St) (z n : Nat) : Prop := n ≤ 16 ∧ s_i σ z 27 = nI n ∧ s_i σ (z + 1064) 43 = nI n ∧ ∀ k, k < n → (∃ p, s_r σ (z + 35) k = some p ∧ Dy σ z p (.inl 15) ∧ s_i σ p 0 = s_i σ (z + 1090) (5 * k) - s_i σ (z + 1090) (5 * k + 2) ∧ s_i σ p 1 = s_i σ (z + 1090) (5 * k + 1) - s_i σ (z + 1090) (5 * k + 3)) ∧ (s_i σ (z + 1090) (5 * k + 4) = 0 ∨ s_i σ (z + 1090) (5 * k + 4) = 1) ∧ s_i σ (z + 36) k = s_i σ (z + 1090) (5 * k + 4)
section MAY
variable {σ : St} {z n : Nat}
theorem mayBe_eq (hS : Sh σ z) (h : Chn σ z n) (a b : Int32) : fX0_mayBe σ z a b = some (mbS (s_i σ (z + 1090)) a b n) := by
  obtain ⟨h1, h2, h3, h4⟩ := h
  have key : loopF fuel (fun y => lX0_mayBe_5 σ z a b y.1 y.2) (1, 0) = some (mbS (s_i σ (z + 1090)) a b n) := by
    refine loopF_seq (st := fun k => (mbS (s_i σ (z + 1090)) a b k, nI k)) n (fun k hk => ?_) ?_ fuel (fuel_lt (by omega))
    · show lX0_mayBe_5 σ z a b (mbS (s_i σ (z + 1090)) a b k) (nI k) = _
      unfold lX0_mayBe_5
      obtain ⟨⟨p, p1, p2, p3, p4⟩, p5, p6⟩ := h4 k hk
      rw [e_0_i hS, h2, if_neg (nI_ge hk (by omega))]
      simp only [jn, nI_1, mbS, e_0_25 hS, a_35 hS (show k < 16 by omega) p1, o_k_eq p2.1, fX18_isFirst, o_gI_eq p2.1, p3, p4, e_0_26 hS, a_36 hS (show k < 16 by omega), p6]
      split
      · rfl
      · split
        · rw [sb]; split <;> rfl
        · rw [sb]; split <;> rfl
    · show lX0_mayBe_5 σ z a b (mbS (s_i σ (z + 1090)) a b n) (nI n) = _
      unfold lX0_mayBe_5
      rw [e_0_i hS, h2, if_pos (nI_le (Nat.le_refl n) (by omega))]
  unfold fX0_mayBe
  rw [key, sb]
  exact if_pos (mbS_01 _ _ _ _)
theorem mayBeM_eq (hS : Sh σ z) (h : Chn σ z n) (a b : Int32) : fX7_mayBe σ (z + 1064) a b = some (mbS (s_i σ (z + 1090)) a b n) := by
  obtain ⟨h1, h2, h3, h4⟩ := h
  have key : loopF fuel (fun y => lX7_mayBe_5 σ (z + 1064) a b y.1 y.2) (1, 0) = some (mbS (s_i σ (z + 1090)) a b n) := by
    refine loopF_seq (st := fun k => (mbS (s_i σ (z + 1090)) a b k, nI k)) n (fun k hk => ?_) ?_ fuel (fuel_lt (by omega))
    · show lX7_mayBe_5 σ (z + 1064) a b (mbS (s_i σ (z + 1090)) a b k) (nI k) = _
      unfold lX7_mayBe_5
      obtain ⟨-, p5, p6⟩ := h4 k hk
      rw [e_1064_i hS, h3, if_neg (nI_ge hk (by omega))]
      simp only [jn, o_let, nI_1, mbS, e_1064_44 hS, nI_mul5, nI_hi 1 1 _ rfl, nI_hi 2 2 _ rfl, nI_hi 3 3 _ rfl, nI_hi 4 4 _ rfl, a_1090 hS (show 5 * k < 80 by omega), a_1090 hS (show 5 * k + 1 < 80 by omega), a_1090 hS (show 5 * k + 2 < 80 by omega), a_1090 hS (show 5 * k + 3 < 80 by omega), a_1090 hS (show 5 * k + 4 < 80 by omega)]
      rcases p5 with p5 | p5
      · rw [p5]
        split
        · rfl
        · split
          · rfl
          · rfl
      · rw [p5]
        split
        · rfl
        · split
          · rfl
          · rfl
    · show lX7_mayBe_5 σ (z + 1064) a b (mbS (s_i σ (z + 1090)) a b n) (nI n) = _
      unfold lX7_mayBe_5
      rw [e_1064_i hS, h3, if_pos (nI_le (Nat.le_refl n) (by omega))]
  unfold fX7_mayBe
  rw [key, sb]
  exact if_pos (mbS_01 _ _ _ _)
end MAY
/-- may: so many of the 36 were gone through, from the last on -/
def myS (mb : Nat → Int32) : Nat → Int32 × Int32
  | 0 => (0, -1)
  | j + 1 => if mb (35 - j) = 0 then myS mb j else ((myS mb j).1 + 1, nI (10 * ((35 - j) / 6) + (35 - j) % 6))
theorem m35 : ∀ j, j < 36 → (35 : Int32) - nI j = nI (35 - j) ∧ ¬ (35 : Int32) - nI j < 0 ∧ (35 - nI j) / 6 = nI ((35 - j) / 6) ∧ (35 - nI j) - (35 - nI j) / 6 * 6 = nI ((35 - j) % 6) ∧ (35 : Int32) - nI j + (-1) = 35 - nI (j + 1) := by decide +kernel
theorem m36 : ∀ v, v < 36 → nI v / 6 = nI (v / 6) ∧ nI v - nI v / 6 * 6 = nI (v % 6) := by decide +kernel
theorem m5 : ∀ i, i < 6 → ¬ (5 : Int32) - nI i < 0 ∧ (5 : Int32) - nI i + (-1) = 5 - nI (i + 1) ∧ ∀ j, j < 6 → (5 : Int32) - nI i = nI ((35 - (6 * i + j)) / 6) ∧ (5 : Int32) - nI j = nI ((35 - (6 * i + j)) % 6) := by decide +kernel
section MAY2
variable {σ : St} {z n : Nat}
theorem mayM_loop (hS : Sh σ z) (h : Chn σ z n) : loopF fuel (fun y => lX7_may_20 σ (z + 1064) y.1 y.2.1 y.2.2) (0, (-1), 35) = some (myS (fun v => mbS (s_i σ (z + 1090)) (nI (v / 6)) (nI (v % 6)) n) 36) := by
  obtain ⟨mb, hmb⟩ : ∃ mb : Nat → Int32, mb = fun v => mbS (s_i σ (z + 1090)) (nI (v / 6)) (nI (v % 6)) n := ⟨_, rfl⟩
  rw [← hmb]
  refine loopF_seq (st := fun j => ((myS mb j).1, (myS mb j).2, 35 - nI j)) 36 (fun j hj => ?_) ?_ fuel (fuel_lt (by decide))
  · obtain ⟨q1, q2, q3, q4, q5⟩ := m35 j hj
    show lX7_may_20 σ (z + 1064) (myS mb j).1 (myS mb j).2 (35 - nI j) = _
    unfold lX7_may_20
    rw [if_neg q2, q4, q3, e_1064_k hS, mayBeM_eq hS h, sb]
    have e : mbS (s_i σ (z + 1090)) (nI ((35 - j) / 6)) (nI ((35 - j) % 6)) n = mb (35 - j) := by rw [hmb]
    simp only [jn, q5, myS]
    rw [e]
    by_cases c : mb (35 - j) = 0
    · rw [if_pos c, if_pos c, if_pos c, Int32.add_zero]
    · rw [if_neg c, if_neg c, if_neg c]
      rw [ten_add]
  · show lX7_may_20 σ (z + 1064) (myS mb 36).1 (myS mb 36).2 (35 - nI 36) = _
    unfold lX7_may_20
    rw [if_pos (by decide)]
theorem may_loop (hS : Sh σ z) (h : Chn σ z n) : loopF fuel (fun y => lX0_may_20 σ z y.1 y.2.1 y.2.2) (0, (-1), 5) = some (myS (fun v => mbS (s_i σ (z + 1090)) (nI (v / 6)) (nI (v % 6)) n) 36) := by
  obtain ⟨mb, hmb⟩ : ∃ mb : Nat → Int32, mb = fun v => mbS (s_i σ (z + 1090)) (nI (v / 6)) (nI (v % 6)) n := ⟨_, rfl⟩
  rw [← hmb]
  have inner : ∀ i, i < 6 → loopF fuel (fun y => lX0_may_28 σ z (5 - nI i) y.1 y.2.1 y.2.2) ((myS mb (6 * i)).1, (myS mb (6 * i)).2, 5) = some (myS mb (6 * i + 6)) := by
    intro i hi
    refine loopF_seq (st := fun j => ((myS mb (6 * i + j)).1, (myS mb (6 * i + j)).2, 5 - nI j)) 6 (fun j hj => ?_) ?_ fuel (fuel_lt (by decide))
    · obtain ⟨-, -, q3⟩ := m5 i hi
      obtain ⟨q1, q2, -⟩ := m5 j hj
      obtain ⟨q3, q4⟩ := q3 j hj
      show lX0_may_28 σ z (5 - nI i) (myS mb (6 * i + j)).1 (myS mb (6 * i + j)).2 (5 - nI j) = _
      unfold lX0_may_28
      rw [if_neg q1, e_0_k hS]
      simp only [e_0_k hS]
      rw [q2, q3, q4, mayBe_eq hS h, sb]
      have e : mbS (s_i σ (z + 1090)) (nI ((35 - (6 * i + j)) / 6)) (nI ((35 - (6 * i + j)) % 6)) n = mb (35 - (6 * i + j)) := by rw [hmb]
      simp only [jn, sb, mayBe_eq hS h]
      rw [e, show 6 * i + (j + 1) = (6 * i + j) + 1 by omega]
      simp only [myS]
      by_cases c : mb (35 - (6 * i + j)) = 0
      · rw [if_pos c, if_pos c, if_pos c, Int32.add_zero]
      · rw [if_neg c, if_neg c, if_neg c]
        rw [ten_add]
    · show lX0_may_28 σ z (5 - nI i) (myS mb (6 * i + 6)).1 (myS mb (6 * i + 6)).2 (5 - nI 6) = _
      unfold lX0_may_28
      rw [if_pos (by decide)]
  refine loopF_seq (st := fun i => ((myS mb (6 * i)).1, (myS mb (6 * i)).2, 5 - nI i)) 6 (fun i hi => ?_) ?_ fuel (fuel_lt (by decide))
  · obtain ⟨q1, q2, -⟩ := m5 i hi
    show lX0_may_20 σ z (myS mb (6 * i)).1 (myS mb (6 * i)).2 (5 - nI i) = _
    unfold lX0_may_20
    rw [if_neg q1, inner i hi, sb, q2]
    rfl
  · show lX0_may_20 σ z (myS mb 36).1 (myS mb 36).2 (5 - nI 6) = _
    unfold lX0_may_20
    rw [if_pos (by decide)]
theorem may_eq (hS : Sh σ z) (h : Chn σ z n) : fX0_may σ z 0 = some (myS (fun v => mbS (s_i σ (z + 1090)) (nI (v / 6)) (nI (v % 6)) n) 36).1 := by
  unfold fX0_may
  rw [isIn_lit σ σ 0 0 1 (lo' := 0) (hi' := 1) rfl rfl, in_eq, sb, if01, if_pos (by decide), may_loop hS h, sb]
  rfl
theorem may_sim (hS : Sh σ z) (hC : Ch σ z) (a : Int32) : ∃ v, fX0_may σ z a = some v ∧ fX7_may σ (z + 1064) a = some v := by
  obtain ⟨n, h⟩ := hC
  unfold fX0_may fX7_may
  rw [isIn_lit σ σ a 0 1 (lo' := 0) (hi' := 1) rfl rfl, in_eq, sb, sb, if01, if01, may_loop hS h, mayM_loop hS h, sb]
  split
  · simp only [un2]
    split <;> exact ⟨_, rfl, rfl⟩
  · exact ⟨_, rfl, rfl⟩
end MAY2

/-- parting: the sum over the 36, and how many there were -/
def ofS (mb pf : Nat → Int32) : Nat → Int32
  | 0 => 0
  | v + 1 => ofS mb pf v + (if mb v = 0 then 0 else if pf v = 0 then -1 else 1)
def anS (mb : Nat → Int32) (x : Int32) : Nat → Int32
  | 0 => x
  | v + 1 => if mb v = 0 then anS mb x v else anS mb x v + 1
theorem i32_add {a b : Int32} (h1 : -2147483648 ≤ a.toInt + b.toInt) (h2 : a.toInt + b.toInt < 2147483648) : (a + b).toInt = a.toInt + b.toInt := by
  rw [Int32.toInt_add]
  exact Int.bmod_eq_of_le (by omega) (by omega)
theorem ofS_le (mb pf : Nat → Int32) : ∀ v : Nat, v ≤ 36 → -(v : Int) ≤ (ofS mb pf v).toInt ∧ (ofS mb pf v).toInt ≤ v
  | 0, _ => ⟨by show -((0 : Nat) : Int) ≤ (0 : Int32).toInt; decide, by show (0 : Int32).toInt ≤ ((0 : Nat) : Int); decide⟩
  | v + 1, h => by
    have ih := ofS_le mb pf v (by omega)
    unfold ofS
    have z0 : (0 : Int32).toInt = 0 := rfl
    have z1 : (1 : Int32).toInt = 1 := rfl
    have z2 : (-1 : Int32).toInt = -1 := rfl
    split
    · rw [i32_add (by omega) (by omega), z0]; omega
    · split
      · rw [i32_add (by omega) (by omega), z2]; omega
      · rw [i32_add (by omega) (by omega), z1]; omega
theorem jabs_of {x : Int32} {n : Nat} (h1 : -(n : Int) ≤ x.toInt) (h2 : x.toInt ≤ n) (hn : n < 2 ^ 30) : (jabs x).toInt ≤ n := by
  unfold jabs
  split
  · exact h2
  · rw [Int32.toInt_sub]
    have : (0 : Int32).toInt = 0 := rfl
    rw [this, Int.bmod_eq_of_le (by omega) (by omega)]
    omega
theorem anS_eq (mb : Nat → Int32) (m : Nat) : ∀ v, ∃ k, anS mb (nI m) v = nI (m + k) ∧ k ≤ v ∧ (k = 0 ↔ ∀ u, u < v → mb u = 0)
  | 0 => ⟨0, rfl, Nat.le_refl 0, ⟨fun _ u hu => absurd hu (Nat.not_lt_zero u), fun _ => rfl⟩⟩
  | v + 1 => by
    obtain ⟨k, h1, h2, h3⟩ := anS_eq mb m v
    unfold anS
    by_cases c : mb v = 0
    · rw [if_pos c]
      refine ⟨k, h1, by omega, ⟨fun h u hu => ?_, fun h => h3.mpr fun u hu => h u (by omega)⟩⟩
      by_cases e : u = v
      · rw [e]; exact c
      · exact h3.mp h u (by omega)
    · rw [if_neg c]
      refine ⟨k + 1, by rw [h1, nI_1]; rfl, by omega, ⟨fun h => by omega, fun h => absurd (h v (by omega)) c⟩⟩
theorem myS_eq (mb : Nat → Int32) : ∀ j, j ≤ 36 → ∃ k, (myS mb j).1 = nI k ∧ k ≤ j ∧ (k = 0 ↔ ∀ u, 36 - j ≤ u → u < 36 → mb u = 0)
  | 0, _ => ⟨0, rfl, Nat.le_refl 0, ⟨fun _ u hu hu2 => by omega, fun _ => rfl⟩⟩
  | j + 1, hj => by
    obtain ⟨k, h1, h2, h3⟩ := myS_eq mb j (by omega)
    unfold myS
    by_cases c : mb (35 - j) = 0
    · rw [if_pos c]
      refine ⟨k, h1, by omega, ⟨fun h u hu hu2 => ?_, fun h => h3.mpr fun u hu hu2 => h u (by omega) hu2⟩⟩
      by_cases e : u = 35 - j
      · rw [e]; exact c
      · exact h3.mp h u (by omega) hu2
    · rw [if_neg c]
      refine ⟨k + 1, by show (myS mb j).1 + 1 = _; rw [h1, nI_1], by omega, ⟨fun h => by omega, fun h => absurd (h (35 - j) (by omega) (by omega)) c⟩⟩
/-- two loops in step, by turns -/
theorem loopF_two {S R S' R' : Type} {b : S → Option (S ⊕ R)} {b' : S' → Option (S' ⊕ R')} (I : Nat → S → S' → Prop) (N : Nat) {Q : R → R' → Prop} (hstep : ∀ k s s', k < N → I k s s' → ∃ t t', b s = some (.inl t) ∧ b' s' = some (.inl t') ∧ I (k + 1) t t') (hend : ∀ s s', I N s s' → ∃ r r', b s = some (.inr r) ∧ b' s' = some (.inr r') ∧ Q r r') {s : S} {s' : S'} (h0 : I 0 s s') : ∀ fuel, N < fuel → ∃ r r', loopF fuel b s = some r ∧ loopF fuel b' s' = some r' ∧ Q r r' := by
  have key : ∀ j k, k + j = N → ∀ fuel, j < fuel → ∀ s s', I k s s' → ∃ r r', loopF fuel b s = some r ∧ loopF fuel b' s' = some r' ∧ Q r r' := by
    intro j
    induction j with
    | zero =>
      intro k hk fuel hf s s' hs
      obtain ⟨f, rfl⟩ : ∃ f, fuel = f + 1 := ⟨fuel - 1, by omega⟩
      have : k = N := by omega
      subst this
      obtain ⟨r, r', h1, h2, h3⟩ := hend s s' hs
      exact ⟨r, r', by simp only [loopF, h1], by simp only [loopF, h2], h3⟩
    | succ j ih =>
      intro k hk fuel hf s s' hs
      obtain ⟨f, rfl⟩ : ∃ f, fuel = f + 1 := ⟨fuel - 1, by omega⟩
      obtain ⟨t, t', h1, h2, h3⟩ := hstep k s s' (by omega) hs
      obtain ⟨r, r', h4, h5, h6⟩ := ih (k + 1) (by omega) f (by omega) t t' h3
      exact ⟨r, r', by simp only [loopF, h1]; exact h4, by simp only [loopF, h2]; exact h5, h6⟩
  intro fuel hf
  exact key N 0 (by omega) fuel hf s s' h0
section PART
variable {σ : St} {z n : Nat}
theorem parting_sim (hS : Sh σ z) (hC : Ch σ z) (hP : Pa σ z) : ∃ v, fX0_parting σ z = some v ∧ fX7_parting σ (z + 1064) = some v := by
  obtain ⟨n, h⟩ := hC
  obtain ⟨m, h1, h2, h3, h4⟩ := hP
  obtain ⟨mb, hmb⟩ : ∃ mb : Nat → Int32, mb = fun v => mbS (s_i σ (z + 1090)) (nI (v / 6)) (nI (v % 6)) n := ⟨_, rfl⟩
  have hmay := may_eq hS h
  rw [← hmb] at hmay
  obtain ⟨pf, hpf⟩ : ∃ pf : Nat → Nat → Int32, pf = fun k v => if nI (v / 6) * (s_i σ (z + 1091) (4 * k) - s_i σ (z + 1091) (4 * k + 2)) + nI (v % 6) * (s_i σ (z + 1091) (4 * k + 1) - s_i σ (z + 1091) (4 * k + 3)) < 0 then 0 else 1 := ⟨_, rfl⟩
  have inX : ∀ k, k < m → loopF fuel (fun y => lX0_parting_30 σ z (nI k) y.1 y.2) (0, 0) = some (ofS mb (pf k) 36) := by
    intro k hk
    obtain ⟨p, p1, p2, p3, p4⟩ := h4 k hk
    refine loopF_seq (st := fun v => (ofS mb (pf k) v, nI v)) 36 (fun v hv => ?_) ?_ fuel (fuel_lt (by decide))
    · show lX0_parting_30 σ z (nI k) (ofS mb (pf k) v) (nI v) = _
      unfold lX0_parting_30
      rw [if_neg (lit_nle 36 36 v rfl hv (by decide)), e_0_k hS, (m36 v hv).2, (m36 v hv).1, mayBe_eq hS h, sb]
      have e : mbS (s_i σ (z + 1090)) (nI (v / 6)) (nI (v % 6)) n = mb v := by rw [hmb]
      simp only [jn, e, nI_1, ofS, e_0_28 hS, a_37 hS (show k < 8 by omega) p1, o_k_eq p2.1, fX18_isFirst, o_gI_eq p2.1, p3, p4]
      have e2 : pf k v = if nI (v / 6) * (s_i σ (z + 1091) (4 * k) - s_i σ (z + 1091) (4 * k + 2)) + nI (v % 6) * (s_i σ (z + 1091) (4 * k + 1) - s_i σ (z + 1091) (4 * k + 3)) < 0 then 0 else 1 := by rw [hpf]
      rw [e2]
      split
      · rfl
      · split
        · rfl
        · rfl
    · show lX0_parting_30 σ z (nI k) (ofS mb (pf k) 36) (nI 36) = _
      unfold lX0_parting_30
      rw [if_pos (by decide)]
  have inM : ∀ k x, k < m → loopF fuel (fun y => lX7_parting_26 σ (z + 1064) (nI k) y.1 y.2.1 y.2.2) (x, 0, 0) = some (anS mb x 36, ofS mb (pf k) 36) := by
    intro k x hk
    refine loopF_seq (st := fun v => (anS mb x v, ofS mb (pf k) v, nI v)) 36 (fun v hv => ?_) ?_ fuel (fuel_lt (by decide))
    · show lX7_parting_26 σ (z + 1064) (nI k) (anS mb x v) (ofS mb (pf k) v) (nI v) = _
      unfold lX7_parting_26
      rw [if_neg (lit_nle 36 36 v rfl hv (by decide)), e_1064_k hS]
      have m3 : nI v - nI (v / 6) * 6 = nI (v % 6) := by rw [← (m36 v hv).1]; exact (m36 v hv).2
      simp only [(m36 v hv).1, m3, mayBeM_eq hS h, sb]
      have e : mbS (s_i σ (z + 1090)) (nI (v / 6)) (nI (v % 6)) n = mb v := by rw [hmb]
      simp only [jn, o_let, e, nI_1, ofS, anS, e_1064_46 hS, nI_mul4, nI_hi 1 1 _ rfl, nI_hi 2 2 _ rfl, nI_hi 3 3 _ rfl, a_1091 hS (show 4 * k < 32 by omega), a_1091 hS (show 4 * k + 1 < 32 by omega), a_1091 hS (show 4 * k + 2 < 32 by omega), a_1091 hS (show 4 * k + 3 < 32 by omega)]
      have e2 : pf k v = if nI (v / 6) * (s_i σ (z + 1091) (4 * k) - s_i σ (z + 1091) (4 * k + 2)) + nI (v % 6) * (s_i σ (z + 1091) (4 * k + 1) - s_i σ (z + 1091) (4 * k + 3)) < 0 then 0 else 1 := by rw [hpf]
      rw [e2]
      split
      · rw [Int32.add_zero]
      · split
        · rfl
        · rfl
    · show lX7_parting_26 σ (z + 1064) (nI k) (anS mb x 36) (ofS mb (pf k) 36) (nI 36) = _
      unfold lX7_parting_26
      rw [if_pos (by decide)]
  obtain ⟨c, c1, c2, c3⟩ := myS_eq mb 36 (Nat.le_refl 36)
  unfold fX0_parting fX7_parting
  by_cases hc0 : c = 0
  · -- none may be
    have hall : ∀ u, u < 36 → mb u = 0 := fun u hu => c3.mp hc0 u (by omega) hu
    obtain ⟨r, e1, e2⟩ := loopF_inv (b := fun y : Int32 × Int32 × Int32 × Int32 => lX7_parting_11 σ (z + 1064) y.1 y.2.1 y.2.2.1 y.2.2.2) (fun k s => s.2.2.1 = 0 ∧ s.2.2.2 = nI k) m (Q := fun r => r.2 = 0) (by
        rintro k ⟨x1, x2, x3, x4⟩ hk ⟨y1, y2⟩
        simp only at y1 y2
        subst y1; subst y2
        show ∃ t, lX7_parting_11 σ (z + 1064) x1 x2 0 (nI k) = _ ∧ _
        unfold lX7_parting_11
        rw [e_1064_i hS, h3, if_neg (nI_ge hk (by omega)), inM k 0 hk, sb]
        obtain ⟨j, j1, -, j3⟩ := anS_eq mb 0 36
        have ea : anS mb 0 36 = 0 := by
          have := j3.mpr hall
          subst this
          exact j1
        simp only [un2, jabs_much, sb, jn, nI_1, ea]
        (repeat' split) <;> exact ⟨_, rfl, rfl, rfl⟩) (by
        rintro ⟨x1, x2, x3, x4⟩ ⟨y1, y2⟩
        simp only at y1 y2
        subst y1; subst y2
        show ∃ r, lX7_parting_11 σ (z + 1064) x1 x2 0 (nI m) = _ ∧ _
        unfold lX7_parting_11
        rw [e_1064_i hS, h3, if_pos (nI_le (Nat.le_refl m) (by omega))]
        exact ⟨_, rfl, rfl⟩) (s := (-1, 1000, 0, 0)) ⟨rfl, rfl⟩ fuel (fuel_lt (by omega))
    refine ⟨-1, ?_, ?_⟩
    · have : loopF fuel (fun y => lX0_parting_8 σ z y.1 y.2.1 y.2.2) (-1, 268435456, 0) = some (-1) := by
        refine loopF_seq (st := fun _ => (-1, 268435456, 0)) 0 (fun k hk => absurd hk (Nat.not_lt_zero k)) ?_ fuel (fuel_lt (by decide))
        show lX0_parting_8 σ z (-1) 268435456 0 = _
        unfold lX0_parting_8
        rw [e_0_i hS, h2, e_0_k hS, hmay, c1, hc0]
        split
        · rfl
        · rfl
      rw [this, sb]
    · rw [e1, sb]
      show (if r.2 = 0 then some (-1) else some r.1) = _
      rw [if_pos e2]
  · -- some may be
    have hcp : ¬ nI c ≤ 0 := nI_nle (by omega) (by omega)
    have hnall : ¬ ∀ u, u < 36 → mb u = 0 := fun q => hc0 (c3.mpr fun u _ hu => q u hu)
    obtain ⟨r, r', e1, e2, q1, q2⟩ := loopF_two (b := fun y : Int32 × Int32 × Int32 => lX0_parting_8 σ z y.1 y.2.1 y.2.2) (b' := fun y : Int32 × Int32 × Int32 × Int32 => lX7_parting_11 σ (z + 1064) y.1 y.2.1 y.2.2.1 y.2.2.2)
      (fun k s s' => s.1 = s'.1 ∧ s.2.2 = nI k ∧ s'.2.2.2 = nI k ∧ ((k = 0 ∧ s.2.1 = 268435456 ∧ s'.2.1 = 1000 ∧ s'.2.2.1 = 0 ∧ s.1 = -1) ∨ (0 < k ∧ s.2.1 = s'.2.1 ∧ ∃ a, s'.2.2.1 = nI a ∧ 0 < a ∧ a ≤ 36 * k))) m (Q := fun r r' => r = r'.1 ∧ (r'.2 = 0 → r = -1)) (by
        rintro k ⟨x1, x2, x3⟩ ⟨y1, y2, y3, y4⟩ hk ⟨i1, i2, i3, i4⟩
        simp only at i1 i2 i3 i4
        subst i1; subst i2; subst i3
        show ∃ t t', lX0_parting_8 σ z x1 x2 (nI k) = _ ∧ lX7_parting_11 σ (z + 1064) x1 y2 y3 (nI k) = _ ∧ _
        unfold lX0_parting_8 lX7_parting_11
        rw [e_0_i hS, h2, if_neg (nI_ge hk (by omega)), e_0_k hS, hmay, sb, c1, if_neg hcp, inX k hk, sb]
        rw [e_1064_i hS, h3, if_neg (nI_ge hk (by omega)), inM k y3 hk, sb]
        simp only [un2, jabs_much, sb, jn, o_let, nI_1]
        have hb := ofS_le mb (pf k) 36 (Nat.le_refl 36)
        have hj := jabs_of (n := 36) hb.1 hb.2 (by decide)
        have an : ∃ a, anS mb y3 36 = nI a ∧ 0 < a ∧ a ≤ 36 * (k + 1) := by
          rcases i4 with ⟨-, -, -, j4, -⟩ | ⟨-, -, a, j4, j5, j6⟩
          · obtain ⟨q, u1, u2, u3⟩ := anS_eq mb 0 36
            rw [j4]
            refine ⟨0 + q, u1, ?_, by omega⟩
            have : q ≠ 0 := fun e => hnall (u3.mp e)
            omega
          · obtain ⟨q, u1, u2, u3⟩ := anS_eq mb a 36
            rw [j4]
            exact ⟨a + q, u1, by omega, by omega⟩
        rcases i4 with ⟨j1, j2, j3, j4, j5⟩ | ⟨j0, j1, -⟩
        · subst j2; subst j3
          have d1 : ¬ (268435456 : Int32) ≤ jabs (ofS mb (pf k) 36) := fun q => by
            have := i32_le.mp q
            have e9 : (268435456 : Int32).toInt = 268435456 := rfl
            omega
          have d2 : ¬ (1000 : Int32) ≤ jabs (ofS mb (pf k) 36) := fun q => by
            have := i32_le.mp q
            have e9 : (1000 : Int32).toInt = 1000 := rfl
            omega
          rw [if_neg d1, if_neg d2, if_neg d2]
          exact ⟨_, _, rfl, rfl, rfl, rfl, rfl, Or.inr ⟨by omega, rfl, an⟩⟩
        · subst j1
          by_cases d : x2 ≤ jabs (ofS mb (pf k) 36)
          · rw [if_pos d, if_pos d, if_pos d]
            exact ⟨_, _, rfl, rfl, rfl, rfl, rfl, Or.inr ⟨by omega, rfl, an⟩⟩
          · rw [if_neg d, if_neg d, if_neg d]
            exact ⟨_, _, rfl, rfl, rfl, rfl, rfl, Or.inr ⟨by omega, rfl, an⟩⟩) (by
        rintro ⟨x1, x2, x3⟩ ⟨y1, y2, y3, y4⟩ ⟨i1, i2, i3, i4⟩
        simp only at i1 i2 i3 i4
        subst i1; subst i2; subst i3
        show ∃ t t', lX0_parting_8 σ z x1 x2 (nI m) = _ ∧ lX7_parting_11 σ (z + 1064) x1 y2 y3 (nI m) = _ ∧ _
        unfold lX0_parting_8 lX7_parting_11
        rw [e_0_i hS, h2, if_pos (nI_le (Nat.le_refl m) (by omega)), e_1064_i hS, h3, if_pos (nI_le (Nat.le_refl m) (by omega))]
        refine ⟨_, _, rfl, rfl, rfl, fun e => ?_⟩
        rcases i4 with ⟨-, -, -, -, j⟩ | ⟨-, -, a, j1, j2, j3⟩
        · exact j
        · rw [j1] at e
          exact absurd e (nI_ne0 j2 (by omega))) (s := (-1, 268435456, 0)) (s' := (-1, 1000, 0, 0)) ⟨rfl, rfl, rfl, Or.inl ⟨rfl, rfl, rfl, rfl, rfl⟩⟩ fuel (fuel_lt (by omega))
    rw [e1, e2, sb, sb]
    show ∃ v, some r = some v ∧ (if r'.2 = 0 then some (-1) else some r'.1) = some v
    by_cases e : r'.2 = 0
    · rw [if_pos e, q2 e]; exact ⟨_, rfl, rfl⟩
    · rw [if_neg e, q1]; exact ⟨_, rfl, rfl⟩
end PART
