set_option maxRecDepth 100000
/-! the model's tokens -/
theorem le_lit (c : Int32) (n k : Nat) (hc : c = nI n) (h : k ≤ n) (hn : n < 2 ^ 31) : nI k ≤ c := by rw [hc]; exact nI_le h hn
theorem nle_lit (c : Int32) (n k : Nat) (hc : c = nI n) (h : n < k) (hk : k < 2 ^ 31) : ¬ nI k ≤ c := by rw [hc]; exact nI_ge h hk
theorem nlt_lit (c : Int32) (n k : Nat) (hc : c = nI n) (h : k ≤ n) (hn : n < 2 ^ 31) : ¬ c < nI k := by rw [hc]; exact nI_nlt h hn
theorem lt_lit (c : Int32) (n k : Nat) (hc : c = nI n) (h : n < k) (hk : k < 2 ^ 31) : c < nI k := by rw [hc]; exact nI_lt h hk
/-- a word as a number -/
def wn (t : Nat → Nat) (s : Nat) : Nat → Nat
  | 0 => 0
  | k + 1 => 27 * wn t s k + (t (s + k) - 96)
def nn (t : Nat → Nat) (s : Nat) : Nat → Nat
  | 0 => 0
  | k + 1 => 10 * nn t s k + (t (s + k) - 48)
/-- what a token is -/
def tc (t : Nat → Nat) (n s e : Nat) : Int64 := if s = n then -2 else if kd (t s) = 1 then (if e - s ≤ 9 then lN (wn t s (e - s)) else -4) else if kd (t s) = 2 then (if e - s ≤ 2 then -1 else -4) else if t s = 59 then -3 else -4
theorem lN_step {w c : Nat} (hc : 96 ≤ c) (h : c < 256) : (27 * lN w + (nI c).toInt64) - 96 = lN (27 * w + (c - 96)) := by
  have e : 27 * w + c = (27 * w + (c - 96)) + 96 := by omega
  rw [nI_l (by omega), show (27 : Int64) = lN 27 from rfl, show (96 : Int64) = lN 96 from rfl, show lN 27 * lN w = lN (27 * w) from (Int64.ofNat_mul 27 w).symm, show lN (27 * w) + lN c = lN (27 * w + c) from (Int64.ofNat_add _ _).symm, e, show lN (27 * w + (c - 96) + 96) = lN (27 * w + (c - 96)) + lN 96 from Int64.ofNat_add _ _, Int64.add_sub_cancel]
theorem nI_step {w c : Nat} (hc : 48 ≤ c) : (10 * nI w + nI c) - 48 = nI (10 * w + (c - 48)) := by
  rw [show (10 : Int32) = nI 10 from rfl, nI_mul, nI_add, show (48 : Int32) = nI 48 from rfl, pk_sub (by omega), show 10 * w + c - 48 = 10 * w + (c - 48) by omega]
theorem gl_eq {σ : St} {a j : Nat} {v : Int64} : s_l (setL σ a j v) a j = v := by rw [l_setL, up2_same]
theorem Fr.aL {σ τ : St} {z o j : Nat} {L : PlL} {v : Int64} (h : Fr (PL z L) σ τ) (hq : plin (L ++ [(o, some j)]) L = true) : Fr (PL z L) σ (setL τ (z + o) j v) := (h.transL Fr.sL).inL hq
def NT : PlL := [(1064, some 20), (1064, some 21), (1064, some 22), (1064, some 23), (1064, some 24)]
theorem kd1 {b : Nat} : kd b = 1 ↔ 97 ≤ b ∧ b ≤ 122 := by
  unfold kd
  (repeat' split) <;> simp_all
theorem kd2 {b : Nat} : kd b = 2 ↔ 48 ≤ b ∧ b ≤ 57 := by
  unfold kd
  constructor
  · intro h
    split at h
    · cases h
    · split at h
      · assumption
      · cases h
  · intro h
    rw [if_neg (by omega), if_pos h]
theorem wn_lt {f : Nat → Nat} {a : Nat} : ∀ k, (∀ i, i < k → f (a + i) ≤ 122) → wn f a k < 27 ^ k
  | 0, _ => (show 0 < 1 by decide)
  | k + 1, h => by
    have h1 := wn_lt k (fun i hi => h i (by omega))
    have h2 := h k (by omega)
    show 27 * wn f a k + (f (a + k) - 96) < 27 ^ k * 27
    omega
theorem wn_63 {f : Nat → Nat} {a k : Nat} (hk : k ≤ 9) (h : ∀ i, i < k → f (a + i) ≤ 122) : wn f a k < 2 ^ 63 := by
  have h1 := wn_lt k h
  have h2 : 27 ^ k ≤ 27 ^ 9 := Nat.pow_le_pow_right (by decide) hk
  have h3 : (27 : Nat) ^ 9 < 2 ^ 63 := by decide
  omega
theorem lN_neg {a : Nat} (ha : a < 2 ^ 63) {c : Int64} (hc : c.toInt < 0) : lN a ≠ c := fun q => by
  rw [← q, pk_lT ha] at hc
  omega
section NEXT
variable {σ τ : St} {z n p s e : Nat} {t : Nat → Nat}
theorem next_eq (hS : Sh τ z) (hX : Ty τ z n t) (hp : s_i τ (z + 1064) 20 = nI p) (hT : Tok t n p s e) : ∃ τ', fX7_nextToken τ (z + 1064) = some τ' ∧ Fr (PL z NT) τ τ' ∧ s_i τ' (z + 1064) 20 = nI e ∧ s_i τ' (z + 1064) 21 = nI s ∧ s_l τ' (z + 1064) 22 = tc t n s e ∧ (tc t n s e = -1 → s_i τ' (z + 1064) 24 = nI (nn t s (e - s))) := by
  have h160 := hX.1
  obtain ⟨t1, t2, t3, t4, t5⟩ := hT
  have tx0 : (plno [(1064, some 20)] 0 (some 12) && plno [(1064, some 20)] 1064 (some 18) && plno [(1064, some 20)] 24 none && plno [(1064, some 20)] 1075 none) = true := by decide
  have txN : (plno NT 0 (some 12) && plno NT 1064 (some 18) && plno NT 24 none && plno NT 1075 none) = true := by decide
  obtain ⟨τ1, l1, l2, l3⟩ := loopF_inv (b := fun y : St => lX7_nextToken_0 (z + 1064) y) (fun k ρ => Fr (PL z [(1064, some 20)]) τ ρ ∧ s_i ρ (z + 1064) 20 = nI (p + k)) (s - p) (Q := fun ρ => Fr (PL z [(1064, some 20)]) τ ρ ∧ s_i ρ (z + 1064) 20 = nI s) (by
    rintro k ρ hk ⟨i1, i2⟩
    have hR : Sh ρ z := i1.sh hS (by decide)
    have hXR := hX.keep hS i1 tx0
    obtain ⟨b1, b2, -⟩ := hXR.2.2.2 (p + k) (by omega)
    show ∃ u, lX7_nextToken_0 (z + 1064) ρ = _ ∧ _
    unfold lX7_nextToken_0
    rw [e_1064_i hR, e_1064_i hR, hXR.2.2.1, i2, if_neg (nI_ge (by omega) (by omega)), e_1064_19 hR, e_1064_i hR, i2, a_1075 hR (by omega), b2, t4 _ (by omega) (by omega), if_pos (show nI 32 = 32 by decide), e_1064_i hR, i2, e_1064_p hR, nI_1]
    exact ⟨_, rfl, i1.aS (o := 1064) rfl, gi_eq⟩) (by
    rintro ρ ⟨i1, i2⟩
    rw [show p + (s - p) = s by omega] at i2
    have hR : Sh ρ z := i1.sh hS (by decide)
    have hXR := hX.keep hS i1 tx0
    show ∃ u, lX7_nextToken_0 (z + 1064) ρ = _ ∧ _
    unfold lX7_nextToken_0
    rw [e_1064_i hR, e_1064_i hR, hXR.2.2.1, i2]
    by_cases c : s < n
    · obtain ⟨b1, b2, -⟩ := hXR.2.2.2 s c
      have h32 : t s ≠ 32 := by
        rcases t5 with t5 | t5
        · omega
        · exact t5.2.1
      rw [if_neg (nI_ge c (by omega)), e_1064_19 hR, e_1064_i hR, i2, a_1075 hR (by omega), b2, if_neg (nI_lit_ne (c := 32) (n := 32) rfl (by omega) (by decide) h32)]
      exact ⟨_, rfl, i1, i2⟩
    · rw [if_pos (nI_le (by omega) (by omega))]
      exact ⟨_, rfl, i1, i2⟩) (s := τ) ⟨Fr.refl, hp⟩ fuel (fuel_lt (by omega))
  have hS1 : Sh τ1 z := l2.sh hS (by decide)
  obtain ⟨τ2, hτ2⟩ : ∃ τ2, τ2 = setI (setI (setI τ1 (z + 1064) 21 (nI s)) (z + 1064) 23 0) (z + 1064) 24 0 := ⟨_, rfl⟩
  have fr2 : Fr (PL z NT) τ τ2 := by
    rw [hτ2]
    exact (((l2.inL (by decide)).aS (o := 1064) rfl).aS (o := 1064) rfl).aS (o := 1064) rfl
  have hS2 : Sh τ2 z := fr2.sh hS (by decide)
  have hX2 := hX.keep hS fr2 txN
  have v20 : s_i τ2 (z + 1064) 20 = nI s := by rw [hτ2, gi_nj (by decide), gi_nj (by decide), gi_nj (by decide), l3]
  have v21 : s_i τ2 (z + 1064) 21 = nI s := by rw [hτ2, gi_nj (by decide), gi_nj (by decide), gi_eq]
  have v23 : s_i τ2 (z + 1064) 23 = 0 := by rw [hτ2, gi_nj (by decide), gi_eq]
  have v24 : s_i τ2 (z + 1064) 24 = 0 := by rw [hτ2, gi_eq]
  have ev := Eq.refl (fX7_nextToken τ (z + 1064))
  conv at ev => rhs; unfold fX7_nextToken
  rw [l1, sb, e_1064_i hS1, l3, e_1064_p hS1, e_1064_p (Sh_setI.mpr hS1), e_1064_p (Sh_setI.mpr (Sh_setI.mpr hS1)), ← hτ2, e_1064_i hS2, e_1064_i hS2, v20, hX2.2.2.1] at ev
  rw [ev]
  by_cases c : s = n
  · subst c
    have he : e = s := by omega
    have etc : tc t s s e = -2 := if_pos rfl
    rw [if_pos rfl, e_1064_pl hS2, etc]
    refine ⟨_, rfl, fr2.aL (by decide), ?_, ?_, gl_eq, fun q => absurd q (by decide)⟩
    · rw [he]; exact v20
    · exact v21
  · have hsn : s < n := by omega
    rw [if_neg (fun q => c ((nI_eq (by omega) (by omega)).mp q)), e_1064_19 hS2, e_1064_i hS2, v20, a_1075 hS2 (by omega)]
    obtain ⟨b1, b2, -⟩ := hX2.2.2.2 s hsn
    rw [b2, in_eq, sb, if01]
    have t5 : (kd (t s) = 0 ∧ e = s + 1) ∨ (kd (t s) ≠ 0 ∧ s < e ∧ (∀ i, s ≤ i → i < e → kd (t i) = kd (t s)) ∧ (e < n → kd (t e) ≠ kd (t s))) := by
      rcases t5 with t5 | t5
      · omega
      · exact t5.2.2
    by_cases c1 : kd (t s) = 1
    · -- a word
      rw [if_pos ((nI_l' _ b1).mpr (kd1.mp c1)), e_1064_pl hS2]
      have run : s < e ∧ (∀ i, s ≤ i → i < e → 97 ≤ t i ∧ t i ≤ 122) ∧ (e < n → ¬ (97 ≤ t e ∧ t e ≤ 122)) := by
        rcases t5 with t5 | t5
        · omega
        · exact ⟨t5.2.1, fun i h1 h2 => kd1.mp ((t5.2.2.1 i h1 h2).trans c1), fun h q => t5.2.2.2 h ((kd1.mpr q).trans c1.symm)⟩
      obtain ⟨τ4, hτ4⟩ : ∃ τ4, τ4 = setL τ2 (z + 1064) 22 0 := ⟨_, rfl⟩
      rw [← hτ4]
      have fr4 : Fr (PL z NT) τ τ4 := by rw [hτ4]; exact fr2.aL (by decide)
      have w20 : s_i τ4 (z + 1064) 20 = nI s := by rw [hτ4]; exact v20
      have w21 : s_i τ4 (z + 1064) 21 = nI s := by rw [hτ4]; exact v21
      have w22 : s_l τ4 (z + 1064) 22 = 0 := by rw [hτ4]; exact gl_eq
      obtain ⟨τ5, k1, k2, k3, k4, k5⟩ := loopF_inv (b := fun y : St => lX7_nextToken_101 (z + 1064) y) (fun k ρ => Fr (PL z NT) τ ρ ∧ s_i ρ (z + 1064) 20 = nI (s + k) ∧ s_i ρ (z + 1064) 21 = nI s ∧ s_l ρ (z + 1064) 22 = (if k ≤ 9 then lN (wn t s k) else -4)) (e - s) (Q := fun ρ => Fr (PL z NT) τ ρ ∧ s_i ρ (z + 1064) 20 = nI e ∧ s_i ρ (z + 1064) 21 = nI s ∧ s_l ρ (z + 1064) 22 = (if e - s ≤ 9 then lN (wn t s (e - s)) else -4)) (by
        rintro k ρ hk ⟨i1, i2, i3, i4⟩
        have hR : Sh ρ z := i1.sh hS (by decide)
        have hXR := hX.keep hS i1 txN
        obtain ⟨d1, d2, -⟩ := hXR.2.2.2 (s + k) (by omega)
        have hl := run.2.1 (s + k) (by omega) (by omega)
        show ∃ u, lX7_nextToken_101 (z + 1064) ρ = _ ∧ _
        unfold lX7_nextToken_101
        rw [e_1064_i hR, e_1064_i hR, hXR.2.2.1, i2, if_neg (nI_ge (by omega) (by omega)), e_1064_19 hR, e_1064_i hR, i2, a_1075 hR (by omega), d2, in_eq, sb, if01, if_pos ((nI_l' _ d1).mpr hl), e_1064_i hR, i2, e_1064_i hR, i3, pk_sub (by omega), show s + k - s = k by omega]
        simp only [jn, e_1064_pl hR, e_1064_i (Sh_setL.mpr hR), e_1064_p (Sh_setL.mpr hR)]
        have fin : ∀ w : Int64, w = (if k + 1 ≤ 9 then lN (wn t s (k + 1)) else -4) → Fr (PL z NT) τ (setI (setL ρ (z + 1064) 22 w) (z + 1064) 20 (s_i (setL ρ (z + 1064) 22 w) (z + 1064) 20 + 1)) ∧ s_i (setI (setL ρ (z + 1064) 22 w) (z + 1064) 20 (s_i (setL ρ (z + 1064) 22 w) (z + 1064) 20 + 1)) (z + 1064) 20 = nI (s + (k + 1)) ∧ s_i (setI (setL ρ (z + 1064) 22 w) (z + 1064) 20 (s_i (setL ρ (z + 1064) 22 w) (z + 1064) 20 + 1)) (z + 1064) 21 = nI s ∧ s_l (setI (setL ρ (z + 1064) 22 w) (z + 1064) 20 (s_i (setL ρ (z + 1064) 22 w) (z + 1064) 20 + 1)) (z + 1064) 22 = (if k + 1 ≤ 9 then lN (wn t s (k + 1)) else -4) := by
          intro w hw
          refine ⟨(i1.aL (by decide)).aS (o := 1064) rfl, ?_, ?_, ?_⟩
          · rw [gi_eq]
            show s_i ρ (z + 1064) 20 + 1 = _
            rw [i2, nI_1]
            rfl
          · rw [gi_nj (by decide)]
            exact i3
          · show s_l (setL ρ (z + 1064) 22 w) (z + 1064) 22 = _
            rw [gl_eq, hw]
        by_cases c9 : 9 ≤ k
        · rw [if_pos (lit_le 9 9 k rfl c9 (by omega))]
          exact ⟨_, rfl, fin _ (by rw [if_neg (by omega)])⟩
        · rw [if_neg (lit_nle 9 9 k rfl (by omega) (by decide)), e_1064_l hR, i4, if_pos (by omega), e_1064_19 hR, e_1064_i hR, i2, a_1075 hR (by omega), d2, lN_step (by omega) d1]
          exact ⟨_, rfl, fin _ (by rw [if_pos (by omega)]; rfl)⟩) (by
        rintro ρ ⟨i1, i2, i3, i4⟩
        rw [show s + (e - s) = e by omega] at i2
        have hR : Sh ρ z := i1.sh hS (by decide)
        have hXR := hX.keep hS i1 txN
        show ∃ u, lX7_nextToken_101 (z + 1064) ρ = _ ∧ _
        unfold lX7_nextToken_101
        rw [e_1064_i hR, e_1064_i hR, hXR.2.2.1, i2]
        by_cases ce : e < n
        · obtain ⟨d1, d2, -⟩ := hXR.2.2.2 e ce
          rw [if_neg (nI_ge ce (by omega)), e_1064_19 hR, e_1064_i hR, i2, a_1075 hR (by omega), d2, in_eq, sb, if01, if_neg (fun q => run.2.2 ce ((nI_l' _ d1).mp q))]
          exact ⟨_, rfl, i1, i2, i3, i4⟩
        · rw [if_pos (nI_le (by omega) (by omega))]
          exact ⟨_, rfl, i1, i2, i3, i4⟩) (s := τ4) ⟨fr4, w20, w21, w22⟩ fuel (fuel_lt (by omega))
      have hS5 : Sh τ5 z := k2.sh hS (by decide)
      rw [k1, sb, e_1064_i hS5, k3, e_1064_i hS5, k4, pk_sub (by omega)]
      simp only [jn, e_1064_l hS5, k5, e_1064_pl hS5]
      have etc : tc t n s e = (if e - s ≤ 9 then lN (wn t s (e - s)) else -4) := by
        unfold tc
        rw [if_neg c, if_pos c1]
      have nm : tc t n s e ≠ -1 := by
        rw [etc]
        split
        · next c9 => exact lN_neg (wn_63 c9 (fun i hi => (run.2.1 (s + i) (by omega) (by omega)).2)) (by decide)
        · decide
      refine ⟨setL τ5 (z + 1064) 22 (tc t n s e), ?_, k2.aL (by decide), k3, k4, gl_eq, fun q => absurd q nm⟩
      rw [etc]
      by_cases c9 : e - s ≤ 9
      · rw [if_pos (le_lit 9 9 _ rfl c9 (by decide)), if_pos c9]
      · rw [if_neg (nle_lit 9 9 _ rfl (by omega) (by omega)), if_neg c9]
    · rw [if_neg (fun q => c1 (kd1.mpr ((nI_l' _ b1).mp q))), e_1064_19 hS2, e_1064_i hS2, v20, a_1075 hS2 (by omega), b2, in_eq, sb, if01]
      by_cases c2 : kd (t s) = 2
      · -- a number
        rw [if_pos ((nI_d' _ b1).mpr (kd2.mp c2))]
        have run : s < e ∧ (∀ i, s ≤ i → i < e → 48 ≤ t i ∧ t i ≤ 57) ∧ (e < n → ¬ (48 ≤ t e ∧ t e ≤ 57)) := by
          rcases t5 with t5 | t5
          · omega
          · exact ⟨t5.2.1, fun i h1 h2 => kd2.mp ((t5.2.2.1 i h1 h2).trans c2), fun h q => t5.2.2.2 h ((kd2.mpr q).trans c2.symm)⟩
        obtain ⟨τ5, k1, k2, k3, k4, k5, k6⟩ := loopF_inv (b := fun y : St => lX7_nextToken_241 (z + 1064) y) (fun k ρ => Fr (PL z NT) τ ρ ∧ s_i ρ (z + 1064) 20 = nI (s + k) ∧ s_i ρ (z + 1064) 21 = nI s ∧ s_i ρ (z + 1064) 23 = nI k ∧ s_i ρ (z + 1064) 24 = nI (nn t s (min k 2))) (e - s) (Q := fun ρ => Fr (PL z NT) τ ρ ∧ s_i ρ (z + 1064) 20 = nI e ∧ s_i ρ (z + 1064) 21 = nI s ∧ s_i ρ (z + 1064) 23 = nI (e - s) ∧ s_i ρ (z + 1064) 24 = nI (nn t s (min (e - s) 2))) (by
          rintro k ρ hk ⟨i1, i2, i3, i4, i5⟩
          have hR : Sh ρ z := i1.sh hS (by decide)
          have hXR := hX.keep hS i1 txN
          obtain ⟨d1, d2, -⟩ := hXR.2.2.2 (s + k) (by omega)
          have hl := run.2.1 (s + k) (by omega) (by omega)
          show ∃ u, lX7_nextToken_241 (z + 1064) ρ = _ ∧ _
          unfold lX7_nextToken_241
          rw [e_1064_i hR, e_1064_i hR, hXR.2.2.1, i2, if_neg (nI_ge (by omega) (by omega)), e_1064_19 hR, e_1064_i hR, i2, a_1075 hR (by omega), d2, in_eq, sb, if01, if_pos ((nI_d' _ d1).mpr hl), e_1064_i hR, i4]
          simp only [jn, e_1064_p hR, e_1064_i hR, e_1064_19 hR, i2, i5, a_1075 hR (show s + k < 160 by omega), d2, e_1064_i (Sh_setI.mpr hR), e_1064_p (Sh_setI.mpr hR), e_1064_i (Sh_setI.mpr (Sh_setI.mpr hR)), e_1064_p (Sh_setI.mpr (Sh_setI.mpr hR)), gi_nj (show (23 : Nat) ≠ 24 by decide), gi_nj (show (20 : Nat) ≠ 23 by decide), gi_nj (show (20 : Nat) ≠ 24 by decide), i4, nI_1]
          have fin : ∀ w : Int32, w = nI (nn t s (min (k + 1) 2)) → Fr (PL z NT) τ (setI (setI (setI ρ (z + 1064) 24 w) (z + 1064) 23 (nI (k + 1))) (z + 1064) 20 (nI (s + k + 1))) ∧ s_i (setI (setI (setI ρ (z + 1064) 24 w) (z + 1064) 23 (nI (k + 1))) (z + 1064) 20 (nI (s + k + 1))) (z + 1064) 20 = nI (s + (k + 1)) ∧ s_i (setI (setI (setI ρ (z + 1064) 24 w) (z + 1064) 23 (nI (k + 1))) (z + 1064) 20 (nI (s + k + 1))) (z + 1064) 21 = nI s ∧ s_i (setI (setI (setI ρ (z + 1064) 24 w) (z + 1064) 23 (nI (k + 1))) (z + 1064) 20 (nI (s + k + 1))) (z + 1064) 23 = nI (k + 1) ∧ s_i (setI (setI (setI ρ (z + 1064) 24 w) (z + 1064) 23 (nI (k + 1))) (z + 1064) 20 (nI (s + k + 1))) (z + 1064) 24 = nI (nn t s (min (k + 1) 2)) := by
            intro w hw
            refine ⟨((i1.aS (o := 1064) rfl).aS (o := 1064) rfl).aS (o := 1064) rfl, gi_eq, ?_, ?_, ?_⟩
            · rw [gi_nj (by decide), gi_nj (by decide), gi_nj (by decide)]
              exact i3
            · rw [gi_nj (by decide), gi_eq]
            · rw [gi_nj (by decide), gi_nj (by decide), gi_eq, hw]
          by_cases c9 : 2 ≤ k
          · rw [if_pos (lit_le 2 2 k rfl c9 (by omega))]
            exact ⟨_, rfl, fin _ (by rw [show min (k + 1) 2 = min k 2 by omega])⟩
          · rw [if_neg (lit_nle 2 2 k rfl (by omega) (by decide)), nI_step (by omega)]
            exact ⟨_, rfl, fin _ (by rw [show min (k + 1) 2 = k + 1 by omega, show min k 2 = k by omega]; rfl)⟩) (by
          rintro ρ ⟨i1, i2, i3, i4, i5⟩
          rw [show s + (e - s) = e by omega] at i2
          have hR : Sh ρ z := i1.sh hS (by decide)
          have hXR := hX.keep hS i1 txN
          show ∃ u, lX7_nextToken_241 (z + 1064) ρ = _ ∧ _
          unfold lX7_nextToken_241
          rw [e_1064_i hR, e_1064_i hR, hXR.2.2.1, i2]
          by_cases ce : e < n
          · obtain ⟨d1, d2, -⟩ := hXR.2.2.2 e ce
            rw [if_neg (nI_ge ce (by omega)), e_1064_19 hR, e_1064_i hR, i2, a_1075 hR (by omega), d2, in_eq, sb, if01, if_neg (fun q => run.2.2 ce ((nI_d' _ d1).mp q))]
            exact ⟨_, rfl, i1, i2, i3, i4, i5⟩
          · rw [if_pos (nI_le (by omega) (by omega))]
            exact ⟨_, rfl, i1, i2, i3, i4, i5⟩) (s := τ2) ⟨fr2, v20, v21, v23, v24⟩ fuel (fuel_lt (by omega))
        have hS5 : Sh τ5 z := k2.sh hS (by decide)
        rw [k1, sb, e_1064_i hS5, k5]
        simp only [jn, e_1064_pl hS5]
        have etc : tc t n s e = (if e - s ≤ 2 then -1 else -4) := by
          unfold tc
          rw [if_neg c, if_neg c1, if_pos c2]
        refine ⟨setL τ5 (z + 1064) 22 (tc t n s e), ?_, k2.aL (by decide), k3, k4, gl_eq, fun q => ?_⟩
        · rw [etc]
          by_cases c9 : e - s ≤ 2
          · rw [if_pos (le_lit 2 2 _ rfl c9 (by decide)), if_pos c9]
          · rw [if_neg (nle_lit 2 2 _ rfl (by omega) (by omega)), if_neg c9]
        · rw [etc] at q
          by_cases c9 : e - s ≤ 2
          · show s_i τ5 (z + 1064) 24 = _
            rw [k6, show min (e - s) 2 = e - s by omega]
          · rw [if_neg c9] at q
            exact absurd q (by decide)
      · -- some other sign
        rw [if_neg (fun q => c2 (kd2.mpr ((nI_d' _ b1).mp q))), e_1064_19 hS2, e_1064_i hS2, v20, a_1075 hS2 (by omega), b2]
        have he : e = s + 1 := by
          rcases t5 with t5 | t5
          · exact t5.2
          · have := kd_le (t s)
            omega
        simp only [jn, e_1064_pl hS2, e_1064_i (Sh_setL.mpr hS2), e_1064_p (Sh_setL.mpr hS2)]
        have etc : tc t n s e = (if t s = 59 then -3 else -4) := by
          unfold tc
          rw [if_neg c, if_neg c1, if_neg c2]
        have fin : ∀ w : Int64, w = tc t n s e → Fr (PL z NT) τ (setI (setL τ2 (z + 1064) 22 w) (z + 1064) 20 (s_i (setL τ2 (z + 1064) 22 w) (z + 1064) 20 + 1)) ∧ s_i (setI (setL τ2 (z + 1064) 22 w) (z + 1064) 20 (s_i (setL τ2 (z + 1064) 22 w) (z + 1064) 20 + 1)) (z + 1064) 20 = nI e ∧ s_i (setI (setL τ2 (z + 1064) 22 w) (z + 1064) 20 (s_i (setL τ2 (z + 1064) 22 w) (z + 1064) 20 + 1)) (z + 1064) 21 = nI s ∧ s_l (setI (setL τ2 (z + 1064) 22 w) (z + 1064) 20 (s_i (setL τ2 (z + 1064) 22 w) (z + 1064) 20 + 1)) (z + 1064) 22 = tc t n s e ∧ (tc t n s e = -1 → s_i (setI (setL τ2 (z + 1064) 22 w) (z + 1064) 20 (s_i (setL τ2 (z + 1064) 22 w) (z + 1064) 20 + 1)) (z + 1064) 24 = nI (nn t s (e - s))) := by
          intro w hw
          refine ⟨(fr2.aL (by decide)).aS (o := 1064) rfl, ?_, ?_, ?_, fun q => ?_⟩
          · rw [gi_eq]
            show s_i τ2 (z + 1064) 20 + 1 = _
            rw [v20, nI_1, he]
          · rw [gi_nj (by decide)]
            exact v21
          · show s_l (setL τ2 (z + 1064) 22 w) (z + 1064) 22 = _
            rw [gl_eq, hw]
          · rw [etc] at q
            split at q <;> exact absurd q (by decide)
        by_cases c59 : t s = 59
        · rw [if_pos (by rw [c59]; rfl)]
          exact ⟨_, rfl, fin _ (by rw [etc, if_pos c59])⟩
        · rw [if_neg (nI_lit_ne (c := 59) (n := 59) rfl (by omega) (by decide) c59)]
          exact ⟨_, rfl, fin _ (by rw [etc, if_neg c59])⟩
end NEXT
