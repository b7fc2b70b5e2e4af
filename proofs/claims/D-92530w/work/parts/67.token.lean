set_option maxRecDepth 100000
/-! the tape in tokens -/
def kd (b : Nat) : Nat := if 97 ≤ b ∧ b ≤ 122 then 1 else if 48 ≤ b ∧ b ≤ 57 then 2 else 0
theorem sx_l : ∀ b, b < 256 → ((97 : Int32) ≤ sx8 b ∧ sx8 b ≤ 122 ↔ 97 ≤ b ∧ b ≤ 122) := by decide +kernel
theorem sx_d : ∀ b, b < 256 → ((48 : Int32) ≤ sx8 b ∧ sx8 b ≤ 57 ↔ 48 ≤ b ∧ b ≤ 57) := by decide +kernel
theorem sx_32 : ∀ b, b < 256 → (sx8 b = 32 ↔ b = 32) := by decide +kernel
theorem nI_l' : ∀ b, b < 256 → ((97 : Int32) ≤ nI b ∧ nI b ≤ 122 ↔ 97 ≤ b ∧ b ≤ 122) := by decide +kernel
theorem nI_d' : ∀ b, b < 256 → ((48 : Int32) ≤ nI b ∧ nI b ≤ 57 ↔ 48 ≤ b ∧ b ≤ 57) := by decide +kernel
def Tx (τ : St) (z n : Nat) (t : Nat → Nat) : Prop := n ≤ 160 ∧ s_i τ z 12 = nI n ∧ s_i τ (z + 1064) 18 = nI n ∧ ∀ i, i < n → t i < 256 ∧ s_i τ (z + 1075) i = nI (t i) ∧ s_i τ (z + 24) i = sx8 (t i)
theorem tx_ex {σ : St} {z : Nat} (h : Tp σ z) : ∃ n t, Tx σ z n t := by
  obtain ⟨n, h1, h2, h3, h4⟩ := h
  refine ⟨n, fun i => if h : i < n then Classical.choose (h4 i h) else 0, h1, h2, h3, fun i hi => ?_⟩
  have := Classical.choose_spec (h4 i hi)
  simp only [dif_pos hi]
  exact this
theorem Tx.keep {σ τ : St} {z n : Nat} {t : Nat → Nat} {L : PlL} (h : Tx σ z n t) (hS : Sh σ z) (hF : Fr (PL z L) σ τ) (hL : (plno L 0 (some 12) && plno L 1064 (some 18) && plno L 24 none && plno L 1075 none) = true) : Tx τ z n t := by
  simp only [Bool.and_eq_true] at hL
  obtain ⟨⟨⟨l1, l2⟩, l3⟩, l4⟩ := hL
  refine ⟨h.1, (hF.ki hS 0 12 (by decide) l1).trans h.2.1, (hF.ki hS 1064 18 (by decide) l2).trans h.2.2.1, fun i hi => ?_⟩
  rw [hF.kia hS 24 (by decide) l3, hF.kia hS 1075 (by decide) l4]
  exact h.2.2.2 i hi
/-- .. as far as the model sees it -/
def Ty (τ : St) (z n : Nat) (t : Nat → Nat) : Prop := n ≤ 160 ∧ True ∧ s_i τ (z + 1064) 18 = nI n ∧ ∀ i, i < n → t i < 256 ∧ s_i τ (z + 1075) i = nI (t i) ∧ True
theorem Tx.y {τ : St} {z n : Nat} {t : Nat → Nat} (h : Tx τ z n t) : Ty τ z n t := ⟨h.1, trivial, h.2.2.1, fun i hi => ⟨(h.2.2.2 i hi).1, (h.2.2.2 i hi).2.1, trivial⟩⟩
theorem Ty.keep2 {σ τ : St} {z n : Nat} {t : Nat → Nat} {L : PlL} (h : Ty σ z n t) (hS : Sh σ z) (hF : Fr (PL z L) σ τ) (hL : (plno L 1064 (some 18) && plno L 1075 none) = true) : Ty τ z n t := by
  simp only [Bool.and_eq_true] at hL
  refine ⟨h.1, trivial, (hF.ki hS 1064 18 (by decide) hL.1).trans h.2.2.1, fun i hi => ?_⟩
  rw [hF.kia hS 1075 (by decide) hL.2]
  exact h.2.2.2 i hi
theorem Ty.keep {σ τ : St} {z n : Nat} {t : Nat → Nat} {L : PlL} (h : Ty σ z n t) (hS : Sh σ z) (hF : Fr (PL z L) σ τ) (hL : (plno L 0 (some 12) && plno L 1064 (some 18) && plno L 24 none && plno L 1075 none) = true) : Ty τ z n t := by
  simp only [Bool.and_eq_true] at hL
  exact h.keep2 hS hF (by simp only [Bool.and_eq_true]; exact ⟨hL.1.1.2, hL.2⟩)
/-- the next token from a place: its first place and its end -/
def Tok (t : Nat → Nat) (n p s e : Nat) : Prop := p ≤ s ∧ s ≤ e ∧ e ≤ n ∧ (∀ i, p ≤ i → i < s → t i = 32) ∧ ((s = n ∧ e = n) ∨ (s < n ∧ t s ≠ 32 ∧ ((kd (t s) = 0 ∧ e = s + 1) ∨ (kd (t s) ≠ 0 ∧ s < e ∧ (∀ i, s ≤ i → i < e → kd (t i) = kd (t s)) ∧ (e < n → kd (t e) ≠ kd (t s))))))
theorem tok_ex (t : Nat → Nat) {n p : Nat} (h : p ≤ n) : ∃ s e, Tok t n p s e := by
  obtain ⟨N, hN, hlo, hhi⟩ := first_ex (fun j => t (p + j) ≠ 32) (n - p)
  have sp : ∀ i, p ≤ i → i < p + N → t i = 32 := by
    intro i h1 h2
    have := hlo (i - p) (by omega)
    rw [show p + (i - p) = i by omega] at this
    exact Classical.not_not.mp this
  by_cases c : p + N = n
  · exact ⟨n, n, by omega, Nat.le_refl n, Nat.le_refl n, by rw [← c]; exact sp, Or.inl ⟨rfl, rfl⟩⟩
  · have h32 := hhi (by omega)
    by_cases c2 : kd (t (p + N)) = 0
    · exact ⟨p + N, p + N + 1, by omega, by omega, by omega, sp, Or.inr ⟨by omega, h32, Or.inl ⟨c2, rfl⟩⟩⟩
    · obtain ⟨M, hM, mlo, mhi⟩ := first_ex (fun j => kd (t (p + N + 1 + j)) ≠ kd (t (p + N))) (n - (p + N + 1))
      refine ⟨p + N, p + N + 1 + M, by omega, by omega, by omega, sp, Or.inr ⟨by omega, h32, Or.inr ⟨c2, by omega, fun i h1 h2 => ?_, fun h => mhi (by omega)⟩⟩⟩
      by_cases e : i = p + N
      · rw [e]
      · have := mlo (i - (p + N + 1)) (by omega)
        rw [show p + N + 1 + (i - (p + N + 1)) = i by omega] at this
        exact Classical.not_not.mp this
def RD : PlL := [(25, some 0), (25, some 1), (25, some 2)]
def RdX (τ : St) (z s e : Nat) : Prop := s_i τ (z + 25) 0 = nI e ∧ s_i τ (z + 25) 1 = nI s ∧ s_i τ (z + 25) 2 = nI e
section TOK
variable {σ τ : St} {z n p s e : Nat} {t : Nat → Nat}
theorem kindAt_eq (hS : Sh τ z) (hX : Tx τ z n t) {i : Nat} (hi : i < n) : fX6_kindAt τ (z + 25) (nI i) = some (nI (kd (t i))) := by
  have h160 := hX.1
  obtain ⟨b1, -, b2⟩ := hX.2.2.2 i hi
  unfold fX6_kindAt
  rw [e_25_3 hS, e_0_11 hS, a_24 hS (by omega), b2, isIn_lit τ τ (sx8 (t i)) 97 122 (lo' := 97) (hi' := 122) rfl rfl, in_eq, sb, if01, e_25_3 hS, e_0_11 hS, a_24 hS (by omega), b2, isIn_lit τ τ (sx8 (t i)) 48 57 (lo' := 48) (hi' := 57) rfl rfl, in_eq, sb, if01]
  unfold kd
  simp only [sx_l _ b1, sx_d _ b1]
  split
  · rfl
  · split <;> rfl
theorem kd_le (b : Nat) : kd b ≤ 2 := by
  unfold kd
  (repeat' split) <;> omega
theorem token_eq (hS : Sh τ z) (hX : Tx τ z n t) (hp : s_i τ (z + 25) 0 = nI p) (hT : Tok t n p s e) : ∃ τ', fX6_token τ (z + 25) = some τ' ∧ Fr (PL z RD) τ τ' ∧ RdX τ' z s e := by
  have h160 := hX.1
  obtain ⟨t1, t2, t3, t4, t5⟩ := hT
  have tx0 : (plno [(25, some 0)] 0 (some 12) && plno [(25, some 0)] 1064 (some 18) && plno [(25, some 0)] 24 none && plno [(25, some 0)] 1075 none) = true := by decide
  have txR : (plno RD 0 (some 12) && plno RD 1064 (some 18) && plno RD 24 none && plno RD 1075 none) = true := by decide
  obtain ⟨τ1, l1, l2, l3⟩ := loopF_inv (b := fun y : St => lX6_token_0 (z + 25) y) (fun k ρ => Fr (PL z [(25, some 0)]) τ ρ ∧ s_i ρ (z + 25) 0 = nI (p + k)) (s - p) (Q := fun ρ => Fr (PL z [(25, some 0)]) τ ρ ∧ s_i ρ (z + 25) 0 = nI s) (by
    rintro k ρ hk ⟨i1, i2⟩
    have hR : Sh ρ z := i1.sh hS (by decide)
    have hXR := hX.keep hS i1 tx0
    obtain ⟨b1, -, b2⟩ := hXR.2.2.2 (p + k) (by omega)
    show ∃ u, lX6_token_0 (z + 25) ρ = _ ∧ _
    unfold lX6_token_0
    rw [e_25_i hR, e_25_3 hR, e_0_i hR, hXR.2.1, i2, if_neg (nI_ge (by omega) (by omega)), e_25_3 hR, e_0_11 hR, e_25_i hR, i2, a_24 hR (by omega), b2, if_pos ((sx_32 _ b1).mpr (t4 _ (by omega) (by omega))), e_25_i hR, i2, e_25_p hR, nI_1]
    exact ⟨_, rfl, i1.aS (o := 25) rfl, gi_eq⟩) (by
    rintro ρ ⟨i1, i2⟩
    rw [show p + (s - p) = s by omega] at i2
    have hR : Sh ρ z := i1.sh hS (by decide)
    have hXR := hX.keep hS i1 tx0
    show ∃ u, lX6_token_0 (z + 25) ρ = _ ∧ _
    unfold lX6_token_0
    rw [e_25_i hR, e_25_3 hR, e_0_i hR, hXR.2.1, i2]
    by_cases c : s < n
    · obtain ⟨b1, -, b2⟩ := hXR.2.2.2 s c
      have h32 : t s ≠ 32 := by
        rcases t5 with t5 | t5
        · omega
        · exact t5.2.1
      rw [if_neg (nI_ge c (by omega)), e_25_3 hR, e_0_11 hR, e_25_i hR, i2, a_24 hR (by omega), b2, if_neg (fun q => h32 ((sx_32 _ b1).mp q))]
      exact ⟨_, rfl, i1, i2⟩
    · rw [if_pos (nI_le (by omega) (by omega))]
      exact ⟨_, rfl, i1, i2⟩) (s := τ) ⟨Fr.refl, hp⟩ fuel (fuel_lt (by omega))
  have hS1 : Sh τ1 z := l2.sh hS (by decide)
  have hX1 := hX.keep hS l2 tx0
  -- the first place
  obtain ⟨a0, ha0, ha⟩ : ∃ a0 : Nat, a0 = (if s < n then s + 1 else n) ∧ a0 ≤ e := by
    refine ⟨_, rfl, ?_⟩
    rcases t5 with t5 | ⟨c, -, t5 | t5⟩
    · rw [if_neg (by omega)]; omega
    · rw [if_pos c]; omega
    · rw [if_pos c]; omega
  obtain ⟨τ2, hτ2⟩ : ∃ τ2, τ2 = setI (setI τ1 (z + 25) 1 (nI s)) (z + 25) 0 (nI a0) := ⟨_, rfl⟩
  have fr2 : Fr (PL z RD) τ τ2 := by
    rw [hτ2]
    exact ((l2.inL (by decide)).aS (o := 25) rfl).aS (o := 25) rfl
  have hS2 : Sh τ2 z := fr2.sh hS (by decide)
  have hX2 := hX.keep hS fr2 txR
  have v20 : s_i τ2 (z + 25) 0 = nI a0 := by rw [hτ2, gi_eq]
  have v21 : s_i τ2 (z + 25) 1 = nI s := by rw [hτ2, gi_nj (by decide), gi_eq]
  obtain ⟨τ3, k1, k2, k3⟩ := loopF_inv (b := fun y : St => lX6_token_80 (z + 25) y) (fun k ρ => Fr (PL z [(25, some 0)]) τ2 ρ ∧ s_i ρ (z + 25) 0 = nI (a0 + k)) (e - a0) (Q := fun ρ => Fr (PL z [(25, some 0)]) τ2 ρ ∧ s_i ρ (z + 25) 0 = nI e) (by
    rintro k ρ hk ⟨i1, i2⟩
    have hR : Sh ρ z := i1.sh hS2 (by decide)
    have hXR := hX2.keep hS2 i1 tx0
    have i3 : s_i ρ (z + 25) 1 = nI s := (i1.ki hS2 25 1 (by decide) (by decide)).trans v21
    have hsn : s < n := by
      apply Classical.byContradiction
      intro hc
      rw [if_neg hc] at ha0
      omega
    rw [if_pos hsn] at ha0
    have run : kd (t s) ≠ 0 ∧ kd (t (a0 + k)) = kd (t s) := by
      rcases t5 with t5 | ⟨-, -, t5 | t5⟩
      · omega
      · omega
      · exact ⟨t5.1, t5.2.2.1 _ (by omega) (by omega)⟩
    have kl := kd_le (t s)
    show ∃ u, lX6_token_80 (z + 25) ρ = _ ∧ _
    unfold lX6_token_80
    rw [e_25_i hR, e_25_3 hR, e_0_i hR, hXR.2.1, i2, if_neg (nI_ge (by omega) (by omega)), e_25_i hR, i3, e_25_k hR, kindAt_eq hR hXR hsn, sb, if_neg (nI_nle (by omega) (by omega)), e_25_i hR, i2, e_25_k hR, kindAt_eq hR hXR (by omega), sb, e_25_i hR, i3, e_25_k hR, kindAt_eq hR hXR hsn, sb, run.2, if_pos rfl, e_25_i hR, i2, e_25_p hR, nI_1]
    exact ⟨_, rfl, i1.aS (o := 25) rfl, gi_eq⟩) (by
    rintro ρ ⟨i1, i2⟩
    rw [show a0 + (e - a0) = e by omega] at i2
    have hR : Sh ρ z := i1.sh hS2 (by decide)
    have hXR := hX2.keep hS2 i1 tx0
    have i3 : s_i ρ (z + 25) 1 = nI s := (i1.ki hS2 25 1 (by decide) (by decide)).trans v21
    show ∃ u, lX6_token_80 (z + 25) ρ = _ ∧ _
    unfold lX6_token_80
    rw [e_25_i hR, e_25_3 hR, e_0_i hR, hXR.2.1, i2]
    by_cases c : e < n
    · have hsn : s < n := by omega
      have kl := kd_le (t s)
      have kl2 := kd_le (t e)
      rw [if_neg (nI_ge c (by omega)), e_25_i hR, i3, e_25_k hR, kindAt_eq hR hXR hsn, sb]
      by_cases c0 : kd (t s) = 0
      · rw [c0, if_pos (by decide)]
        exact ⟨_, rfl, i1, i2⟩
      · have ne : kd (t e) ≠ kd (t s) := by
          rcases t5 with t5 | ⟨-, -, t5 | t5⟩
          · omega
          · exact absurd t5.1 c0
          · exact t5.2.2.2 c
        rw [if_neg (nI_nle (by omega) (by omega)), e_25_i hR, i2, e_25_k hR, kindAt_eq hR hXR c, sb, e_25_i hR, i3, e_25_k hR, kindAt_eq hR hXR hsn, sb, if_neg (fun q => ne ((nI_eq (by omega) (by omega)).mp q))]
        exact ⟨_, rfl, i1, i2⟩
    · rw [if_pos (nI_le (by omega) (by omega))]
      exact ⟨_, rfl, i1, i2⟩) (s := τ2) ⟨Fr.refl, v20⟩ fuel (fuel_lt (by omega))
  have hS3 : Sh τ3 z := k2.sh hS2 (by decide)
  refine ⟨setI τ3 (z + 25) 2 (nI e), ?_, ((fr2.transL k2).inL (by decide)).aS (o := 25) rfl, ?_, ?_, gi_eq⟩
  · unfold fX6_token
    rw [l1, sb, e_25_i hS1, l3, e_25_p hS1]
    simp only [jn, e_25_i (Sh_setI.mpr hS1), e_25_3 (Sh_setI.mpr hS1), e_0_i (Sh_setI.mpr hS1), e_25_p (Sh_setI.mpr hS1)]
    rw [gi_nj (show (0 : Nat) ≠ 1 by decide), l3, gi_ne (show z ≠ z + 25 by omega), hX1.2.1]
    have fin : ∀ w : Int32, nI s + w = nI a0 → ((loopF fuel (fun y => lX6_token_80 (z + 25) y) (setI (setI τ1 (z + 25) 1 (nI s)) (z + 25) 0 (nI s + w))).bind fun σ32 => o_gI σ32 (z + 25) 4 0 fun x33 => o_pI σ32 (z + 25) 4 2 x33 fun σ34 => some σ34) = some (setI τ3 (z + 25) 2 (nI e)) := by
      intro w hw
      rw [hw, ← hτ2, k1, sb, e_25_i hS3, k3, e_25_p hS3]
    by_cases c : s < n
    · rw [if_neg (nI_ge c (by omega))]
      exact fin 1 (by rw [ha0, if_pos c, nI_1])
    · rw [if_pos (nI_le (by omega) (by omega))]
      exact fin 0 (by rw [ha0, if_neg c, Int32.add_zero, show s = n by omega])
  · rw [gi_nj (by decide), k3]
  · rw [gi_nj (by decide), k2.ki hS2 25 1 (by decide) (by decide), v21]
end TOK
