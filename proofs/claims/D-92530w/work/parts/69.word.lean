set_option maxRecDepth 100000
/-! words and numbers of the tape -/
def wb (i k : Nat) : Nat := ((bytS.getD i []).getD k 0).toNatClampNeg
/-- the number of a word; of the sign between lines -/
def cw (i : Nat) : Int64 := if i = 21 then -3 else lN (wn (wb i) 0 (lenS.getD i 0))
theorem wb_sx : ∀ i, i < 22 → ∀ k, k < lenS.getD i 0 → schr i k = nI (wb i k) ∧ wb i k < 128 ∧ (i ≠ 21 → 97 ≤ wb i k ∧ wb i k ≤ 122) := by decide +kernel
theorem len_le : ∀ i, i < 22 → lenS.getD i 0 ≤ 9 ∧ (i ≠ 8 → 1 ≤ lenS.getD i 0) := by decide
theorem sx_eq : ∀ b, b < 256 → ∀ c, c < 128 → (sx8 b = nI c ↔ b = c) := by
  intro b hb c hc
  have h1 : ∀ b, b < 128 → sx8 b = nI b := by decide +kernel
  have h2 : ∀ b, b < 256 → ¬ b < 128 → sx8 b < 0 := by decide +kernel
  by_cases c1 : b < 128
  · rw [h1 b c1, nI_eq (by omega) (by omega)]
  · constructor
    · intro q
      have := h2 b hb c1
      rw [q] at this
      exact absurd this (nI_pos (by omega))
    · intro q
      omega
/-- two words with the same number are the same -/
theorem wn_inj {f g : Nat → Nat} {a b : Nat} : ∀ {k l : Nat}, (∀ i, i < k → 97 ≤ f (a + i) ∧ f (a + i) ≤ 122) → (∀ i, i < l → 97 ≤ g (b + i) ∧ g (b + i) ≤ 122) → wn f a k = wn g b l → k = l ∧ ∀ i, i < k → f (a + i) = g (b + i)
  | 0, 0, _, _, _ => ⟨rfl, fun i h => absurd h (Nat.not_lt_zero i)⟩
  | 0, l + 1, _, hg, h => by
    have := hg l (by omega)
    have h : 0 = 27 * wn g b l + (g (b + l) - 96) := h
    omega
  | k + 1, 0, hf, _, h => by
    have := hf k (by omega)
    have h : 27 * wn f a k + (f (a + k) - 96) = 0 := h
    omega
  | k + 1, l + 1, hf, hg, h => by
    have h1 := hf k (by omega)
    have h2 := hg l (by omega)
    have h : 27 * wn f a k + (f (a + k) - 96) = 27 * wn g b l + (g (b + l) - 96) := h
    obtain ⟨e1, e2⟩ := wn_inj (k := k) (l := l) (fun i hi => hf i (by omega)) (fun i hi => hg i (by omega)) (by omega)
    subst e1
    refine ⟨rfl, fun i hi => ?_⟩
    by_cases e : i = k
    · subst e; omega
    · exact e2 i (by omega)
theorem wn_congr {f g : Nat → Nat} {a b : Nat} : ∀ k, (∀ i, i < k → f (a + i) = g (b + i)) → wn f a k = wn g b k
  | 0, _ => rfl
  | k + 1, h => by
    show 27 * wn f a k + (f (a + k) - 96) = 27 * wn g b k + (g (b + k) - 96)
    rw [wn_congr k (fun i hi => h i (by omega)), h k (by omega)]
theorem lN_inj {a b : Nat} (ha : a < 2 ^ 63) (hb : b < 2 ^ 63) : lN a = lN b ↔ a = b := pk_lEQ ha hb
/-- a token is a word -/
def Is (t : Nat → Nat) (s e i : Nat) : Prop := e - s = lenS.getD i 0 ∧ ∀ k, k < lenS.getD i 0 → t (s + k) = wb i k
theorem is_iff {t : Nat → Nat} {n p s e i : Nat} (hT : Tok t n p s e) (hi : i < 22) (h8 : i ≠ 8) : tc t n s e = cw i ↔ Is t s e i := by
  obtain ⟨t1, t2, t3, t4, t5⟩ := hT
  obtain ⟨n9, n1⟩ := len_le i hi
  have n1 := n1 h8
  have hw := wb_sx i hi
  by_cases c21 : i = 21
  · subst c21
    have ecw : cw 21 = -3 := rfl
    have w0 : wb 21 0 = 59 := by decide
    have l0 : lenS.getD 21 0 = 1 := rfl
    rw [ecw]
    unfold tc Is
    rw [l0]
    constructor
    · intro h
      split at h
      · exact absurd h (by decide)
      · split at h
        · next cs c1 =>
          have run : ∀ i, i < e - s → t (s + i) ≤ 122 := by
            rcases t5 with t5 | ⟨-, -, t5 | t5⟩
            · omega
            · omega
            · exact fun i hi => (kd1.mp ((t5.2.2.1 (s + i) (by omega) (by omega)).trans c1)).2
          split at h
          · next c9 => exact absurd h (lN_neg (wn_63 c9 run) (by decide))
          · exact absurd h (by decide)
        · split at h
          · split at h <;> exact absurd h (by decide)
          · next cs c1 c2 =>
            split at h
            · next c59 =>
              have he : e = s + 1 := by
                rcases t5 with t5 | ⟨-, -, t5 | t5⟩
                · exact absurd t5.1 cs
                · exact t5.2
                · have := kd_le (t s)
                  omega
              refine ⟨by omega, fun k hk => ?_⟩
              have : k = 0 := by omega
              subst this
              rw [w0]
              exact c59
            · exact absurd h (by decide)
    · rintro ⟨h1, h2⟩
      have h59 := h2 0 (by decide)
      rw [w0] at h59
      have h59 : t s = 59 := h59
      have k0 : kd (t s) = 0 := by rw [h59]; rfl
      rw [if_neg (by omega), if_neg (by omega), if_neg (by omega), if_pos h59]
  · have ecw : cw i = lN (wn (wb i) 0 (lenS.getD i 0)) := if_neg c21
    have hwl : ∀ k, k < lenS.getD i 0 → 97 ≤ wb i (0 + k) ∧ wb i (0 + k) ≤ 122 := fun k hk => by
      rw [Nat.zero_add]
      exact (hw k hk).2.2 c21
    have w63 := wn_63 n9 (fun k hk => (hwl k hk).2)
    rw [ecw]
    unfold tc Is
    constructor
    · intro h
      split at h
      · exact absurd h.symm (lN_neg w63 (by decide))
      · split at h
        · next cs c1 =>
          split at h
          · next c9 =>
            have run : ∀ i, i < e - s → 97 ≤ t (s + i) ∧ t (s + i) ≤ 122 := by
              rcases t5 with t5 | ⟨-, -, t5 | t5⟩
              · omega
              · omega
              · exact fun i hi => kd1.mp ((t5.2.2.1 (s + i) (by omega) (by omega)).trans c1)
            have h := (lN_inj (wn_63 c9 (fun k hk => (run k hk).2)) w63).mp h
            obtain ⟨e1, e2⟩ := wn_inj run hwl h
            refine ⟨e1, fun k hk => ?_⟩
            rw [e2 k (by omega), Nat.zero_add]
          · exact absurd h.symm (lN_neg w63 (by decide))
        · split at h
          · split at h <;> exact absurd h.symm (lN_neg w63 (by decide))
          · split at h <;> exact absurd h.symm (lN_neg w63 (by decide))
    · rintro ⟨h1, h2⟩
      have h0 := h2 0 (by omega)
      have hk0 := (hw 0 (by omega)).2.2 c21
      have k1 : kd (t s) = 1 := kd1.mpr (by rw [show t s = wb i 0 from h0]; exact hk0)
      rw [if_neg (by omega), if_pos k1, if_pos (by omega), h1]
      congr 1
      exact wn_congr _ (fun k hk => by rw [h2 k hk, Nat.zero_add])
section WORD
variable {σ τ : St} {z n p s e : Nat} {t : Nat → Nat}
theorem isWord_eq (hS : Sh τ z) (hX : Tx τ z n t) (hT : Tok t n p s e) (hR : RdX τ z s e) {i : Nat} (hi : i < 22) (h8 : i ≠ 8) : fX6_isWord τ (z + 25) i = some (if tc t n s e = cw i then 1 else 0, τ) := by
  have h160 := hX.1
  have iff := is_iff hT hi h8
  obtain ⟨t1, t2, t3, t4, t5⟩ := hT
  obtain ⟨r0, r1, r2⟩ := hR
  obtain ⟨n9, n1⟩ := len_le i hi
  have hw := wb_sx i hi
  have sl : ∀ {α : Type} (K : Int32 → Option α), o_slen i K = K (nI (lenS.getD i 0)) := fun K => if_pos hi
  have sc : ∀ {α : Type} (k : Nat) (K : Int32 → Option α), k < lenS.getD i 0 → o_schr i (nI k) K = K (schr i k) := fun k K hk => by
    unfold o_schr
    rw [if_pos ⟨hi, nI_in hk (by omega)⟩, nI_clamp (by omega)]
  unfold fX6_isWord
  rw [e_25_i hS, r2, e_25_i hS, r1, sl, pk_sub t2]
  simp only [jn]
  by_cases c1 : e - s = lenS.getD i 0
  · rw [if_pos (by rw [c1])]
    obtain ⟨N, hN, hlo, hhi⟩ := first_ex (fun k => t (s + k) ≠ wb i k) (lenS.getD i 0)
    have stp : ∀ k, k < lenS.getD i 0 → lX6_isWord_24 i (z + 25) τ 1 (nI k) = some (.inl (τ, (if t (s + k) = wb i k then 1 else 0), nI (k + 1))) := by
      intro k hk
      obtain ⟨b1, -, b2⟩ := hX.2.2.2 (s + k) (by omega)
      unfold lX6_isWord_24
      rw [if_neg (by decide), sl, if_neg (nI_ge hk (by omega)), e_25_3 hS, e_0_11 hS, e_25_i hS, r1, nI_add, a_24 hS (by omega), b2, sc k _ hk, (hw k hk).1, nI_1]
      simp only [jn, sx_eq _ b1 _ (hw k hk).2.1]
      split <;> rfl
    by_cases c2 : N < lenS.getD i 0
    · have ni : ¬ Is t s e i := fun q => hhi c2 (q.2 N c2)
      have : loopF fuel (fun y => lX6_isWord_24 i (z + 25) y.1 y.2.1 y.2.2) (τ, 1, 0) = some (τ, 0) := by
        refine loopF_seq (st := fun k => (τ, (if k ≤ N then 1 else 0), nI k)) (N + 1) (fun k hk => ?_) ?_ fuel (fuel_lt (by omega))
        · show lX6_isWord_24 i (z + 25) τ (if k ≤ N then 1 else 0) (nI k) = _
          rw [if_pos (show k ≤ N by omega), stp k (by omega)]
          show _ = some (Sum.inl (τ, (if k + 1 ≤ N then 1 else 0), nI (k + 1)))
          by_cases c3 : k + 1 ≤ N
          · rw [if_pos c3, if_pos (Classical.not_not.mp (hlo k (by omega)))]
          · have : k = N := by omega
            subst this
            rw [if_neg c3, if_neg (hhi c2)]
        · show lX6_isWord_24 i (z + 25) τ (if N + 1 ≤ N then 1 else 0) (nI (N + 1)) = _
          rw [if_neg (by omega)]
          unfold lX6_isWord_24
          rw [if_pos rfl]
      rw [this, sb, if_neg (fun q => ni (iff.mp q))]
      rfl
    · have yi : Is t s e i := ⟨c1, fun k hk => Classical.not_not.mp (hlo k (by omega))⟩
      have : loopF fuel (fun y => lX6_isWord_24 i (z + 25) y.1 y.2.1 y.2.2) (τ, 1, 0) = some (τ, 1) := by
        refine loopF_seq (st := fun k => (τ, 1, nI k)) (lenS.getD i 0) (fun k hk => ?_) ?_ fuel (fuel_lt (by omega))
        · show lX6_isWord_24 i (z + 25) τ 1 (nI k) = _
          rw [stp k hk, if_pos (yi.2 k hk)]
        · show lX6_isWord_24 i (z + 25) τ 1 (nI (lenS.getD i 0)) = _
          unfold lX6_isWord_24
          rw [if_neg (by decide), sl, if_pos (nI_le (Nat.le_refl _) (by omega))]
      rw [this, sb, if_pos (iff.mpr yi)]
      rfl
  · rw [if_neg (fun q => c1 ((nI_eq (by omega) (by omega)).mp q))]
    have ni : ¬ Is t s e i := fun q => c1 q.1
    have : loopF fuel (fun y => lX6_isWord_24 i (z + 25) y.1 y.2.1 y.2.2) (τ, 0, 0) = some (τ, 0) := by
      refine loopF_seq (st := fun _ => (τ, 0, 0)) 0 (fun k hk => absurd hk (Nat.not_lt_zero k)) ?_ fuel (fuel_lt (by decide))
      show lX6_isWord_24 i (z + 25) τ 0 0 = _
      unfold lX6_isWord_24
      rw [if_pos rfl]
    rw [this, sb, if_neg (fun q => ni (iff.mp q))]
    rfl
theorem rd_tx : (plno RD 0 (some 12) && plno RD 1064 (some 18) && plno RD 24 none && plno RD 1075 none) = true := by decide
/-- a word is passed over -/
theorem skips_yes (hS : Sh τ z) (hX : Tx τ z n t) (hT : Tok t n p s e) (hR : RdX τ z s e) {s' e' : Nat} (hT' : Tok t n e s' e') {i : Nat} (hi : i < 22) (h8 : i ≠ 8) (hc : tc t n s e = cw i) : ∃ τ', fX6_skips τ (z + 25) i = some (1, τ') ∧ Fr (PL z RD) τ τ' ∧ RdX τ' z s' e' := by
  obtain ⟨τ', x1, x2, x3⟩ := token_eq hS hX hR.1 hT'
  refine ⟨τ', ?_, x2, x3⟩
  unfold fX6_skips
  rw [e_25_k hS, isWord_eq hS hX hT hR hi h8, if_pos hc, sb]
  simp only [un2, jn, i10, if_false, e_25_k hS, x1, sb]
  rfl
theorem skips_no (hS : Sh τ z) (hX : Tx τ z n t) (hT : Tok t n p s e) (hR : RdX τ z s e) {i : Nat} (hi : i < 22) (h8 : i ≠ 8) (hc : tc t n s e ≠ cw i) : fX6_skips τ (z + 25) i = some (0, τ) := by
  unfold fX6_skips
  rw [e_25_k hS, isWord_eq hS hX hT hR hi h8, if_neg hc, sb]
  simp only [un2, jn, if_true]
  rfl
/-- what is thrown: the place of the token -/
def exS (τ : St) (s : Nat) : St := setI (born τ (.inl 11)) (s_z τ) 0 (nI s)
def Thr (z : Nat) (τ τ' : St) (q s : Nat) : Prop := s_k τ' q = some (.inl 11) ∧ s_i τ' q 0 = nI s ∧ Fr (PL z RD) τ τ'
theorem need_no (hS : Sh τ z) (hR : RdX τ z s e) : fX6_need τ (z + 25) 0 = some (.inr (s_z τ, exS τ s)) ∧ Thr z τ (exS τ s) (s_z τ) s := by
  have kz : s_k (born τ (.inl 11)) (s_z τ) = some (.inl 11) := by rw [k_born, if_pos rfl]
  have hb : Sh (born τ (.inl 11)) z := hS.born
  have r1 : s_i (born τ (.inl 11)) (z + 25) 1 = nI s := by
    have := hS.lt (o := 25) (by decide)
    rw [i_born, if_neg (by omega), hR.2.1]
  constructor
  · unfold fX6_need o_new fX14_init fJ6_init fJ5_init_2
    rw [if_pos rfl]
    show (o_gI (born τ (.inl 11)) (z + 25) 4 1 fun x3 => ((o_k (born τ (.inl 11)) (s_z τ) 11 (if (0 : Int32) = 0 ∧ (0 : Int32) = 0 then some () else none)).bind fun _ => o_pI (born τ (.inl 11)) (s_z τ) 11 0 x3 fun σ1 => some σ1).bind fun σ4 => (some (Sum.inr (s_z τ, σ4)) : Option (Rx Unit))) = _
    rw [e_25_i hb, r1, o_k_eq kz, if_pos ⟨rfl, rfl⟩, sb, o_pI_eq kz]
    rfl
  · exact ⟨kz, gi_eq, Fr.newI (Fr.brn Fr.refl) (Nat.le_refl _)⟩
theorem need_yes (τ : St) (a : Nat) : fX6_need τ a 1 = some (.inl ((), τ)) := by
  unfold fX6_need
  rw [if_neg (by decide)]
theorem nn_le {t : Nat → Nat} {s : Nat} (h : ∀ i, i < 2 → t (s + i) ≤ 57) : ∀ k, k ≤ 2 → nn t s k ≤ 99 := by
  intro k hk
  have h0 := h 0 (by decide)
  have h1 := h 1 (by decide)
  have : k = 0 ∨ k = 1 ∨ k = 2 := by omega
  rcases this with rfl | rfl | rfl
  · exact Nat.zero_le _
  · show 10 * 0 + (t (s + 0) - 48) ≤ 99
    omega
  · show 10 * (10 * 0 + (t (s + 0) - 48)) + (t (s + 1) - 48) ≤ 99
    omega
/-- a token is a short number -/
theorem tc_num (hT : Tok t n p s e) : tc t n s e = -1 ↔ s < n ∧ kd (t s) = 2 ∧ e - s ≤ 2 := by
  obtain ⟨t1, t2, t3, t4, t5⟩ := hT
  unfold tc
  constructor
  · intro h
    split at h
    · exact absurd h (by decide)
    · next cs =>
      split at h
      · next c1 =>
        have run : ∀ i, i < e - s → t (s + i) ≤ 122 := by
          rcases t5 with t5 | ⟨-, -, t5 | t5⟩
          · omega
          · omega
          · exact fun i hi => (kd1.mp ((t5.2.2.1 (s + i) (by omega) (by omega)).trans c1)).2
        split at h
        · next c9 => exact absurd h (lN_neg (wn_63 c9 run) (by decide))
        · exact absurd h (by decide)
      · split at h
        · next c2 =>
          split at h
          · next c3 => exact ⟨by omega, c2, c3⟩
          · exact absurd h (by decide)
        · split at h <;> exact absurd h (by decide)
  · rintro ⟨h1, h2, h3⟩
    rw [if_neg (by omega), if_neg (by omega), if_pos h2, if_pos h3]
theorem num_eq (hS : Sh τ z) (hX : Tx τ z n t) (hT : Tok t n p s e) (hR : RdX τ z s e) (mx : Nat) (hmx : mx ≤ 99) : (tc t n s e = -1 ∧ nn t s (e - s) ≤ mx ∧ ∃ s' e' τ', Tok t n e s' e' ∧ fX6_number τ (z + 25) (nI mx) = some (.inl (nI (nn t s (e - s)), τ')) ∧ Fr (PL z RD) τ τ' ∧ RdX τ' z s' e') ∨ (¬ (tc t n s e = -1 ∧ nn t s (e - s) ≤ mx) ∧ ∃ q τ', fX6_number τ (z + 25) (nI mx) = some (.inr (q, τ')) ∧ Thr z τ τ' q s) := by
  have h160 := hX.1
  have htn := tc_num hT
  have hT0 := hT
  obtain ⟨t1, t2, t3, t4, t5⟩ := hT
  obtain ⟨r0, r1, r2⟩ := hR
  have fails : ∀ (x : Int32), (o_k τ (z + 25) 4 <| (fX6_need τ (z + 25) 0).bind <| xs fun _ σ18 => o_k σ18 (z + 25) 4 <| (fX6_token σ18 (z + 25)).bind fun σ19 => (some (.inl (x, σ19)) : Option (Rx Int32))) = some (.inr (s_z τ, exS τ s)) := by
    intro x
    rw [e_25_k hS, (need_no hS ⟨r0, r1, r2⟩).1, sb]
    rfl
  have lp0 : loopF fuel (fun y => lX6_number_53 0 τ (z + 25) y.1 y.2) (0, nI s) = some 0 := by
    refine loopF_seq (st := fun _ => (0, nI s)) 0 (fun k hk => absurd hk (Nat.not_lt_zero k)) ?_ fuel (fuel_lt (by decide))
    show lX6_number_53 0 τ (z + 25) 0 (nI s) = _
    unfold lX6_number_53
    rw [if_pos rfl]
  by_cases c : s < n ∧ kd (t s) = 2 ∧ e - s ≤ 2
  · have run : s < e ∧ ∀ i, s ≤ i → i < e → 48 ≤ t i ∧ t i ≤ 57 := by
      rcases t5 with t5 | ⟨-, -, t5 | t5⟩
      · omega
      · omega
      · exact ⟨t5.2.1, fun i h1 h2 => kd2.mp ((t5.2.2.1 i h1 h2).trans c.2.1)⟩
    have lp : loopF fuel (fun y => lX6_number_53 1 τ (z + 25) y.1 y.2) (0, nI s) = some (nI (nn t s (e - s))) := by
      refine loopF_seq (st := fun k => (nI (nn t s k), nI (s + k))) (e - s) (fun k hk => ?_) ?_ fuel (fuel_lt (by omega))
      · show lX6_number_53 1 τ (z + 25) (nI (nn t s k)) (nI (s + k)) = _
        obtain ⟨b1, -, b2⟩ := hX.2.2.2 (s + k) (by omega)
        have hd := run.2 (s + k) (by omega) (by omega)
        have hsx : sx8 (t (s + k)) = nI (t (s + k)) := (sx_eq _ b1 _ (by omega)).mpr rfl
        unfold lX6_number_53
        rw [if_neg (by decide), e_25_i hS, r2, if_neg (nI_ge (by omega) (by omega)), e_25_3 hS, e_0_11 hS, a_24 hS (by omega), b2, hsx, nI_step (by omega), nI_1]
        rfl
      · show lX6_number_53 1 τ (z + 25) (nI (nn t s (e - s))) (nI (s + (e - s))) = _
        unfold lX6_number_53
        rw [if_neg (by decide), e_25_i hS, r2, if_pos (nI_le (by omega) (by omega))]
    have nl : nn t s (e - s) ≤ 999 := by
      have h0 := run.2 s (by omega) (by omega)
      have : e - s = 1 ∨ e - s = 2 := by omega
      rcases this with h | h
      · rw [h]
        show 10 * 0 + (t (s + 0) - 48) ≤ 999
        rw [Nat.add_zero]
        omega
      · have h1 := run.2 (s + 1) (by omega) (by omega)
        rw [h]
        show 10 * (10 * 0 + (t (s + 0) - 48)) + (t (s + 1) - 48) ≤ 999
        rw [Nat.add_zero]
        omega
    have ev : fX6_number τ (z + 25) (nI mx) = (if nI mx < nI (nn t s (e - s)) then some (.inr (s_z τ, exS τ s)) else (o_k τ (z + 25) 4 <| (fX6_need τ (z + 25) 1).bind <| xs fun _ σ18 => o_k σ18 (z + 25) 4 <| (fX6_token σ18 (z + 25)).bind fun σ19 => some (.inl (nI (nn t s (e - s)), σ19)))) := by
      unfold fX6_number
      rw [e_25_i hS, r1, e_25_3 hS, e_0_i hS, hX.2.1]
      simp only [jn]
      rw [if_neg (nI_ge c.1 (by omega)), e_25_i hS, r1, e_25_k hS, kindAt_eq hS hX c.1, sb, c.2.1, if_pos (show nI 2 = 2 by decide), e_25_i hS, r2, e_25_i hS, r1, pk_sub t2, if_neg (nlt_lit 2 2 _ rfl c.2.2 (by decide)), e_25_i hS, r1, lp, sb]
      simp only [i10, if_false, fails]
    rw [ev]
    by_cases c2 : nn t s (e - s) ≤ mx
    · left
      obtain ⟨s', e', hT'⟩ := tok_ex t (n := n) (p := e) t3
      obtain ⟨τ', x1, x2, x3⟩ := token_eq hS hX r0 hT'
      refine ⟨htn.mpr c, c2, s', e', τ', hT', ?_, x2, x3⟩
      rw [if_neg (nI_nlt c2 (by omega)), e_25_k hS, need_yes, sb]
      show (o_k τ (z + 25) 4 <| (fX6_token τ (z + 25)).bind fun σ19 => (some (Sum.inl (nI (nn t s (e - s)), σ19)) : Option (Rx Int32))) = _
      rw [e_25_k hS, x1, sb]
    · right
      refine ⟨fun q => c2 q.2, s_z τ, exS τ s, ?_, (need_no hS ⟨r0, r1, r2⟩).2⟩
      rw [if_pos (nI_lt (by omega) (by omega))]
  · right
    refine ⟨fun q => c (htn.mp q.1), s_z τ, exS τ s, ?_, (need_no hS ⟨r0, r1, r2⟩).2⟩
    unfold fX6_number
    rw [e_25_i hS, r1, e_25_3 hS, e_0_i hS, hX.2.1]
    simp only [jn, e_25_i hS, r1, r2, lp0, sb, if_true, fails]
    by_cases c1 : s < n
    · rw [if_neg (nI_ge c1 (by omega)), e_25_k hS, kindAt_eq hS hX c1, sb]
      by_cases c2 : kd (t s) = 2
      · rw [c2, if_pos (show nI 2 = 2 by decide), pk_sub t2, if_pos (lt_lit 2 2 _ rfl (by omega) (by omega))]
      · have := kd_le (t s)
        rw [if_neg (nI_lit_ne (c := 2) (n := 2) rfl (by omega) (by decide) c2)]
    · rw [if_pos (nI_le (by omega) (by omega))]
end WORD
