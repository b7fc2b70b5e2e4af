set_option maxRecDepth 100000
/-! a test, read by both -/
theorem cmp_eq0 (a b : Int64) : lg_cmp a b = 0 ↔ a = b := by
  unfold lg_cmp
  simp only [gt_iff_lt, Int64.lt_iff_toInt_lt, ← Int64.toInt_inj]
  repeat' split
  · constructor
    · intro h; exact absurd h (by decide)
    · intro h; omega
  · constructor
    · intro _; assumption
    · intro _; rfl
  · constructor
    · intro h; exact absurd h (by decide)
    · intro h; contradiction
def MF : PlL := [(1064, some 20), (1064, some 21), (1064, some 22), (1064, some 23), (1064, some 24), (1064, some 25), (1076, none)]
def MR : PlL := [(1064, some 20), (1064, some 21), (1064, some 22), (1064, some 23), (1064, some 24), (1064, some 25), (1064, some 26), (1076, none)]
theorem mf_tx : (plno MF 0 (some 12) && plno MF 1064 (some 18) && plno MF 24 none && plno MF 1075 none) = true := by decide
theorem cw_lit : cw 0 = 283437703 ∧ cw 1 = 291417229 ∧ cw 2 = 48686 ∧ cw 3 = 126232335 ∧ cw 4 = 247664 ∧ cw 5 = 168984 ∧ cw 6 = 458690 ∧ cw 7 = 1111 ∧ cw 9 = 10497692 ∧ cw 10 = 51266052 ∧ cw 11 = 381245 ∧ cw 12 = 13550 ∧ cw 13 = 6476969 ∧ cw 14 = 259906 ∧ cw 15 = 125041 ∧ cw 16 = 121882 ∧ cw 17 = 4134649 ∧ cw 18 = 355270 ∧ cw 19 = 582341 ∧ cw 20 = 1170473 ∧ cw 21 = -3 := by decide +kernel
def rdV (y : Int64) : Int32 := if lg_cmp y 283437703 = 0 then 0 else if lg_cmp y 291417229 = 0 then 1 else if lg_cmp y 48686 = 0 then 2 else if lg_cmp y 126232335 = 0 then 3 else if lg_cmp y 247664 = 0 then 4 else if lg_cmp y 168984 = 0 then 5 else -1
theorem rdV_yes : ∀ i, i < 6 → rdV (cw i) = nI i := by decide +kernel
theorem rdV_no {y : Int64} (h : ∀ i, i < 6 → y ≠ cw i) : rdV y = -1 := by
  obtain ⟨c0, c1, c2, c3, c4, c5, -⟩ := cw_lit
  unfold rdV
  rw [if_neg (fun q => h 0 (by decide) (((cmp_eq0 _ _).mp q).trans c0.symm)), if_neg (fun q => h 1 (by decide) (((cmp_eq0 _ _).mp q).trans c1.symm)), if_neg (fun q => h 2 (by decide) (((cmp_eq0 _ _).mp q).trans c2.symm)), if_neg (fun q => h 3 (by decide) (((cmp_eq0 _ _).mp q).trans c3.symm)), if_neg (fun q => h 4 (by decide) (((cmp_eq0 _ _).mp q).trans c4.symm)), if_neg (fun q => h 5 (by decide) (((cmp_eq0 _ _).mp q).trans c5.symm))]
theorem rdV_if {α : Type} (y : Int64) (j : Int32 → α) : (if lg_cmp y 283437703 = 0 then j 0 else if lg_cmp y 291417229 = 0 then j 1 else if lg_cmp y 48686 = 0 then j 2 else if lg_cmp y 126232335 = 0 then j 3 else if lg_cmp y 247664 = 0 then j 4 else if lg_cmp y 168984 = 0 then j 5 else j (-1)) = j (rdV y) := by
  unfold rdV
  by_cases h0 : lg_cmp y 283437703 = 0
  · simp only [h0, if_true]
  · by_cases h1 : lg_cmp y 291417229 = 0
    · simp only [h0, h1, if_true, if_false]
    · by_cases h2 : lg_cmp y 48686 = 0
      · simp only [h0, h1, h2, if_true, if_false]
      · by_cases h3 : lg_cmp y 126232335 = 0
        · simp only [h0, h1, h2, h3, if_true, if_false]
        · by_cases h4 : lg_cmp y 247664 = 0
          · simp only [h0, h1, h2, h3, h4, if_true, if_false]
          · by_cases h5 : lg_cmp y 168984 = 0
            · simp only [h0, h1, h2, h3, h4, h5, if_true, if_false]
            · simp only [h0, h1, h2, h3, h4, h5, if_false]
theorem jn_rd {Z : Type} (y : Int64) (F : Int32 → Z) : (jn F fun j => if lg_cmp y 283437703 = 0 then j 0 else if lg_cmp y 291417229 = 0 then j 1 else if lg_cmp y 48686 = 0 then j 2 else if lg_cmp y 126232335 = 0 then j 3 else if lg_cmp y 247664 = 0 then j 4 else if lg_cmp y 168984 = 0 then j 5 else j (-1)) = F (rdV y) := rdV_if y F
theorem bz0 {α : Type} {K : Option α} : o_bz 0 K = K := if_pos (Or.inl rfl)
theorem bz1 {α : Type} {K : Option α} : o_bz 1 K = K := if_pos (Or.inr rfl)
theorem RdX.set {τ : St} {z s e a j : Nat} {v : Int32} (h : RdX τ z s e) (ha : z + 25 < a) : RdX (setI τ a j v) z s e := by
  unfold RdX
  rw [gi_ne (by omega), gi_ne (by omega), gi_ne (by omega)]
  exact h
theorem RdX.setR {τ : St} {z s e a j : Nat} {v : Option Nat} (h : RdX τ z s e) : RdX (setR τ a j v) z s e := h
theorem RdX.brn {τ : St} {z s e : Nat} {k : Nat ⊕ Nat × Nat} (h : RdX τ z s e) (hS : Sh τ z) : RdX (born τ k) z s e := by
  have := hS.lt (o := 25) (by decide)
  unfold RdX
  simp only [i_born, if_neg (show ¬ z + 25 = s_z τ by omega)]
  exact h
section TEST
variable {τ ρ : St} {z n p s e : Nat} {t : Nat → Nat}
theorem fails_eq (hS : Sh τ z) (h : s_i τ (z + 1064) 21 = nI s) : fX7_fails τ (z + 1064) = some (0, setI τ (z + 1064) 25 (nI s)) := by
  unfold fX7_fails
  rw [e_1064_i hS, h, e_1064_p hS]
theorem isNum_eq (hS : Sh τ z) (hX : Ty τ z n t) (hp : s_i τ (z + 1064) 20 = nI p) (hT : Tok t n p s e) {a mx : Nat} (ha : a < 72) (hm : mx ≤ 99) : (tc t n s e = -1 ∧ nn t s (e - s) ≤ mx ∧ ∃ τ', fX7_isNumber τ (z + 1064) (nI a) (nI mx) = some (1, τ') ∧ Fr (PL z MF) τ τ' ∧ s_i τ' (z + 1064) 20 = nI e ∧ s_i τ' (z + 1076) a = nI (nn t s (e - s)) ∧ ∀ j, j ≠ a → s_i τ' (z + 1076) j = s_i τ (z + 1076) j) ∨ (¬ (tc t n s e = -1 ∧ nn t s (e - s) ≤ mx) ∧ ∃ τ', fX7_isNumber τ (z + 1064) (nI a) (nI mx) = some (0, τ') ∧ Fr (PL z MF) τ τ' ∧ s_i τ' (z + 1064) 25 = nI s) := by
  obtain ⟨τ1, n1, n2, n3, n4, n5, n6⟩ := next_eq hS hX hp hT
  have hS1 : Sh τ1 z := n2.sh hS (by decide)
  have fr1 : Fr (PL z MF) τ τ1 := n2.inL (by decide)
  have fl : (o_k τ1 (z + 1064) 5 <| (fX7_fails τ1 (z + 1064)).bind <| un2 fun x7 σ8 => o_bz x7 <| some (x7, σ8)) = some (0, setI τ1 (z + 1064) 25 (nI s)) := by
    rw [e_1064_k hS1, fails_eq hS1 n4, sb]
    rfl
  have frf : Fr (PL z MF) τ (setI τ1 (z + 1064) 25 (nI s)) := fr1.aS (o := 1064) rfl
  have ev := Eq.refl (fX7_isNumber τ (z + 1064) (nI a) (nI mx))
  conv at ev => rhs; unfold fX7_isNumber
  rw [e_1064_k hS, n1, sb, e_1064_l hS1, n5] at ev
  simp only [jn, fl, e_1064_i hS1] at ev
  by_cases c : tc t n s e = -1
  · have v := n6 c
    obtain ⟨q1, q2, q3⟩ := (tc_num hT).mp c
    have nl : nn t s (e - s) ≤ 999 := by
      obtain ⟨t1, t2, t3, t4, t5⟩ := hT
      have run : s < e ∧ ∀ i, s ≤ i → i < e → 48 ≤ t i ∧ t i ≤ 57 := by
        rcases t5 with t5 | ⟨-, -, t5 | t5⟩
        · omega
        · omega
        · exact ⟨t5.2.1, fun i h1 h2 => kd2.mp ((t5.2.2.1 i h1 h2).trans q2)⟩
      have h0 := run.2 s (by omega) (by omega)
      have : e - s = 1 ∨ e - s = 2 := by omega
      rcases this with h | h
      · rw [h]
        show 10 * 0 + (t (s + 0) - 48) ≤ 999
        rw [Nat.add_zero]
        omega
      · have h1 := run.2 (s + 1) (by omega) (by omega)
        rw [h]
        show 10 * (10 * 0 + (t (s + 0) - 48)) + (t (s + 1) - 48) ≤ 999
        rw [Nat.add_zero]
        omega
    rw [if_pos ((cmp_eq0 _ _).mpr c), v] at ev
    by_cases c2 : nn t s (e - s) ≤ mx
    · rw [if_pos (nI_le c2 (by omega)), e_1064_27 hS1, s_1076 hS1 ha] at ev
      refine Or.inl ⟨c, c2, _, ev, fr1.aS (o := 1076) rfl, ?_, gi_eq, fun j hj => ?_⟩
      · rw [gi_ne (by omega)]
        exact n3
      · rw [gi_nj hj, n2.kia hS 1076 (by decide) (by decide)]
    · rw [if_neg (nI_ge (by omega) (by omega))] at ev
      exact Or.inr ⟨fun q => c2 q.2, _, ev, frf, gi_eq⟩
  · rw [if_neg (fun q => c ((cmp_eq0 _ _).mp q))] at ev
    exact Or.inr ⟨fun q => c q.1, _, ev, frf, gi_eq⟩
theorem rdLoop (hS : Sh τ z) (hX : Tx τ z n t) (hT : Tok t n p s e) (hR : RdX τ z s e) {s' e' : Nat} (hT' : Tok t n e s' e') : (∃ i τ', i < 6 ∧ tc t n s e = cw i ∧ loopF fuel (fun y => lX6_test_4 (z + 25) y.1 y.2.1 y.2.2) (τ, (-1), 0) = some (τ', nI i) ∧ Fr (PL z RD) τ τ' ∧ RdX τ' z s' e') ∨ ((∀ i, i < 6 → tc t n s e ≠ cw i) ∧ loopF fuel (fun y => lX6_test_4 (z + 25) y.1 y.2.1 y.2.2) (τ, (-1), 0) = some (τ, -1)) := by
  obtain ⟨N, hN, hlo, hhi⟩ := first_ex (fun i => tc t n s e = cw i) 6
  have rd : ∀ {α : Type} (k : Nat) (K : Nat → Option α), k < 6 → o_rd (nI k) K = K k := fun k K hk => by
    unfold o_rd
    rw [if_pos (nI_in hk (by decide)), nI_clamp (by omega)]
  have stp : ∀ k, k < N → lX6_test_4 (z + 25) τ (-1) (nI k) = some (.inl (τ, -1, nI (k + 1))) := by
    intro k hk
    unfold lX6_test_4
    rw [if_neg (show ¬ Int32.ofNat 6 ≤ nI k from nI_ge (b := 6) (by omega) (by decide)), if_pos rfl, rd k _ (by omega), e_25_k hS, skips_no hS hX hT hR (by omega) (by omega) (hlo k hk), sb]
    simp only [un2, jn, if_true, nI_1]
  by_cases c : N < 6
  · obtain ⟨τ', x1, x2, x3⟩ := skips_yes hS hX hT hR hT' (i := N) (by omega) (by omega) (hhi c)
    refine Or.inl ⟨N, τ', c, hhi c, ?_, x2, x3⟩
    refine loopF_seq (st := fun k => if k ≤ N then (τ, -1, nI k) else (τ', nI N, nI (N + 1))) (N + 1) (fun k hk => ?_) ?_ fuel (fuel_lt (by omega))
    · simp only [show k ≤ N by omega, if_true]
      by_cases c2 : k + 1 ≤ N
      · simp only [c2, if_true]
        exact stp k (by omega)
      · have : k = N := by omega
        subst this
        simp only [c2, if_false]
        show lX6_test_4 (z + 25) τ (-1) (nI k) = _
        unfold lX6_test_4
        rw [if_neg (show ¬ Int32.ofNat 6 ≤ nI k from nI_ge (b := 6) (by omega) (by decide)), if_pos rfl, rd k _ (by omega), e_25_k hS, x1, sb]
        simp only [un2, jn, i10, if_false, nI_1]
    · simp only [show ¬ N + 1 ≤ N by omega, if_false]
      show lX6_test_4 (z + 25) τ' (nI N) (nI (N + 1)) = _
      unfold lX6_test_4
      rw [if_neg (neg1_ne (show N < 2 ^ 31 by omega)), ite_self]
  · refine Or.inr ⟨fun i hi => hlo i (by omega), ?_⟩
    have h6 : N = 6 := by omega
    refine loopF_seq (st := fun k => (τ, -1, nI k)) 6 (fun k hk => stp k (by omega)) ?_ fuel (fuel_lt (by omega))
    show lX6_test_4 (z + 25) τ (-1) (nI 6) = _
    unfold lX6_test_4
    rw [if_pos (show Int32.ofNat 6 ≤ nI 6 by decide)]
/-- a test: in the component a new object, in the model three numbers -/
theorem test_two (hS : Sh τ z) (hX : Tx τ z n t) (hT : Tok t n p s e) (hR : RdX τ z s e) (hSm : Sh ρ z) (hXm : Ty ρ z n t) (hp : s_i ρ (z + 1064) 20 = nI p) {a : Nat} (ha : a + 2 < 72) :
    (∃ q τ' ρ' p2 s2 e2, Tok t n p2 s2 e2 ∧ fX6_test τ (z + 25) = some (.inl (q, τ')) ∧ Fr (PL z RD) τ τ' ∧ RdX τ' z s2 e2 ∧ s_z τ ≤ q ∧ fX7_isTest ρ (z + 1064) (nI a) = some (1, ρ') ∧ Fr (PL z MF) ρ ρ' ∧ s_i ρ' (z + 1064) 20 = nI p2 ∧ (∀ j, j ≠ a → j ≠ a + 1 → j ≠ a + 2 → s_i ρ' (z + 1076) j = s_i ρ (z + 1076) j) ∧ TestR τ' z q (s_i ρ' (z + 1076) a) (s_i ρ' (z + 1076) (a + 1)) (s_i ρ' (z + 1076) (a + 2))) ∨
    (∃ q τ' ρ' sf, fX6_test τ (z + 25) = some (.inr (q, τ')) ∧ Thr z τ τ' q sf ∧ fX7_isTest ρ (z + 1064) (nI a) = some (0, ρ') ∧ Fr (PL z MF) ρ ρ' ∧ s_i ρ' (z + 1064) 25 = nI sf ∧ sf ≤ 160) := by
  have le160 : ∀ {p s e : Nat}, Tok t n p s e → s ≤ 160 := fun h => by
    have := hX.1
    have := h.2.1
    have := h.2.2.1
    omega
  have e0 : e ≤ n := hT.2.2.1
  obtain ⟨s1, e1, hT1⟩ := tok_ex t (n := n) (p := e) e0
  obtain ⟨c0, c1, c2, c3, c4, c5, -, -, -, -, -, -, -, -, -, -, -, -, c19, c20, -⟩ := cw_lit
  -- the model's first token
  obtain ⟨ρ1, n1, n2, n3, n4, n5, n6⟩ := next_eq hSm hXm hp hT
  have hSm1 : Sh ρ1 z := n2.sh hSm (by decide)
  have frm1 : Fr (PL z MF) ρ ρ1 := n2.inL (by decide)
  obtain ⟨ρ2, hρ2⟩ : ∃ ρ2, ρ2 = setI ρ1 (z + 1076) a (rdV (tc t n s e)) := ⟨_, rfl⟩
  have hSm2 : Sh ρ2 z := by rw [hρ2]; exact hSm1
  have frm2 : Fr (PL z MF) ρ ρ2 := by rw [hρ2]; exact frm1.aS (o := 1076) rfl
  have hXm2 := hXm.keep hSm frm2 mf_tx
  have w21 : s_i ρ2 (z + 1064) 21 = nI s := by rw [hρ2, gi_ne (by omega)]; exact n4
  have w20 : s_i ρ2 (z + 1064) 20 = nI e := by rw [hρ2, gi_ne (by omega)]; exact n3
  have wa : s_i ρ2 (z + 1076) a = rdV (tc t n s e) := by rw [hρ2, gi_eq]
  have wj : ∀ j, j ≠ a → s_i ρ2 (z + 1076) j = s_i ρ (z + 1076) j := fun j hj => by
    rw [hρ2, gi_nj hj, n2.kia hSm 1076 (by decide) (by decide)]
  have evM := Eq.refl (fX7_isTest ρ (z + 1064) (nI a))
  conv at evM => rhs; unfold fX7_isTest
  rw [e_1064_k hSm, n1, sb, e_1064_27 hSm1] at evM
  simp only [e_1064_l hSm1, n5] at evM
  rw [jn_rd, s_1076 hSm1 (by omega), ← hρ2, e_1064_27 hSm2, a_1076 hSm2 (by omega), wa] at evM
  rcases rdLoop hS hX hT hR hT1 with ⟨i, τ1, hi, hc, l1, l2, l3⟩ | ⟨hno, l1⟩
  · have rv : rdV (tc t n s e) = nI i := by rw [hc]; exact rdV_yes i hi
    have hS1 : Sh τ1 z := l2.sh hS (by decide)
    have hX1 := hX.keep hS l2 rd_tx
    obtain ⟨s2, e2, hT2⟩ := tok_ex t (n := n) (p := e1) hT1.2.2.1
    obtain ⟨ρ3, m1, m2, m3, m4, m5, -⟩ := next_eq hSm2 hXm2 w20 hT1
    have hSm3 : Sh ρ3 z := m2.sh hSm2 (by decide)
    have frm3 : Fr (PL z MF) ρ ρ3 := (frm2.transL m2).inL (by decide)
    rw [rv, if_neg (neg1_ne (by omega)), e_1064_k hSm2, m1, sb, e_1064_l hSm3, m5] at evM
    simp only [jn, e_1064_l hSm3, m5, e_1064_27 hSm3, e_1064_k hSm3, fails_eq hSm3 m4, sb, un2, bz0] at evM
    -- the component's second word
    have evX := Eq.refl (fX6_test τ (z + 25))
    conv at evX => rhs; unfold fX6_test
    rw [l1, sb] at evX
    simp only [un2, jn, if_neg (neg1_ne (show i < 2 ^ 31 by omega)), e_25_k hS1, need_yes, sb, xs, isWord_eq hS1 hX1 hT1 l3 (show 19 < 22 by decide) (by decide), isWord_eq hS1 hX1 hT1 l3 (show 20 < 22 by decide) (by decide)] at evX
    by_cases cab : tc t n s1 e1 = cw 19 ∨ tc t n s1 e1 = cw 20
    · obtain ⟨τ2, x1, x2, x3⟩ := token_eq hS1 hX1 l3.1 hT2
      have hS2 : Sh τ2 z := x2.sh hS1 (by decide)
      have fr2 : Fr (PL z RD) τ τ2 := (l2.transL x2).inL (by decide)
      obtain ⟨ab, hab, hab01⟩ : ∃ ab : Int32, ab = (if tc t n s1 e1 = cw 19 then 1 else 0) ∧ (ab = 0 ∨ ab = 1) := ⟨_, rfl, by split <;> simp⟩
      -- the new test
      have kz : s_k (born τ2 (.inl 13)) (s_z τ2) = some (.inl 13) := by rw [k_born, if_pos rfl]
      have hSb : Sh (born τ2 (.inl 13)) z := hS2.born
      have frb : Fr (PL z RD) τ (born τ2 (.inl 13)) := fr2.brn
      have hXb := hX.keep hS frb rd_tx
      have hRb : RdX (born τ2 (.inl 13)) z s2 e2 := x3.brn hS2
      have e99 : (99 : Int32) = nI 99 := rfl
      have evX2 : fX6_test τ (z + 25) = (o_k (born τ2 (.inl 13)) (z + 25) 4 <| (fX6_number (born τ2 (.inl 13)) (z + 25) (nI 99)).bind <| xs fun x24 σ23 => (fX16_init σ23 (s_z τ2) (nI i) ab x24).bind fun σ25 => some (.inl (s_z τ2, σ25))) := by
        rw [evX]
        rcases cab with c | c
        · rw [hab]
          simp only [if_pos c, i10, if_false, need_yes, sb, xs, e_25_k hS1, x1, o_new]
          rfl
        · by_cases c' : tc t n s1 e1 = cw 19
          · rw [hab]
            simp only [if_pos c', i10, if_false, need_yes, sb, xs, e_25_k hS1, x1, o_new]
            rfl
          · rw [hab]
            simp only [if_neg c', if_pos c, i10, if_true, if_false, need_yes, sb, xs, e_25_k hS1, x1, o_new]
            rfl
      rw [e_25_k hSb] at evX2
      -- the model's second number
      obtain ⟨ρ4, hρ4⟩ : ∃ ρ4, ρ4 = setI ρ3 (z + 1076) (a + 1) ab := ⟨_, rfl⟩
      have hSm4 : Sh ρ4 z := by rw [hρ4]; exact hSm3
      have frm4 : Fr (PL z MF) ρ ρ4 := by rw [hρ4]; exact frm3.aS (o := 1076) rfl
      have hXm4 := hXm.keep hSm frm4 mf_tx
      have u20 : s_i ρ4 (z + 1064) 20 = nI e1 := by rw [hρ4, gi_ne (by omega)]; exact m3
      have u76 : ∀ j, j ≠ a + 1 → s_i ρ4 (z + 1076) j = s_i ρ2 (z + 1076) j := fun j hj => by
        rw [hρ4, gi_nj hj, m2.kia hSm2 1076 (by decide) (by decide)]
      have u76b : s_i ρ4 (z + 1076) (a + 1) = ab := by rw [hρ4, gi_eq]
      have evM2 : fX7_isTest ρ (z + 1064) (nI a) = (fX7_isNumber ρ4 (z + 1064) (nI (a + 2)) (nI 99)).bind (fun y => o_bz y.1 (some (y.1, y.2))) := by
        rw [evM]
        have fin : ∀ w : Int32, w = ab → (o_sI ρ3 (z + 1076) 0 (nI a + 1) w fun σ21 => o_k σ21 (z + 1064) 5 ((fX7_isNumber σ21 (z + 1064) (nI a + 2) 99).bind fun y => o_bz y.1 (some (y.1, y.2)))) = (fX7_isNumber ρ4 (z + 1064) (nI (a + 2)) (nI 99)).bind (fun y => o_bz y.1 (some (y.1, y.2))) := by
          intro w hw
          rw [hw, nI_1, s_1076 hSm3 (by omega), ← hρ4, e_1064_k hSm4, nI_hi 2 2 a rfl]
          rfl
        by_cases c' : tc t n s1 e1 = cw 19
        · have a1 : tc t n s1 e1 ≠ 1170473 := by rw [c', c19]; decide
          have a2 : lg_cmp (tc t n s1 e1) 582341 = 0 := (cmp_eq0 _ _).mpr (c'.trans c19)
          rw [if_neg (fun q => a1 ((cmp_eq0 _ _).mp q)), if_pos a2, if_pos a2]
          exact fin 1 (by rw [hab, if_pos c'])
        · have a1 : lg_cmp (tc t n s1 e1) 1170473 = 0 := (cmp_eq0 _ _).mpr ((cab.resolve_left c').trans c20)
          have a2 : ¬ lg_cmp (tc t n s1 e1) 582341 = 0 := fun q => c' (((cmp_eq0 _ _).mp q).trans c19.symm)
          rw [if_pos a1, if_neg a2]
          exact fin 0 (by rw [hab, if_neg c'])
      rcases num_eq hSb hXb hT2 hRb 99 (by decide) with ⟨d1, d2, s3, e3, τ3, d3, d4, d5, d6⟩ | ⟨d1, q, τ3, d2, d3⟩
      · rcases isNum_eq hSm4 hXm4 u20 hT2 (a := a + 2) (mx := 99) (by omega) (by decide) with ⟨-, -, ρ5, g1, g2, g3, g4, g5⟩ | ⟨g0, -⟩
        · left
          have ltz : s_z τ2 < s_z (born τ2 (.inl 13)) := by rw [z_born]; omega
          have k3 : s_k τ3 (s_z τ2) = some (.inl 13) := by rw [d5.1 _ ltz]; exact kz
          have hbig : z + 1094 ≤ s_z τ2 := hS2.2.2.2.1
          have fi : fX16_init τ3 (s_z τ2) (nI i) ab (nI (nn t s2 (e2 - s2))) = some (setI (setI (setI τ3 (s_z τ2) 0 (nI i)) (s_z τ2) 1 ab) (s_z τ2) 2 (nI (nn t s2 (e2 - s2)))) := by
            unfold fX16_init
            rw [o_pI_eq k3]
            rcases hab01 with h | h
            · rw [h, bz0, o_pI_eq (show s_k (setI τ3 (s_z τ2) 0 (nI i)) (s_z τ2) = some (.inl 13) from k3), o_pI_eq (show s_k (setI (setI τ3 (s_z τ2) 0 (nI i)) (s_z τ2) 1 0) (s_z τ2) = some (.inl 13) from k3)]
            · rw [h, bz1, o_pI_eq (show s_k (setI τ3 (s_z τ2) 0 (nI i)) (s_z τ2) = some (.inl 13) from k3), o_pI_eq (show s_k (setI (setI τ3 (s_z τ2) 0 (nI i)) (s_z τ2) 1 1) (s_z τ2) = some (.inl 13) from k3)]
          rw [d4, sb] at evX2
          have evX3 : fX6_test τ (z + 25) = some (.inl (s_z τ2, setI (setI (setI τ3 (s_z τ2) 0 (nI i)) (s_z τ2) 1 ab) (s_z τ2) 2 (nI (nn t s2 (e2 - s2))))) := by
            rw [evX2]
            show ((fX16_init τ3 (s_z τ2) (nI i) ab (nI (nn t s2 (e2 - s2)))).bind fun σ25 => (some (Sum.inl (s_z τ2, σ25)) : Option (Rx Nat))) = _
            rw [fi, sb]
          rw [g1, sb] at evM2
          have evM3 : fX7_isTest ρ (z + 1064) (nI a) = some (1, ρ5) := evM2
          have frt : Fr (PL z RD) τ τ3 := (frb.transL d5).inL (by decide)
          refine ⟨_, _, _, _, _, _, d3, evX3, ((frt.newI fr2.2.1).newI fr2.2.1).newI fr2.2.1, ((d6.set (by omega)).set (by omega)).set (by omega), fr2.2.1, evM3, (frm4.transL g2).inL (by decide), g3, fun j h1 h2 h3 => ?_, ⟨⟨k3, hbig⟩, ?_, ?_, ?_, ?_, ?_⟩⟩
          · rw [g5 j h3, u76 j h2, wj j h1]
          · rw [gi_nj (by decide), gi_nj (by decide), gi_eq, g5 a (by omega), u76 a (by omega), wa, rv]
          · rw [gi_nj (by decide), gi_eq, g5 (a + 1) (by omega), u76b]
          · rw [gi_eq, g4]
          · exact ⟨i, by omega, by rw [g5 a (by omega), u76 a (by omega), wa, rv]⟩
          · rw [g5 (a + 1) (by omega), u76b]
            exact hab01
        · exact absurd ⟨d1, d2⟩ g0
      · rcases isNum_eq hSm4 hXm4 u20 hT2 (a := a + 2) (mx := 99) (by omega) (by decide) with ⟨g0, g1, -⟩ | ⟨-, ρ5, g1, g2, g3⟩
        · exact absurd ⟨g0, g1⟩ d1
        · right
          rw [d2, sb] at evX2
          rw [g1, sb] at evM2
          exact ⟨q, τ3, ρ5, s2, evX2, ⟨d3.1, d3.2.1, (frb.transL d3.2.2).inL (by decide)⟩, evM2, (frm4.transL g2).inL (by decide), g3, le160 hT2⟩
    · right
      have n19 : tc t n s1 e1 ≠ cw 19 := fun q => cab (Or.inl q)
      have n20 : tc t n s1 e1 ≠ cw 20 := fun q => cab (Or.inr q)
      obtain ⟨nd1, nd2⟩ := need_no hS1 l3
      have evX3 : fX6_test τ (z + 25) = some (.inr (s_z τ1, exS τ1 s1)) := by
        rw [evX]
        simp only [if_neg n19, if_neg n20, if_true, e_25_k hS1, nd1, sb, xs]
      have evM3 : fX7_isTest ρ (z + 1064) (nI a) = some (0, setI ρ3 (z + 1064) 25 (nI s1)) := by
        rw [evM, if_neg (fun q => n20 (((cmp_eq0 _ _).mp q).trans c20.symm)), if_neg (fun q => n19 (((cmp_eq0 _ _).mp q).trans c19.symm))]
      exact ⟨_, _, _, s1, evX3, ⟨nd2.1, nd2.2.1, (l2.transL nd2.2.2).inL (by decide)⟩, evM3, frm3.aS (o := 1064) rfl, gi_eq, le160 hT1⟩
  · right
    have rv := rdV_no hno
    obtain ⟨nd1, nd2⟩ := need_no hS hR
    have evX3 : fX6_test τ (z + 25) = some (.inr (s_z τ, exS τ s)) := by
      unfold fX6_test
      rw [l1, sb]
      simp only [un2, jn, if_true, e_25_k hS, nd1, sb, xs]
    have evM3 : fX7_isTest ρ (z + 1064) (nI a) = some (0, setI ρ2 (z + 1064) 25 (nI s)) := by
      rw [evM, rv, if_pos rfl, e_1064_k hSm2, fails_eq hSm2 w21, sb]
      rfl
    exact ⟨_, _, _, s, evX3, nd2, evM3, frm2.aS (o := 1064) rfl, gi_eq, le160 hT⟩
end TEST
