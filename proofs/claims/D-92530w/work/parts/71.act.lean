set_option maxRecDepth 100000
/-! an act, read by both -/
theorem cw_inj : ∀ i, i < 22 → ∀ j, j < 22 → cw i = cw j → i = j := by decide +kernel
def acV (y : Int64) : Int32 := if lg_cmp y 4134649 = 0 then 0 else if lg_cmp y 259906 = 0 then 1 else if lg_cmp y 125041 = 0 then 2 else if lg_cmp y 121882 = 0 then 3 else if lg_cmp y 355270 = 0 then 4 else -1
theorem acV_yes : acV (cw 17) = 0 ∧ acV (cw 14) = 1 ∧ acV (cw 15) = 2 ∧ acV (cw 16) = 3 ∧ acV (cw 18) = 4 := by decide +kernel
theorem acV_no {y : Int64} (h : ∀ i, 14 ≤ i → i < 19 → y ≠ cw i) : acV y = -1 := by
  obtain ⟨-, -, -, -, -, -, -, -, -, -, -, -, -, c14, c15, c16, c17, c18, -⟩ := cw_lit
  unfold acV
  rw [if_neg (fun q => h 17 (by decide) (by decide) (((cmp_eq0 _ _).mp q).trans c17.symm)), if_neg (fun q => h 14 (by decide) (by decide) (((cmp_eq0 _ _).mp q).trans c14.symm)), if_neg (fun q => h 15 (by decide) (by decide) (((cmp_eq0 _ _).mp q).trans c15.symm)), if_neg (fun q => h 16 (by decide) (by decide) (((cmp_eq0 _ _).mp q).trans c16.symm)), if_neg (fun q => h 18 (by decide) (by decide) (((cmp_eq0 _ _).mp q).trans c18.symm))]
theorem jn_ac {Z : Type} (y : Int64) (F : Int32 → Z) : (jn F fun j => if lg_cmp y 4134649 = 0 then j 0 else if lg_cmp y 259906 = 0 then j 1 else if lg_cmp y 125041 = 0 then j 2 else if lg_cmp y 121882 = 0 then j 3 else if lg_cmp y 355270 = 0 then j 4 else j (-1)) = F (acV y) := by
  unfold acV jn
  by_cases h0 : lg_cmp y 4134649 = 0
  · simp only [h0, if_true]
  · by_cases h1 : lg_cmp y 259906 = 0
    · simp only [h0, h1, if_true, if_false]
    · by_cases h2 : lg_cmp y 125041 = 0
      · simp only [h0, h1, h2, if_true, if_false]
      · by_cases h3 : lg_cmp y 121882 = 0
        · simp only [h0, h1, h2, h3, if_true, if_false]
        · by_cases h4 : lg_cmp y 355270 = 0
          · simp only [h0, h1, h2, h3, h4, if_true, if_false]
          · simp only [h0, h1, h2, h3, h4, if_false]
/-- the model's line after its act -/
def hlC (a0 : Nat) (a1 : Int32) (σ23 : St) : Option (Int32 × St) :=
  o_k σ23 a0 5 <|
  (fX7_nextToken σ23 a0).bind fun σ24 =>
  o_gL σ24 a0 5 22 fun y25 =>
  jn (fun (x26 : Int32) =>
    (loopF fuel (fun z => lX7_isHabitLine_182 a0 a1 z.1 z.2.1 z.2.2) (σ24, x26, 0)).bind <| sm (  fun σ35 =>
      some (0, σ35)) <| fun σ36 =>
    some (1, σ36)) fun j179 =>
  if (lg_cmp y25 458690) = 0 then
    j179 1
  else
  j179 0
section ACT
variable {τ ρ : St} {z n p s e : Nat} {t : Nat → Nat}
theorem clr_eq (hS : Sh ρ z) {a : Nat} (ha : a + 11 < 72) : ∃ ρ', loopF fuel (fun y => lX7_isHabitLine_97 (z + 1064) (nI a) y.1 y.2) (ρ, 0) = some ρ' ∧ Fr (PL z MF) ρ ρ' ∧ (∀ k, k < 3 → s_i ρ' (z + 1076) (a + 3 + 3 * k) = -1) ∧ (∀ j, (∀ k, k < 3 → j ≠ a + 3 + 3 * k) → s_i ρ' (z + 1076) j = s_i ρ (z + 1076) j) ∧ ∀ j, s_i ρ' (z + 1064) j = s_i ρ (z + 1064) j := by
  obtain ⟨ρ', l1, l2, l3, l4, l5⟩ := loopF_inv (b := fun y : St × Int32 => lX7_isHabitLine_97 (z + 1064) (nI a) y.1 y.2) (fun k u => u.2 = nI k ∧ Fr (PL z MF) ρ u.1 ∧ (∀ i, i < k → s_i u.1 (z + 1076) (a + 3 + 3 * i) = -1) ∧ (∀ j, (∀ i, i < k → j ≠ a + 3 + 3 * i) → s_i u.1 (z + 1076) j = s_i ρ (z + 1076) j) ∧ ∀ j, s_i u.1 (z + 1064) j = s_i ρ (z + 1064) j) 3 (Q := fun u => Fr (PL z MF) ρ u ∧ (∀ i, i < 3 → s_i u (z + 1076) (a + 3 + 3 * i) = -1) ∧ (∀ j, (∀ i, i < 3 → j ≠ a + 3 + 3 * i) → s_i u (z + 1076) j = s_i ρ (z + 1076) j) ∧ ∀ j, s_i u (z + 1064) j = s_i ρ (z + 1064) j) (by
    rintro k ⟨ρ1, y⟩ hk ⟨i1, i2, i3, i4, i5⟩
    simp only at i1 i2 i3 i4 i5
    subst i1
    have hR : Sh ρ1 z := i2.sh hS (by decide)
    show ∃ u, lX7_isHabitLine_97 (z + 1064) (nI a) ρ1 (nI k) = _ ∧ _
    unfold lX7_isHabitLine_97
    rw [if_neg (lit_nle 3 3 k rfl hk (by decide)), e_1064_27 hR, nI_hi 3 3 a rfl, show (3 : Int32) = nI 3 from rfl, nI_mul, nI_add, s_1076 hR (by omega), nI_1]
    refine ⟨_, rfl, rfl, i2.aS (o := 1076) rfl, fun i hi => ?_, fun j hj => ?_, fun j => ?_⟩
    · simp only
      by_cases c : i = k
      · subst c; rw [gi_eq]
      · rw [gi_nj (by omega)]
        exact i3 i (by omega)
    · simp only
      rw [gi_nj (hj k (by omega))]
      exact i4 j (fun i hi => hj i (by omega))
    · simp only
      rw [gi_ne (by omega)]
      exact i5 j) (by
    rintro ⟨ρ1, y⟩ ⟨i1, i2, i3, i4, i5⟩
    simp only at i1 i2 i3 i4 i5
    subst i1
    show ∃ u, lX7_isHabitLine_97 (z + 1064) (nI a) ρ1 (nI 3) = _ ∧ _
    unfold lX7_isHabitLine_97
    rw [if_pos (by decide)]
    exact ⟨_, rfl, i2, i3, i4, i5⟩) (s := (ρ, 0)) ⟨rfl, Fr.refl, fun i hi => absurd hi (Nat.not_lt_zero i), fun j _ => rfl, fun j => rfl⟩ fuel (fuel_lt (by decide))
  exact ⟨ρ', l1, l2, l3, l4, l5⟩
theorem act_two (hS : Sh τ z) (hX : Tx τ z n t) (hT : Tok t n p s e) (hR : RdX τ z s e) (hSm : Sh ρ z) (hXm : Ty ρ z n t) (hp : s_i ρ (z + 1064) 20 = nI p) {a : Nat} (ha : a + 11 < 72) :
    (∃ r τ' ρ' p2 s2 e2, Tok t n p2 s2 e2 ∧ fX6_act τ (z + 25) = some (.inl (r, τ')) ∧ Fr (PL z RD) τ τ' ∧ RdX τ' z s2 e2 ∧ fX7_isHabitLine ρ (z + 1064) (nI a) = hlC (z + 1064) (nI a) ρ' ∧ Fr (PL z MF) ρ ρ' ∧ s_i ρ' (z + 1064) 20 = nI p2 ∧ (∀ j, j < a → s_i ρ' (z + 1076) j = s_i ρ (z + 1076) j) ∧ (∀ k, k < 3 → s_i ρ' (z + 1076) (a + 3 + 3 * k) = -1) ∧ ActR τ' z r (s_i ρ' (z + 1076) a) (s_i ρ' (z + 1076) (a + 1))) ∨
    (∃ q τ' ρ' sf, fX6_act τ (z + 25) = some (.inr (q, τ')) ∧ Thr z τ τ' q sf ∧ fX7_isHabitLine ρ (z + 1064) (nI a) = some (0, ρ') ∧ Fr (PL z MF) ρ ρ' ∧ s_i ρ' (z + 1064) 25 = nI sf ∧ sf ≤ 160) := by
  have le160 : ∀ {p s e : Nat}, Tok t n p s e → s ≤ 160 := fun h => by
    have := hX.1
    have := h.2.1
    have := h.2.2.1
    omega
  have e0 : e ≤ n := hT.2.2.1
  obtain ⟨s1, e1, hT1⟩ := tok_ex t (n := n) (p := e) e0
  obtain ⟨a17, a14, a15, a16, a18⟩ := acV_yes
  -- the model
  obtain ⟨ρ1, n1, n2, n3, n4, n5, n6⟩ := next_eq hSm hXm hp hT
  have hSm1 : Sh ρ1 z := n2.sh hSm (by decide)
  obtain ⟨x8, hx8⟩ : ∃ x8, x8 = acV (tc t n s e) := ⟨_, rfl⟩
  obtain ⟨ρ2, hρ2⟩ : ∃ ρ2, ρ2 = setI (setI ρ1 (z + 1076) a x8) (z + 1076) (a + 1) 0 := ⟨_, rfl⟩
  have hSm2 : Sh ρ2 z := by rw [hρ2]; exact hSm1
  have frm2 : Fr (PL z MF) ρ ρ2 := by rw [hρ2]; exact ((n2.inL (by decide)).aS (o := 1076) rfl).aS (o := 1076) rfl
  obtain ⟨ρ3, l1, l2, l3, l4, l5⟩ := clr_eq hSm2 ha
  have hSm3 : Sh ρ3 z := l2.sh hSm2 (by decide)
  have frm3 : Fr (PL z MF) ρ ρ3 := (frm2.transL l2).inL (by decide)
  have hXm3 := hXm.keep hSm frm3 mf_tx
  have va : s_i ρ3 (z + 1076) a = x8 := by rw [l4 a (fun k hk => by omega), hρ2, gi_nj (by omega), gi_eq]
  have vb : s_i ρ3 (z + 1076) (a + 1) = 0 := by rw [l4 (a + 1) (fun k hk => by omega), hρ2, gi_eq]
  have vj : ∀ j, j < a → s_i ρ3 (z + 1076) j = s_i ρ (z + 1076) j := fun j hj => by
    rw [l4 j (fun k hk => by omega), hρ2, gi_nj (by omega), gi_nj (by omega), n2.kia hSm 1076 (by decide) (by decide)]
  have w20 : s_i ρ3 (z + 1064) 20 = nI e := by rw [l5, hρ2, gi_ne (by omega), gi_ne (by omega)]; exact n3
  have w21 : s_i ρ3 (z + 1064) 21 = nI s := by rw [l5, hρ2, gi_ne (by omega), gi_ne (by omega)]; exact n4
  have evM := Eq.refl (fX7_isHabitLine ρ (z + 1064) (nI a))
  conv at evM => rhs; unfold fX7_isHabitLine
  rw [e_1064_k hSm, n1, sb, e_1064_27 hSm1] at evM
  simp only [e_1064_l hSm1, n5] at evM
  rw [jn_ac, ← hx8, s_1076 hSm1 (by omega), e_1064_27 (Sh_setI.mpr hSm1), nI_1, s_1076 (Sh_setI.mpr hSm1) (by omega), ← hρ2, l1, sb, e_1064_27 hSm3, a_1076 hSm3 (by omega), va, e_1064_27 hSm3, a_1076 hSm3 (by omega), va] at evM
  -- a plain act
  have plain : ∀ (r : Nat) (τ' : St) (cx : Int32), x8 = cx → cx ≠ -1 → cx ≠ 4 → fX6_act τ (z + 25) = some (.inl (r, τ')) → Fr (PL z RD) τ τ' → RdX τ' z s1 e1 → ActR τ' z r cx 0 → (∃ r τ' ρ' p2 s2 e2, Tok t n p2 s2 e2 ∧ fX6_act τ (z + 25) = some (.inl (r, τ')) ∧ Fr (PL z RD) τ τ' ∧ RdX τ' z s2 e2 ∧ fX7_isHabitLine ρ (z + 1064) (nI a) = hlC (z + 1064) (nI a) ρ' ∧ Fr (PL z MF) ρ ρ' ∧ s_i ρ' (z + 1064) 20 = nI p2 ∧ (∀ j, j < a → s_i ρ' (z + 1076) j = s_i ρ (z + 1076) j) ∧ (∀ k, k < 3 → s_i ρ' (z + 1076) (a + 3 + 3 * k) = -1) ∧ ActR τ' z r (s_i ρ' (z + 1076) a) (s_i ρ' (z + 1076) (a + 1))) := by
    intro r τ' cx h1 h2 h3 h4 h5 h6 h7
    rw [h1] at evM va
    rw [if_neg h2] at evM
    simp only [jn] at evM
    rw [if_neg h3] at evM
    refine ⟨r, τ', ρ3, e, s1, e1, hT1, h4, h5, h6, evM, frm3, w20, vj, l3, ?_⟩
    rw [va, vb]
    exact h7
  have no : ∀ i, i < 22 → i ≠ 8 → tc t n s e ≠ cw i → fX6_skips τ (z + 25) i = some (0, τ) := fun i h1 h2 h3 => skips_no hS hX hT hR h1 h2 h3
  have ne : ∀ i j, i < 22 → j < 22 → i ≠ j → tc t n s e = cw i → tc t n s e ≠ cw j := fun i j h1 h2 h3 h4 h5 => h3 (cw_inj i h1 j h2 (h4.symm.trans h5))
  by_cases c14 : tc t n s e = cw 14
  · left
    obtain ⟨τ', x1, x2, x3⟩ := skips_yes hS hX hT hR hT1 (i := 14) (by decide) (by decide) c14
    have hS' : Sh τ' z := x2.sh hS (by decide)
    have kz : s_k (born τ' (.inl 9)) (s_z τ') = some (.inl 9) := by rw [k_born, if_pos rfl]
    refine plain (s_z τ') (born τ' (.inl 9)) 1 (by rw [hx8, c14, a14]) (by decide) (by decide) ?_ x2.brn (x3.brn hS') (Or.inr (Or.inl ⟨rfl, kz, hS'.2.2.2.1⟩))
    unfold fX6_act
    rw [e_25_k hS, x1, sb]
    rfl
  · by_cases c15 : tc t n s e = cw 15
    · left
      obtain ⟨τ', x1, x2, x3⟩ := skips_yes hS hX hT hR hT1 (i := 15) (by decide) (by decide) c15
      have hS' : Sh τ' z := x2.sh hS (by decide)
      have kz : s_k (born τ' (.inl 10)) (s_z τ') = some (.inl 10) := by rw [k_born, if_pos rfl]
      refine plain (s_z τ') (born τ' (.inl 10)) 2 (by rw [hx8, c15, a15]) (by decide) (by decide) ?_ x2.brn (x3.brn hS') (Or.inr (Or.inr (Or.inl ⟨rfl, kz, hS'.2.2.2.1⟩)))
      unfold fX6_act
      rw [e_25_k hS, no 14 (by decide) (by decide) c14, sb]
      simp only [un2, if_true, e_25_k hS, x1, sb, i10, if_false]
      rfl
    · by_cases c16 : tc t n s e = cw 16
      · left
        obtain ⟨τ', x1, x2, x3⟩ := skips_yes hS hX hT hR hT1 (i := 16) (by decide) (by decide) c16
        have hS' : Sh τ' z := x2.sh hS (by decide)
        refine plain (z + 2) τ' 3 (by rw [hx8, c16, a16]) (by decide) (by decide) ?_ x2 x3 (Or.inr (Or.inr (Or.inr (Or.inl ⟨rfl, rfl⟩))))
        unfold fX6_act
        simp only [un2, e_25_k hS, no 14 (by decide) (by decide) c14, no 15 (by decide) (by decide) c15, sb, if_true, x1, i10, if_false, e_25_3 hS', e_0_1 hS']
      · by_cases c17 : tc t n s e = cw 17
        · left
          obtain ⟨τ', x1, x2, x3⟩ := skips_yes hS hX hT hR hT1 (i := 17) (by decide) (by decide) c17
          have hS' : Sh τ' z := x2.sh hS (by decide)
          refine plain (z + 1) τ' 0 (by rw [hx8, c17, a17]) (by decide) (by decide) ?_ x2 x3 (Or.inl ⟨rfl, rfl⟩)
          unfold fX6_act
          simp only [un2, e_25_k hS, no 14 (by decide) (by decide) c14, no 15 (by decide) (by decide) c15, no 16 (by decide) (by decide) c16, sb, if_true, x1, i10, if_false, e_25_3 hS', e_0_0 hS']
        · by_cases c18 : tc t n s e = cw 18
          · obtain ⟨τ', x1, x2, x3⟩ := skips_yes hS hX hT hR hT1 (i := 18) (by decide) (by decide) c18
            have hS' : Sh τ' z := x2.sh hS (by decide)
            have kz : s_k (born τ' (.inl 12)) (s_z τ') = some (.inl 12) := by rw [k_born, if_pos rfl]
            have hSb : Sh (born τ' (.inl 12)) z := hS'.born
            have frb : Fr (PL z RD) τ (born τ' (.inl 12)) := x2.brn
            have hXb := hX.keep hS frb rd_tx
            have hRb : RdX (born τ' (.inl 12)) z s1 e1 := x3.brn hS'
            have evX : fX6_act τ (z + 25) = (fX6_number (born τ' (.inl 12)) (z + 25) (nI 5)).bind (xs fun x15 σ14 => (fX15_init σ14 (s_z τ') x15).bind fun σ16 => some (.inl (s_z τ', σ16))) := by
              unfold fX6_act
              simp only [un2, e_25_k hS, no 14 (by decide) (by decide) c14, no 15 (by decide) (by decide) c15, no 16 (by decide) (by decide) c16, no 17 (by decide) (by decide) c17, sb, if_true, x1, e_25_k hS', need_yes, xs, o_new, e_25_k hSb]
              rfl
            have h4 : x8 = 4 := by rw [hx8, c18, a18]
            rw [h4, if_neg (by decide)] at evM
            simp only [jn] at evM
            rw [if_pos trivial, e_1064_k hSm3, show (5 : Int32) = nI 5 from rfl] at evM
            rcases num_eq hSb hXb hT1 hRb 5 (by decide) with ⟨d1, d2, s3, e3, τ3, d3, d4, d5, d6⟩ | ⟨d1, q, τ3, d2, d3⟩
            · rcases isNum_eq hSm3 hXm3 w20 hT1 (a := a + 1) (mx := 5) (by omega) (by decide) with ⟨-, -, ρ5, g1, g2, g3, g4, g5⟩ | ⟨g0, -⟩
              · left
                have ltz : s_z τ' < s_z (born τ' (.inl 12)) := by rw [z_born]; omega
                have k3 : s_k τ3 (s_z τ') = some (.inl 12) := by rw [d5.1 _ ltz]; exact kz
                have hbig : z + 1094 ≤ s_z τ' := hS'.2.2.2.1
                have evX3 : fX6_act τ (z + 25) = some (.inl (s_z τ', setI τ3 (s_z τ') 0 (nI (nn t s1 (e1 - s1))))) := by
                  rw [evX, d4, sb]
                  show ((fX15_init τ3 (s_z τ') (nI (nn t s1 (e1 - s1)))).bind fun σ16 => (some (Sum.inl (s_z τ', σ16)) : Option (Rx Nat))) = _
                  unfold fX15_init fX3_init fX1_init
                  rw [sb, sb, o_pI_eq k3, sb]
                rw [g1, sb] at evM
                have frt : Fr (PL z RD) τ τ3 := (frb.transL d5).inL (by decide)
                refine ⟨_, _, ρ5, _, _, _, d3, evX3, frt.newI x2.2.1, d6.set (by omega), evM, (frm3.transL g2).inL (by decide), g3, fun j hj => by rw [g5 j (by omega), vj j hj], fun k hk => by rw [g5 _ (by omega), l3 k hk], Or.inr (Or.inr (Or.inr (Or.inr ⟨?_, ⟨k3, hbig⟩, ?_, nn t s1 (e1 - s1), d2, g4⟩)))⟩
                · rw [g5 a (by omega), va, h4]
                · rw [gi_eq, g4]
              · exact absurd ⟨d1, d2⟩ g0
            · rcases isNum_eq hSm3 hXm3 w20 hT1 (a := a + 1) (mx := 5) (by omega) (by decide) with ⟨g0, g1, -⟩ | ⟨-, ρ5, g1, g2, g3⟩
              · exact absurd ⟨g0, g1⟩ d1
              · right
                rw [d2, sb] at evX
                rw [g1, sb] at evM
                exact ⟨q, τ3, ρ5, s1, evX, ⟨d3.1, d3.2.1, (frb.transL d3.2.2).inL (by decide)⟩, evM, (frm3.transL g2).inL (by decide), g3, le160 hT1⟩
          · right
            have hno : acV (tc t n s e) = -1 := acV_no (fun i h1 h2 => by
              have : i = 14 ∨ i = 15 ∨ i = 16 ∨ i = 17 ∨ i = 18 := by omega
              rcases this with rfl | rfl | rfl | rfl | rfl
              · exact c14
              · exact c15
              · exact c16
              · exact c17
              · exact c18)
            obtain ⟨nd1, nd2⟩ := need_no hS hR
            have evX : fX6_act τ (z + 25) = some (.inr (s_z τ, exS τ s)) := by
              unfold fX6_act
              simp only [un2, e_25_k hS, no 14 (by decide) (by decide) c14, no 15 (by decide) (by decide) c15, no 16 (by decide) (by decide) c16, no 17 (by decide) (by decide) c17, no 18 (by decide) (by decide) c18, sb, if_true, nd1, xs]
            have h4 : x8 = -1 := by rw [hx8, hno]
            rw [h4, if_pos rfl, e_1064_k hSm3, fails_eq hSm3 w21, sb] at evM
            exact ⟨_, _, _, s, evX, nd2, evM, frm3.aS (o := 1064) rfl, gi_eq, le160 hT⟩
end ACT
