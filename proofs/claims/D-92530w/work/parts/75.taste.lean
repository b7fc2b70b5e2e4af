set_option maxRecDepth 100000
/-! tastes, read by both -/
def taV (y : Int64) : Int32 := if lg_cmp y 10497692 = 0 then 0 else if lg_cmp y 51266052 = 0 then 1 else if lg_cmp y 381245 = 0 then 2 else if lg_cmp y 13550 = 0 then 3 else if lg_cmp y 6476969 = 0 then 4 else -1
theorem taV_yes : taV (cw 9) = 0 ∧ taV (cw 10) = 1 ∧ taV (cw 11) = 2 ∧ taV (cw 12) = 3 ∧ taV (cw 13) = 4 := by decide +kernel
theorem taV_no {y : Int64} (h : ∀ i, 9 ≤ i → i < 14 → y ≠ cw i) : taV y = -1 := by
  obtain ⟨-, -, -, -, -, -, -, -, c9, c10, c11, c12, c13, -⟩ := cw_lit
  unfold taV
  rw [if_neg (fun q => h 9 (by decide) (by decide) (((cmp_eq0 _ _).mp q).trans c9.symm)), if_neg (fun q => h 10 (by decide) (by decide) (((cmp_eq0 _ _).mp q).trans c10.symm)), if_neg (fun q => h 11 (by decide) (by decide) (((cmp_eq0 _ _).mp q).trans c11.symm)), if_neg (fun q => h 12 (by decide) (by decide) (((cmp_eq0 _ _).mp q).trans c12.symm)), if_neg (fun q => h 13 (by decide) (by decide) (((cmp_eq0 _ _).mp q).trans c13.symm))]
theorem jn_ta {Z : Type} (y : Int64) (F : Int32 → Z) : (jn F fun j => if lg_cmp y 10497692 = 0 then j 0 else if lg_cmp y 51266052 = 0 then j 1 else if lg_cmp y 381245 = 0 then j 2 else if lg_cmp y 13550 = 0 then j 3 else if lg_cmp y 6476969 = 0 then j 4 else j (-1)) = F (taV y) := by
  unfold taV jn
  by_cases h0 : lg_cmp y 10497692 = 0
  · simp only [h0, if_true]
  · by_cases h1 : lg_cmp y 51266052 = 0
    · simp only [h0, h1, if_true, if_false]
    · by_cases h2 : lg_cmp y 381245 = 0
      · simp only [h0, h1, h2, if_true, if_false]
      · by_cases h3 : lg_cmp y 13550 = 0
        · simp only [h0, h1, h2, h3, if_true, if_false]
        · by_cases h4 : lg_cmp y 6476969 = 0
          · simp only [h0, h1, h2, h3, h4, if_true, if_false]
          · simp only [h0, h1, h2, h3, h4, if_false]
/-- the model's line from its value on -/
def tlC (a0 : Nat) (a1 : Int32) (σ18 : St) : Option (Int32 × St) :=
  o_k σ18 a0 5 <|
  (fX7_isNumber σ18 a0 (a1 + 2) 99).bind <| un2 fun x19 σ20 =>
  if x19 = 0 then
    some (0, σ20)
  else
  o_k σ20 a0 5 <|
  (fX7_nextToken σ20 a0).bind fun σ21 =>
  some (1, σ21)
def TasS (τ : St) (z p : Nat) : Prop := s_k τ p = some (.inl 14) ∧ s_r τ p 2 = some (p + 1) ∧ s_r τ p 6 = some z ∧ s_k τ (p + 1) = some (.inr (0, 4)) ∧ z + 1094 ≤ p ∧ p + 2 ≤ s_z τ
def Vals (τ : St) (p : Nat) (row : Nat → Int32) (m : Nat) : Prop := s_i τ p 1 = tof row 0 0 m ∧ (∀ c, c < 4 → s_i τ (p + 1) c = tof row 1 (nI c) m) ∧ s_i τ p 3 = tof row 2 0 m ∧ s_i τ p 4 = tof row 3 0 m ∧ s_i τ p 5 = tof row 4 0 m
section TASTE
variable {σ σm τ ρ : St} {z n p m : Nat} {t : Nat → Nat}
theorem newTas (hS : Sh σ z) (hp : p = s_z σ) : ∃ τ, fX17_init (born σ (.inl 14)) p z = some τ ∧ Fr (PL z RD) σ τ ∧ TasS τ z p ∧ ∀ a j, p ≤ a → a < p + 2 → s_i τ a j = 0 := by
  have hz := hS.2.2.2.1
  obtain ⟨b0, hb0⟩ : ∃ b0, b0 = setR (born σ (.inl 14)) p 6 (some z) := ⟨_, rfl⟩
  obtain ⟨b1, hb1⟩ : ∃ b1, b1 = setR (born b0 (.inr (0, 4))) p 2 (some (p + 1)) := ⟨_, rfl⟩
  have z0 : s_z b0 = p + 1 := by rw [hb0, z_setR, z_born, hp]
  have z1 : s_z b1 = p + 2 := by rw [hb1, z_setR, z_born, z0]
  have kb : s_k (born σ (.inl 14)) p = some (.inl 14) := by rw [k_born, if_pos hp]
  have kp0 : s_k b0 p = some (.inl 14) := by rw [hb0, k_setR, kb]
  have kb1 : s_k (born b0 (.inr (0, 4))) p = some (.inl 14) := by rw [k_born, if_neg (by omega), kp0]
  have kp1 : s_k b1 p = some (.inl 14) := by rw [hb1, k_setR, kb1]
  have r0 : s_r b0 p 6 = some z := by rw [hb0, r_setR, up2_same]
  refine ⟨b1, ?_, ?_, ⟨kp1, ?_, ?_, ?_, by omega, by omega⟩, fun a j h1 h2 => ?_⟩
  · unfold fX17_init
    rw [o_pR_eq kb, ← hb0]
    have f10 : fX10_init b0 p z = some () := if_pos (Or.inr ⟨kp0, r0⟩)
    rw [f10, sb]
    unfold o_newa
    show (o_pR (born b0 (.inr (0, 4))) p 14 2 (some (s_z b0)) fun σ4 => some σ4) = _
    rw [o_pR_eq kb1, z0, ← hb1]
  · rw [hb1, hb0]
    exact (((Fr.refl.brn).newR (by omega)).brn).newR (by omega)
  · rw [hb1, r_setR, up2_same]
  · rw [hb1, r_setR, up2_ne (fun q => absurd q.2 (by decide)), r_born, if_neg (by omega), r0]
  · rw [hb1, k_setR, k_born, z0, if_pos rfl]
  · rw [hb1, i_setR, i_born, z0]
    by_cases c1 : a = p + 1
    · rw [if_pos c1]
    · rw [if_neg c1, hb0, i_setR, i_born, if_pos (by omega)]
/-- the value of a line -/
theorem val_two (hS : Sh τ z) (hX : Tx τ z n t) {p0 s e : Nat} (hT : Tok t n p0 s e) (hR : RdX τ z s e) (hSm : Sh ρ z) (hXm : Ty ρ z n t) (hp : s_i ρ (z + 1064) 20 = nI p0) {a : Nat} (ha : a + 2 < 72) :
    (∃ v τ' ρ' p2 s2 e2, Tok t n p2 s2 e2 ∧ fX6_number τ (z + 25) 99 = some (.inl (nI v, τ')) ∧ Fr (PL z RD) τ τ' ∧ RdX τ' z s2 e2 ∧ tlC (z + 1064) (nI a) ρ = some (1, ρ') ∧ Fr (PL z MF) ρ ρ' ∧ s_i ρ' (z + 1064) 20 = nI e2 ∧ s_i ρ' (z + 1064) 21 = nI s2 ∧ s_l ρ' (z + 1064) 22 = tc t n s2 e2 ∧ s_i ρ' (z + 1076) (a + 2) = nI v ∧ ∀ j, j ≠ a + 2 → s_i ρ' (z + 1076) j = s_i ρ (z + 1076) j) ∨
    (∃ q τ' ρ', fX6_number τ (z + 25) 99 = some (.inr (q, τ')) ∧ Thr z τ τ' q s ∧ tlC (z + 1064) (nI a) ρ = some (0, ρ') ∧ Fr (PL z MF) ρ ρ' ∧ s_i ρ' (z + 1064) 25 = nI s ∧ s ≤ 160) := by
  have e99 : (99 : Int32) = nI 99 := rfl
  have le : s ≤ 160 := by
    have := hX.1
    have := hT.2.1
    have := hT.2.2.1
    omega
  have evM : tlC (z + 1064) (nI a) ρ = (fX7_isNumber ρ (z + 1064) (nI (a + 2)) (nI 99)).bind (un2 fun x19 σ20 => if x19 = 0 then some (0, σ20) else o_k σ20 (z + 1064) 5 <| (fX7_nextToken σ20 (z + 1064)).bind fun σ21 => some (1, σ21)) := by
    unfold tlC
    rw [e_1064_k hSm, nI_hi 2 2 a rfl]
    rfl
  rw [e99]
  rcases num_eq hS hX hT hR 99 (by decide) with ⟨d1, d2, s3, e3, τ3, d3, d4, d5, d6⟩ | ⟨d1, q, τ3, d2, d3⟩
  · rcases isNum_eq hSm hXm hp hT (a := a + 2) (mx := 99) (by omega) (by decide) with ⟨-, -, ρ5, g1, g2, g3, g4, g5⟩ | ⟨g0, -⟩
    · left
      have hS5 : Sh ρ5 z := g2.sh hSm (by decide)
      have hX5 := hXm.keep hSm g2 mf_tx
      obtain ⟨ρ6, n1, n2, n3, n4, n5, -⟩ := next_eq hS5 hX5 g3 d3
      have rows : ∀ j, s_i ρ6 (z + 1076) j = s_i ρ5 (z + 1076) j := fun j => n2.kia hS5 1076 (by decide) (by decide) j
      rw [g1, sb] at evM
      simp only [un2, i10, if_false, e_1064_k hS5, n1, sb] at evM
      exact ⟨_, τ3, ρ6, e, s3, e3, d3, d4, d5, d6, evM, (g2.transL n2).inL (by decide), n3, n4, n5, by rw [rows, g4], fun j hj => by rw [rows, g5 j hj]⟩
    · exact absurd ⟨d1, d2⟩ g0
  · rcases isNum_eq hSm hXm hp hT (a := a + 2) (mx := 99) (by omega) (by decide) with ⟨g0, g1, -⟩ | ⟨-, ρ5, g1, g2, g3⟩
    · exact absurd ⟨g0, g1⟩ d1
    · right
      rw [g1, sb] at evM
      exact ⟨q, τ3, ρ5, d2, d3, evM, g2, g3, le⟩
theorem TasS.rd {τ' : St} (h : TasS τ z p) (hF : Fr (PL z RD) τ τ') : TasS τ' z p ∧ ∀ a j, p ≤ a → a < p + 2 → s_i τ' a j = s_i τ a j := by
  obtain ⟨h1, h2, h3, h4, h5, h6⟩ := h
  have same : ∀ a j, p ≤ a → a < p + 2 → s_i τ' a j = s_i τ a j ∧ s_r τ' a j = s_r τ a j := fun a j q1 q2 => by
    have := hF.2.2.1 a j (by omega) (fun q => by have := rd_lo q; omega)
    exact ⟨this.1, this.2.1⟩
  exact ⟨⟨(hF.1 p (by omega)).trans h1, (same p 2 (by omega) (by omega)).2.trans h2, (same p 6 (by omega) (by omega)).2.trans h3, (hF.1 (p + 1) (by omega)).trans h4, h5, Nat.le_trans h6 hF.2.1⟩, fun a j q1 q2 => (same a j q1 q2).1⟩
theorem tof_skip {row row' : Nat → Int32} {s c : Int32} {m : Nat} (h : ∀ j, j < 3 * m → row' j = row j) (hn : row' (3 * m) ≠ s ∨ row' (3 * m + 1) ≠ c) : tof row' s c (m + 1) = tof row s c m := by
  have e : tof row' s c m = tof row s c m := tof_congr s c m h
  conv => lhs; unfold tof
  rcases hn with hn | hn
  · rw [if_neg hn, e]
  · rw [if_neg hn, e]
    split <;> rfl
theorem tof_hit {row' : Nat → Int32} {s c : Int32} {m : Nat} (h1 : row' (3 * m) = s) (h2 : row' (3 * m + 1) = c) : tof row' s c (m + 1) = row' (3 * m + 2) := by
  conv => lhs; unfold tof
  rw [if_pos h1, if_pos h2]
/-- .. one more line -/
theorem tline_two (hSσ : Sh σ z) (hXσ : Tx σ z n t) (hSr : Sh ρ z) (hXr : Ty ρ z n t) (hm : m < 8) (hpz : s_z σ ≤ p) {p0 s e : Nat} (hF1 : Fr (PL z RD) σ τ) (hH : TasS τ z p) (hTok : Tok t n p0 s e) (hR : RdX τ z s e) (hp : s_i ρ (z + 1064) 20 = nI p0) (hV : Vals τ p (fun j => s_i ρ (z + 1076) j) m) :
    (∃ τ' ρ' p' s' e', fX17_line τ p (z + 25) = some (.inl ((), τ')) ∧ fX7_isTasteLine ρ (z + 1064) (nI (3 * m)) = some (1, ρ') ∧ Fr (PL z RD) σ τ' ∧ Fr (PL z MF) ρ ρ' ∧ Tok t n p' s' e' ∧ RdX τ' z s' e' ∧ s_i ρ' (z + 1064) 20 = nI e' ∧ s_i ρ' (z + 1064) 21 = nI s' ∧ s_l ρ' (z + 1064) 22 = tc t n s' e' ∧ s_i τ' p 0 = s_i τ p 0 ∧ TasS τ' z p ∧ Vals τ' p (fun j => s_i ρ' (z + 1076) j) (m + 1)) ∨
    (∃ q τ' ρ' sf, fX17_line τ p (z + 25) = some (.inr (q, τ')) ∧ s_k τ' q = some (.inl 11) ∧ s_i τ' q 0 = nI sf ∧ Fr (PL z RD) σ τ' ∧ fX7_isTasteLine ρ (z + 1064) (nI (3 * m)) = some (0, ρ') ∧ Fr (PL z MF) ρ ρ' ∧ s_i ρ' (z + 1064) 25 = nI sf ∧ sf ≤ 160) := by
  have le160 : ∀ {p s e : Nat}, Tok t n p s e → s ≤ 160 := fun h => by
    have := hXσ.1
    have := h.2.1
    have := h.2.2.1
    omega
  have hS : Sh τ z := hF1.sh hSσ (by decide)
  have hX := hXσ.keep hSσ hF1 rd_tx
  have hzp := hH.2.2.2.2.1
  obtain ⟨s1, e1, hT1⟩ := tok_ex t (n := n) (p := e) hTok.2.2.1
  obtain ⟨a9, a10, a11, a12, a13⟩ := taV_yes
  obtain ⟨a, ha⟩ : ∃ a, a = 3 * m := ⟨_, rfl⟩
  rw [← ha]
  -- the model
  obtain ⟨ρ1, n1, n2, n3, n4, n5, n6⟩ := next_eq hSr hXr hp hTok
  have hSm1 : Sh ρ1 z := n2.sh hSr (by decide)
  obtain ⟨x8, hx8⟩ : ∃ x8, x8 = taV (tc t n s e) := ⟨_, rfl⟩
  obtain ⟨ρ2, hρ2⟩ : ∃ ρ2, ρ2 = setI (setI ρ1 (z + 1076) a x8) (z + 1076) (a + 1) 0 := ⟨_, rfl⟩
  have hSm2 : Sh ρ2 z := by rw [hρ2]; exact hSm1
  have frm2 : Fr (PL z MF) ρ ρ2 := by rw [hρ2]; exact ((n2.inL (by decide)).aS (o := 1076) rfl).aS (o := 1076) rfl
  have hXm2 := hXr.keep hSr frm2 mf_tx
  have va : s_i ρ2 (z + 1076) a = x8 := by rw [hρ2, gi_nj (by omega), gi_eq]
  have vb : s_i ρ2 (z + 1076) (a + 1) = 0 := by rw [hρ2, gi_eq]
  have vj : ∀ j, j < a → s_i ρ2 (z + 1076) j = s_i ρ (z + 1076) j := fun j hj => by
    rw [hρ2, gi_nj (by omega), gi_nj (by omega), n2.kia hSr 1076 (by decide) (by decide)]
  have w20 : s_i ρ2 (z + 1064) 20 = nI e := by rw [hρ2, gi_ne (by omega), gi_ne (by omega)]; exact n3
  have w21 : s_i ρ2 (z + 1064) 21 = nI s := by rw [hρ2, gi_ne (by omega), gi_ne (by omega)]; exact n4
  have evM := Eq.refl (fX7_isTasteLine ρ (z + 1064) (nI a))
  conv at evM => rhs; unfold fX7_isTasteLine
  rw [e_1064_k hSr, n1, sb, e_1064_27 hSm1] at evM
  simp only [e_1064_l hSm1, n5] at evM
  rw [jn_ta, ← hx8, s_1076 hSm1 (by omega), e_1064_27 (Sh_setI.mpr hSm1), nI_1, s_1076 (Sh_setI.mpr hSm1) (by omega), ← hρ2, e_1064_27 hSm2, a_1076 hSm2 (by omega), va, e_1064_27 hSm2, a_1076 hSm2 (by omega), va] at evM
  -- a line with one number
  have plain : ∀ (i slot : Nat) (cx : Int32), i < 22 → i ≠ 8 → tc t n s e = cw i → x8 = cx → cx ≠ -1 → cx ≠ 1 → slot ≠ 0 → (∀ τ1, fX6_skips τ (z + 25) i = some (1, τ1) → Sh τ1 z → fX17_line τ p (z + 25) = (fX6_number τ1 (z + 25) 99).bind (xs fun x σ1 => o_pI σ1 p 14 slot x fun σ2 => some (.inl ((), σ2)))) →
      (∀ (τ' ρ' : St) (v : Nat), (∀ j, j ≠ slot → s_i τ' p j = s_i τ p j) → (∀ j, s_i τ' (p + 1) j = s_i τ (p + 1) j) → s_i τ' p slot = nI v → s_i ρ' (z + 1076) (3 * m) = cx → s_i ρ' (z + 1076) (3 * m + 1) = 0 → s_i ρ' (z + 1076) (3 * m + 2) = nI v → (∀ j, j < 3 * m → s_i ρ' (z + 1076) j = s_i ρ (z + 1076) j) → Vals τ' p (fun j => s_i ρ' (z + 1076) j) (m + 1)) →
      (∃ τ' ρ' p' s' e', fX17_line τ p (z + 25) = some (.inl ((), τ')) ∧ fX7_isTasteLine ρ (z + 1064) (nI a) = some (1, ρ') ∧ Fr (PL z RD) σ τ' ∧ Fr (PL z MF) ρ ρ' ∧ Tok t n p' s' e' ∧ RdX τ' z s' e' ∧ s_i ρ' (z + 1064) 20 = nI e' ∧ s_i ρ' (z + 1064) 21 = nI s' ∧ s_l ρ' (z + 1064) 22 = tc t n s' e' ∧ s_i τ' p 0 = s_i τ p 0 ∧ TasS τ' z p ∧ Vals τ' p (fun j => s_i ρ' (z + 1076) j) (m + 1)) ∨
      (∃ q τ' ρ' sf, fX17_line τ p (z + 25) = some (.inr (q, τ')) ∧ s_k τ' q = some (.inl 11) ∧ s_i τ' q 0 = nI sf ∧ Fr (PL z RD) σ τ' ∧ fX7_isTasteLine ρ (z + 1064) (nI a) = some (0, ρ') ∧ Fr (PL z MF) ρ ρ' ∧ s_i ρ' (z + 1064) 25 = nI sf ∧ sf ≤ 160) := by
    intro i slot cx hi h8 hc h1 h2 h3 hsl hX17 hvals
    obtain ⟨τ1, x1, x2, x3⟩ := skips_yes hS hX hTok hR hT1 hi h8 hc
    have hS1 : Sh τ1 z := x2.sh hS (by decide)
    have hX1 := hX.keep hS x2 rd_tx
    obtain ⟨hH1, sm1⟩ := hH.rd x2
    have evX := hX17 τ1 x1 hS1
    rw [h1] at evM va
    rw [if_neg h2] at evM
    simp only [jn] at evM
    rw [if_neg h3] at evM
    have evM2 : fX7_isTasteLine ρ (z + 1064) (nI a) = tlC (z + 1064) (nI a) ρ2 := evM
    rcases val_two hS1 hX1 hT1 x3 hSm2 hXm2 w20 (a := a) (by omega) with ⟨v, τ2, ρ3, p2, s2, e2, y1, y2, y3, y4, y5, y6, y7, y8, y9, y10, y11⟩ | ⟨q, τ2, ρ3, y1, y2, y3, y4, y5, y6⟩
    · left
      obtain ⟨hH2, sm2⟩ := hH1.rd y3
      rw [y2, sb] at evX
      simp only [xs] at evX
      rw [o_pI_eq hH2.1] at evX
      have F2 : Fr (PL z RD) σ τ2 := (hF1.pT x2).pT y3
      have vp : ∀ j, j ≠ slot → s_i (setI τ2 p slot (nI v)) p j = s_i τ p j := fun j hj => by rw [gi_nj hj, sm2 p j (by omega) (by omega), sm1 p j (by omega) (by omega)]
      refine ⟨_, ρ3, p2, s2, e2, evX, evM2.trans y5, F2.newI (by omega), (frm2.transL y6).inL (by decide), y1, y4.set (by omega), y7, y8, y9, vp 0 (by omega), hH2, hvals _ _ v vp (fun j => by rw [gi_ne (by omega), sm2 (p + 1) j (by omega) (by omega), sm1 (p + 1) j (by omega) (by omega)]) gi_eq ?_ ?_ ?_ (fun j hj => ?_)⟩
      · rw [← ha, y11 a (by omega), va]
      · rw [← ha, y11 (a + 1) (by omega), vb]
      · rw [← ha, y10]
      · rw [y11 j (by omega), vj j (by omega)]
    · right
      rw [y1, sb] at evX
      exact ⟨q, τ2, ρ3, s1, evX, y2.1, y2.2.1, (hF1.pT x2).pT y2.2.2, evM2.trans y3, (frm2.transL y4).inL (by decide), y5, y6⟩
  have no : ∀ i, i < 22 → i ≠ 8 → tc t n s e ≠ cw i → fX6_skips τ (z + 25) i = some (0, τ) := fun i h1 h2 h3 => skips_no hS hX hTok hR h1 h2 h3
  obtain ⟨v1, v2, v3, v4, v5⟩ := hV
  by_cases c9 : tc t n s e = cw 9
  · refine plain 9 1 0 (by decide) (by decide) c9 (by rw [hx8, c9, a9]) (by decide) (by decide) (by decide) (fun τ1 h1 h2 => ?_) (fun τ' ρ' v g1 g2 g3 g4 g5 g6 g7 => ⟨?_, fun c hc => ?_, ?_, ?_, ?_⟩)
    · unfold fX17_line
      simp only [un2, e_25_k hS, h1, sb, i10, if_false, e_25_k h2]
    · rw [g3, tof_hit g4 g5, g6]
    · rw [g2, v2 c hc, tof_skip g7 (Or.inl (by simp only [g4]; decide))]
    · rw [g1 3 (by decide), v3, tof_skip g7 (Or.inl (by simp only [g4]; decide))]
    · rw [g1 4 (by decide), v4, tof_skip g7 (Or.inl (by simp only [g4]; decide))]
    · rw [g1 5 (by decide), v5, tof_skip g7 (Or.inl (by simp only [g4]; decide))]
  · by_cases c10 : tc t n s e = cw 10
    · -- a colour and a number
      obtain ⟨τ1, x1, x2, x3⟩ := skips_yes hS hX hTok hR hT1 (i := 10) (by decide) (by decide) c10
      have hS1 : Sh τ1 z := x2.sh hS (by decide)
      have hX1 := hX.keep hS x2 rd_tx
      obtain ⟨hH1, sm1⟩ := hH.rd x2
      have evX : fX17_line τ p (z + 25) = (fX6_number τ1 (z + 25) (nI 3)).bind (xs fun x22 σ21 => o_gR σ21 p 14 2 fun r23 => o_k σ21 (z + 25) 4 <| (fX6_number σ21 (z + 25) 99).bind <| xs fun x25 σ24 => o_sI σ24 r23 0 x22 x25 fun σ26 => some (.inl ((), σ26))) := by
        unfold fX17_line
        simp only [un2, e_25_k hS, no 9 (by decide) (by decide) c9, sb, if_true, x1, i10, if_false, e_25_k hS1]
        rfl
      have h1 : x8 = 1 := by rw [hx8, c10, a10]
      rw [h1] at evM va
      rw [if_neg (by decide)] at evM
      simp only [jn] at evM
      rw [if_pos trivial, e_1064_k hSm2, show (3 : Int32) = nI 3 from rfl] at evM
      rcases num_eq hS1 hX1 hT1 x3 3 (by decide) with ⟨d1, d2, s3, e3, τ3, d3, d4, d5, d6⟩ | ⟨d1, q, τ3, d2, d3⟩
      · rcases isNum_eq hSm2 hXm2 w20 hT1 (a := a + 1) (mx := 3) (by omega) (by decide) with ⟨-, -, ρ5, g1, g2, g3, g4, g5⟩ | ⟨g0, -⟩
        · obtain ⟨c0, hc0⟩ : ∃ c0, c0 = nn t s1 (e1 - s1) := ⟨_, rfl⟩
          rw [← hc0] at d2 d4 g4
          have hS3 : Sh τ3 z := d5.sh hS1 (by decide)
          have hX3 := hX1.keep hS1 d5 rd_tx
          obtain ⟨hH3, sm3⟩ := hH1.rd d5
          have hS5 : Sh ρ5 z := g2.sh hSm2 (by decide)
          have hX5 := hXm2.keep hSm2 g2 mf_tx
          rw [g1, sb] at evM
          have evM2 : fX7_isTasteLine ρ (z + 1064) (nI a) = tlC (z + 1064) (nI a) ρ5 := evM
          rw [d4, sb] at evX
          simp only [xs] at evX
          rw [o_gR_eq hH3.1 hH3.2.1, e_25_k hS3] at evX
          rcases val_two hS3 hX3 d3 d6 hS5 hX5 g3 (a := a) (by omega) with ⟨v, τ4, ρ6, p2, s2, e2, y1, y2, y3, y4, y5, y6, y7, y8, y9, y10, y11⟩ | ⟨q, τ4, ρ6, y1, y2, y3, y4, y5, y6⟩
          · left
            obtain ⟨hH4, sm4⟩ := hH3.rd y3
            rw [y2, sb] at evX
            simp only [xs] at evX
            rw [o_sI_eq hH4.2.2.2.1 (show c0 < 4 by omega) (by decide)] at evX
            have F4 : Fr (PL z RD) σ τ4 := ((hF1.pT x2).pT d5).pT y3
            have rws : ∀ j, j < 3 * m → s_i ρ6 (z + 1076) j = s_i ρ (z + 1076) j := fun j hj => by rw [y11 j (by omega), g5 j (by omega), vj j (by omega)]
            have ra : s_i ρ6 (z + 1076) (3 * m) = 1 := by rw [← ha, y11 a (by omega), g5 a (by omega), va]
            have rb : s_i ρ6 (z + 1076) (3 * m + 1) = nI c0 := by rw [← ha, y11 (a + 1) (by omega), g4]
            have rc : s_i ρ6 (z + 1076) (3 * m + 2) = nI v := by rw [← ha, y10]
            have sp : ∀ j, s_i (setI τ4 (p + 1) c0 (nI v)) p j = s_i τ p j := fun j => by rw [gi_ne (by omega), sm4 p j (by omega) (by omega), sm3 p j (by omega) (by omega), sm1 p j (by omega) (by omega)]
            refine ⟨_, ρ6, p2, s2, e2, evX, evM2.trans y5, F4.newI (by omega), ((frm2.transL g2).transL y6).inL (by decide), y1, y4.set (by omega), y7, y8, y9, sp 0, hH4, ?_, fun c hc => ?_, ?_, ?_, ?_⟩
            · rw [sp 1, v1, tof_skip rws (Or.inl (by simp only [ra]; decide))]
            · by_cases cc : c = c0
              · subst cc
                rw [gi_eq, tof_hit ra rb, rc]
              · rw [gi_nj cc, sm4 (p + 1) c (by omega) (by omega), sm3 (p + 1) c (by omega) (by omega), sm1 (p + 1) c (by omega) (by omega), v2 c hc, tof_skip rws (Or.inr (by simp only [rb]; exact fun q => cc ((nI_eq (by omega) (by omega)).mp q).symm))]
            · rw [sp 3, v3, tof_skip rws (Or.inl (by simp only [ra]; decide))]
            · rw [sp 4, v4, tof_skip rws (Or.inl (by simp only [ra]; decide))]
            · rw [sp 5, v5, tof_skip rws (Or.inl (by simp only [ra]; decide))]
          · right
            rw [y1, sb] at evX
            exact ⟨q, τ4, ρ6, s3, evX, y2.1, y2.2.1, ((hF1.pT x2).pT d5).pT y2.2.2, evM2.trans y3, ((frm2.transL g2).transL y4).inL (by decide), y5, y6⟩
        · exact absurd ⟨d1, d2⟩ g0
      · rcases isNum_eq hSm2 hXm2 w20 hT1 (a := a + 1) (mx := 3) (by omega) (by decide) with ⟨g0, g1, -⟩ | ⟨-, ρ5, g1, g2, g3⟩
        · exact absurd ⟨g0, g1⟩ d1
        · right
          rw [d2, sb] at evX
          rw [g1, sb] at evM
          exact ⟨q, τ3, ρ5, s1, evX, d3.1, d3.2.1, (hF1.pT x2).pT d3.2.2, evM, (frm2.transL g2).inL (by decide), g3, le160 hT1⟩
    · by_cases c11 : tc t n s e = cw 11
      · refine plain 11 3 2 (by decide) (by decide) c11 (by rw [hx8, c11, a11]) (by decide) (by decide) (by decide) (fun τ1 h1 h2 => ?_) (fun τ' ρ' v g1 g2 g3 g4 g5 g6 g7 => ⟨?_, fun c hc => ?_, ?_, ?_, ?_⟩)
        · unfold fX17_line
          simp only [un2, e_25_k hS, no 9 (by decide) (by decide) c9, no 10 (by decide) (by decide) c10, h1, sb, if_true, i10, if_false, e_25_k h2]
        · rw [g1 1 (by decide), v1, tof_skip g7 (Or.inl (by simp only [g4]; decide))]
        · rw [g2, v2 c hc, tof_skip g7 (Or.inl (by simp only [g4]; decide))]
        · rw [g3, tof_hit g4 g5, g6]
        · rw [g1 4 (by decide), v4, tof_skip g7 (Or.inl (by simp only [g4]; decide))]
        · rw [g1 5 (by decide), v5, tof_skip g7 (Or.inl (by simp only [g4]; decide))]
      · by_cases c12 : tc t n s e = cw 12
        · refine plain 12 4 3 (by decide) (by decide) c12 (by rw [hx8, c12, a12]) (by decide) (by decide) (by decide) (fun τ1 h1 h2 => ?_) (fun τ' ρ' v g1 g2 g3 g4 g5 g6 g7 => ⟨?_, fun c hc => ?_, ?_, ?_, ?_⟩)
          · unfold fX17_line
            simp only [un2, e_25_k hS, no 9 (by decide) (by decide) c9, no 10 (by decide) (by decide) c10, no 11 (by decide) (by decide) c11, h1, sb, if_true, i10, if_false, e_25_k h2]
          · rw [g1 1 (by decide), v1, tof_skip g7 (Or.inl (by simp only [g4]; decide))]
          · rw [g2, v2 c hc, tof_skip g7 (Or.inl (by simp only [g4]; decide))]
          · rw [g1 3 (by decide), v3, tof_skip g7 (Or.inl (by simp only [g4]; decide))]
          · rw [g3, tof_hit g4 g5, g6]
          · rw [g1 5 (by decide), v5, tof_skip g7 (Or.inl (by simp only [g4]; decide))]
        · by_cases c13 : tc t n s e = cw 13
          · refine plain 13 5 4 (by decide) (by decide) c13 (by rw [hx8, c13, a13]) (by decide) (by decide) (by decide) (fun τ1 h1 h2 => ?_) (fun τ' ρ' v g1 g2 g3 g4 g5 g6 g7 => ⟨?_, fun c hc => ?_, ?_, ?_, ?_⟩)
            · unfold fX17_line
              simp only [un2, e_25_k hS, no 9 (by decide) (by decide) c9, no 10 (by decide) (by decide) c10, no 11 (by decide) (by decide) c11, no 12 (by decide) (by decide) c12, h1, sb, if_true, e_25_k h2, need_yes, xs]
            · rw [g1 1 (by decide), v1, tof_skip g7 (Or.inl (by simp only [g4]; decide))]
            · rw [g2, v2 c hc, tof_skip g7 (Or.inl (by simp only [g4]; decide))]
            · rw [g1 3 (by decide), v3, tof_skip g7 (Or.inl (by simp only [g4]; decide))]
            · rw [g1 4 (by decide), v4, tof_skip g7 (Or.inl (by simp only [g4]; decide))]
            · rw [g3, tof_hit g4 g5, g6]
          · right
            have hno : taV (tc t n s e) = -1 := taV_no (fun i h1 h2 => by
              have : i = 9 ∨ i = 10 ∨ i = 11 ∨ i = 12 ∨ i = 13 := by omega
              rcases this with rfl | rfl | rfl | rfl | rfl
              · exact c9
              · exact c10
              · exact c11
              · exact c12
              · exact c13)
            obtain ⟨nd1, nd2⟩ := need_no hS hR
            have evX : fX17_line τ p (z + 25) = some (.inr (s_z τ, exS τ s)) := by
              unfold fX17_line
              simp only [un2, e_25_k hS, no 9 (by decide) (by decide) c9, no 10 (by decide) (by decide) c10, no 11 (by decide) (by decide) c11, no 12 (by decide) (by decide) c12, no 13 (by decide) (by decide) c13, sb, if_true, nd1, xs]
            have h4 : x8 = -1 := by rw [hx8, hno]
            rw [h4, if_pos rfl, e_1064_k hSm2, fails_eq hSm2 w21, sb] at evM
            exact ⟨_, _, _, s, evX, nd2.1, nd2.2.1, hF1.pT nd2.2.2, evM, frm2.aS (o := 1064) rfl, gi_eq, le160 hTok⟩
def TaI (σ σm : St) (z p m k : Nat) (τ ρ : St) : Prop := Fr (PL z RD) σ τ ∧ Fr (PL z MR) σm ρ ∧ TasS τ z p ∧ s_i τ p 0 = nI m ∧ s_i ρ (z + 1064) 26 = nI m ∧ Vals τ p (fun j => s_i ρ (z + 1076) j) k
theorem tas_two (hSσ : Sh σ z) (hXσ : Tx σ z n t) (hSm : Sh σm z) (hXm : Ty σm z n t) (hp : p = s_z σ) {τ0 : St} (h0 : fX17_init (born σ (.inl 14)) p z = some τ0) :
    (∃ τ' ρ' mm, 1 ≤ mm ∧ mm ≤ 8 ∧ fX0_faultOf τ0 z p = some (-1, τ') ∧ fX7_isRead σm (z + 1064) 1 = some (1, ρ') ∧ TaI σ σm z p mm mm τ' ρ') ∨
    (∃ τ' ρ' sf, fX0_faultOf τ0 z p = some (nI sf, τ') ∧ Fr (PL z RD) σ τ' ∧ fX7_isRead σm (z + 1064) 1 = some (0, ρ') ∧ Fr (PL z MR) σm ρ' ∧ s_i ρ' (z + 1064) 25 = nI sf ∧ sf ≤ 160) := by
  obtain ⟨τ0', z1, z2, z3, z5⟩ := newTas hSσ hp
  cases z1.symm.trans h0
  have hS0 : Sh τ0 z := z2.sh hSσ (by decide)
  have hzp : z + 1094 ≤ p := by rw [hp]; exact hSσ.2.2.2.1
  obtain ⟨s, e, hT⟩ := tok_ex t (n := n) (p := 0) (Nat.zero_le n)
  obtain ⟨τ1, hτ1⟩ : ∃ τ1, τ1 = setI τ0 (z + 25) 0 (nI 0) := ⟨_, rfl⟩
  have F01 : Fr (PL z RD) τ0 τ1 := by rw [hτ1]; exact Fr.refl.aS (o := 25) rfl
  have F1 : Fr (PL z RD) σ τ1 := z2.pT F01
  have hS1 : Sh τ1 z := F1.sh hSσ (by decide)
  have hX1 := hXσ.keep hSσ F1 rd_tx
  obtain ⟨τ2, y1, y2, y3⟩ := token_eq hS1 hX1 (show s_i τ1 (z + 25) 0 = nI 0 by rw [hτ1, gi_eq]) hT
  obtain ⟨ρ1, hρ1⟩ : ∃ ρ1, ρ1 = setI (setI σm (z + 1064) 20 0) (z + 1064) 26 0 := ⟨_, rfl⟩
  have Fm1 : Fr (PL z MR) σm ρ1 := by rw [hρ1]; exact (Fr.refl.aS (o := 1064) rfl).aS (o := 1064) rfl
  have hrd : ∀ m τ τ' ρ, TaI σ σm z p m m τ ρ → Fr (PL z RD) τ τ' → TaI σ σm z p m m τ' ρ := by
    rintro m τ τ' ρ ⟨i1, i2, i3, i4, i5, i6⟩ hF
    obtain ⟨j1, j2⟩ := i3.rd hF
    obtain ⟨v1, v2, v3, v4, v5⟩ := i6
    exact ⟨i1.pT hF, i2, j1, (j2 p 0 (by omega) (by omega)).trans i4, i5, (j2 p 1 (by omega) (by omega)).trans v1, fun c hc => (j2 (p + 1) c (by omega) (by omega)).trans (v2 c hc), (j2 p 3 (by omega) (by omega)).trans v3, (j2 p 4 (by omega) (by omega)).trans v4, (j2 p 5 (by omega) (by omega)).trans v5⟩
  have start : TaI σ σm z p 0 0 τ2 ρ1 := hrd 0 τ0 τ2 ρ1 ⟨z2, Fm1, z3, z5 p 0 (by omega) (by omega), by rw [hρ1, gi_eq]; rfl, z5 p 1 (by omega) (by omega), fun c _ => z5 (p + 1) c (by omega) (by omega), z5 p 3 (by omega) (by omega), z5 p 4 (by omega) (by omega), z5 p 5 (by omega) (by omega)⟩ (F01.pT y2)
  have key := rd_two (p := p) hSσ hXσ hSm hXm (w := 1) (kd := 14) (most := 8) (Or.inr ⟨rfl, rfl, rfl⟩) (fun m τ ρ => TaI σ σm z p m m τ ρ) (fun m τ ρ => TaI σ σm z p m (m + 1) τ ρ)
    (fun m τ ρ h => ⟨h.1, h.2.1, h.2.2.1.1, h.2.2.2.2.1⟩) hrd
    (fun m τ ρ h => ⟨h.1, h.2.1, h.2.2.1.1, h.2.2.2.1, h.2.2.2.2.1, hzp⟩)
    (by
      rintro m τ ρ hm ⟨i1, i2, i3, i4, i5, v1, v2, v3, v4, v5⟩
      have rw0 : (fun j => s_i (setI ρ (z + 1064) 26 (nI (m + 1))) (z + 1076) j) = fun j => s_i ρ (z + 1076) j := funext fun j => gi_ne (by omega)
      refine ⟨i1.newI (by omega), i2.aS (o := 1064) rfl, i3, gi_eq, gi_eq, ?_⟩
      rw [rw0]
      refine ⟨?_, fun c hc => ?_, ?_, ?_, ?_⟩
      · rw [gi_nj (by decide)]; exact v1
      · rw [gi_ne (by omega)]; exact v2 c hc
      · rw [gi_nj (by decide)]; exact v3
      · rw [gi_nj (by decide)]; exact v4
      · rw [gi_nj (by decide)]; exact v5)
    (by
      rintro m τ ρ p0 s e hm ⟨i1, i2, i3, i4, i5, i6⟩ hTok hR hpos
      have hSr : Sh ρ z := i2.sh hSm (by decide)
      have hXr := hXm.keep hSm i2 (by decide)
      have vl : vTold_line τ p (z + 25) = fX17_line τ p (z + 25) := by
        unfold vTold_line
        rw [if_neg (by rw [i3.1]; exact fun q => by cases q), if_pos i3.1]
      have ln : lnM z 1 m ρ = fX7_isTasteLine ρ (z + 1064) (nI (3 * m)) := if_neg (by decide)
      rw [vl, ln]
      rcases tline_two hSσ hXσ hSr hXr hm (by omega) i1 i3 hTok hR hpos i6 with ⟨τ', ρ', p', s', e', g1, g2, g3, g4, g5, g6, g7, g8, g9, g10, g11, g12⟩ | ⟨q, τ', ρ', sf, g1, g2, g3, g4, g5, g6, g7⟩
      · left
        exact ⟨τ', ρ', p', s', e', g1, g2, g5, g6, g7, g8, g9, g3, (i2.transL g4).inL (by decide), g11, g10.trans i4, (g4.ki hSr 1064 26 (by decide) (by decide)).trans i5, g12⟩
      · right
        exact ⟨q, τ', ρ', sf, g1, g2, g3, g4, g5, (i2.transL g6).inL (by decide), g7⟩)
    8 0 rfl (by decide) τ2 ρ1 0 s e 9 fuel start hT y3 (by rw [hρ1, gi_nj (by decide), gi_eq]; rfl) (by decide) (by decide)
  have evX : fX0_faultOf τ0 z p = (XT z p 9 τ2).bind (fun rx => match rx with
    | .inl q => some (-1, q.2)
    | .inr q => o_gI q.2 q.1 11 0 fun v => some (v, q.2)) := by
    unfold fX0_faultOf
    rw [e_0_13 hS0, e_25_k hS0]
    unfold fX6_read
    rw [e_25_p hS0, show (0 : Int32) = nI 0 from rfl, ← hτ1, e_25_k hS1, y1, sb]
    rfl
  have evM : fX7_isRead σm (z + 1064) 1 = MT z 1 fuel ρ1 := by
    unfold fX7_isRead
    rw [e_1064_p hSm, e_1064_p (Sh_setI.mpr hSm), ← hρ1]
    rfl
  rcases key with ⟨τ', ρ', mm, g1, g2, g3, g4, g5⟩ | ⟨q, τ', ρ', sf, g1, g2, g3, g4, g5, g6, g7, g8⟩
  · left
    rw [g3, sb] at evX
    exact ⟨τ', ρ', mm, g1, g2, evX, evM.trans g4, g5⟩
  · right
    rw [g1, sb] at evX
    have evX2 : fX0_faultOf τ0 z p = o_gI τ' q 11 0 fun v => some (v, τ') := evX
    rw [o_gI_eq g2, g3] at evX2
    exact ⟨τ', ρ', sf, evX2, g4, evM.trans g5, g6, g7, g8⟩
end TASTE
