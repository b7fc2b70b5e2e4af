set_option maxRecDepth 100000
/-! lines, and all lines, read by both -/
theorem tc_end {t : Nat → Nat} {n p s e : Nat} (hT : Tok t n p s e) : tc t n s e = -2 ↔ s = n := by
  obtain ⟨t1, t2, t3, t4, t5⟩ := hT
  unfold tc
  constructor
  · intro h
    split at h
    · assumption
    · split at h
      · next cs c1 =>
        have run : ∀ i, i < e - s → t (s + i) ≤ 122 := by
          rcases t5 with t5 | ⟨-, -, t5 | t5⟩
          · omega
          · omega
          · exact fun i hi => (kd1.mp ((t5.2.2.1 (s + i) (by omega) (by omega)).trans c1)).2
        split at h
        · next c9 => exact absurd h (lN_neg (wn_63 c9 run) (by decide))
        · exact absurd h (by decide)
      · split at h
        · split at h <;> exact absurd h (by decide)
        · split at h <;> exact absurd h (by decide)
  · intro h
    rw [if_pos h]
theorem act_ok {τ : St} {z r : Nat} {c w : Int32} (hS : Sh τ z) (h : ActR τ z r c w) : ∃ ci, s_k τ r = some (.inl ci) ∧ okA 5 ci = true := by
  rcases h with ⟨-, rfl⟩ | ⟨-, h1, -⟩ | ⟨-, h1, -⟩ | ⟨-, rfl⟩ | ⟨-, ⟨h1, -⟩, -⟩
  · exact ⟨1, hS.k 1 _ (by decide) rfl, rfl⟩
  · exact ⟨9, h1, rfl⟩
  · exact ⟨10, h1, rfl⟩
  · exact ⟨2, hS.k 2 _ (by decide) rfl, rfl⟩
  · exact ⟨12, h1, rfl⟩
section READ
variable {σ σm τ ρ : St} {z n p m : Nat} {t : Nat → Nat}
theorem hline_two (hSσ : Sh σ z) (hXσ : Tx σ z n t) (hSm : Sh σm z) (hXm : Ty σm z n t) (hm : m < 6) (hpz : s_z σ ≤ p) {p0 s e : Nat} (hF1 : Fr (PL z RD) σ τ) (hH : HabS τ z p) (hm0 : s_i τ p 0 = nI m) (hT0 : s_i τ (p + 9) m = 0) (hTok : Tok t n p0 s e) (hR : RdX τ z s e) (hFm : Fr (PL z MF) σm ρ) (hp : s_i ρ (z + 1064) 20 = nI p0) :
    (∃ τ' ρ' p' s' e', fX11_line τ p (z + 25) = some (.inl ((), τ')) ∧ fX7_isHabitLine ρ (z + 1064) (nI (12 * m)) = some (1, ρ') ∧ Fr (PL z RD) σ τ' ∧ Fr (PM z p m) τ τ' ∧ Fr (PL z MF) σm ρ' ∧ Tok t n p' s' e' ∧ RdX τ' z s' e' ∧ s_i ρ' (z + 1064) 20 = nI e' ∧ s_i ρ' (z + 1064) 21 = nI s' ∧ s_l ρ' (z + 1064) 22 = tc t n s' e' ∧ s_i τ' p 0 = nI m ∧ LineR τ' z (p + 1) (p + 2) (p + 9) m (fun j => s_i ρ' (z + 1076) (12 * m + j)) ∧ ∀ j, j < 12 * m → s_i ρ' (z + 1076) j = s_i ρ (z + 1076) j) ∨
    (∃ q τ' ρ' sf, fX11_line τ p (z + 25) = some (.inr (q, τ')) ∧ s_k τ' q = some (.inl 11) ∧ s_i τ' q 0 = nI sf ∧ Fr (PL z RD) σ τ' ∧ fX7_isHabitLine ρ (z + 1064) (nI (12 * m)) = some (0, ρ') ∧ Fr (PL z MF) σm ρ' ∧ s_i ρ' (z + 1064) 25 = nI sf ∧ sf ≤ 160) := by
  have hS : Sh τ z := hF1.sh hSσ (by decide)
  have hX := hXσ.keep hSσ hF1 rd_tx
  have hSr : Sh ρ z := hFm.sh hSm (by decide)
  have hXr := hXm.keep hSm hFm mf_tx
  obtain ⟨k8, r1, r2, r3, r4, kA, kG, kGi, kT, hzp, hpl⟩ := hH
  have hH : HabS τ z p := ⟨k8, r1, r2, r3, r4, kA, kG, kGi, kT, hzp, hpl⟩
  have evX := Eq.refl (fX11_line τ p (z + 25))
  conv at evX => rhs; unfold fX11_line
  rw [o_gR_eq k8 r1, o_gI_eq k8, hm0, e_25_k hS] at evX
  rcases act_two hS hX hTok hR hSr hXr hp (a := 12 * m) (by omega) with ⟨r, τ1, ρ1, p2, s2, e2, x1, x2, x3, x4, x5, x6, x7, x8, x9, x10⟩ | ⟨q, τ1, ρ1, sf, x1, x2, x3, x4, x5⟩
  · have hF11 : Fr (PL z RD) σ τ1 := hF1.pT x3
    have hS1 : Sh τ1 z := hF11.sh hSσ (by decide)
    have hPM1 : Fr (PM z p m) τ τ1 := x3.mono fun _ _ q => Or.inl q
    have hH1 := hH.pm hPM1 hm
    have same1 : ∀ a j, z + 1094 ≤ a → a < s_z τ → s_i τ1 a j = s_i τ a j ∧ s_r τ1 a j = s_r τ a j := fun a j h1 h2 => by
      have := x3.2.2.1 a j h2 (fun q => by have := rd_lo q; omega)
      exact ⟨this.1, this.2.1⟩
    obtain ⟨ci, hk, hok⟩ := act_ok hS1 x10
    obtain ⟨τ2, hτ2⟩ : ∃ τ2, τ2 = setR τ1 (p + 1) m (some r) := ⟨_, rfl⟩
    have F1 : Fr (PL z RD) σ τ2 := by rw [hτ2]; exact hF11.newR (by omega)
    have F12 : Fr (PM z p m) τ1 τ2 := by rw [hτ2]; exact Fr.refl.pR (Or.inr (Or.inr (Or.inl ⟨rfl, rfl⟩)))
    have F2 : Fr (PM z p m) τ τ2 := hPM1.pT F12
    have hH2 := hH.pm F2 hm
    have hS2 : Sh τ2 z := F1.sh hSσ (by decide)
    have hX2 := hXσ.keep hSσ F1 rd_tx
    have hR2 : RdX τ2 z s2 e2 := by rw [hτ2]; exact x4.setR
    have m2 : s_i τ2 p 0 = nI m := by
      rw [hτ2]
      exact ((same1 p 0 hzp (by omega)).1).trans hm0
    have t2 : s_i τ2 (p + 9) m = 0 := by
      rw [hτ2]
      exact ((same1 (p + 9) m (by omega) (by omega)).1).trans hT0
    have a2 : s_r τ2 (p + 1) m = some r := by rw [hτ2, r_setR, up2_same]
    have act2 : ActR τ2 z r (s_i ρ1 (z + 1076) (12 * m)) (s_i ρ1 (z + 1076) (12 * m + 1)) := x10.pm hH1 hS1 F12 hm
    rw [x2, sb] at evX
    simp only [xs] at evX
    rw [o_sR_eq hH1.2.2.2.2.2.1 hm (by decide) hk hok, ← hτ2, e_25_k hS2] at evX
    -- the model
    have hFm1 : Fr (PL z MF) σm ρ1 := hFm.pT x6
    have hSr1 : Sh ρ1 z := x6.sh hSr (by decide)
    have hXr1 := hXm.keep hSm hFm1 mf_tx
    obtain ⟨ρ2, n1, n2, n3, n4, n5, -⟩ := next_eq hSr1 hXr1 x7 x1
    have hSr2 : Sh ρ2 z := n2.sh hSr1 (by decide)
    have hFm2 : Fr (PL z MF) σm ρ2 := (hFm1.transL n2).inL (by decide)
    have rows : ∀ j, s_i ρ2 (z + 1076) j = s_i ρ1 (z + 1076) j := fun j => n2.kia hSr1 1076 (by decide) (by decide) j
    have c6 : cw 6 = 458690 := cw_lit.2.2.2.2.2.2.1
    have evM : fX7_isHabitLine ρ (z + 1064) (nI (12 * m)) = (loopF fuel (bM m z) (ρ2, (if tc t n s2 e2 = cw 6 then 1 else 0), nI 0)).bind (sm (fun σ35 => some (0, σ35)) fun σ36 => some (1, σ36)) := by
      rw [x5]
      unfold hlC
      rw [e_1064_k hSr1, n1, sb, e_1064_l hSr2, n5]
      simp only [jn]
      by_cases c : tc t n s2 e2 = cw 6
      · rw [if_pos ((cmp_eq0 _ _).mpr (c.trans c6)), if_pos c]
        rfl
      · rw [if_neg (fun q => c (((cmp_eq0 _ _).mp q).trans c6.symm)), if_neg c]
        rfl
    by_cases c : tc t n s2 e2 = cw 6
    · obtain ⟨s3, e3, hT3⟩ := tok_ex t (n := n) (p := e2) x1.2.2.1
      obtain ⟨τ3, y1, y2, y3⟩ := skips_yes hS2 hX2 x1 hR2 hT3 (i := 6) (by decide) (by decide) c
      rw [y1, sb] at evX
      have evX2 : fX11_line τ p (z + 25) = (loopF 4 (bX p z) (τ3, 1)).bind (sm (fun σ31 => some (.inl ((), σ31))) fun p9 => some (.inr p9)) := evX
      rw [if_pos c] at evM
      have same3 : ∀ a j, z + 1094 ≤ a → a < s_z τ2 → s_i τ3 a j = s_i τ2 a j ∧ s_r τ3 a j = s_r τ2 a j := fun a j h1 h2 => by
        have := y2.2.2.1 a j h2 (fun q => by have := rd_lo q; omega)
        exact ⟨this.1, this.2.1⟩
      have hl2 := hH2.2.2.2.2.2.2.2.2.2.2
      have F23 : Fr (PM z p m) τ2 τ3 := y2.mono fun _ _ q => Or.inl q
      rcases loop_two hSσ hXσ hSm hXm hm hpz 3 0 rfl (by decide) τ3 ρ2 e2 s3 e3 4 fuel (F1.pT y2) (hH2.pm F23 hm) (((same3 p 0 hzp (by omega)).1).trans m2) (((same3 (p + 9) m (by omega) (by omega)).1).trans t2) hT3 y3 hFm2 n3 (by decide) (by decide) with ⟨τ', ρ', p', s', e', tm, g1, g2, g3, g4, g5, g6, g7, g8, g9, g10, g11, g12, g13, g14, g15, g16, g17, g18⟩ | ⟨q', τ', ρ', sf, g1, g2, g3, g4, g5, g6, g7⟩
      · left
        rw [g1, sb] at evX2
        rw [g2, sb] at evM
        have F3' : Fr (PM z p m) τ2 τ' := F23.pT g4
        refine ⟨τ', ρ', p', s', e', evX2, evM, g3, F2.pT F3', g5, g6, g7, g8, g9, g10, g14, ⟨⟨r, ?_, ?_⟩, p + 3 + m, tm, ?_, ⟨?_, by omega⟩, g12, g13, fun k hk => ?_, fun k hk hk3 => ?_⟩, fun j hj => ?_⟩
        · rw [g17, (same3 (p + 1) m (by omega) (by omega)).2, a2]
        · have := act2.pm hH2 hS2 F3' hm
          simp only [Nat.add_zero]
          rw [g18 (12 * m) (by omega), g18 (12 * m + 1) (by omega), rows, rows]
          exact this
        · exact ((hH2.pm F3' hm).2.2.2.2.2.2.2.1 m hm).1
        · exact ((hH2.pm F3' hm).2.2.2.2.2.2.2.1 m hm).2
        · obtain ⟨q, q1, q2⟩ := g15 k (by omega) hk
          refine ⟨q, q1, ?_⟩
          have e1 : 12 * m + (3 + 3 * k) = 12 * m + 3 + 3 * k := by omega
          have e2 : 12 * m + (4 + 3 * k) = 12 * m + 3 + 3 * k + 1 := by omega
          have e3 : 12 * m + (5 + 3 * k) = 12 * m + 3 + 3 * k + 2 := by omega
          simp only [e1, e2, e3]
          exact q2
        · simp only
          rw [g18 (12 * m + (3 + 3 * k)) (by omega), rows, show 12 * m + (3 + 3 * k) = 12 * m + 3 + 3 * k by omega]
          exact x9 k hk3
        · rw [g18 j (by omega), rows, x8 j hj]
      · right
        rw [g1, sb] at evX2
        rw [g5, sb] at evM
        exact ⟨q', τ', ρ', sf, evX2, g2, g3, g4, evM, g6, g7⟩
    · left
      rw [skips_no hS2 hX2 x1 hR2 (i := 6) (by decide) (by decide) c, sb] at evX
      have evX2 : fX11_line τ p (z + 25) = (loopF 4 (bX p z) (τ2, 0)).bind (sm (fun σ31 => some (.inl ((), σ31))) fun p9 => some (.inr p9)) := evX
      have sX : bX p z (τ2, 0) = some (.inr (.inl τ2)) := by
        unfold bX lX11_line_20
        rw [if_pos rfl]
      have sM : bM m z (ρ2, 0, nI 0) = some (.inr (.inr ρ2)) := by
        unfold bM lX7_isHabitLine_182
        simp only [if_true, ite_self]
      rw [if_neg c] at evM
      have lM : loopF fuel (bM m z) (ρ2, 0, nI 0) = some (.inr ρ2) := by
        show loopF (999999999999999999 + 1) (bM m z) (ρ2, 0, nI 0) = _
        simp only [loopF, sM]
      have lX : loopF 4 (bX p z) (τ2, 0) = some (.inl τ2) := by
        simp only [loopF, sX]
      rw [lX, sb] at evX2
      rw [lM, sb] at evM
      refine ⟨τ2, ρ2, p2, s2, e2, evX2, evM, F1, F2, hFm2, x1, hR2, n3, n4, n5, m2, ⟨⟨r, a2, ?_⟩, p + 3 + m, 0, (hH2.2.2.2.2.2.2.2.1 m hm).1, ⟨(hH2.2.2.2.2.2.2.2.1 m hm).2, by omega⟩, by omega, t2, fun k hk => absurd hk (Nat.not_lt_zero k), fun k hk hk3 => ?_⟩, fun j hj => ?_⟩
      · simp only [Nat.add_zero]
        rw [rows, rows]
        exact act2
      · simp only
        rw [rows, show 12 * m + (3 + 3 * k) = 12 * m + 3 + 3 * k by omega]
        exact x9 k hk3
      · rw [rows, x8 j hj]
  · right
    rw [x1, sb] at evX
    exact ⟨q, τ1, ρ1, sf, evX, x2.1, x2.2.1, hF1.pT x2.2.2, x3, hFm.pT x4, x5⟩
/-- the rest of the reading, from a line on -/
def rdX (z p : Nat) : St → Option (St ⊕ (St ⊕ (Nat × St))) := fun y => lX6_read_24 (z + 25) p y
def rdM (z : Nat) (w : Int32) : St × Int32 → Option ((St × Int32) ⊕ (St ⊕ (St ⊕ St))) := fun y => lX7_isRead_12 (z + 1064) w y.1 y.2
def XT (z p fx : Nat) (τ : St) : Option (Rx Unit) := (vTold_line τ p (z + 25)).bind <| xs fun _ σ3 => o_gM σ3 p fun x4 => o_pM σ3 p (x4 + 1) fun σ5 => (loopF fx (rdX z p) σ5).bind <| sm (fun σ20 => some (.inl ((), σ20))) <| fun p9 => some (.inr p9)
def MT (z : Nat) (w : Int32) (fm : Nat) (ρ : St) : Option (Int32 × St) := (loopF fm (rdM z w) (ρ, 1)).bind <| sm (fun σ18 => some (0, σ18)) <| sm (fun σ19 => some (0, σ19)) <| fun σ20 =>
  o_gL σ20 (z + 1064) 5 22 fun y21 =>
  jn (fun (σ24 : St) => some ((1 : Int32), σ24)) fun j118 =>
  if (lg_cmp y21 ((-2))) = 0 then j118 σ20
  else
  o_k σ20 (z + 1064) 5 <|
  (fX7_fails σ20 (z + 1064)).bind <| un2 fun x22 σ23 =>
  if x22 = 0 then some (0, σ23) else j118 σ23
def lnM (z : Nat) (w : Int32) (m : Nat) (ρ : St) : Option (Int32 × St) := if w = 0 then fX7_isHabitLine ρ (z + 1064) (nI (12 * m)) else fX7_isTasteLine ρ (z + 1064) (nI (3 * m))
theorem rd_two (hSσ : Sh σ z) (hXσ : Tx σ z n t) (hSm : Sh σm z) (hXm : Ty σm z n t) {w : Int32} {kd most : Nat} (hw : (w = 0 ∧ kd = 8 ∧ most = 6) ∨ (w = 1 ∧ kd = 14 ∧ most = 8)) (I J : Nat → St → St → Prop)
    (hI : ∀ m τ ρ, I m τ ρ → Fr (PL z RD) σ τ ∧ Fr (PL z MR) σm ρ ∧ s_k τ p = some (.inl kd) ∧ s_i ρ (z + 1064) 26 = nI m)
    (hrd : ∀ m τ τ' ρ, I m τ ρ → Fr (PL z RD) τ τ' → I m τ' ρ)
    (hJ : ∀ m τ ρ, J m τ ρ → Fr (PL z RD) σ τ ∧ Fr (PL z MR) σm ρ ∧ s_k τ p = some (.inl kd) ∧ s_i τ p 0 = nI m ∧ s_i ρ (z + 1064) 26 = nI m ∧ z + 1094 ≤ p)
    (hJI : ∀ m τ ρ, m < most → J m τ ρ → I (m + 1) (setI τ p 0 (nI (m + 1))) (setI ρ (z + 1064) 26 (nI (m + 1))))
    (hline : ∀ m τ ρ p0 s e, m < most → I m τ ρ → Tok t n p0 s e → RdX τ z s e → s_i ρ (z + 1064) 20 = nI p0 →
      (∃ τ' ρ' p' s' e', vTold_line τ p (z + 25) = some (.inl ((), τ')) ∧ lnM z w m ρ = some (1, ρ') ∧ Tok t n p' s' e' ∧ RdX τ' z s' e' ∧ s_i ρ' (z + 1064) 20 = nI e' ∧ s_i ρ' (z + 1064) 21 = nI s' ∧ s_l ρ' (z + 1064) 22 = tc t n s' e' ∧ J m τ' ρ') ∨
      (∃ q τ' ρ' sf, vTold_line τ p (z + 25) = some (.inr (q, τ')) ∧ s_k τ' q = some (.inl 11) ∧ s_i τ' q 0 = nI sf ∧ Fr (PL z RD) σ τ' ∧ lnM z w m ρ = some (0, ρ') ∧ Fr (PL z MR) σm ρ' ∧ s_i ρ' (z + 1064) 25 = nI sf ∧ sf ≤ 160)) :
    ∀ r m, m + r = most → 1 ≤ r → ∀ τ ρ p0 s e fx fm, I m τ ρ → Tok t n p0 s e → RdX τ z s e → s_i ρ (z + 1064) 20 = nI p0 → r + 1 ≤ fx → r + 2 ≤ fm →
      (∃ τ' ρ' mm, 1 ≤ mm ∧ mm ≤ most ∧ XT z p fx τ = some (.inl ((), τ')) ∧ MT z w fm ρ = some (1, ρ') ∧ I mm τ' ρ') ∨
      (∃ q τ' ρ' sf, XT z p fx τ = some (.inr (q, τ')) ∧ s_k τ' q = some (.inl 11) ∧ s_i τ' q 0 = nI sf ∧ Fr (PL z RD) σ τ' ∧ MT z w fm ρ = some (0, ρ') ∧ Fr (PL z MR) σm ρ' ∧ s_i ρ' (z + 1064) 25 = nI sf ∧ sf ≤ 160) := by
  have m8 : most ≤ 8 := by rcases hw with h | h <;> omega
  intro r
  induction r with
  | zero => intro m _ h; omega
  | succ r ih =>
    intro m hmr _ τ ρ p0 s e fx fm hIm hTok hR hp hfx hfm
    obtain ⟨fm, rfl⟩ : ∃ f, fm = f + 1 := ⟨fm - 1, by omega⟩
    obtain ⟨hF1, hFm, hk, h26⟩ := hI m τ ρ hIm
    have hSr : Sh ρ z := hFm.sh hSm (by decide)
    -- the model's turn
    have evM := Eq.refl (rdM z w (ρ, 1))
    conv at evM => rhs; unfold rdM lX7_isRead_12
    simp only [i10, if_false, jn] at evM
    rw [e_1064_i hSr, h26, e_1064_k hSr, e_1064_i hSr, h26, e_1064_k hSr, show (12 : Int32) * nI m = nI (12 * m) from nI_mul 12 m, show (3 : Int32) * nI m = nI (3 * m) from nI_mul 3 m] at evM
    rcases hline m τ ρ p0 s e (by omega) hIm hTok hR hp with ⟨τ1, ρ1, p', s1, e1, x1, x2, x3, x4, x5, x6, x7, x8⟩ | ⟨q, τ1, ρ1, sf, x1, x2, x3, x4, x5, x6, x7⟩
    · obtain ⟨hG1, hGm, hk1, hm1, h261, hzp⟩ := hJ m τ1 ρ1 x8
      have hS1 : Sh τ1 z := hG1.sh hSσ (by decide)
      have hSr1 : Sh ρ1 z := hGm.sh hSm (by decide)
      have hI2 := hJI m τ1 ρ1 (by omega) x8
      obtain ⟨τ2, hτ2⟩ : ∃ τ2, τ2 = setI τ1 p 0 (nI (m + 1)) := ⟨_, rfl⟩
      obtain ⟨ρ2, hρ2⟩ : ∃ ρ2, ρ2 = setI ρ1 (z + 1064) 26 (nI (m + 1)) := ⟨_, rfl⟩
      rw [← hτ2, ← hρ2] at hI2
      obtain ⟨hF2, hFm2, hk2, h262⟩ := hI (m + 1) τ2 ρ2 hI2
      have hS2 : Sh τ2 z := hF2.sh hSσ (by decide)
      have hX2 := hXσ.keep hSσ hF2 rd_tx
      have hSr2 : Sh ρ2 z := hFm2.sh hSm (by decide)
      have hR2 : RdX τ2 z s1 e1 := by rw [hτ2]; exact x4.set (by omega)
      have v20 : s_i ρ2 (z + 1064) 20 = nI e1 := by rw [hρ2, gi_nj (by decide)]; exact x5
      have v21 : s_i ρ2 (z + 1064) 21 = nI s1 := by rw [hρ2, gi_nj (by decide)]; exact x6
      have v22 : s_l ρ2 (z + 1064) 22 = tc t n s1 e1 := by rw [hρ2]; exact x7
      have gM : ∀ {α : Type} (K : Int32 → Option α), o_gM τ1 p K = K (nI m) := fun K => by
        unfold o_gM
        rcases hw with ⟨-, h8, -⟩ | ⟨-, h8, -⟩
        · rw [if_pos (by rw [hk1, h8]), o_gI_eq (by rw [hk1, h8]), hm1]
        · rw [if_neg (by rw [hk1, h8]; exact fun q => by cases q), o_gI_eq (by rw [hk1, h8]), hm1]
      have pM : ∀ {α : Type} (K : St → Option α), o_pM τ1 p (nI (m + 1)) K = K τ2 := fun K => by
        unfold o_pM
        rcases hw with ⟨-, h8, -⟩ | ⟨-, h8, -⟩
        · rw [if_pos (by rw [hk1, h8]), o_pI_eq (by rw [hk1, h8]), hτ2]
        · rw [if_neg (by rw [hk1, h8]; exact fun q => by cases q), o_pI_eq (by rw [hk1, h8]), hτ2]
      have evX : XT z p fx τ = (loopF fx (rdX z p) τ2).bind (sm (fun σ20 => some (.inl ((), σ20))) fun p9 => some (.inr p9)) := by
        unfold XT
        rw [x1, sb]
        simp only [xs]
        rw [gM, nI_1, pM]
      -- whether there is one more line
      have evM2 : rdM z w (ρ, 1) = some (.inl (ρ2, (if tc t n s1 e1 = -3 ∧ m + 1 < most then 1 else 0))) := by
        have tail : ∀ lim : Int32, lim = nI most → (o_gI ρ1 (z + 1064) 5 26 fun x12 => o_pI ρ1 (z + 1064) 5 26 (x12 + 1) fun σ13 => o_gL σ13 (z + 1064) 5 22 fun y14 => if lg_cmp y14 (-3) = 0 then (o_gI σ13 (z + 1064) 5 26 fun x15 => if lim ≤ x15 then some (.inl (σ13, 0)) else some (.inl (σ13, 1))) else (some (.inl (σ13, 0)) : Option ((St × Int32) ⊕ (St ⊕ (St ⊕ St))))) = some (.inl (ρ2, (if tc t n s1 e1 = -3 ∧ m + 1 < most then 1 else 0))) := by
          intro lim hlim
          rw [e_1064_i hSr1, h261, nI_1, e_1064_p hSr1, ← hρ2, e_1064_l hSr2, v22, hlim]
          by_cases c : tc t n s1 e1 = -3
          · rw [if_pos ((cmp_eq0 _ _).mpr c), e_1064_i hSr2, h262]
            by_cases c2 : m + 1 < most
            · rw [if_neg (nI_ge c2 (by omega)), if_pos ⟨c, c2⟩]
            · rw [if_pos (nI_le (by omega) (by omega)), if_neg (fun q => c2 q.2)]
          · rw [if_neg (fun q => c ((cmp_eq0 _ _).mp q)), if_neg (fun q => c q.1)]
        rw [evM]
        rcases hw with ⟨rfl, -, h6⟩ | ⟨rfl, -, h6⟩
        · have x2 : fX7_isHabitLine ρ (z + 1064) (nI (12 * m)) = some (1, ρ1) := x2
          rw [if_pos rfl, x2, sb]
          simp only [un2, i10, if_false, if_true]
          exact tail 6 (by rw [h6]; rfl)
        · have x2 : fX7_isTasteLine ρ (z + 1064) (nI (3 * m)) = some (1, ρ1) := x2
          rw [if_neg (by decide), x2, sb]
          simp only [un2, i10, if_false]
          exact tail 8 (by rw [h6]; rfl)
      have stepM : loopF (fm + 1) (rdM z w) (ρ, 1) = loopF fm (rdM z w) (ρ2, (if tc t n s1 e1 = -3 ∧ m + 1 < most then 1 else 0)) := by simp only [loopF, evM2]
      have c21 : cw 21 = -3 := rfl
      obtain ⟨gx, rfl⟩ : ∃ f, fx = f + 1 := ⟨fx - 1, by omega⟩
      obtain ⟨gm, rfl⟩ : ∃ f, fm = f + 1 := ⟨fm - 1, by omega⟩
      have mo : vTold_most τ2 p = some (nI most) := by
        unfold vTold_most
        rcases hw with ⟨-, h8, h6⟩ | ⟨-, h8, h6⟩
        · rw [if_pos (by rw [hk2, h8]), h6]
          rfl
        · rw [if_neg (by rw [hk2, h8]; exact fun q => by cases q), if_pos (by rw [hk2, h8]), h6]
          rfl
      have gM2 : ∀ {α : Type} (K : Int32 → Option α), o_gM τ2 p K = K (nI (m + 1)) := fun K => by
        unfold o_gM
        have e : s_i τ2 p 0 = nI (m + 1) := by rw [hτ2, gi_eq]
        rcases hw with ⟨-, h8, -⟩ | ⟨-, h8, -⟩
        · rw [if_pos (by rw [hk2, h8]), o_gI_eq (by rw [hk2, h8]), e]
        · rw [if_neg (by rw [hk2, h8]; exact fun q => by cases q), o_gI_eq (by rw [hk2, h8]), e]
      have hn160 := hX2.1
      have bx := Eq.refl (rdX z p τ2)
      conv at bx => rhs; unfold rdX lX6_read_24
      rw [e_25_i hS2, hR2.2.1, e_25_3 hS2, e_0_i hS2, hX2.2.1, e_25_k hS2, isWord_eq hS2 hX2 x3 hR2 (show 21 < 22 by decide) (by decide), c21, sb] at bx
      simp only [un2, jn, gM2, mo, sb] at bx
      -- no more line
      have endM : ¬ (tc t n s1 e1 = -3 ∧ m + 1 < most) → MT z w (gm + 1 + 1) ρ = (if s1 = n then some (1, ρ2) else some (0, setI ρ2 (z + 1064) 25 (nI s1))) := by
        intro hc
        rw [if_neg hc] at stepM
        have sM : rdM z w (ρ2, 0) = some (.inr (.inr (.inr ρ2))) := by
          unfold rdM lX7_isRead_12
          rw [if_pos rfl]
        have lM : loopF (gm + 1) (rdM z w) (ρ2, 0) = some (.inr (.inr ρ2)) := by simp only [loopF, sM]
        unfold MT
        rw [stepM, lM, sb]
        show (o_gL ρ2 (z + 1064) 5 22 fun y21 => jn (fun (σ24 : St) => some ((1 : Int32), σ24)) fun j118 => if (lg_cmp y21 ((-2))) = 0 then j118 ρ2 else o_k ρ2 (z + 1064) 5 <| (fX7_fails ρ2 (z + 1064)).bind <| un2 fun x22 σ23 => if x22 = 0 then some (0, σ23) else j118 σ23) = _
        rw [e_1064_l hSr2, v22]
        simp only [jn]
        by_cases ce : s1 = n
        · rw [if_pos ((cmp_eq0 _ _).mpr ((tc_end x3).mpr ce)), if_pos ce]
        · rw [if_neg (fun q => ce ((tc_end x3).mp ((cmp_eq0 _ _).mp q))), if_neg ce, e_1064_k hSr2, fails_eq hSr2 v21, sb]
          rfl
      by_cases ce : s1 = n
      · -- the end
        left
        have nc : ¬ (tc t n s1 e1 = -3 ∧ m + 1 < most) := fun q => by
          rw [(tc_end x3).mpr ce] at q
          exact absurd q.1 (by decide)
        rw [if_pos (nI_le (by omega) (by omega))] at bx
        have lX : loopF (gx + 1) (rdX z p) τ2 = some (.inl τ2) := by simp only [loopF, bx]
        rw [lX, sb] at evX
        exact ⟨τ2, ρ2, m + 1, by omega, by omega, evX, by rw [endM nc, if_pos ce], hI2⟩
      · have s1n : s1 < n := by have := x3.2.1; have := x3.2.2.1; omega
        rw [if_neg (nI_ge s1n (by omega))] at bx
        by_cases cn : tc t n s1 e1 = -3 ∧ m + 1 < most
        · -- one more line
          obtain ⟨s2, e2, hT2⟩ := tok_ex t (n := n) (p := e1) x3.2.2.1
          obtain ⟨τ3, y1, y2, y3⟩ := token_eq hS2 hX2 hR2.1 hT2
          have hI3 := hrd _ _ _ _ hI2 y2
          simp only [if_pos cn.1, i10, if_false, if_neg (nI_ge cn.2 (show most < 2 ^ 31 by omega)), e_25_k hS2, need_yes, sb, xsl, y1] at bx
          have stepX : (loopF (gx + 1) (rdX z p) τ2).bind (sm (fun σ20 => some (.inl ((), σ20))) fun p9 => some (.inr p9)) = XT z p gx τ3 := by
            unfold XT
            simp only [loopF, bx]
            cases hv : vTold_line τ3 p (z + 25) with
            | none => rfl
            | some rx =>
              cases rx with
              | inr q => rfl
              | inl q =>
                simp only [sb, xs, xsl]
                obtain ⟨u, τ4⟩ := q
                by_cases c8 : s_k τ4 p = some (.inl 8)
                · simp only [o_gM, o_pM, o_gI, o_pI, if_pos c8]
                · by_cases c14 : s_k τ4 p = some (.inl 14)
                  · simp only [o_gM, o_pM, o_gI, o_pI, if_neg c8, if_pos c14]
                  · simp only [o_gM, o_pM, o_gI, o_pI, if_neg c8, if_neg c14]
                    rfl
          rw [stepX] at evX
          rw [if_pos cn] at stepM
          have stepM2 : MT z w (gm + 1 + 1) ρ = MT z w (gm + 1) ρ2 := by
            unfold MT
            rw [stepM]
          rcases ih (m + 1) (by omega) (by omega) τ3 ρ2 e1 s2 e2 gx (gm + 1) hI3 hT2 y3 v20 (by omega) (by omega) with ⟨τ', ρ', mm, g1, g2, g3, g4, g5⟩ | ⟨q', τ', ρ', sf, g1, g2, g3, g4, g5, g6, g7⟩
          · exact Or.inl ⟨τ', ρ', mm, g1, g2, evX.trans g3, stepM2.trans g4, g5⟩
          · exact Or.inr ⟨q', τ', ρ', sf, evX.trans g1, g2, g3, g4, stepM2.trans g5, g6, g7⟩
        · -- something else
          right
          obtain ⟨nd1, nd2⟩ := need_no hS2 hR2
          have bx2 : rdX z p τ2 = some (.inr (.inr (s_z τ2, exS τ2 s1))) := by
            rw [bx]
            by_cases c3 : tc t n s1 e1 = -3
            · have hle : most ≤ m + 1 := by
                have h9 : ¬ m + 1 < most := fun q => cn ⟨c3, q⟩
                omega
              simp only [if_pos c3, i10, if_false, if_pos (nI_le hle (show m + 1 < 2 ^ 31 by omega)), e_25_k hS2, nd1, sb, xsl]
            · simp only [if_neg c3, if_true, e_25_k hS2, nd1, sb, xsl]
          have lX : loopF (gx + 1) (rdX z p) τ2 = some (.inr (s_z τ2, exS τ2 s1)) := by simp only [loopF, bx2]
          rw [lX, sb] at evX
          refine ⟨_, _, _, s1, evX, nd2.1, nd2.2.1, hF2.pT nd2.2.2, by rw [endM cn, if_neg ce], hFm2.aS (o := 1064) rfl, gi_eq, by have := x3.2.1; have := x3.2.2.1; omega⟩
    · right
      have evX : XT z p fx τ = some (.inr (q, τ1)) := by
        unfold XT
        rw [x1, sb]
        rfl
      refine ⟨q, τ1, ρ1, sf, evX, x2, x3, x4, ?_, x6, x7⟩
      unfold MT
      rcases hw with ⟨rfl, -, -⟩ | ⟨rfl, -, -⟩
      · have x5 : fX7_isHabitLine ρ (z + 1064) (nI (12 * m)) = some (0, ρ1) := x5
        rw [if_pos rfl, x5, sb] at evM
        have evM2 : rdM z 0 (ρ, 1) = some (.inr (.inl ρ1)) := evM
        simp only [loopF, evM2, sb]
        rfl
      · have x5 : fX7_isTasteLine ρ (z + 1064) (nI (3 * m)) = some (0, ρ1) := x5
        rw [if_neg (by decide), x5, sb] at evM
        have evM2 : rdM z 1 (ρ, 1) = some (.inr (.inr (.inl ρ1))) := evM
        simp only [loopF, evM2, sb]
        rfl
end READ
