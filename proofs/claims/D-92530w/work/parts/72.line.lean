set_option maxRecDepth 100000
/-! a line of habits, read by both -/
/-- the places that a line writes -/
def PM (z p m : Nat) : Nat → Nat → Prop := fun a j => PL z RD a j ∨ (a = p ∧ j = 0) ∨ (a = p + 1 ∧ j = m) ∨ a = p + 3 + m ∨ (a = p + 9 ∧ j = m)
theorem Fr.pI {P : Nat → Nat → Prop} {σ τ : St} {a j : Nat} {v : Int32} (h : Fr P σ τ) (hP : P a j) : Fr P σ (setI τ a j v) := by
  refine ⟨h.1, h.2.1, fun b k hb hn => ?_, h.2.2.2⟩
  rw [i_setI, up2_ne (fun q => hn (by rw [q.1, q.2]; exact hP))]
  exact h.2.2.1 b k hb hn
theorem Fr.pR {P : Nat → Nat → Prop} {σ τ : St} {a j : Nat} {v : Option Nat} (h : Fr P σ τ) (hP : P a j) : Fr P σ (setR τ a j v) := by
  refine ⟨h.1, h.2.1, fun b k hb hn => ?_, h.2.2.2⟩
  rw [r_setR, up2_ne (fun q => hn (by rw [q.1, q.2]; exact hP))]
  exact h.2.2.1 b k hb hn
theorem Fr.pT {P : Nat → Nat → Prop} {σ σ1 σ2 : St} (h : Fr P σ σ1) (h2 : Fr P σ1 σ2) : Fr P σ σ2 := (h.trans h2).mono fun _ _ q => q.elim id id
theorem rd_lo {z a j : Nat} (h : PL z RD a j) : a = z + 25 := by
  obtain ⟨q, hq, ha, -⟩ := h
  unfold RD at hq
  simp only [List.mem_cons, List.not_mem_nil, or_false] at hq
  rcases hq with rfl | rfl | rfl <;> exact ha
/-- a habit in the making -/
def HabS (τ : St) (z p : Nat) : Prop := s_k τ p = some (.inl 8) ∧ s_r τ p 1 = some (p + 1) ∧ s_r τ p 2 = some (p + 2) ∧ s_r τ p 3 = some (p + 9) ∧ s_r τ p 4 = some z ∧ s_k τ (p + 1) = some (.inr (5, 6)) ∧ s_k τ (p + 2) = some (.inr (10, 6)) ∧ (∀ i, i < 6 → s_r τ (p + 2) i = some (p + 3 + i) ∧ s_k τ (p + 3 + i) = some (.inr (9, 3))) ∧ s_k τ (p + 9) = some (.inr (0, 6)) ∧ z + 1094 ≤ p ∧ p + 10 ≤ s_z τ
theorem pm_no {z p m a j : Nat} (h1 : a ≠ z + 25) (h2 : ¬ (a = p ∧ j = 0)) (h3 : ¬ (a = p + 1 ∧ j = m)) (h4 : a ≠ p + 3 + m) (h5 : ¬ (a = p + 9 ∧ j = m)) : ¬ PM z p m a j := by
  rintro (q | q | q | q | q)
  · exact h1 (rd_lo q)
  · exact h2 q
  · exact h3 q
  · exact h4 q
  · exact h5 q
section LINE
variable {σ σm τ τ' ρ : St} {z n p m : Nat} {t : Nat → Nat}
theorem HabS.pm (h : HabS τ z p) (hF : Fr (PM z p m) τ τ') (hm : m < 6) : HabS τ' z p := by
  obtain ⟨h1, h2, h3, h4, h5, h6, h7, h8, h9, h10, h11⟩ := h
  have k := fun a (ha : a < p + 10) => hF.1 a (Nat.lt_of_lt_of_le ha h11)
  have r : ∀ a j, a < p + 10 → ¬ PM z p m a j → s_r τ' a j = s_r τ a j := fun a j ha hn => (hF.2.2.1 a j (Nat.lt_of_lt_of_le ha h11) hn).2.1
  refine ⟨(k p (by omega)).trans h1, (r p 1 (by omega) (pm_no (by omega) (by omega) (by omega) (by omega) (by omega))).trans h2, (r p 2 (by omega) (pm_no (by omega) (by omega) (by omega) (by omega) (by omega))).trans h3, (r p 3 (by omega) (pm_no (by omega) (by omega) (by omega) (by omega) (by omega))).trans h4, (r p 4 (by omega) (pm_no (by omega) (by omega) (by omega) (by omega) (by omega))).trans h5, (k _ (by omega)).trans h6, (k _ (by omega)).trans h7, fun i hi => ⟨(r (p + 2) i (by omega) (pm_no (by omega) (by omega) (by omega) (by omega) (by omega))).trans (h8 i hi).1, (k _ (by omega)).trans (h8 i hi).2⟩, (k _ (by omega)).trans h9, h10, Nat.le_trans h11 hF.2.1⟩
theorem pm_cell (hH : HabS τ z p) (hS : Sh τ z) (hF : Fr (PM z p m) τ τ') (hm : m < 6) {a c : Nat} (hk : s_k τ a = some (.inl c)) (h4 : c ≠ 4) (h8 : c ≠ 8) : s_k τ' a = some (.inl c) ∧ ∀ j, s_i τ' a j = s_i τ a j ∧ s_r τ' a j = s_r τ a j := by
  have hlt := hS.dyn hk
  have k25 : s_k τ (z + 25) = some (.inl 4) := hS.k 25 _ (by decide) rfl
  have no : ∀ j, ¬ PM z p m a j := by
    intro j
    refine pm_no (fun q => ?_) (fun q => ?_) (fun q => ?_) (fun q => ?_) (fun q => ?_)
    · rw [q, k25] at hk
      exact h4 (by cases hk; rfl)
    · rw [q.1, hH.1] at hk
      exact h8 (by cases hk; rfl)
    · rw [q.1, hH.2.2.2.2.2.1] at hk
      cases hk
    · rw [q, (hH.2.2.2.2.2.2.2.1 m hm).2] at hk
      cases hk
    · rw [q.1, hH.2.2.2.2.2.2.2.2.1] at hk
      cases hk
  exact ⟨(hF.1 a hlt).trans hk, fun j => ⟨(hF.2.2.1 a j hlt (no j)).1, (hF.2.2.1 a j hlt (no j)).2.1⟩⟩
theorem TestR.pm (hH : HabS τ z p) (hS : Sh τ z) (hF : Fr (PM z p m) τ τ') (hm : m < 6) {q : Nat} {a b c : Int32} (h : TestR τ z q a b c) : TestR τ' z q a b c := by
  obtain ⟨⟨h1, h0⟩, h2, h3, h4, h5⟩ := h
  obtain ⟨k1, k2⟩ := pm_cell hH hS hF hm h1 (by decide) (by decide)
  exact ⟨⟨k1, h0⟩, (k2 0).1.trans h2, (k2 1).1.trans h3, (k2 2).1.trans h4, h5⟩
theorem ActR.pm (hH : HabS τ z p) (hS : Sh τ z) (hF : Fr (PM z p m) τ τ') (hm : m < 6) {r : Nat} {c w : Int32} (h : ActR τ z r c w) : ActR τ' z r c w := by
  rcases h with h | ⟨h, h1, h0⟩ | ⟨h, h1, h0⟩ | h | ⟨h, ⟨h1, h0⟩, h2, h3⟩
  · exact Or.inl h
  · exact Or.inr (Or.inl ⟨h, (pm_cell hH hS hF hm h1 (by decide) (by decide)).1, h0⟩)
  · exact Or.inr (Or.inr (Or.inl ⟨h, (pm_cell hH hS hF hm h1 (by decide) (by decide)).1, h0⟩))
  · exact Or.inr (Or.inr (Or.inr (Or.inl h)))
  · obtain ⟨k1, k2⟩ := pm_cell hH hS hF hm h1 (by decide) (by decide)
    exact Or.inr (Or.inr (Or.inr (Or.inr ⟨h, ⟨k1, h0⟩, (k2 0).1.trans h2, h3⟩)))
theorem LineR.pm (hH : HabS τ z p) (hS : Sh τ z) (hF : Fr (PM z p m) τ τ') (hm : m < 6) {i : Nat} (hi : i < 6) (hne : i ≠ m) {row : Nat → Int32} (h : LineR τ z (p + 1) (p + 2) (p + 9) i row) : LineR τ' z (p + 1) (p + 2) (p + 9) i row := by
  obtain ⟨⟨r, r1, r2⟩, Gi, tm, g1, g2, g3, g4, g5, g6⟩ := h
  have e : Gi = p + 3 + i := Option.some.inj (g1.symm.trans (hH.2.2.2.2.2.2.2.1 i hi).1)
  have hlt := hH.2.2.2.2.2.2.2.2.2.2
  have r' : ∀ a j, a < p + 10 → ¬ PM z p m a j → s_i τ' a j = s_i τ a j ∧ s_r τ' a j = s_r τ a j := fun a j ha hn => ⟨(hF.2.2.1 a j (Nat.lt_of_lt_of_le ha hlt) hn).1, (hF.2.2.1 a j (Nat.lt_of_lt_of_le ha hlt) hn).2.1⟩
  have hz := hH.2.2.2.2.2.2.2.2.2.1
  refine ⟨⟨r, (r' (p + 1) i (by omega) (pm_no (by omega) (by omega) (by omega) (by omega) (by omega))).2.trans r1, r2.pm hH hS hF hm⟩, Gi, tm, (r' (p + 2) i (by omega) (pm_no (by omega) (by omega) (by omega) (by omega) (by omega))).2.trans g1, ⟨(hF.1 _ (hS.dyn g2.1)).trans g2.1, g2.2⟩, g3, (r' (p + 9) i (by omega) (pm_no (by omega) (by omega) (by omega) (by omega) (by omega))).1.trans g4, fun k hk => ?_, g6⟩
  obtain ⟨q, q1, q2⟩ := g5 k hk
  refine ⟨q, ?_, q2.pm hH hS hF hm⟩
  rw [e] at q1 ⊢
  exact (r' (p + 3 + i) k (by omega) (pm_no (by omega) (by omega) (by omega) (by omega) (by omega))).2.trans q1
def bX (p z : Nat) : St × Int32 → Option ((St × Int32) ⊕ (St ⊕ (Nat × St))) := fun y => lX11_line_20 p (z + 25) y.1 y.2
def bM (m z : Nat) : St × Int32 × Int32 → Option ((St × Int32 × Int32) ⊕ (St ⊕ St)) := fun y => lX7_isHabitLine_182 (z + 1064) (nI (12 * m)) y.1 y.2.1 y.2.2
theorem loop_two (hSσ : Sh σ z) (hXσ : Tx σ z n t) (hSm : Sh σm z) (hXm : Ty σm z n t) (hm : m < 6) (hpz : s_z σ ≤ p) : ∀ j k, k + j = 3 → 1 ≤ j → ∀ (τ ρ : St) (p0 s e fx fm : Nat), Fr (PL z RD) σ τ → HabS τ z p → s_i τ p 0 = nI m → s_i τ (p + 9) m = nI k → Tok t n p0 s e → RdX τ z s e → Fr (PL z MF) σm ρ → s_i ρ (z + 1064) 20 = nI p0 → j + 1 ≤ fx → j + 1 ≤ fm →
    (∃ τ' ρ' p' s' e' tm, loopF fx (bX p z) (τ, 1) = some (.inl τ') ∧ loopF fm (bM m z) (ρ, 1, nI k) = some (.inr ρ') ∧ Fr (PL z RD) σ τ' ∧ Fr (PM z p m) τ τ' ∧ Fr (PL z MF) σm ρ' ∧ Tok t n p' s' e' ∧ RdX τ' z s' e' ∧ s_i ρ' (z + 1064) 20 = nI e' ∧ s_i ρ' (z + 1064) 21 = nI s' ∧ s_l ρ' (z + 1064) 22 = tc t n s' e' ∧ k < tm ∧ tm ≤ 3 ∧ s_i τ' (p + 9) m = nI tm ∧ s_i τ' p 0 = nI m ∧ (∀ i, k ≤ i → i < tm → ∃ q, s_r τ' (p + 3 + m) i = some q ∧ TestR τ' z q (s_i ρ' (z + 1076) (12 * m + 3 + 3 * i)) (s_i ρ' (z + 1076) (12 * m + 3 + 3 * i + 1)) (s_i ρ' (z + 1076) (12 * m + 3 + 3 * i + 2))) ∧ (∀ i, i < k → s_r τ' (p + 3 + m) i = s_r τ (p + 3 + m) i) ∧ s_r τ' (p + 1) m = s_r τ (p + 1) m ∧ ∀ j, (j < 12 * m + 3 + 3 * k ∨ 12 * m + 3 + 3 * tm ≤ j) → s_i ρ' (z + 1076) j = s_i ρ (z + 1076) j) ∨
    (∃ q τ' ρ' sf, loopF fx (bX p z) (τ, 1) = some (.inr (q, τ')) ∧ s_k τ' q = some (.inl 11) ∧ s_i τ' q 0 = nI sf ∧ Fr (PL z RD) σ τ' ∧ loopF fm (bM m z) (ρ, 1, nI k) = some (.inl ρ') ∧ Fr (PL z MF) σm ρ' ∧ s_i ρ' (z + 1064) 25 = nI sf ∧ sf ≤ 160) := by
  intro j
  induction j with
  | zero => intro k _ h; omega
  | succ j ih =>
    intro k hkj _ τ ρ p0 s e fx fm hF1 hH hm0 hTk hTok hR hFm hp hfx hfm
    obtain ⟨fx, rfl⟩ : ∃ f, fx = f + 1 := ⟨fx - 1, by omega⟩
    obtain ⟨fm, rfl⟩ : ∃ f, fm = f + 1 := ⟨fm - 1, by omega⟩
    have hk3 : k < 3 := by omega
    have hS : Sh τ z := hF1.sh hSσ (by decide)
    have hX := hXσ.keep hSσ hF1 rd_tx
    have hSr : Sh ρ z := hFm.sh hSm (by decide)
    have hXr := hXm.keep hSm hFm mf_tx
    obtain ⟨k8, r1, r2, r3, r4, kA, kG, kGi, kT, hzp, hpl⟩ := hH
    have hH : HabS τ z p := ⟨k8, r1, r2, r3, r4, kA, kG, kGi, kT, hzp, hpl⟩
    -- the turns
    have evX := Eq.refl (bX p z (τ, 1))
    conv at evX => rhs; unfold bX lX11_line_20
    simp only [i10, if_false] at evX
    rw [o_gR_eq k8 r2, o_gI_eq k8, hm0, o_aR_eq kG hm (by decide) (kGi m hm).1, o_gR_eq k8 r3, o_gI_eq k8, hm0, o_aI_eq kT hm (by decide), hTk, e_25_k hS] at evX
    have evM := Eq.refl (bM m z (ρ, 1, nI k))
    conv at evM => rhs; unfold bM lX7_isHabitLine_182
    simp only [i10, if_false] at evM
    rw [if_neg (lit_nle 3 3 k rfl hk3 (by decide)), e_1064_k hSr, nI_hi 3 3 (12 * m) rfl, show (3 : Int32) * nI k = nI (3 * k) from nI_mul 3 k, nI_add] at evM
    rcases test_two hS hX hTok hR hSr hXr hp (a := 12 * m + 3 + 3 * k) (by omega) with ⟨q, τ1, ρ1, p2, s2, e2, x1, x2, x3, x4, x5, x6, x7, x8, x9, x10⟩ | ⟨q, τ1, ρ1, sf, x1, x2, x3, x4, x5⟩
    · -- the test is there
      have hF11 : Fr (PL z RD) σ τ1 := hF1.pT x3
      have hS1 : Sh τ1 z := hF11.sh hSσ (by decide)
      have hPM1 : Fr (PM z p m) τ τ1 := x3.mono fun _ _ q => Or.inl q
      have hH1 := hH.pm hPM1 hm
      obtain ⟨k81, r11, r21, r31, r41, kA1, kG1, kGi1, kT1, -, hpl1⟩ := hH1
      have hH1 : HabS τ1 z p := ⟨k81, r11, r21, r31, r41, kA1, kG1, kGi1, kT1, hzp, hpl1⟩
      have same1 : ∀ a j, z + 1094 ≤ a → a < s_z τ → s_i τ1 a j = s_i τ a j ∧ s_r τ1 a j = s_r τ a j := fun a j h1 h2 => by
        have := x3.2.2.1 a j h2 (fun q => by have := rd_lo q; omega)
        exact ⟨this.1, this.2.1⟩
      obtain ⟨τ3, hτ3⟩ : ∃ τ3, τ3 = setI (setR τ1 (p + 3 + m) k (some q)) (p + 9) m (nI (k + 1)) := ⟨_, rfl⟩
      have F1 : Fr (PL z RD) σ τ3 := by
        rw [hτ3]
        exact (hF11.newR (by omega)).newI (by omega)
      have F2 : Fr (PM z p m) τ τ3 := by
        rw [hτ3]
        exact (hPM1.pR (Or.inr (Or.inr (Or.inr (Or.inl rfl))))).pI (Or.inr (Or.inr (Or.inr (Or.inr ⟨rfl, rfl⟩))))
      have F13 : Fr (PM z p m) τ1 τ3 := by
        rw [hτ3]
        exact (Fr.refl.pR (Or.inr (Or.inr (Or.inr (Or.inl rfl))))).pI (Or.inr (Or.inr (Or.inr (Or.inr ⟨rfl, rfl⟩))))
      have hH3 := hH.pm F2 hm
      have hS3 : Sh τ3 z := F1.sh hSσ (by decide)
      have hX3 := hXσ.keep hSσ F1 rd_tx
      have hR3 : RdX τ3 z s2 e2 := by
        rw [hτ3]
        exact (x4.setR).set (by omega)
      have m3 : s_i τ3 p 0 = nI m := by
        rw [hτ3, gi_ne (by omega)]
        exact ((same1 p 0 hzp (by omega)).1).trans hm0
      have t3 : s_i τ3 (p + 9) m = nI (k + 1) := by rw [hτ3, gi_eq]
      have tk1 : s_i τ1 (p + 9) m = nI k := ((same1 (p + 9) m (by omega) (by omega)).1).trans hTk
      have q3 : s_r τ3 (p + 3 + m) k = some q := by
        rw [hτ3]
        show s_r (setR τ1 (p + 3 + m) k (some q)) (p + 3 + m) k = _
        rw [r_setR, up2_same]
      have ri3 : ∀ i, i ≠ k → s_r τ3 (p + 3 + m) i = s_r τ (p + 3 + m) i := fun i hi => by
        rw [hτ3]
        show s_r (setR τ1 (p + 3 + m) k (some q)) (p + 3 + m) i = _
        rw [r_setR, up2_ne (fun q => hi q.2)]
        exact (same1 (p + 3 + m) i (by omega) (by omega)).2
      have ra3 : s_r τ3 (p + 1) m = s_r τ (p + 1) m := by
        rw [hτ3]
        show s_r (setR τ1 (p + 3 + m) k (some q)) (p + 1) m = _
        rw [r_setR, up2_ne (fun q => by omega)]
        exact (same1 (p + 1) m (by omega) (by omega)).2
      -- the component's turn
      rw [x2, sb] at evX
      have evX2 : bX p z (τ, 1) = (if 3 ≤ nI (k + 1) then some (.inl (τ3, 0)) else o_k τ3 (z + 25) 4 ((fX6_skips τ3 (z + 25) 7).bind (un2 fun x26 σ27 => if x26 = 0 then some (.inl (σ27, 0)) else some (.inl (σ27, 1))))) := by
        rw [evX]
        simp only [xsl]
        rw [o_sR_eq (kGi1 m hm).2 hk3 (by decide) x10.1.1 rfl, o_gR_eq (show s_k (setR τ1 (p + 3 + m) k (some q)) p = some (.inl 8) from k81) (show s_r (setR τ1 (p + 3 + m) k (some q)) p 3 = some (p + 9) by rw [r_setR, up2_ne (fun q => by omega)]; exact r31), o_gI_eq (show s_k (setR τ1 (p + 3 + m) k (some q)) p = some (.inl 8) from k81), show s_i (setR τ1 (p + 3 + m) k (some q)) p 0 = nI m from ((same1 p 0 hzp (by omega)).1).trans hm0, o_aI_eq (show s_k (setR τ1 (p + 3 + m) k (some q)) (p + 9) = some (.inr (0, 6)) from kT1) hm (by decide), show s_i (setR τ1 (p + 3 + m) k (some q)) (p + 9) m = nI k from tk1, nI_1, o_sI_eq (show s_k (setR τ1 (p + 3 + m) k (some q)) (p + 9) = some (.inr (0, 6)) from kT1) hm (by decide), ← hτ3, o_gR_eq hH3.1 hH3.2.2.2.1, o_gI_eq hH3.1, m3, o_aI_eq hH3.2.2.2.2.2.2.2.2.1 hm (by decide), t3]
        rfl
      -- the model's turn
      have hSr1 : Sh ρ1 z := x7.sh hSr (by decide)
      have hFm1 : Fr (PL z MF) σm ρ1 := hFm.pT x7
      have hXr1 := hXm.keep hSm hFm1 mf_tx
      obtain ⟨ρ2, n1, n2, n3, n4, n5, -⟩ := next_eq hSr1 hXr1 x8 x1
      have hSr2 : Sh ρ2 z := n2.sh hSr1 (by decide)
      have hFm2 : Fr (PL z MF) σm ρ2 := (hFm1.transL n2).inL (by decide)
      have rows : ∀ j, s_i ρ2 (z + 1076) j = s_i ρ1 (z + 1076) j := fun j => n2.kia hSr1 1076 (by decide) (by decide) j
      obtain ⟨c7⟩ : Nonempty (cw 7 = 1111) := ⟨cw_lit.2.2.2.2.2.2.2.1⟩
      rw [x6, sb] at evM
      have evM2 : bM m z (ρ, 1, nI k) = some (.inl (ρ2, (if tc t n s2 e2 = cw 7 then 1 else 0), nI (k + 1))) := by
        rw [evM]
        simp only [un2, i10, if_false, jn]
        rw [e_1064_k hSr1, n1, sb, e_1064_l hSr2, n5, nI_1]
        by_cases c : tc t n s2 e2 = cw 7
        · rw [if_pos ((cmp_eq0 _ _).mpr (c.trans c7)), if_pos c]
        · rw [if_neg (fun q => c (((cmp_eq0 _ _).mp q).trans c7.symm)), if_neg c]
      have tst : TestR τ3 z q (s_i ρ2 (z + 1076) (12 * m + 3 + 3 * k)) (s_i ρ2 (z + 1076) (12 * m + 3 + 3 * k + 1)) (s_i ρ2 (z + 1076) (12 * m + 3 + 3 * k + 2)) := by
        rw [rows, rows, rows]
        exact x10.pm hH1 hS1 F13 hm
      -- the end of the tests
      have stop : ∀ (w : Int32), (w = 0 ∨ k + 1 = 3) → loopF (fm + 1) (bM m z) (ρ, 1, nI k) = loopF fm (bM m z) (ρ2, w, nI (k + 1)) → loopF (fx + 1) (bX p z) (τ, 1) = loopF fx (bX p z) (τ3, 0) → (∃ τ' ρ' p' s' e' tm, loopF (fx + 1) (bX p z) (τ, 1) = some (.inl τ') ∧ loopF (fm + 1) (bM m z) (ρ, 1, nI k) = some (.inr ρ') ∧ Fr (PL z RD) σ τ' ∧ Fr (PM z p m) τ τ' ∧ Fr (PL z MF) σm ρ' ∧ Tok t n p' s' e' ∧ RdX τ' z s' e' ∧ s_i ρ' (z + 1064) 20 = nI e' ∧ s_i ρ' (z + 1064) 21 = nI s' ∧ s_l ρ' (z + 1064) 22 = tc t n s' e' ∧ k < tm ∧ tm ≤ 3 ∧ s_i τ' (p + 9) m = nI tm ∧ s_i τ' p 0 = nI m ∧ (∀ i, k ≤ i → i < tm → ∃ q, s_r τ' (p + 3 + m) i = some q ∧ TestR τ' z q (s_i ρ' (z + 1076) (12 * m + 3 + 3 * i)) (s_i ρ' (z + 1076) (12 * m + 3 + 3 * i + 1)) (s_i ρ' (z + 1076) (12 * m + 3 + 3 * i + 2))) ∧ (∀ i, i < k → s_r τ' (p + 3 + m) i = s_r τ (p + 3 + m) i) ∧ s_r τ' (p + 1) m = s_r τ (p + 1) m ∧ ∀ j, (j < 12 * m + 3 + 3 * k ∨ 12 * m + 3 + 3 * tm ≤ j) → s_i ρ' (z + 1076) j = s_i ρ (z + 1076) j) := by
        intro w hw eM eX
        obtain ⟨gx, rfl⟩ : ∃ f, fx = f + 1 := ⟨fx - 1, by omega⟩
        obtain ⟨gm, rfl⟩ : ∃ f, fm = f + 1 := ⟨fm - 1, by omega⟩
        have sX : bX p z (τ3, 0) = some (.inr (.inl τ3)) := by
          unfold bX lX11_line_20
          rw [if_pos rfl]
        have sM : bM m z (ρ2, w, nI (k + 1)) = some (.inr (.inr ρ2)) := by
          unfold bM lX7_isHabitLine_182
          rcases hw with hw | hw
          · simp only [hw, if_true, ite_self]
          · simp only [hw]
            rw [if_pos (by decide)]
        refine ⟨τ3, ρ2, p2, s2, e2, k + 1, ?_, ?_, F1, F2, hFm2, x1, hR3, n3, n4, n5, by omega, by omega, t3, m3, fun i h1 h2 => ?_, fun i hi => ri3 i (by omega), ra3, fun j hj => ?_⟩
        · rw [eX]
          simp only [loopF, sX]
        · rw [eM]
          simp only [loopF, sM]
        · have : i = k := by omega
          subst this
          exact ⟨q, q3, tst⟩
        · rw [rows, x9 j (by omega) (by omega) (by omega)]
      have stepM : loopF (fm + 1) (bM m z) (ρ, 1, nI k) = loopF fm (bM m z) (ρ2, (if tc t n s2 e2 = cw 7 then 1 else 0), nI (k + 1)) := by simp only [loopF, evM2]
      by_cases c3 : k + 1 = 3
      · left
        rw [if_pos (lit_le 3 3 (k + 1) rfl (by omega) (by omega))] at evX2
        exact stop _ (Or.inr c3) stepM (by simp only [loopF, evX2])
      · rw [if_neg (lit_nle 3 3 (k + 1) rfl (by omega) (by decide)), e_25_k hS3] at evX2
        by_cases c : tc t n s2 e2 = cw 7
        · -- one more
          obtain ⟨s4, e4, hT4⟩ := tok_ex t (n := n) (p := e2) x1.2.2.1
          obtain ⟨τ4, y1, y2, y3⟩ := skips_yes hS3 hX3 x1 hR3 hT4 (i := 7) (by decide) (by decide) c
          rw [y1, sb] at evX2
          have evX3 : bX p z (τ, 1) = some (.inl (τ4, 1)) := evX2
          rw [if_pos c] at stepM
          have stepX : loopF (fx + 1) (bX p z) (τ, 1) = loopF fx (bX p z) (τ4, 1) := by simp only [loopF, evX3]
          have same4 : ∀ a j, z + 1094 ≤ a → a < s_z τ3 → s_i τ4 a j = s_i τ3 a j ∧ s_r τ4 a j = s_r τ3 a j := fun a j h1 h2 => by
            have := y2.2.2.1 a j h2 (fun q => by have := rd_lo q; omega)
            exact ⟨this.1, this.2.1⟩
          have hl3 := hH3.2.2.2.2.2.2.2.2.2.2
          have F34 : Fr (PM z p m) τ3 τ4 := y2.mono fun _ _ q => Or.inl q
          rcases ih (k + 1) (by omega) (by omega) τ4 ρ2 e2 s4 e4 fx fm (F1.pT y2) (hH3.pm F34 hm) (((same4 p 0 hzp (by omega)).1).trans m3) (((same4 (p + 9) m (by omega) (by omega)).1).trans t3) hT4 y3 hFm2 n3 (by omega) (by omega) with ⟨τ', ρ', p', s', e', tm, g1, g2, g3, g4, g5, g6, g7, g8, g9, g10, g11, g12, g13, g14, g15, g16, g17, g18⟩ | ⟨q', τ', ρ', sf, g1, g2, g3, g4, g5, g6, g7⟩
          · left
            refine ⟨τ', ρ', p', s', e', tm, stepX.trans g1, stepM.trans g2, g3, (F2.pT F34).pT g4, g5, g6, g7, g8, g9, g10, by omega, g12, g13, g14, fun i h1 h2 => ?_, fun i hi => ?_, ?_, fun j hj => ?_⟩
            · by_cases ci : i = k
              · subst ci
                refine ⟨q, ?_, ?_⟩
                · rw [g16 i (by omega), (same4 (p + 3 + m) i (by omega) (by omega)).2, q3]
                · rw [g18 _ (by omega), g18 _ (by omega), g18 _ (by omega)]
                  exact tst.pm hH3 hS3 (F34.pT g4) hm
              · exact g15 i (by omega) h2
            · rw [g16 i (by omega), (same4 (p + 3 + m) i (by omega) (by omega)).2, ri3 i (by omega)]
            · rw [g17, (same4 (p + 1) m (by omega) (by omega)).2, ra3]
            · rw [g18 j (by omega), rows, x9 j (by omega) (by omega) (by omega)]
          · exact Or.inr ⟨q', τ', ρ', sf, stepX.trans g1, g2, g3, g4, stepM.trans g5, g6, g7⟩
        · left
          rw [skips_no hS3 hX3 x1 hR3 (i := 7) (by decide) (by decide) c, sb] at evX2
          have evX3 : bX p z (τ, 1) = some (.inl (τ3, 0)) := evX2
          rw [if_neg c] at stepM
          exact stop 0 (Or.inl rfl) stepM (by simp only [loopF, evX3])
    · -- no test
      right
      rw [x1, sb] at evX
      rw [x3, sb] at evM
      have evX2 : bX p z (τ, 1) = some (.inr (.inr (q, τ1))) := evX
      have evM2 : bM m z (ρ, 1, nI k) = some (.inr (.inl ρ1)) := by
        rw [evM]
        rfl
      exact ⟨q, τ1, ρ1, sf, by simp only [loopF, evX2], x2.1, x2.2.1, hF1.pT x2.2.2, by simp only [loopF, evM2], hFm.pT x4, x5⟩
end LINE
