set_option maxRecDepth 100000
/-! fault, habit, taste -/
def FL : PlL := RD ++ MR
section FAULT
variable {σ : St} {z nh : Nat}
/-- a reading of either sort, by both -/
theorem hab_both (hS : Sh σ z) {n : Nat} {t : Nat → Nat} (hX : Tx σ z n t) : ∃ τ0 v τ1, fX11_init (born σ (.inl 8)) (s_z σ) z = some τ0 ∧ Sh τ0 z ∧ fX0_faultOf τ0 z (s_z σ) = some (v, τ1) ∧ Fr (PL z RD) σ τ1 ∧ ∀ σm, Sh σm z → Ty σm z n t → (v = -1 ∧ ∃ ρ' mm, 1 ≤ mm ∧ mm ≤ 6 ∧ fX7_isRead σm (z + 1064) 0 = some (1, ρ') ∧ HI σ σm z (s_z σ) mm mm τ1 ρ') ∨ (v ≠ -1 ∧ ∃ ρ', fX7_isRead σm (z + 1064) 0 = some (0, ρ') ∧ Fr (PL z MR) σm ρ' ∧ s_i ρ' (z + 1064) 25 = v) := by
  obtain ⟨τ0, z1, z2, -⟩ := newHab hS rfl
  have A : ∃ v τ1, fX0_faultOf τ0 z (s_z σ) = some (v, τ1) ∧ Fr (PL z RD) σ τ1 := by
    rcases hab_two hS hX hS hX.y rfl z1 with ⟨τ', ρ', mm, -, -, g3, -, g5⟩ | ⟨τ', ρ', sf, g1, g2, -⟩
    · exact ⟨_, _, g3, g5.1⟩
    · exact ⟨_, _, g1, g2⟩
  obtain ⟨v, τ1, e1, e2⟩ := A
  refine ⟨τ0, v, τ1, z1, z2.sh hS (by decide), e1, e2, fun σm hSm hXm => ?_⟩
  rcases hab_two hS hX hSm hXm rfl z1 with ⟨τ', ρ', mm, g1, g2, g3, g4, g5⟩ | ⟨τ', ρ', sf, g1, g2, g3, g4, g5, g6⟩
  · cases e1.symm.trans g3
    exact Or.inl ⟨rfl, ρ', mm, g1, g2, g4, g5⟩
  · cases e1.symm.trans g1
    exact Or.inr ⟨neg1_ne (by omega), ρ', g3, g4, g5⟩
theorem tas_both (hS : Sh σ z) {n : Nat} {t : Nat → Nat} (hX : Tx σ z n t) : ∃ τ0 v τ1, fX17_init (born σ (.inl 14)) (s_z σ) z = some τ0 ∧ Sh τ0 z ∧ fX0_faultOf τ0 z (s_z σ) = some (v, τ1) ∧ Fr (PL z RD) σ τ1 ∧ ∀ σm, Sh σm z → Ty σm z n t → (v = -1 ∧ ∃ ρ' mm, 1 ≤ mm ∧ mm ≤ 8 ∧ fX7_isRead σm (z + 1064) 1 = some (1, ρ') ∧ TaI σ σm z (s_z σ) mm mm τ1 ρ') ∨ (v ≠ -1 ∧ ∃ ρ', fX7_isRead σm (z + 1064) 1 = some (0, ρ') ∧ Fr (PL z MR) σm ρ' ∧ s_i ρ' (z + 1064) 25 = v) := by
  obtain ⟨τ0, z1, z2, -⟩ := newTas hS rfl
  have A : ∃ v τ1, fX0_faultOf τ0 z (s_z σ) = some (v, τ1) ∧ Fr (PL z RD) σ τ1 := by
    rcases tas_two hS hX hS hX.y rfl z1 with ⟨τ', ρ', mm, -, -, g3, -, g5⟩ | ⟨τ', ρ', sf, g1, g2, -⟩
    · exact ⟨_, _, g3, g5.1⟩
    · exact ⟨_, _, g1, g2⟩
  obtain ⟨v, τ1, e1, e2⟩ := A
  refine ⟨τ0, v, τ1, z1, z2.sh hS (by decide), e1, e2, fun σm hSm hXm => ?_⟩
  rcases tas_two hS hX hSm hXm rfl z1 with ⟨τ', ρ', mm, g1, g2, g3, g4, g5⟩ | ⟨τ', ρ', sf, g1, g2, g3, g4, g5, g6⟩
  · cases e1.symm.trans g3
    exact Or.inl ⟨rfl, ρ', mm, g1, g2, g4, g5⟩
  · cases e1.symm.trans g1
    exact Or.inr ⟨neg1_ne (by omega), ρ', g3, g4, g5⟩
theorem fault_sim (hS : Sh σ z) (hP : Tp σ z) (w : Int32) : ∃ v σ1 σ2, fX0_fault σ z w = some (v, σ1) ∧ fX7_fault σ1 (z + 1064) w = some (v, σ2) ∧ Fr (PL z FL) σ σ2 := by
  obtain ⟨n, t, hX⟩ := tx_ex hP
  by_cases c1 : 0 ≤ w ∧ w ≤ 1
  · obtain ⟨k, hk, rfl⟩ : ∃ k, k ≤ 1 ∧ w = nI k := in_lit (hi := 1) (n := 1) rfl c1
    have hk2 : k = 0 ∨ k = 1 := by omega
    rcases hk2 with rfl | rfl
    · obtain ⟨τ0, v, τ1, a1, a2, a3, a4, a5⟩ := hab_both hS hX
      have hS1 : Sh τ1 z := a4.sh hS (by decide)
      have X : fX0_fault σ z (nI 0) = some (v, τ1) := by
        unfold fX0_fault
        rw [isIn_lit σ σ (nI 0) 0 1 (lo' := 0) (hi' := 1) rfl rfl, in_eq, sb, if01, if_pos c1, if_pos (show nI 0 = 0 by decide)]
        unfold o_new
        show ((fX11_init (born σ (.inl 8)) (s_z σ) z).bind fun σ9 => o_k σ9 z 0 <| (fX0_faultOf σ9 z (s_z σ)).bind <| un2 fun x10 σ11 => some (x10, σ11)) = _
        rw [a1, sb, e_0_k a2, a3, sb]
        rfl
      have M : ∀ x ρ', fX7_isRead τ1 (z + 1064) 0 = some (x, ρ') → fX7_fault τ1 (z + 1064) (nI 0) = (if x = 0 then o_gI ρ' (z + 1064) 5 25 fun x4 => some (x4, ρ') else some (-1, ρ')) := by
        intro x ρ' h
        unfold fX7_fault
        rw [in_eq, sb, if01, if_pos c1, e_1064_k hS1, show nI 0 = 0 from rfl, h, sb]
        rfl
      rcases a5 τ1 hS1 (hX.keep hS a4 rd_tx).y with ⟨rfl, ρ', mm, -, -, g1, g2⟩ | ⟨-, ρ', g1, g2, g3⟩
      · have h := M 1 ρ' g1
        rw [if_neg (by decide)] at h
        exact ⟨_, _, _, X, h, (a4.transL g2.2.1).inL (by decide)⟩
      · have h := M 0 ρ' g1
        have hS2 : Sh ρ' z := g2.sh hS1 (by decide)
        rw [if_pos rfl, e_1064_i hS2, g3] at h
        exact ⟨_, _, _, X, h, (a4.transL g2).inL (by decide)⟩
    · obtain ⟨τ0, v, τ1, a1, a2, a3, a4, a5⟩ := tas_both hS hX
      have hS1 : Sh τ1 z := a4.sh hS (by decide)
      have X : fX0_fault σ z (nI 1) = some (v, τ1) := by
        unfold fX0_fault
        rw [isIn_lit σ σ (nI 1) 0 1 (lo' := 0) (hi' := 1) rfl rfl, in_eq, sb, if01, if_pos c1, if_neg (show ¬ nI 1 = 0 by decide)]
        unfold o_new
        show ((fX17_init (born σ (.inl 14)) (s_z σ) z).bind fun σ9 => o_k σ9 z 0 <| (fX0_faultOf σ9 z (s_z σ)).bind <| un2 fun x10 σ11 => some (x10, σ11)) = _
        rw [a1, sb, e_0_k a2, a3, sb]
        rfl
      have M : ∀ x ρ', fX7_isRead τ1 (z + 1064) 1 = some (x, ρ') → fX7_fault τ1 (z + 1064) (nI 1) = (if x = 0 then o_gI ρ' (z + 1064) 5 25 fun x4 => some (x4, ρ') else some (-1, ρ')) := by
        intro x ρ' h
        unfold fX7_fault
        rw [in_eq, sb, if01, if_pos c1, e_1064_k hS1, show nI 1 = 1 from rfl, h, sb]
        rfl
      rcases a5 τ1 hS1 (hX.keep hS a4 rd_tx).y with ⟨rfl, ρ', mm, -, -, g1, g2⟩ | ⟨-, ρ', g1, g2, g3⟩
      · have h := M 1 ρ' g1
        rw [if_neg (by decide)] at h
        exact ⟨_, _, _, X, h, (a4.transL g2.2.1).inL (by decide)⟩
      · have h := M 0 ρ' g1
        have hS2 : Sh ρ' z := g2.sh hS1 (by decide)
        rw [if_pos rfl, e_1064_i hS2, g3] at h
        exact ⟨_, _, _, X, h, (a4.transL g2).inL (by decide)⟩
  · refine ⟨-3, σ, σ, ?_, ?_, Fr.refl⟩
    · unfold fX0_fault
      rw [isIn_lit σ σ w 0 1 (lo' := 0) (hi' := 1) rfl rfl, in_eq, sb, if01, if_neg c1]
    · unfold fX7_fault
      rw [in_eq, sb, if01, if_neg c1]
theorem habCopy {ρ : St} (hS : Sh ρ z) {h : Nat} (hh : h < 6) : ∃ ρ', loopF fuel (fun y => lX7_habit_24 (z + 1064) (nI h) y.1 y.2) (ρ, 0) = some ρ' ∧ Fr (PL z [(1078, none)]) ρ ρ' ∧ (∀ i, i < 72 → s_i ρ' (z + 1078) (72 * h + i) = s_i ρ (z + 1076) i) ∧ ∀ i, (i < 72 * h ∨ 72 * h + 72 ≤ i) → s_i ρ' (z + 1078) i = s_i ρ (z + 1078) i := by
  obtain ⟨ρ', l1, l2, l3, l4⟩ := loopF_inv (b := fun y : St × Int32 => lX7_habit_24 (z + 1064) (nI h) y.1 y.2) (fun k u => u.2 = nI k ∧ Fr (PL z [(1078, none)]) ρ u.1 ∧ (∀ i, i < k → s_i u.1 (z + 1078) (72 * h + i) = s_i ρ (z + 1076) i) ∧ ∀ i, (i < 72 * h ∨ 72 * h + 72 ≤ i) → s_i u.1 (z + 1078) i = s_i ρ (z + 1078) i) 72 (Q := fun u => Fr (PL z [(1078, none)]) ρ u ∧ (∀ i, i < 72 → s_i u (z + 1078) (72 * h + i) = s_i ρ (z + 1076) i) ∧ ∀ i, (i < 72 * h ∨ 72 * h + 72 ≤ i) → s_i u (z + 1078) i = s_i ρ (z + 1078) i) (by
    rintro k ⟨u, y⟩ hk ⟨i1, i2, i3, i4⟩
    simp only at i1 i2 i3 i4
    subst i1
    have hU : Sh u z := i2.sh hS (by decide)
    show ∃ r, lX7_habit_24 (z + 1064) (nI h) u (nI k) = _ ∧ _
    unfold lX7_habit_24
    rw [if_neg (lit_nle 72 72 k rfl hk (by decide)), e_1064_29 hU, e_1064_27 hU, a_1076 hU hk, i2.kia hS 1076 (by decide) rfl, show (72 : Int32) * nI h = nI (72 * h) from nI_mul 72 h, nI_add, s_1078 hU (by omega), nI_1]
    refine ⟨_, rfl, rfl, i2.aS (o := 1078) rfl, fun i hi => ?_, fun i hi => ?_⟩
    · simp only
      by_cases c : i = k
      · subst c; rw [gi_eq]
      · rw [gi_nj (by omega)]
        exact i3 i (by omega)
    · simp only
      rw [gi_nj (by omega)]
      exact i4 i hi) (by
    rintro ⟨u, y⟩ ⟨i1, i2, i3, i4⟩
    simp only at i1 i2 i3 i4
    subst i1
    show ∃ r, lX7_habit_24 (z + 1064) (nI h) u (nI 72) = _ ∧ _
    unfold lX7_habit_24
    rw [if_pos (by decide)]
    exact ⟨_, rfl, i2, i3, i4⟩) (s := (ρ, 0)) ⟨rfl, Fr.refl, fun i hi => absurd hi (Nat.not_lt_zero i), fun i _ => rfl⟩ fuel (fuel_lt (by decide))
  exact ⟨ρ', l1, l2, l3, l4⟩
theorem tasCopy {ρ : St} (hS : Sh ρ z) {h : Nat} (hh : h < 4) : ∃ ρ', loopF fuel (fun y => lX7_taste_23 (z + 1064) (nI h) y.1 y.2) (ρ, 0) = some ρ' ∧ Fr (PL z [(1080, none)]) ρ ρ' ∧ (∀ i, i < 24 → s_i ρ' (z + 1080) (24 * h + i) = s_i ρ (z + 1076) i) ∧ ∀ i, (i < 24 * h ∨ 24 * h + 24 ≤ i) → s_i ρ' (z + 1080) i = s_i ρ (z + 1080) i := by
  obtain ⟨ρ', l1, l2, l3, l4⟩ := loopF_inv (b := fun y : St × Int32 => lX7_taste_23 (z + 1064) (nI h) y.1 y.2) (fun k u => u.2 = nI k ∧ Fr (PL z [(1080, none)]) ρ u.1 ∧ (∀ i, i < k → s_i u.1 (z + 1080) (24 * h + i) = s_i ρ (z + 1076) i) ∧ ∀ i, (i < 24 * h ∨ 24 * h + 24 ≤ i) → s_i u.1 (z + 1080) i = s_i ρ (z + 1080) i) 24 (Q := fun u => Fr (PL z [(1080, none)]) ρ u ∧ (∀ i, i < 24 → s_i u (z + 1080) (24 * h + i) = s_i ρ (z + 1076) i) ∧ ∀ i, (i < 24 * h ∨ 24 * h + 24 ≤ i) → s_i u (z + 1080) i = s_i ρ (z + 1080) i) (by
    rintro k ⟨u, y⟩ hk ⟨i1, i2, i3, i4⟩
    simp only at i1 i2 i3 i4
    subst i1
    have hU : Sh u z := i2.sh hS (by decide)
    show ∃ r, lX7_taste_23 (z + 1064) (nI h) u (nI k) = _ ∧ _
    unfold lX7_taste_23
    rw [if_neg (lit_nle 24 24 k rfl hk (by decide)), e_1064_31 hU, e_1064_27 hU, a_1076 hU (by omega), i2.kia hS 1076 (by decide) rfl, show (24 : Int32) * nI h = nI (24 * h) from nI_mul 24 h, nI_add, s_1080 hU (by omega), nI_1]
    refine ⟨_, rfl, rfl, i2.aS (o := 1080) rfl, fun i hi => ?_, fun i hi => ?_⟩
    · simp only
      by_cases c : i = k
      · subst c; rw [gi_eq]
      · rw [gi_nj (by omega)]
        exact i3 i (by omega)
    · simp only
      rw [gi_nj (by omega)]
      exact i4 i hi) (by
    rintro ⟨u, y⟩ ⟨i1, i2, i3, i4⟩
    simp only at i1 i2 i3 i4
    subst i1
    show ∃ r, lX7_taste_23 (z + 1064) (nI h) u (nI 24) = _ ∧ _
    unfold lX7_taste_23
    rw [if_pos (by decide)]
    exact ⟨_, rfl, i2, i3, i4⟩) (s := (ρ, 0)) ⟨rfl, Fr.refl, fun i hi => absurd hi (Nat.not_lt_zero i), fun i _ => rfl⟩ fuel (fuel_lt (by decide))
  exact ⟨ρ', l1, l2, l3, l4⟩
def HL : PlL := RD ++ (MR ++ [(22, none), (0, some 12), (1078, none), (1077, none), (1064, some 18)])
theorem habit_sim (hS : Sh σ z) (hN : Hn σ z nh) (hP : Tp σ z) (hA : Ha σ z nh) (a : Int32) : ∃ v σ1 σ2, fX0_habit σ z a = some (v, σ1) ∧ fX7_habit σ1 (z + 1064) a = some (v, σ2) ∧ Fr (PL z HL) σ σ2 ∧ Tp σ2 z ∧ Ha σ2 z nh := by
  have h6 := hN.1
  by_cases c1 : 0 ≤ a ∧ a ≤ nI nh - 1
  · obtain ⟨h, hh, rfl⟩ := in_nat (by omega) c1
    obtain ⟨n, t, hX⟩ := tx_ex hP
    obtain ⟨τ0, v, τ1, a1, a2, a3, a4, a5⟩ := hab_both hS hX
    have hS1 : Sh τ1 z := a4.sh hS (by decide)
    have X : fX0_habit σ z (nI h) = (if v = -1 then o_gR τ1 z 0 9 fun r7 => o_sR τ1 r7 6 (nI h) (s_z σ) fun σ8 => o_pI σ8 z 0 12 0 fun σ9 => o_gI σ9 (s_z σ) 8 0 fun x10 => some (x10, σ9) else some (-4, τ1)) := by
      unfold fX0_habit
      rw [e_0_k hS, isHut_eq hS hN, sb, if01, if_pos c1]
      unfold o_new
      show ((fX11_init (born σ (.inl 8)) (s_z σ) z).bind fun σ4 => o_k σ4 z 0 <| (fX0_faultOf σ4 z (s_z σ)).bind <| un2 fun x5 σ6 => if x5 = -1 then o_gR σ6 z 0 9 fun r7 => o_sR σ6 r7 6 (nI h) (s_z σ) fun σ8 => o_pI σ8 z 0 12 0 fun σ9 => o_gI σ9 (s_z σ) 8 0 fun x10 => some (x10, σ9) else some (-4, σ6)) = _
      rw [a1, sb, e_0_k a2, a3, sb]
      rfl
    have M : ∀ σm x ρ', Sh σm z → Hn σm z nh → fX7_isRead σm (z + 1064) 0 = some (x, ρ') → fX7_habit σm (z + 1064) (nI h) = (if x = 0 then some (-4, ρ') else (loopF fuel (fun y => lX7_habit_24 (z + 1064) (nI h) y.1 y.2) (ρ', 0)).bind fun σ10 => o_gR σ10 (z + 1064) 5 28 fun r11 => o_gI σ10 (z + 1064) 5 26 fun x12 => o_sI σ10 r11 0 (nI h) x12 fun σ13 => o_pI σ13 (z + 1064) 5 18 0 fun σ14 => o_gI σ14 (z + 1064) 5 26 fun x15 => some (x15, σ14)) := by
      intro σm x ρ' hSm hNm hr
      unfold fX7_habit
      rw [e_1064_k hSm, isHutM_eq hSm hNm, sb, if01, if_pos c1, e_1064_k hSm, hr, sb]
      rfl
    by_cases cv : v = -1
    · -- a new habit
      obtain ⟨p, hp⟩ : ∃ p, p = s_z σ := ⟨_, rfl⟩
      rw [← hp] at X a5
      have kp : s_k τ1 p = some (.inl 8) := by
        rcases a5 τ1 hS1 (hX.keep hS a4 rd_tx).y with ⟨-, ρ', mm, -, -, -, g2⟩ | ⟨g, -⟩
        · exact g2.2.2.1.1
        · exact absurd cv g
      have hzp : z + 1094 ≤ p := by rw [hp]; exact hS.2.2.2.1
      obtain ⟨τ2, hτ2⟩ : ∃ τ2, τ2 = setI (setR τ1 (z + 22) h (some p)) z 12 0 := ⟨_, rfl⟩
      have F12 : Fr (PL z [(22, none), (0, some 12)]) τ1 τ2 := by
        rw [hτ2]
        exact (Fr.refl.aR (o := 22) rfl).aS0 rfl
      have hS2 : Sh τ2 z := F12.sh hS1 (by decide)
      have F2 : Fr (PL z (RD ++ [(22, none), (0, some 12)])) σ τ2 := a4.transL F12
      have hX2 : Ty τ2 z n t := hX.y.keep2 hS F2 (by decide)
      have hN2 : Hn τ2 z nh := ⟨h6, (F2.ki hS 0 3 (by decide) (by decide)).trans hN.2.1, (F2.ki hS 1064 1 (by decide) (by decide)).trans hN.2.2⟩
      rcases a5 τ2 hS2 hX2 with ⟨-, ρ1, mm, m1, m2, g1, g2⟩ | ⟨g, -⟩
      · obtain ⟨i1, i2, i3, i4, i5, i6, i7⟩ := g2
        have X2 : fX0_habit σ z (nI h) = some (nI mm, τ2) := by
          have ip : s_i τ2 p 0 = nI mm := by rw [hτ2, gi_ne (by omega)]; exact i4
          have kp2 : s_k τ2 p = some (.inl 8) := by rw [hτ2]; exact kp
          rw [X, if_pos cv, e_0_9 hS1, s_22 hS1 (by omega) kp rfl, e_0_p (Sh.sR hS1 (by decide)), ← hτ2, o_gI_eq kp2, ip]
        have hR1 : Sh ρ1 z := i2.sh hS2 (by decide)
        obtain ⟨ρ2, l1, l2, l3, l4⟩ := habCopy hR1 (h := h) (by omega)
        have hR2 : Sh ρ2 z := l2.sh hR1 (by decide)
        have r26 : s_i ρ2 (z + 1064) 26 = nI mm := (l2.ki hR1 1064 26 (by decide) (by decide)).trans i5
        obtain ⟨ρ3, hρ3⟩ : ∃ ρ3, ρ3 = setI (setI ρ2 (z + 1077) h (nI mm)) (z + 1064) 18 0 := ⟨_, rfl⟩
        have F23 : Fr (PL z [(1077, none), (1064, some 18)]) ρ2 ρ3 := by
          rw [hρ3]
          exact (Fr.refl.aS (o := 1077) rfl).aS (o := 1064) rfl
        have M2 := M τ2 1 ρ1 hS2 hN2 g1
        rw [if_neg (by decide), l1, sb, e_1064_28 hR2, e_1064_i hR2, r26, s_1077 hR2 (by omega), e_1064_p (Sh_setI.mpr hR2), ← hρ3, e_1064_i (F23.sh hR2 (by decide)), show s_i ρ3 (z + 1064) 26 = nI mm by rw [hρ3, gi_nj (by decide), gi_ne (by omega), r26]] at M2
        have FM : Fr (PL z (MR ++ [(1078, none), (1077, none), (1064, some 18)])) τ2 ρ3 := ((i2.transL l2).transL F23).inL (by decide)
        have FA : Fr (PL z HL) σ ρ3 := (F2.transL FM).inL (by decide)
        have FN : Fr (PL z ([(22, none), (0, some 12)] ++ (MR ++ [(1078, none), (1077, none), (1064, some 18)]))) τ1 ρ3 := F12.transL FM
        have nw1 : Nw τ1 ρ3 z := FN.nw (by decide)
        have nw0 : Nw σ ρ3 z := FA.nw (by decide)
        have r22 : ∀ k, k ≠ h → s_r ρ3 (z + 22) k = s_r σ (z + 22) k := fun k hk => by
          rw [FM.kra hS2 22 (by decide) (by decide), hτ2]
          show s_r (setR τ1 (z + 22) h (some p)) (z + 22) k = _
          rw [r_setR, up2_ne (fun q => hk q.2), a4.kra hS 22 (by decide) (by decide)]
        have r77 : ∀ k, k ≠ h → s_i ρ3 (z + 1077) k = s_i σ (z + 1077) k := fun k hk => by
          rw [hρ3, gi_ne (by omega), gi_nj hk, l2.kia hR1 1077 (by decide) (by decide), i2.kia hS2 1077 (by decide) (by decide), F2.kia hS 1077 (by decide) (by decide)]
        have r78 : ∀ i, (i < 72 * h ∨ 72 * h + 72 ≤ i) → s_i ρ3 (z + 1078) i = s_i σ (z + 1078) i := fun i hi => by
          rw [hρ3, gi_ne (by omega), gi_ne (by omega), l4 i hi, i2.kia hS2 1078 (by decide) (by decide), F2.kia hS 1078 (by decide) (by decide)]
        refine ⟨_, _, _, X2, M2, FA, ⟨0, by omega, ?_, ?_, fun i hi => absurd hi (Nat.not_lt_zero i)⟩, fun k hk => ?_, fun k hk1 hk2 => ?_⟩
        · refine (FM.ki hS2 0 12 (by decide) (by decide)).trans ?_
          rw [hτ2]
          exact gi_eq
        · rw [hρ3, gi_eq]
          rfl
        · by_cases ck : k = h
          · subst ck
            obtain ⟨k8, q1, q2, q3, q4, kA, kG, kGi, kT, -, hpl⟩ := i3
            have kk := fun b (hb1 : p ≤ b) (hb2 : b < p + 10) => nw1 b (by omega) (by omega)
            have dyn : ∀ b w, p ≤ b → b < p + 10 → s_k τ1 b = some w → Dy ρ3 z b w := fun b w hb1 hb2 hw => ⟨(kk b hb1 hb2).1.trans hw, by omega⟩
            refine Or.inr ⟨p, mm, ?_, ?_, dyn p _ (by omega) (by omega) k8, ((kk p (by omega) (by omega)).2 0).1.trans i4, m2, ((kk p (by omega) (by omega)).2 4).2.trans q4, p + 1, p + 2, p + 9, ((kk p (by omega) (by omega)).2 1).2.trans q1, dyn _ _ (by omega) (by omega) kA, ((kk p (by omega) (by omega)).2 2).2.trans q2, dyn _ _ (by omega) (by omega) kG, ((kk p (by omega) (by omega)).2 3).2.trans q3, dyn _ _ (by omega) (by omega) kT, fun i hi => ?_⟩
            · rw [FM.kra hS2 22 (by decide) (by decide), hτ2]
              show s_r (setR τ1 (z + 22) k (some p)) (z + 22) k = _
              rw [r_setR, up2_same]
            · rw [hρ3, gi_ne (by omega), gi_eq]
            · have hL := (i7 i hi).2.nw hS1 nw1 (fun j => ((kk (p + 1) (by omega) (by omega)).2 j).2) (fun j => ((kk (p + 2) (by omega) (by omega)).2 j).2) (fun j => ((kk (p + 9) (by omega) (by omega)).2 j).1)
              refine hL.congr fun j hj => ?_
              have := (i7 i hi).1
              show s_i ρ3 (z + 1078) (72 * k + (12 * i + j)) = _
              rw [hρ3, gi_ne (by omega), gi_ne (by omega), l3 (12 * i + j) (by omega)]
          · exact (hA.1 k hk).nw hS nw0 (r22 k ck) (r77 k ck) (fun j hj => r78 _ (by omega))
        · rw [r22 k (by omega)]
          exact hA.2 k hk1 hk2
      · exact absurd cv g
    · rw [if_neg cv] at X
      have hN1 : Hn τ1 z nh := ⟨h6, (a4.ki hS 0 3 (by decide) (by decide)).trans hN.2.1, (a4.ki hS 1064 1 (by decide) (by decide)).trans hN.2.2⟩
      rcases a5 τ1 hS1 (hX.keep hS a4 rd_tx).y with ⟨g, -⟩ | ⟨-, ρ', g1, g2, -⟩
      · exact absurd g cv
      · have M2 := M τ1 0 ρ' hS1 hN1 g1
        rw [if_pos rfl] at M2
        have F : Fr (PL z FL) σ ρ' := a4.transL g2
        exact ⟨_, _, _, X, M2, F.inL (by decide), hP.keep hS F (by decide), hA.keep hS F (by decide)⟩
  · refine ⟨-2, σ, σ, ?_, ?_, Fr.refl, hP, hA⟩
    · unfold fX0_habit
      rw [e_0_k hS, isHut_eq hS hN, sb, if01, if_neg c1]
    · unfold fX7_habit
      rw [e_1064_k hS, isHutM_eq hS hN, sb, if01, if_neg c1]
def TL : PlL := RD ++ (MR ++ [(23, none), (0, some 12), (1080, none), (1079, none), (1064, some 18)])
theorem taste_sim (hS : Sh σ z) (hP : Tp σ z) (hA : Ta σ z) (a : Int32) : ∃ v σ1 σ2, fX0_taste σ z a = some (v, σ1) ∧ fX7_taste σ1 (z + 1064) a = some (v, σ2) ∧ Fr (PL z TL) σ σ2 ∧ Tp σ2 z ∧ Ta σ2 z := by
  have vis : ∀ s : St, fX7_isVisitor s a = some (if 0 ≤ a ∧ a ≤ 3 then 1 else 0) := fun s => by
    unfold fX7_isVisitor
    rw [in_eq, sb, bz_01]
  have vis0 : ∀ s : St, fX0_isVisitor s a = some (if 0 ≤ a ∧ a ≤ 3 then 1 else 0) := fun s => by
    unfold fX0_isVisitor
    rw [isIn_lit s s a 0 3 (lo' := 0) (hi' := 3) rfl rfl, in_eq, sb, bz_01]
  by_cases c1 : 0 ≤ a ∧ a ≤ 3
  · obtain ⟨h, hh, rfl⟩ : ∃ h, h ≤ 3 ∧ a = nI h := in_lit (hi := 3) (n := 3) rfl c1
    obtain ⟨n, t, hX⟩ := tx_ex hP
    obtain ⟨τ0, v, τ1, a1, a2, a3, a4, a5⟩ := tas_both hS hX
    have hS1 : Sh τ1 z := a4.sh hS (by decide)
    have X : fX0_taste σ z (nI h) = (if v = -1 then o_gR τ1 z 0 10 fun r7 => o_sR τ1 r7 7 (nI h) (s_z σ) fun σ8 => o_pI σ8 z 0 12 0 fun σ9 => o_gI σ9 (s_z σ) 14 0 fun x10 => some (x10, σ9) else some (-4, τ1)) := by
      unfold fX0_taste
      rw [vis0, sb, if01, if_pos c1]
      unfold o_new
      show ((fX17_init (born σ (.inl 14)) (s_z σ) z).bind fun σ4 => o_k σ4 z 0 <| (fX0_faultOf σ4 z (s_z σ)).bind <| un2 fun x5 σ6 => if x5 = -1 then o_gR σ6 z 0 10 fun r7 => o_sR σ6 r7 7 (nI h) (s_z σ) fun σ8 => o_pI σ8 z 0 12 0 fun σ9 => o_gI σ9 (s_z σ) 14 0 fun x10 => some (x10, σ9) else some (-4, σ6)) = _
      rw [a1, sb, e_0_k a2, a3, sb]
      rfl
    have M : ∀ σm x ρ', Sh σm z → fX7_isRead σm (z + 1064) 1 = some (x, ρ') → fX7_taste σm (z + 1064) (nI h) = (if x = 0 then some (-4, ρ') else (loopF fuel (fun y => lX7_taste_23 (z + 1064) (nI h) y.1 y.2) (ρ', 0)).bind fun σ10 => o_gR σ10 (z + 1064) 5 30 fun r11 => o_gI σ10 (z + 1064) 5 26 fun x12 => o_sI σ10 r11 0 (nI h) x12 fun σ13 => o_pI σ13 (z + 1064) 5 18 0 fun σ14 => o_gI σ14 (z + 1064) 5 26 fun x15 => some (x15, σ14)) := by
      intro σm x ρ' hSm hr
      unfold fX7_taste
      rw [vis, sb, if01, if_pos c1, e_1064_k hSm, hr, sb]
      rfl
    by_cases cv : v = -1
    · obtain ⟨p, hp⟩ : ∃ p, p = s_z σ := ⟨_, rfl⟩
      rw [← hp] at X a5
      have kp : s_k τ1 p = some (.inl 14) := by
        rcases a5 τ1 hS1 (hX.keep hS a4 rd_tx).y with ⟨-, ρ', mm, -, -, -, g2⟩ | ⟨g, -⟩
        · exact g2.2.2.1.1
        · exact absurd cv g
      have hzp : z + 1094 ≤ p := by rw [hp]; exact hS.2.2.2.1
      obtain ⟨τ2, hτ2⟩ : ∃ τ2, τ2 = setI (setR τ1 (z + 23) h (some p)) z 12 0 := ⟨_, rfl⟩
      have F12 : Fr (PL z [(23, none), (0, some 12)]) τ1 τ2 := by
        rw [hτ2]
        exact (Fr.refl.aR (o := 23) rfl).aS0 rfl
      have hS2 : Sh τ2 z := F12.sh hS1 (by decide)
      have F2 : Fr (PL z (RD ++ [(23, none), (0, some 12)])) σ τ2 := a4.transL F12
      have hX2 : Ty τ2 z n t := hX.y.keep2 hS F2 (by decide)
      rcases a5 τ2 hS2 hX2 with ⟨-, ρ1, mm, m1, m2, g1, g2⟩ | ⟨g, -⟩
      · obtain ⟨i1, i2, i3, i4, i5, i6⟩ := g2
        have X2 : fX0_taste σ z (nI h) = some (nI mm, τ2) := by
          have ip : s_i τ2 p 0 = nI mm := by rw [hτ2, gi_ne (by omega)]; exact i4
          have kp2 : s_k τ2 p = some (.inl 14) := by rw [hτ2]; exact kp
          rw [X, if_pos cv, e_0_10 hS1, s_23 hS1 (by omega) kp rfl, e_0_p (Sh.sR hS1 (by decide)), ← hτ2, o_gI_eq kp2, ip]
        have hR1 : Sh ρ1 z := i2.sh hS2 (by decide)
        obtain ⟨ρ2, l1, l2, l3, l4⟩ := tasCopy hR1 (h := h) (by omega)
        have hR2 : Sh ρ2 z := l2.sh hR1 (by decide)
        have r26 : s_i ρ2 (z + 1064) 26 = nI mm := (l2.ki hR1 1064 26 (by decide) (by decide)).trans i5
        obtain ⟨ρ3, hρ3⟩ : ∃ ρ3, ρ3 = setI (setI ρ2 (z + 1079) h (nI mm)) (z + 1064) 18 0 := ⟨_, rfl⟩
        have F23 : Fr (PL z [(1079, none), (1064, some 18)]) ρ2 ρ3 := by
          rw [hρ3]
          exact (Fr.refl.aS (o := 1079) rfl).aS (o := 1064) rfl
        have M2 := M τ2 1 ρ1 hS2 g1
        rw [if_neg (by decide), l1, sb, e_1064_30 hR2, e_1064_i hR2, r26, s_1079 hR2 (by omega), e_1064_p (Sh_setI.mpr hR2), ← hρ3, e_1064_i (F23.sh hR2 (by decide)), show s_i ρ3 (z + 1064) 26 = nI mm by rw [hρ3, gi_nj (by decide), gi_ne (by omega), r26]] at M2
        have FM : Fr (PL z (MR ++ [(1080, none), (1079, none), (1064, some 18)])) τ2 ρ3 := ((i2.transL l2).transL F23).inL (by decide)
        have FA : Fr (PL z TL) σ ρ3 := (F2.transL FM).inL (by decide)
        have FN : Fr (PL z ([(23, none), (0, some 12)] ++ (MR ++ [(1080, none), (1079, none), (1064, some 18)]))) τ1 ρ3 := F12.transL FM
        have nw1 : Nw τ1 ρ3 z := FN.nw (by decide)
        have nw0 : Nw σ ρ3 z := FA.nw (by decide)
        have r22 : ∀ k, k ≠ h → s_r ρ3 (z + 23) k = s_r σ (z + 23) k := fun k hk => by
          rw [FM.kra hS2 23 (by decide) (by decide), hτ2]
          show s_r (setR τ1 (z + 23) h (some p)) (z + 23) k = _
          rw [r_setR, up2_ne (fun q => hk q.2), a4.kra hS 23 (by decide) (by decide)]
        have r77 : ∀ k, k ≠ h → s_i ρ3 (z + 1079) k = s_i σ (z + 1079) k := fun k hk => by
          rw [hρ3, gi_ne (by omega), gi_nj hk, l2.kia hR1 1079 (by decide) (by decide), i2.kia hS2 1079 (by decide) (by decide), F2.kia hS 1079 (by decide) (by decide)]
        have r78 : ∀ i, (i < 24 * h ∨ 24 * h + 24 ≤ i) → s_i ρ3 (z + 1080) i = s_i σ (z + 1080) i := fun i hi => by
          rw [hρ3, gi_ne (by omega), gi_ne (by omega), l4 i hi, i2.kia hS2 1080 (by decide) (by decide), F2.kia hS 1080 (by decide) (by decide)]
        refine ⟨_, _, _, X2, M2, FA, ⟨0, by omega, ?_, ?_, fun i hi => absurd hi (Nat.not_lt_zero i)⟩, fun k hk => ?_⟩
        · refine (FM.ki hS2 0 12 (by decide) (by decide)).trans ?_
          rw [hτ2]
          exact gi_eq
        · rw [hρ3, gi_eq]
          rfl
        · by_cases ck : k = h
          · subst ck
            obtain ⟨k8, q1, q2, kA, -, hpl⟩ := i3
            obtain ⟨v1, v2, v3, v4, v5⟩ := i6
            have kk := fun b (hb1 : p ≤ b) (hb2 : b < p + 2) => nw1 b (by omega) (by omega)
            have ro : ∀ j, j < 24 → (fun j => s_i ρ3 (z + 1080) (24 * k + j)) j = (fun j => s_i ρ1 (z + 1076) j) j := fun j hj => by
              simp only
              rw [hρ3, gi_ne (by omega), gi_ne (by omega), l3 j hj]
            have e : ∀ s c, tof (fun j => s_i ρ3 (z + 1080) (24 * k + j)) s c mm = tof (fun j => s_i ρ1 (z + 1076) j) s c mm := fun s c => tof_congr s c mm (fun j hj => ro j (by omega))
            refine Or.inr ⟨p, mm, ?_, ?_, ⟨(kk p (by omega) (by omega)).1.trans k8, by omega⟩, ((kk p (by omega) (by omega)).2 0).1.trans i4, m2, ((kk p (by omega) (by omega)).2 6).2.trans q2, ⟨p + 1, ((kk p (by omega) (by omega)).2 2).2.trans q1, ⟨(kk (p + 1) (by omega) (by omega)).1.trans kA, by omega⟩, fun c hc => ?_⟩, ?_, ?_, ?_, ?_⟩
            · rw [FM.kra hS2 23 (by decide) (by decide), hτ2]
              show s_r (setR τ1 (z + 23) k (some p)) (z + 23) k = _
              rw [r_setR, up2_same]
            · rw [hρ3, gi_ne (by omega), gi_eq]
            · rw [((kk (p + 1) (by omega) (by omega)).2 c).1, e, v2 c hc]
            · rw [((kk p (by omega) (by omega)).2 1).1, e, v1]
            · rw [((kk p (by omega) (by omega)).2 3).1, e, v3]
            · rw [((kk p (by omega) (by omega)).2 4).1, e, v4]
            · rw [((kk p (by omega) (by omega)).2 5).1, e, v5]
          · exact (hA k hk).nw hS nw0 (r22 k ck) (r77 k ck) (fun j hj => r78 _ (by omega))
      · exact absurd cv g
    · rw [if_neg cv] at X
      rcases a5 τ1 hS1 (hX.keep hS a4 rd_tx).y with ⟨g, -⟩ | ⟨-, ρ', g1, g2, -⟩
      · exact absurd g cv
      · have M2 := M τ1 0 ρ' hS1 g1
        rw [if_pos rfl] at M2
        have F : Fr (PL z FL) σ ρ' := a4.transL g2
        exact ⟨_, _, _, X, M2, F.inL (by decide), hP.keep hS F (by decide), hA.keep hS F (by decide)⟩
  · refine ⟨-2, σ, σ, ?_, ?_, Fr.refl, hP, hA⟩
    · unfold fX0_taste
      rw [vis0, sb, if01, if_neg c1]
    · unfold fX7_taste
      rw [vis, sb, if01, if_neg c1]
end FAULT
