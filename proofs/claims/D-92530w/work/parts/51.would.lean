set_option maxRecDepth 100000
/-! what would be: a copy gone on with -/
def L14 : PlL := [(14, some 0), (15, none), (16, none), (17, none), (18, none), (19, none), (20, none), (21, none), (1067, none), (1068, none), (1069, none), (1070, none), (1071, none)]
def LC : PlL := [(14, some 0), (15, none), (16, none), (17, none), (21, none)]
def LK : PlL := [(1068, none), (1071, none)]
def LB : PlL := [(1067, none), (1070, none)]
theorem o_cpy_eq {α : Type} {σ : St} {a0 a n0 n1 n : Nat} {K : St → Option α} (h0 : s_k σ a0 = some (.inr (0, n0))) (h1 : s_k σ a = some (.inr (0, n1))) (hn : n ≤ n0) (hn1 : n ≤ n1) (hh : n < 2 ^ 31) : o_cpy σ a0 0 a 0 (nI n) K = K (cpyI σ a0 0 a 0 n) := by
  unfold o_cpy
  rw [h0, h1]
  simp only
  have c0 : (0 : Int32).toNatClampNeg = 0 := rfl
  rw [if_pos ⟨trivial, trivial, by decide, by decide, nI_pos hh, by rw [c0, nI_clamp hh]; omega, by rw [c0, nI_clamp hh]; omega⟩, c0, nI_clamp hh]
section COPY
variable {ρ : St} {z n nt : Nat}
theorem copy_eq (hS : Sh ρ z) : ∃ ρ', fX5_copy ρ (z + 14) (z + 6) = some ρ' ∧ Fr (PL z LC) ρ ρ' ∧ s_i ρ' (z + 14) 0 = s_i ρ (z + 6) 0 ∧ (∀ h, h < 6 → s_i ρ' (z + 15) h = s_i ρ (z + 7) h ∧ s_i ρ' (z + 16) h = s_i ρ (z + 8) h ∧ s_i ρ' (z + 17) h = s_i ρ (z + 9) h) ∧ ∀ t, t < 40 → s_i ρ' (z + 21) t = s_i ρ (z + 13) t := by
  obtain ⟨ρ1, e1⟩ : ∃ ρ1, ρ1 = setI ρ (z + 14) 0 (s_i ρ (z + 6) 0) := ⟨_, rfl⟩
  have hS1 : Sh ρ1 z := by rw [e1]; exact hS
  have hF1 : Fr (PL z LC) ρ ρ1 := by rw [e1]; exact Fr.refl.aS rfl
  obtain ⟨ρ2, e2, f2, g2⟩ := loopF_inv (b := fun y : St × Int32 => lX5_copy_10 (z + 14) (z + 6) y.1 y.2) (fun k s => s.2 = nI k ∧ Fr (PL z [(15, none), (16, none), (17, none)]) ρ1 s.1 ∧ ∀ h, h < k → s_i s.1 (z + 15) h = s_i ρ (z + 7) h ∧ s_i s.1 (z + 16) h = s_i ρ (z + 8) h ∧ s_i s.1 (z + 17) h = s_i ρ (z + 9) h) 6 (Q := fun s => Fr (PL z [(15, none), (16, none), (17, none)]) ρ1 s ∧ ∀ h, h < 6 → s_i s (z + 15) h = s_i ρ (z + 7) h ∧ s_i s (z + 16) h = s_i ρ (z + 8) h ∧ s_i s (z + 17) h = s_i ρ (z + 9) h) (by
      rintro k ⟨τ, y⟩ hk ⟨i1, i2, i3⟩
      simp only at i1 i2 i3
      subst i1
      have hT : Sh τ z := i2.sh hS1 (by decide)
      have w7 : s_i τ (z + 7) k = s_i ρ (z + 7) k := by rw [i2.kia hS1 7 (by decide) rfl, hF1.kia hS 7 (by decide) rfl]
      have w8 : s_i τ (z + 8) k = s_i ρ (z + 8) k := by rw [i2.kia hS1 8 (by decide) rfl, hF1.kia hS 8 (by decide) rfl]
      have w9 : s_i τ (z + 9) k = s_i ρ (z + 9) k := by rw [i2.kia hS1 9 (by decide) rfl, hF1.kia hS 9 (by decide) rfl]
      show ∃ t, lX5_copy_10 (z + 14) (z + 6) τ (nI k) = _ ∧ _
      unfold lX5_copy_10
      rw [if_neg (lit_nle 6 6 k rfl hk (by decide))]
      simp (maxDischargeDepth := 9) only [e_0_0, e_0_1, e_0_2, e_0_4, e_0_6, e_0_7, e_0_8, e_0_9, e_0_10, e_0_11, e_0_13, e_0_14, e_0_15, e_0_16, e_0_17, e_0_18, e_0_20, e_0_21, e_0_22, e_0_24, e_0_25, e_0_26, e_0_28, e_0_30, e_0_32, e_0_i, e_0_p, e_0_k, e_6_1, e_6_2, e_6_3, e_6_4, e_6_5, e_6_6, e_6_7, e_6_8, e_6_i, e_6_p, e_6_k, e_14_1, e_14_2, e_14_3, e_14_4, e_14_5, e_14_6, e_14_7, e_14_8, e_14_i, e_14_p, e_14_k, e_25_3, e_25_i, e_25_p, e_25_k, e_1064_2, e_1064_3, e_1064_4, e_1064_5, e_1064_6, e_1064_8, e_1064_9, e_1064_10, e_1064_11, e_1064_12, e_1064_19, e_1064_27, e_1064_28, e_1064_29, e_1064_30, e_1064_31, e_1064_32, e_1064_33, e_1064_34, e_1064_36, e_1064_37, e_1064_39, e_1064_40, e_1064_41, e_1064_42, e_1064_44, e_1064_46, e_1064_48, e_1064_49, e_1064_i, e_1064_p, e_1064_k, e_1064_l, e_1064_pl, a_5, s_5, a_7, s_7, a_8, s_8, a_9, s_9, a_10, s_10, a_11, s_11, a_13, s_13, a_15, s_15, a_16, s_16, a_17, s_17, a_18, s_18, a_19, s_19, a_21, s_21, a_24, s_24, a_26, s_26, a_27, s_27, a_28, s_28, a_29, s_29, a_30, s_30, a_31, s_31, a_32, s_32, a_33, s_33, a_34, s_34, a_36, s_36, a_1065, s_1065, a_1066, s_1066, a_1067, s_1067, a_1068, s_1068, a_1069, s_1069, a_1070, s_1070, a_1071, s_1071, a_1072, s_1072, a_1073, s_1073, a_1074, s_1074, a_1075, s_1075, a_1076, s_1076, a_1077, s_1077, a_1078, s_1078, a_1079, s_1079, a_1080, s_1080, a_1081, s_1081, a_1082, s_1082, a_1083, s_1083, a_1084, s_1084, a_1085, s_1085, a_1086, s_1086, a_1087, s_1087, a_1088, s_1088, a_1089, s_1089, a_1090, s_1090, a_1091, s_1091, a_1092, s_1092, a_1093, s_1093, a_3, q_3, s_3, a_4, q_4, s_4, a_12, q_12, s_12, a_20, q_20, s_20, a_22, q_22, s_22, a_23, q_23, s_23, a_35, q_35, s_35, a_37, q_37, s_37, a_38, q_38, s_38, Sh_setI, Sh_setL, i_setI, r_setI, k_setI, z_setI, i_setR, r_setR, k_setR, z_setR, up2, Nat.add_left_cancel_iff, Nat.reduceEqDiff, Nat.reduceAdd, false_and, true_and, and_false, and_true, if_true, if_false, reduceIte, ite_true, ite_false, sb, in_eq, if01, jn, o_let, un2, o_new, o_pI_eq, k_born, Sh_born, Sh_sR, i_born, r_born, z_born, Nat.reduceLT, Nat.left_eq_add, Nat.add_eq_left, reduceCtorEq, Option.some.injEq, Sum.inl.injEq, Nat.reduceEqDiff, eq_self, hT, hk, w7, w8, w9, nI_1 k]
      refine ⟨_, rfl, rfl, ?_, fun h hh => ?_⟩
      · exact ((i2.aS (o := 15) rfl).aS (o := 16) rfl).aS (o := 17) rfl
      · by_cases e : h = k
        · subst e
          simp [i_setI, up2]
        · have := i3 h (by omega)
          simp [i_setI, up2, e, this]) (by
      rintro ⟨τ, y⟩ ⟨i1, i2, i3⟩
      simp only at i1 i2 i3
      subst i1
      show ∃ t, lX5_copy_10 (z + 14) (z + 6) τ (nI 6) = _ ∧ _
      unfold lX5_copy_10
      rw [if_pos (by decide)]
      exact ⟨_, rfl, i2, i3⟩) (s := (ρ1, 0)) ⟨rfl, Fr.refl, fun i hi => absurd hi (Nat.not_lt_zero i)⟩ fuel (fuel_lt (by decide))
  have hS2 : Sh ρ2 z := f2.sh hS1 (by decide)
  have hF2 : Fr (PL z LC) ρ ρ2 := (hF1.transL f2).inL (by decide)
  refine ⟨cpyI ρ2 (z + 13) 0 (z + 21) 0 40, ?_, ?_, ?_, fun h hh => ?_, fun t ht => ?_⟩
  · unfold fX5_copy
    rw [e_6_i hS, e_14_p hS, ← e1, e2, sb, e_6_7 hS2, e_14_7 hS2]
    exact o_cpy_eq (n := 40) (hS2.k 13 _ (by decide) rfl) (hS2.k 21 _ (by decide) rfl) (Nat.le_refl 40) (Nat.le_refl 40) (by decide)
  · exact ((Fr.trans hF2 (Fr.cpy.inL (by decide) : Fr (PL z LC) ρ2 (cpyI ρ2 (z + 13) 0 (z + 21) 0 40))).mono (fun a j q => q.elim id id))
  · show (if z + 14 = z + 21 then _ else s_i ρ2 (z + 14) 0) = _
    rw [if_neg (by omega), f2.ki hS1 14 0 (by decide) rfl, e1, gi_eq]
  · have c15 : s_i (cpyI ρ2 (z + 13) 0 (z + 21) 0 40) (z + 15) h = s_i ρ2 (z + 15) h := if_neg (by omega)
    have c16 : s_i (cpyI ρ2 (z + 13) 0 (z + 21) 0 40) (z + 16) h = s_i ρ2 (z + 16) h := if_neg (by omega)
    have c17 : s_i (cpyI ρ2 (z + 13) 0 (z + 21) 0 40) (z + 17) h = s_i ρ2 (z + 17) h := if_neg (by omega)
    rw [c15, c16, c17]
    exact g2 h hh
  · have c21 : s_i (cpyI ρ2 (z + 13) 0 (z + 21) 0 40) (z + 21) t = va_cpy (s_i ρ2 (z + 13)) (s_i ρ2 (z + 21)) 0 0 40 t := if_pos rfl
    rw [c21, sb_cpy0 ht]
    exact hF2.kia hS 13 (by decide) rfl t
theorem keep_eq (hS : Sh ρ z) (hT : Th ρ z nt) : ∃ ρ', fX7_keep ρ (z + 1064) = some ρ' ∧ Fr (PL z LK) ρ ρ' ∧ (∀ j, j < 24 → s_i ρ' (z + 1068) j = s_i ρ (z + 1067) j) ∧ ∀ t, t < nt → s_i ρ' (z + 1071) t = s_i ρ (z + 1070) t := by
  have h40 := hT.1
  obtain ⟨ρ1, e1, f1, g1⟩ := loopF_inv (b := fun y : St × Int32 => lX7_keep_2 (z + 1064) y.1 y.2) (fun k s => s.2 = nI k ∧ Fr (PL z [(1068, none)]) ρ s.1 ∧ ∀ j, j < k → s_i s.1 (z + 1068) j = s_i ρ (z + 1067) j) 24 (Q := fun s => Fr (PL z [(1068, none)]) ρ s ∧ ∀ j, j < 24 → s_i s (z + 1068) j = s_i ρ (z + 1067) j) (by
      rintro k ⟨τ, y⟩ hk ⟨i1, i2, i3⟩
      simp only at i1 i2 i3
      subst i1
      have hT : Sh τ z := i2.sh hS (by decide)
      show ∃ t, lX7_keep_2 (z + 1064) τ (nI k) = _ ∧ _
      unfold lX7_keep_2
      rw [if_neg (lit_nle 24 24 k rfl hk (by decide)), e_1064_5 hT, e_1064_4 hT, a_1067 hT hk, s_1068 hT hk, i2.kia hS 1067 (by decide) rfl, nI_1 k]
      refine ⟨_, rfl, rfl, i2.aS (o := 1068) rfl, fun j hj => ?_⟩
      show s_i (setI τ (z + 1068) k (s_i ρ (z + 1067) k)) (z + 1068) j = _
      by_cases e : j = k
      · subst e; rw [gi_eq]
      · rw [gi_nj e]; exact i3 j (by omega)) (by
      rintro ⟨τ, y⟩ ⟨i1, i2, i3⟩
      simp only at i1 i2 i3
      subst i1
      show ∃ t, lX7_keep_2 (z + 1064) τ (nI 24) = _ ∧ _
      unfold lX7_keep_2
      rw [if_pos (by decide)]
      exact ⟨_, rfl, i2, i3⟩) (s := (ρ, 0)) ⟨rfl, Fr.refl, fun i hi => absurd hi (Nat.not_lt_zero i)⟩ fuel (fuel_lt (by decide))
  have hS1 : Sh ρ1 z := f1.sh hS (by decide)
  have t1 : s_i ρ1 (z + 1064) 7 = nI nt := (f1.ki hS 1064 7 (by decide) rfl).trans hT.2.2.1
  obtain ⟨ρ2, e2, f2, g2⟩ := loopF_inv (b := fun y : St × Int32 => lX7_keep_28 (z + 1064) y.1 y.2) (fun k s => s.2 = nI k ∧ Fr (PL z [(1071, none)]) ρ1 s.1 ∧ ∀ j, j < k → s_i s.1 (z + 1071) j = s_i ρ (z + 1070) j) nt (Q := fun s => Fr (PL z [(1071, none)]) ρ1 s ∧ ∀ j, j < nt → s_i s (z + 1071) j = s_i ρ (z + 1070) j) (by
      rintro k ⟨τ, y⟩ hk ⟨i1, i2, i3⟩
      simp only at i1 i2 i3
      subst i1
      have hT : Sh τ z := i2.sh hS1 (by decide)
      show ∃ t, lX7_keep_28 (z + 1064) τ (nI k) = _ ∧ _
      unfold lX7_keep_28
      rw [e_1064_i hT, i2.ki hS1 1064 7 (by decide) rfl, t1, if_neg (nI_ge hk (by omega)), e_1064_9 hT, e_1064_8 hT, a_1070 hT (by omega), s_1071 hT (by omega), i2.kia hS1 1070 (by decide) rfl, f1.kia hS 1070 (by decide) rfl, nI_1 k]
      refine ⟨_, rfl, rfl, i2.aS (o := 1071) rfl, fun j hj => ?_⟩
      show s_i (setI τ (z + 1071) k (s_i ρ (z + 1070) k)) (z + 1071) j = _
      by_cases e : j = k
      · subst e; rw [gi_eq]
      · rw [gi_nj e]; exact i3 j (by omega)) (by
      rintro ⟨τ, y⟩ ⟨i1, i2, i3⟩
      simp only at i1 i2 i3
      subst i1
      have hT : Sh τ z := i2.sh hS1 (by decide)
      show ∃ t, lX7_keep_28 (z + 1064) τ (nI nt) = _ ∧ _
      unfold lX7_keep_28
      rw [e_1064_i hT, i2.ki hS1 1064 7 (by decide) rfl, t1, if_pos (nI_le (Nat.le_refl nt) (by omega))]
      exact ⟨_, rfl, i2, i3⟩) (s := (ρ1, 0)) ⟨rfl, Fr.refl, fun i hi => absurd hi (Nat.not_lt_zero i)⟩ fuel (fuel_lt (by omega))
  refine ⟨ρ2, ?_, (f1.transL f2).inL (by decide), fun j hj => ?_, g2⟩
  · unfold fX7_keep
    rw [e1, sb, e2, sb]
  · rw [f2.kia hS1 1068 (by decide) rfl]; exact g1 j hj
theorem layBack_eq (hS : Sh ρ z) (hT : Th ρ z nt) : ∃ ρ', fX7_layBack ρ (z + 1064) = some ρ' ∧ Fr (PL z LB) ρ ρ' ∧ (∀ j, j < 24 → s_i ρ' (z + 1067) j = s_i ρ (z + 1068) j) ∧ ∀ t, t < nt → s_i ρ' (z + 1070) t = s_i ρ (z + 1071) t := by
  have h40 := hT.1
  obtain ⟨ρ1, e1, f1, g1⟩ := loopF_inv (b := fun y : St × Int32 => lX7_layBack_2 (z + 1064) y.1 y.2) (fun k s => s.2 = nI k ∧ Fr (PL z [(1067, none)]) ρ s.1 ∧ ∀ j, j < k → s_i s.1 (z + 1067) j = s_i ρ (z + 1068) j) 24 (Q := fun s => Fr (PL z [(1067, none)]) ρ s ∧ ∀ j, j < 24 → s_i s (z + 1067) j = s_i ρ (z + 1068) j) (by
      rintro k ⟨τ, y⟩ hk ⟨i1, i2, i3⟩
      simp only at i1 i2 i3
      subst i1
      have hT : Sh τ z := i2.sh hS (by decide)
      show ∃ t, lX7_layBack_2 (z + 1064) τ (nI k) = _ ∧ _
      unfold lX7_layBack_2
      rw [if_neg (lit_nle 24 24 k rfl hk (by decide)), e_1064_4 hT, e_1064_5 hT, a_1068 hT hk, s_1067 hT hk, i2.kia hS 1068 (by decide) rfl, nI_1 k]
      refine ⟨_, rfl, rfl, i2.aS (o := 1067) rfl, fun j hj => ?_⟩
      show s_i (setI τ (z + 1067) k (s_i ρ (z + 1068) k)) (z + 1067) j = _
      by_cases e : j = k
      · subst e; rw [gi_eq]
      · rw [gi_nj e]; exact i3 j (by omega)) (by
      rintro ⟨τ, y⟩ ⟨i1, i2, i3⟩
      simp only at i1 i2 i3
      subst i1
      show ∃ t, lX7_layBack_2 (z + 1064) τ (nI 24) = _ ∧ _
      unfold lX7_layBack_2
      rw [if_pos (by decide)]
      exact ⟨_, rfl, i2, i3⟩) (s := (ρ, 0)) ⟨rfl, Fr.refl, fun i hi => absurd hi (Nat.not_lt_zero i)⟩ fuel (fuel_lt (by decide))
  have hS1 : Sh ρ1 z := f1.sh hS (by decide)
  have t1 : s_i ρ1 (z + 1064) 7 = nI nt := (f1.ki hS 1064 7 (by decide) rfl).trans hT.2.2.1
  obtain ⟨ρ2, e2, f2, g2⟩ := loopF_inv (b := fun y : St × Int32 => lX7_layBack_28 (z + 1064) y.1 y.2) (fun k s => s.2 = nI k ∧ Fr (PL z [(1070, none)]) ρ1 s.1 ∧ ∀ j, j < k → s_i s.1 (z + 1070) j = s_i ρ (z + 1071) j) nt (Q := fun s => Fr (PL z [(1070, none)]) ρ1 s ∧ ∀ j, j < nt → s_i s (z + 1070) j = s_i ρ (z + 1071) j) (by
      rintro k ⟨τ, y⟩ hk ⟨i1, i2, i3⟩
      simp only at i1 i2 i3
      subst i1
      have hT : Sh τ z := i2.sh hS1 (by decide)
      show ∃ t, lX7_layBack_28 (z + 1064) τ (nI k) = _ ∧ _
      unfold lX7_layBack_28
      rw [e_1064_i hT, i2.ki hS1 1064 7 (by decide) rfl, t1, if_neg (nI_ge hk (by omega)), e_1064_8 hT, e_1064_9 hT, a_1071 hT (by omega), s_1070 hT (by omega), i2.kia hS1 1071 (by decide) rfl, f1.kia hS 1071 (by decide) rfl, nI_1 k]
      refine ⟨_, rfl, rfl, i2.aS (o := 1070) rfl, fun j hj => ?_⟩
      show s_i (setI τ (z + 1070) k (s_i ρ (z + 1071) k)) (z + 1070) j = _
      by_cases e : j = k
      · subst e; rw [gi_eq]
      · rw [gi_nj e]; exact i3 j (by omega)) (by
      rintro ⟨τ, y⟩ ⟨i1, i2, i3⟩
      simp only at i1 i2 i3
      subst i1
      have hT : Sh τ z := i2.sh hS1 (by decide)
      show ∃ t, lX7_layBack_28 (z + 1064) τ (nI nt) = _ ∧ _
      unfold lX7_layBack_28
      rw [e_1064_i hT, i2.ki hS1 1064 7 (by decide) rfl, t1, if_pos (nI_le (Nat.le_refl nt) (by omega))]
      exact ⟨_, rfl, i2, i3⟩) (s := (ρ1, 0)) ⟨rfl, Fr.refl, fun i hi => absurd hi (Nat.not_lt_zero i)⟩ fuel (fuel_lt (by omega))
  refine ⟨ρ2, ?_, (f1.transL f2).inL (by decide), fun j hj => ?_, g2⟩
  · unfold fX7_layBack
    rw [e1, sb, e2, sb]
  · rw [f2.kia hS1 1067 (by decide) rfl]; exact g1 j hj
end COPY
/-- heaps in which the wood itself is as it was -/
def Bs (z nt : Nat) (σ ρ : St) : Prop := Fr (PL z L14) σ ρ ∧ (∀ j, j < 24 → s_i ρ (z + 1067) j = s_i σ (z + 1067) j) ∧ ∀ t, t < nt → s_i ρ (z + 1070) t = s_i σ (z + 1070) t
theorem L14_W {z : Nat} {σ σ' : St} (h : Fr (PL z L14) σ σ') : Fr (PL z LW) σ σ' := h.inL (by decide)
section LIVE
variable {σ ρa ρb : St} {z n nt : Nat}
theorem steps_two (sA : Stt z n nt ρa) (sB : Stt z n nt ρb) (hal : Alk z ρa ρb) (hW : WR z 14 n nt ρa ρb) (hh : s_i ρa (z + 14) 0 = s_i ρb (z + 1064) 0) {N : Nat} (hN : N ≤ 60) {a1 a2 : Int32} (rp : (a1 = 1 ∧ a2 = 0) ∨ (a1 = 0 ∧ a2 = 1)) : ∃ ra rb, loopF fuel (fun y => lX0_live_13 (nI N) z a1 y.1 y.2) (ρa, 0) = some ra ∧ loopF fuel (fun y => lX7_sticksBehind_6 (nI N) (z + 1064) a2 y.1 y.2) (ρb, 0) = some rb ∧ Fr (PL z (LX 14)) ρa ra ∧ Fr (PL z LM) ρb rb ∧ WR z 14 n nt ra rb := by
  obtain ⟨r, r', e1, e2, q⟩ := loopF_two (b := fun y : St × Int32 => lX0_live_13 (nI N) z a1 y.1 y.2) (b' := fun y : St × Int32 => lX7_sticksBehind_6 (nI N) (z + 1064) a2 y.1 y.2)
    (fun k s s' => s.2 = nI k ∧ s'.2 = nI k ∧ Fr (PL z (LX 14)) ρa s.1 ∧ Fr (PL z LM) ρb s'.1 ∧ WR z 14 n nt s.1 s'.1 ∧ s_i s.1 (z + 14) 0 = s_i ρb (z + 1064) 0 + nI k) N
    (Q := fun s s' => Fr (PL z (LX 14)) ρa s ∧ Fr (PL z LM) ρb s' ∧ WR z 14 n nt s s') (by
      rintro k ⟨τa, x⟩ ⟨τb, y⟩ hk ⟨i1, i2, i3, i4, i5, i6⟩
      simp only at i1 i2 i3 i4 i5 i6
      subst i1; subst i2
      have fA : Fr (PL z LW) ρa τa := LX_W (Or.inr rfl) i3
      have fB : Fr (PL z LW) ρb τb := LM_W i4
      have sA' := sA.keep fA
      have sB' := sB.keep fB
      have al : Alk z τa τb := ((Alk.keep sA.1 fA).symm.trans hal).trans (Alk.keep sB.1 fB)
      have h0 : s_i τb (z + 1064) 0 = s_i ρb (z + 1064) 0 := i4.ki sB.1 1064 0 (by decide) rfl
      obtain ⟨τa', τb', p1, p2, p3, p4, p5, p6, p7, p8⟩ := step_two (w := 14) (Or.inr rfl) sA' sB' al i5 (now := s_i τb (z + 1064) 0 + nI k) (by rw [h0, i6]) rp
      show ∃ t t', lX0_live_13 (nI N) z a1 τa (nI k) = _ ∧ lX7_sticksBehind_6 (nI N) (z + 1064) a2 τb (nI k) = _ ∧ _
      have X : lX0_live_13 (nI N) z a1 τa (nI k) = some (.inl (τa', nI (k + 1))) := by
        unfold lX0_live_13
        rw [if_neg (nI_ge hk (by omega)), e_0_8 sA'.1, e_14_k sA'.1, p1, sb, nI_1]
      have M : lX7_sticksBehind_6 (nI N) (z + 1064) a2 τb (nI k) = some (.inl (τb', nI (k + 1))) := by
        unfold lX7_sticksBehind_6
        rw [if_neg (nI_ge hk (by omega)), e_1064_i sB'.1, e_1064_k sB'.1, p2, sb, nI_1]
      refine ⟨_, _, X, M, rfl, rfl, (Fr.trans i3 p3).mono (fun a j q => q.elim id id), (Fr.trans i4 p4).mono (fun a j q => q.elim id id), p5, ?_⟩
      show s_i τa' (z + 14) 0 = _
      rw [p6, h0, Int32.add_assoc, nI_1]) (by
      rintro ⟨τa, x⟩ ⟨τb, y⟩ ⟨i1, i2, i3, i4, i5, i6⟩
      simp only at i1 i2 i3 i4 i5 i6
      subst i1; subst i2
      show ∃ t t', lX0_live_13 (nI N) z a1 τa (nI N) = _ ∧ lX7_sticksBehind_6 (nI N) (z + 1064) a2 τb (nI N) = _ ∧ _
      unfold lX0_live_13 lX7_sticksBehind_6
      rw [if_pos (nI_le (Nat.le_refl N) (by omega)), if_pos (nI_le (Nat.le_refl N) (by omega))]
      exact ⟨_, _, rfl, rfl, i3, i4, i5⟩) (s := (ρa, 0)) (s' := (ρb, 0)) ⟨rfl, rfl, Fr.refl, Fr.refl, hW, by rw [hh]; show _ = _ + (0 : Int32); rw [Int32.add_zero]⟩ fuel (fuel_lt (by omega))
  exact ⟨r, r', e1, e2, q⟩
/-- a copy is gone on with, in both -/
theorem live_two (hs : Stt z n nt σ) (hW : Wd σ z n nt) (hA : Bs z nt σ ρa) (hB : Bs z nt σ ρb) {N : Nat} (hN : N ≤ 60) {a1 a2 : Int32} (rp : (a1 = 1 ∧ a2 = 0) ∨ (a1 = 0 ∧ a2 = 1)) : ∃ ra κ rb ρ', fX0_live ρa z (nI N) a1 = some ra ∧ fX7_keep ρb (z + 1064) = some κ ∧ loopF fuel (fun y => lX7_sticksBehind_6 (nI N) (z + 1064) a2 y.1 y.2) (κ, 0) = some rb ∧ fX7_layBack rb (z + 1064) = some ρ' ∧ WR z 14 n nt ra rb ∧ Stt z n nt ra ∧ Stt z n nt rb ∧ Alk z ra rb ∧ Bs z nt σ ra ∧ Bs z nt σ ρ' := by
  have hS := hs.1
  have hn := hs.2.1.1.1
  have h40 := hs.2.2.1.1
  have sA := hs.keep (L14_W hA.1)
  have sB := hs.keep (L14_W hB.1)
  obtain ⟨ρc, c1, c2, c3, c4, c5⟩ := copy_eq sA.1
  have sC := sA.keep (c2.inL (by decide) : Fr (PL z LW) ρa ρc)
  obtain ⟨κ, k1, k2, k3, k4⟩ := keep_eq sB.1 sB.2.2.1
  have fK : Fr (PL z LW) ρb κ := k2.inL (by decide)
  have sK := sB.keep fK
  have w67 : ∀ j, j < 24 → s_i κ (z + 1067) j = s_i σ (z + 1067) j := fun j hj => (k2.kia sB.1 1067 (by decide) rfl j).trans (hB.2.1 j hj)
  have w70 : ∀ j, j < nt → s_i κ (z + 1070) j = s_i σ (z + 1070) j := fun j hj => (k2.kia sB.1 1070 (by decide) rfl j).trans (hB.2.2 j hj)
  have x6 : ∀ j, s_i ρa (z + 7) j = s_i σ (z + 7) j := hA.1.kia hS 7 (by decide) rfl
  have x8 : ∀ j, s_i ρa (z + 8) j = s_i σ (z + 8) j := hA.1.kia hS 8 (by decide) rfl
  have x9 : ∀ j, s_i ρa (z + 9) j = s_i σ (z + 9) j := hA.1.kia hS 9 (by decide) rfl
  have x13 : ∀ j, s_i ρa (z + 13) j = s_i σ (z + 13) j := hA.1.kia hS 13 (by decide) rfl
  have hR : WR z 14 n nt ρc κ := by
    refine ⟨fun i hi => ?_, fun t ht => ?_⟩
    · obtain ⟨u1, u2, u3⟩ := c4 i (by omega)
      have u1 : s_i ρc (z + (14 + 1)) i = _ := u1
      have u2 : s_i ρc (z + (14 + 2)) i = _ := u2
      have u3 : s_i ρc (z + (14 + 3)) i = _ := u3
      rw [u1, u2, u3, x6, x8, x9, w67 i (by omega), w67 (6 + i) (by omega), w67 (12 + i) (by omega)]
      exact hW.2.1.1 i hi
    · have u : s_i ρc (z + (14 + 7)) t = _ := c5 t (by omega)
      rw [u, x13, w70 t ht]
      exact hW.2.1.2 t ht
  have hal : Alk z ρc κ := (((Alk.keep sA.1 (c2.inL (by decide) : Fr (PL z LW) ρa ρc)).symm.trans (Alk.keep hS (L14_W hA.1)).symm).trans (Alk.keep hS (L14_W hB.1))).trans (Alk.keep sB.1 fK)
  have hh : s_i ρc (z + 14) 0 = s_i κ (z + 1064) 0 := by
    rw [c3, hA.1.ki hS 6 0 (by decide) rfl, hW.1, k2.ki sB.1 1064 0 (by decide) rfl, hB.1.ki hS 1064 0 (by decide) rfl]
  obtain ⟨ra, rb, l1, l2, l3, l4, l5⟩ := steps_two sC sK hal hR hh hN rp
  have fa : Fr (PL z LW) ρc ra := LX_W (Or.inr rfl) l3
  have fb : Fr (PL z LW) κ rb := LM_W l4
  have sra := sC.keep fa
  have srb := sK.keep fb
  obtain ⟨ρ', y1, y2, y3, y4⟩ := layBack_eq srb.1 srb.2.2.1
  have v67 : ∀ j, s_i ra (z + 1067) j = s_i ρa (z + 1067) j := fun j => (l3.kia sC.1 1067 (by decide) rfl j).trans (c2.kia sA.1 1067 (by decide) rfl j)
  have v70 : ∀ j, s_i ra (z + 1070) j = s_i ρa (z + 1070) j := fun j => (l3.kia sC.1 1070 (by decide) rfl j).trans (c2.kia sA.1 1070 (by decide) rfl j)
  refine ⟨ra, κ, rb, ρ', ?_, k1, l2, y1, l5, sra, srb, ((Alk.keep sC.1 fa).symm.trans hal).trans (Alk.keep sK.1 fb), ⟨((hA.1.transL c2).transL l3).inL (by decide), fun j hj => by rw [v67]; exact hA.2.1 j hj, fun t ht => by rw [v70]; exact hA.2.2 t ht⟩, ⟨(((hB.1.transL k2).transL l4).transL y2).inL (by decide), fun j hj => ?_, fun t ht => ?_⟩⟩
  · unfold fX0_live
    rw [e_0_8 sA.1, e_0_7 sA.1, e_14_k sA.1, c1, sb, l1, sb]
  · rw [y3 j hj, l4.kia sK.1 1068 (by decide) rfl, k3 j hj]; exact hB.2.1 j hj
  · rw [y4 t ht, l4.kia sK.1 1071 (by decide) rfl, k4 t ht]; exact hB.2.2 t ht
theorem Bs.wd (hS : Sh σ z) (hW : Wd σ z n nt) (hn : n ≤ 6) (hB : Bs z nt σ ρb) : Wd ρb z n nt := by
  obtain ⟨h1, ⟨h2, h3⟩, h4, h5⟩ := hW
  have k6 := hB.1.ki hS 6 0 (by decide) rfl
  have k64 := hB.1.ki hS 1064 0 (by decide) rfl
  have k7 := hB.1.kia hS 7 (by decide) rfl
  have k8 := hB.1.kia hS 8 (by decide) rfl
  have k9 := hB.1.kia hS 9 (by decide) rfl
  have k11 := hB.1.kia hS 11 (by decide) rfl
  have k13 := hB.1.kia hS 13 (by decide) rfl
  refine ⟨k6.trans (h1.trans k64.symm), ⟨fun i hi => ?_, fun t ht => ?_⟩, fun i hi => ?_, fun i hi h6 => ?_⟩
  · rw [hB.2.1 i (by omega), hB.2.1 (6 + i) (by omega), hB.2.1 (12 + i) (by omega)]
    simp only [Nat.reduceAdd, k7, k8, k9]
    exact h2 i hi
  · rw [hB.2.2 t ht]
    simp only [Nat.reduceAdd, k13]
    exact h3 t ht
  · rw [k11, hB.2.1 (18 + i) (by omega)]; exact h4 i hi
  · rw [k8, k9, k11]; exact h5 i hi h6
theorem Bs.refl : Bs z nt σ σ := ⟨Fr.refl, fun _ _ => rfl, fun _ _ => rfl⟩
theorem would_sim (hs : Stt z n nt σ) (hW : Wd σ z n nt) (a b c : Int32) : ∃ v σ1 σ2, fX0_would σ z a b c = some (v, σ1) ∧ fX7_would σ1 (z + 1064) a b c = some (v, σ2) ∧ Fr (PL z L14) σ σ2 ∧ Wd σ2 z n nt := by
  have hS := hs.1
  have hH := hs.2.1.1
  have hn := hH.1
  by_cases cc : (0 ≤ a ∧ a ≤ 3) ∧ (0 ≤ b ∧ b ≤ nI n - 1)
  · obtain ⟨c1, c2⟩ := cc
    by_cases c3 : 1 ≤ c ∧ c ≤ 60
    · obtain ⟨N, hN, rfl⟩ := in_60 c3
      obtain ⟨v, hv, rfl⟩ := in_lit (n := 3) rfl c1
      obtain ⟨h, hh, rfl⟩ := in_nat (by omega) c2
      obtain ⟨ra, -, -, -, x1, -, -, -, -, -, -, -, xb, -⟩ := live_two hs hW (Bs.refl (nt := nt)) (Bs.refl (nt := nt)) hN (a1 := 1) (a2 := 0) (Or.inl ⟨rfl, rfl⟩)
      obtain ⟨ra', κ, rb, ρ', y1, y2, y3, y4, y5, y6, y7, y8, y9, y10⟩ := live_two hs hW (Bs.refl (nt := nt)) xb hN (a1 := 1) (a2 := 0) (Or.inl ⟨rfl, rfl⟩)
      cases x1.symm.trans y1
      obtain ⟨x, w1, w2⟩ := worthOf_two (w := 14) (Or.inr rfl) y6.1 y7.1 y6.2.2.1 y7.2.2.1 hn y6.2.2.2.2.1 y8.2.2.1 y8.2.2.2.1 y8.2.2.2.2.2.2.1 y8.2.2.2.2.2.2.2.1 y5 (show v < 4 by omega) hh
      have hA := y6.1
      have kb := (hs.keep (L14_W xb.1)).2.1.1
      refine ⟨x, ra, ρ', ?_, ?_, y10.1, y10.wd hS hW hn⟩
      · unfold fX0_would
        simp only [isVisitor_eq, sb, if01, c1, c2, c3, and_self, if_true, i10, if_false, e_0_k hS, isHut_eq hS hH, areHours_eq, x1, e_0_8 hA, e_0_k hA, w1]
      · unfold fX7_would
        have e : ∀ τ y, lX7_would_38 (nI N) (z + 1064) τ y = lX7_sticksBehind_6 (nI N) (z + 1064) 0 τ y := fun τ y => rfl
        simp only [isVisitorM_eq, in_eq, sb, if01, c1, c2, c3, and_self, if_true, i10, if_false, e_1064_k hA, isHutM_eq hA kb, y2, e, y3, e_1064_k y7.1, w2, y4]
    · refine ⟨-3, σ, σ, ?_, ?_, Fr.refl, hW⟩
      · unfold fX0_would
        simp only [isVisitor_eq, sb, if01, e_0_k hS, isHut_eq hS hH, areHours_eq]
        rw [if_pos c1, if_pos c2, if_neg c3]
      · unfold fX7_would
        simp only [isVisitorM_eq, in_eq, sb, if01, e_1064_k hS, isHutM_eq hS hH]
        rw [if_pos c1, if_pos c2, if_neg c3]
  · refine ⟨-2, σ, σ, ?_, ?_, Fr.refl, hW⟩
    · unfold fX0_would
      simp only [isVisitor_eq, sb, if01, e_0_k hS, isHut_eq hS hH]
      by_cases c1 : 0 ≤ a ∧ a ≤ 3
      · rw [if_pos c1, if_neg (fun c2 => cc ⟨c1, c2⟩)]
      · rw [if_neg c1]
    · unfold fX7_would
      simp only [isVisitorM_eq, sb, if01, e_1064_k hS, isHutM_eq hS hH]
      by_cases c1 : 0 ≤ a ∧ a ≤ 3
      · rw [if_pos c1, if_neg (fun c2 => cc ⟨c1, c2⟩)]
      · rw [if_neg c1]
def smS (f : Nat → Int32) : Nat → Int32
  | 0 => 0
  | k + 1 => smS f k + f k
theorem smS_congr {f g : Nat → Int32} : ∀ k, (∀ i, i < k → f i = g i) → smS f k = smS g k
  | 0, _ => rfl
  | k + 1, h => by unfold smS; rw [smS_congr k (fun i hi => h i (by omega)), h k (by omega)]
theorem allSticks_eq (hs : Stt z n nt σ) : fX5_allSticks σ (z + 14) = some (smS (s_i σ (z + 15)) n) := by
  have hn := hs.2.1.1.1
  have key : loopF fuel (fun y => lX5_allSticks_4 σ (z + 14) y.1 y.2) (0, 0) = some (smS (s_i σ (z + 15)) n) := by
    refine loopF_seq (st := fun k => (smS (s_i σ (z + 15)) k, nI k)) n (fun k hk => ?_) ?_ fuel (fuel_lt (by omega))
    · show lX5_allSticks_4 σ (z + 14) (smS (s_i σ (z + 15)) k) (nI k) = _
      unfold lX5_allSticks_4
      rw [e_14_8 hs.1, e_0_i hs.1, hs.2.1.1.2.1, if_neg (nI_ge hk (by omega)), e_14_1 hs.1, a_15 hs.1 (by omega), nI_1]
      rfl
    · show lX5_allSticks_4 σ (z + 14) (smS (s_i σ (z + 15)) n) (nI n) = _
      unfold lX5_allSticks_4
      rw [e_14_8 hs.1, e_0_i hs.1, hs.2.1.1.2.1, if_pos (nI_le (Nat.le_refl n) (by omega))]
  unfold fX5_allSticks
  rw [key, sb]
theorem sticksM_eq (hs : Stt z n nt σ) : loopF fuel (fun y => lX7_sticksBehind_33 σ (z + 1064) y.1 y.2) (0, 0) = some (smS (s_i σ (z + 1067)) n) := by
  have hn := hs.2.1.1.1
  refine loopF_seq (st := fun k => (smS (s_i σ (z + 1067)) k, nI k)) n (fun k hk => ?_) ?_ fuel (fuel_lt (by omega))
  · show lX7_sticksBehind_33 σ (z + 1064) (smS (s_i σ (z + 1067)) k) (nI k) = _
    unfold lX7_sticksBehind_33
    rw [e_1064_i hs.1, hs.2.1.1.2.2, if_neg (nI_ge hk (by omega)), e_1064_4 hs.1, a_1067 hs.1 (by omega), nI_1]
    rfl
  · show lX7_sticksBehind_33 σ (z + 1064) (smS (s_i σ (z + 1067)) n) (nI n) = _
    unfold lX7_sticksBehind_33
    rw [e_1064_i hs.1, hs.2.1.1.2.2, if_pos (nI_le (Nat.le_refl n) (by omega))]
theorem lost_one (hs : Stt z n nt σ) (hW : Wd σ z n nt) (hA : Bs z nt σ ρa) (hB : Bs z nt σ ρb) {N : Nat} (hN : N ≤ 60) {a1 a2 : Int32} (rp : (a1 = 1 ∧ a2 = 0) ∨ (a1 = 0 ∧ a2 = 1)) : ∃ ra v ρ', fX0_live ρa z (nI N) a1 = some ra ∧ fX5_allSticks ra (z + 14) = some v ∧ fX7_sticksBehind ρb (z + 1064) (nI N) a2 = some (v, ρ') ∧ Bs z nt σ ra ∧ Bs z nt σ ρ' := by
  obtain ⟨ra, κ, rb, ρ', y1, y2, y3, y4, y5, y6, y7, y8, y9, y10⟩ := live_two hs hW hA hB hN rp
  refine ⟨ra, _, ρ', y1, allSticks_eq y6, ?_, y9, y10⟩
  have hb := (hs.keep (L14_W hB.1)).1
  unfold fX7_sticksBehind
  rw [e_1064_k hb, y2, sb, y3, sb, sticksM_eq y7, sb, e_1064_k y7.1, y4, sb]
  congr 2
  exact (smS_congr n (fun i hi => (y5.1 i hi).1)).symm
theorem lost_sim (hs : Stt z n nt σ) (hW : Wd σ z n nt) (a : Int32) : ∃ v σ1 σ2, fX0_lost σ z a = some (v, σ1) ∧ fX7_lost σ1 (z + 1064) a = some (v, σ2) ∧ Fr (PL z L14) σ σ2 ∧ Wd σ2 z n nt := by
  have hS := hs.1
  have hn := hs.2.1.1.1
  by_cases c1 : 1 ≤ a ∧ a ≤ 60
  · obtain ⟨N, hN, rfl⟩ := in_60 c1
    obtain ⟨ra, v0, -, x1, x2, -, xb, -⟩ := lost_one hs hW (Bs.refl (nt := nt)) (Bs.refl (nt := nt)) hN (a1 := 0) (a2 := 1) (Or.inr ⟨rfl, rfl⟩)
    obtain ⟨rc, v1, -, z1, z2, -, zb, -⟩ := lost_one hs hW xb (Bs.refl (nt := nt)) hN (a1 := 1) (a2 := 0) (Or.inl ⟨rfl, rfl⟩)
    obtain ⟨ra', v0', ρ1, p1, p2, p3, -, p5⟩ := lost_one hs hW (Bs.refl (nt := nt)) zb hN (a1 := 0) (a2 := 1) (Or.inr ⟨rfl, rfl⟩)
    cases x1.symm.trans p1
    cases x2.symm.trans p2
    obtain ⟨rc', v1', ρ2, q1, q2, q3, -, q5⟩ := lost_one hs hW xb p5 hN (a1 := 1) (a2 := 0) (Or.inl ⟨rfl, rfl⟩)
    cases z1.symm.trans q1
    cases z2.symm.trans q2
    have hA := (hs.keep (L14_W xb.1)).1
    have hC := (hs.keep (L14_W zb.1)).1
    have h1 := (hs.keep (L14_W p5.1)).1
    refine ⟨v0 - v1, rc, ρ2, ?_, ?_, q5.1, q5.wd hS hW hn⟩
    · unfold fX0_lost
      rw [areHours_eq, sb, if01, if_pos c1, e_0_k hS, x1, sb, e_0_8 hA, e_14_k hA, x2, sb, e_0_k hA, z1, sb, e_0_8 hC, e_14_k hC, z2, sb]
    · unfold fX7_lost
      rw [in_eq, sb, if01, if_pos c1, e_1064_k hC, p3, sb]
      simp only [un2]
      rw [e_1064_k h1, q3, sb]
      rfl
  · refine ⟨-3, σ, σ, ?_, ?_, Fr.refl, hW⟩
    · unfold fX0_lost
      rw [areHours_eq, sb, if01, if_neg c1]
    · unfold fX7_lost
      rw [in_eq, sb, if01, if_neg c1]
end LIVE
