set_option maxRecDepth 100000
/-! the small methods that change something -/
theorem Fr.aS {σ σ1 : St} {z o j : Nat} {L : PlL} {v : Int32} (h : Fr (PL z L) σ σ1) (ho : plin [(o, some j)] L = true) : Fr (PL z L) σ (setI σ1 (z + o) j v) := by
  have h2 : Fr (PL z L) σ1 (setI σ1 (z + o) j v) := (Fr.sI (o := o) (j := j)).inL ho
  exact (h.trans h2).mono fun a j q => q.elim id id
theorem Fr.aS0 {σ σ1 : St} {z j : Nat} {L : PlL} {v : Int32} (h : Fr (PL z L) σ σ1) (ho : plin [(0, some j)] L = true) : Fr (PL z L) σ (setI σ1 z j v) := h.aS (o := 0) ho
theorem Fr.aR {σ σ1 : St} {z o j : Nat} {L : PlL} {v : Option Nat} (h : Fr (PL z L) σ σ1) (ho : plin [(o, none)] L = true) : Fr (PL z L) σ (setR σ1 (z + o) j v) := by
  have h2 : Fr (PL z L) σ1 (setR σ1 (z + o) j v) := (Fr.sRa (o := o) (j := j)).inL ho
  exact (h.trans h2).mono fun a j q => q.elim id id
theorem Sh_born {σ : St} {z : Nat} {k : Nat ⊕ Nat × Nat} (h : Sh σ z) : Sh (born σ k) z := h.born
theorem Sh_sR {σ : St} {z o j : Nat} {v : Option Nat} (h : Sh σ z) (ho : plsh [(o, none)] = true) : Sh (setR σ (z + o) j v) z := h.sR ho
theorem Sh.nz {σ : St} {z : Nat} (h : Sh σ z) (o : Nat) (ho : o < 1094) : (z + o = s_z σ) = False := eq_false (by have := h.2.2.2.1; omega)
theorem Sh.nz' {σ : St} {z : Nat} (h : Sh σ z) (o : Nat) (ho : o < 1094) : (s_z σ = z + o) = False := eq_false (by have := h.2.2.2.1; omega)
theorem Sh.n0 {σ : St} {z : Nat} (h : Sh σ z) : (z = s_z σ) = False := eq_false (by have := h.2.2.2.1; omega)
theorem Sh.n0' {σ : St} {z : Nat} (h : Sh σ z) : (s_z σ = z) = False := eq_false (by have := h.2.2.2.1; omega)
theorem isSpan_eq (σ : St) (v : Int32) : fX0_isSpan σ v = some (if 0 ≤ v ∧ v ≤ 30 then 1 else 0) := by
  unfold fX0_isSpan
  rw [isIn_lit σ σ v 0 30 (lo' := 0) (hi' := 30) rfl rfl, in_eq, sb, bz_01]
theorem sub1 (n : Nat) : nI n + 1 - 1 = nI n := Int32.add_sub_cancel _ _
theorem nI_lo (c : Int32) (m n : Nat) (hc : c = nI m) : c + nI n = nI (m + n) := by rw [hc, nI_add]
theorem hutM_eq {σ : St} {z n : Nat} (hS : Sh σ z) (hn : n < 6) (h3 : s_i σ (z + 1064) 1 = nI n) {a b c : Int32} (c1 : 0 ≤ a ∧ a ≤ 30) (c2 : 0 ≤ b ∧ b ≤ 30) (c3 : 0 ≤ c ∧ c ≤ 99) : fX7_hut σ (z + 1064) a b c = some (nI n, setI (setI (setI (setI (setI (setI (setI (setI σ (z + 1065) n a) (z + 1066) n b) (z + 1067) n c) (z + 1067) (6 + n) 0) (z + 1067) (12 + n) 0) (z + 1067) (18 + n) (-1)) (z + 1077) n 0) (z + 1064) 1 (nI n + 1)) := by
  have c5 : ¬ nI n = 6 := lit_ne 6 6 n rfl (by omega) (by omega) (by decide)
  have l6 : 6 + n < 24 := by omega
  have l12 : 12 + n < 24 := by omega
  have l18 : 18 + n < 24 := by omega
  have ln : n < 24 := by omega
  unfold fX7_hut
  simp (maxDischargeDepth := 9) only [e_0_0, e_0_1, e_0_2, e_0_4, e_0_6, e_0_7, e_0_8, e_0_9, e_0_10, e_0_11, e_0_13, e_0_14, e_0_15, e_0_16, e_0_17, e_0_18, e_0_20, e_0_21, e_0_22, e_0_24, e_0_25, e_0_26, e_0_28, e_0_30, e_0_32, e_0_i, e_0_p, e_0_k, e_6_1, e_6_2, e_6_3, e_6_4, e_6_5, e_6_6, e_6_7, e_6_8, e_6_i, e_6_p, e_6_k, e_14_1, e_14_2, e_14_3, e_14_4, e_14_5, e_14_6, e_14_7, e_14_8, e_14_i, e_14_p, e_14_k, e_25_3, e_25_i, e_25_p, e_25_k, e_1064_2, e_1064_3, e_1064_4, e_1064_5, e_1064_6, e_1064_8, e_1064_9, e_1064_10, e_1064_11, e_1064_12, e_1064_19, e_1064_27, e_1064_28, e_1064_29, e_1064_30, e_1064_31, e_1064_32, e_1064_33, e_1064_34, e_1064_36, e_1064_37, e_1064_39, e_1064_40, e_1064_41, e_1064_42, e_1064_44, e_1064_46, e_1064_48, e_1064_49, e_1064_i, e_1064_p, e_1064_k, e_1064_l, e_1064_pl, a_5, s_5, a_7, s_7, a_8, s_8, a_9, s_9, a_10, s_10, a_11, s_11, a_13, s_13, a_15, s_15, a_16, s_16, a_17, s_17, a_18, s_18, a_19, s_19, a_21, s_21, a_24, s_24, a_26, s_26, a_27, s_27, a_28, s_28, a_29, s_29, a_30, s_30, a_31, s_31, a_32, s_32, a_33, s_33, a_34, s_34, a_36, s_36, a_1065, s_1065, a_1066, s_1066, a_1067, s_1067, a_1068, s_1068, a_1069, s_1069, a_1070, s_1070, a_1071, s_1071, a_1072, s_1072, a_1073, s_1073, a_1074, s_1074, a_1075, s_1075, a_1076, s_1076, a_1077, s_1077, a_1078, s_1078, a_1079, s_1079, a_1080, s_1080, a_1081, s_1081, a_1082, s_1082, a_1083, s_1083, a_1084, s_1084, a_1085, s_1085, a_1086, s_1086, a_1087, s_1087, a_1088, s_1088, a_1089, s_1089, a_1090, s_1090, a_1091, s_1091, a_1092, s_1092, a_1093, s_1093, a_3, q_3, s_3, a_4, q_4, s_4, a_12, q_12, s_12, a_20, q_20, s_20, a_22, q_22, s_22, a_23, q_23, s_23, a_35, q_35, s_35, a_37, q_37, s_37, a_38, q_38, s_38, Sh_setI, Sh_setL, i_setI, r_setI, k_setI, z_setI, i_setR, r_setR, k_setR, z_setR, up2, Nat.add_left_cancel_iff, Nat.reduceEqDiff, Nat.reduceAdd, false_and, true_and, and_false, and_true, if_true, if_false, reduceIte, ite_true, ite_false, sb, in_eq, if01, jn, o_let, un2, o_new, o_pI_eq, k_born, Sh_born, Sh_sR, i_born, r_born, z_born, Nat.reduceLT, Nat.left_eq_add, Nat.add_eq_left, reduceCtorEq, Option.some.injEq, Sum.inl.injEq, Nat.reduceEqDiff, eq_self, Sh_setI, Sh_setL, hS, hn, l6, l12, l18, ln, c1, c2, c3, and_self, i10, h3, c5, nI_lo 6 6 n rfl, nI_lo 12 12 n rfl, nI_lo 18 18 n rfl, sub1]
theorem sn_3 {α : Type} {σ : St} {z k v : Nat} {K : St → Option α} (h : Sh σ z) (hk : k < 6) (hv : s_k σ v = some (.inl 6)) : o_sR σ (z + 3) 3 (nI k) v K = K (setR σ (z + 3) k (some v)) := s_3 h hk hv rfl
theorem ps3 : plsh [(3, none)] = true := by decide
theorem sn_4 {α : Type} {σ : St} {z k v : Nat} {K : St → Option α} (h : Sh σ z) (hk : k < 40) (hv : s_k σ v = some (.inl 7)) : o_sR σ (z + 4) 4 (nI k) v K = K (setR σ (z + 4) k (some v)) := s_4 h hk hv rfl
theorem ps4 : plsh [(4, none)] = true := by decide
theorem sn_35 {α : Type} {σ : St} {z k v : Nat} {K : St → Option α} (h : Sh σ z) (hk : k < 16) (hv : s_k σ v = some (.inl 15)) : o_sR σ (z + 35) 8 (nI k) v K = K (setR σ (z + 35) k (some v)) := s_35 h hk hv rfl
theorem ps35 : plsh [(35, none)] = true := by decide
theorem sn_37 {α : Type} {σ : St} {z k v : Nat} {K : St → Option α} (h : Sh σ z) (hk : k < 8) (hv : s_k σ v = some (.inl 15)) : o_sR σ (z + 37) 8 (nI k) v K = K (setR σ (z + 37) k (some v)) := s_37 h hk hv rfl
theorem ps37 : plsh [(37, none)] = true := by decide
theorem sn_38 {α : Type} {σ : St} {z k v : Nat} {K : St → Option α} (h : Sh σ z) (hk : k < 10) (hv : s_k σ v = some (.inl 6)) : o_sR σ (z + 38) 3 (nI k) v K = K (setR σ (z + 38) k (some v)) := s_38 h hk hv rfl
theorem ps38 : plsh [(38, none)] = true := by decide
theorem hutX_eq {σ : St} {z n : Nat} (hS : Sh σ z) (hn : n < 6) (h3 : s_i σ z 3 = nI n) {a b c : Int32} (c1 : 0 ≤ a ∧ a ≤ 30) (c2 : 0 ≤ b ∧ b ≤ 30) (c3 : 0 ≤ c ∧ c ≤ 99) : fX0_hut σ z a b c = some (nI n, setI (setI (setR (setI (setI (born σ (.inl 6)) (s_z σ) 0 a) (s_z σ) 1 b) (z + 3) n (some (s_z σ))) (z + 7) n c) z 3 (nI n + 1)) := by
  have c5 : ¬ nI n = 6 := lit_ne 6 6 n rfl (by omega) (by omega) (by decide)
  unfold fX0_hut fX8_init
  simp (maxDischargeDepth := 9) only [e_0_0, e_0_1, e_0_2, e_0_4, e_0_6, e_0_7, e_0_8, e_0_9, e_0_10, e_0_11, e_0_13, e_0_14, e_0_15, e_0_16, e_0_17, e_0_18, e_0_20, e_0_21, e_0_22, e_0_24, e_0_25, e_0_26, e_0_28, e_0_30, e_0_32, e_0_i, e_0_p, e_0_k, e_6_1, e_6_2, e_6_3, e_6_4, e_6_5, e_6_6, e_6_7, e_6_8, e_6_i, e_6_p, e_6_k, e_14_1, e_14_2, e_14_3, e_14_4, e_14_5, e_14_6, e_14_7, e_14_8, e_14_i, e_14_p, e_14_k, e_25_3, e_25_i, e_25_p, e_25_k, e_1064_2, e_1064_3, e_1064_4, e_1064_5, e_1064_6, e_1064_8, e_1064_9, e_1064_10, e_1064_11, e_1064_12, e_1064_19, e_1064_27, e_1064_28, e_1064_29, e_1064_30, e_1064_31, e_1064_32, e_1064_33, e_1064_34, e_1064_36, e_1064_37, e_1064_39, e_1064_40, e_1064_41, e_1064_42, e_1064_44, e_1064_46, e_1064_48, e_1064_49, e_1064_i, e_1064_p, e_1064_k, e_1064_l, e_1064_pl, a_5, s_5, a_7, s_7, a_8, s_8, a_9, s_9, a_10, s_10, a_11, s_11, a_13, s_13, a_15, s_15, a_16, s_16, a_17, s_17, a_18, s_18, a_19, s_19, a_21, s_21, a_24, s_24, a_26, s_26, a_27, s_27, a_28, s_28, a_29, s_29, a_30, s_30, a_31, s_31, a_32, s_32, a_33, s_33, a_34, s_34, a_36, s_36, a_1065, s_1065, a_1066, s_1066, a_1067, s_1067, a_1068, s_1068, a_1069, s_1069, a_1070, s_1070, a_1071, s_1071, a_1072, s_1072, a_1073, s_1073, a_1074, s_1074, a_1075, s_1075, a_1076, s_1076, a_1077, s_1077, a_1078, s_1078, a_1079, s_1079, a_1080, s_1080, a_1081, s_1081, a_1082, s_1082, a_1083, s_1083, a_1084, s_1084, a_1085, s_1085, a_1086, s_1086, a_1087, s_1087, a_1088, s_1088, a_1089, s_1089, a_1090, s_1090, a_1091, s_1091, a_1092, s_1092, a_1093, s_1093, a_3, q_3, s_3, a_4, q_4, s_4, a_12, q_12, s_12, a_20, q_20, s_20, a_22, q_22, s_22, a_23, q_23, s_23, a_35, q_35, s_35, a_37, q_37, s_37, a_38, q_38, s_38, Sh_setI, Sh_setL, i_setI, r_setI, k_setI, z_setI, i_setR, r_setR, k_setR, z_setR, up2, Nat.add_left_cancel_iff, Nat.reduceEqDiff, Nat.reduceAdd, false_and, true_and, and_false, and_true, if_true, if_false, reduceIte, ite_true, ite_false, sb, in_eq, if01, jn, o_let, un2, o_new, o_pI_eq, k_born, Sh_born, Sh_sR, i_born, r_born, z_born, Nat.reduceLT, Nat.left_eq_add, Nat.add_eq_left, reduceCtorEq, Option.some.injEq, Sum.inl.injEq, Nat.reduceEqDiff, eq_self, Sh_setI, Sh_setL, hS, hn, c1, c2, c3, and_self, i10, h3, c5, sub1, isSpan_eq, isIn_lit σ σ c 0 99 (lo' := 0) (hi' := 99) rfl rfl, hS.nz, hS.n0, hS.nz', hS.n0', sn_3, ps3]
theorem hut_sim {σ : St} {z n nt : Nat} (hS : Sh σ z) (hH : Hu σ z n) (hW : Wd σ z n nt) (hA : Ha σ z n) (a b c : Int32) : ∃ v σ1 σ2, fX0_hut σ z a b c = some (v, σ1) ∧ fX7_hut σ1 (z + 1064) a b c = some (v, σ2) ∧ Fr (PL z [(3, none), (7, none), (0, some 3), (1065, none), (1066, none), (1067, none), (1077, none), (1064, some 1)]) σ σ2 ∧ ∃ n', Hu σ2 z n' ∧ Wd σ2 z n' nt ∧ Ha σ2 z n' := by
  have h1 := hH.1.1
  have h2 := hH.1.2.1
  have h3 := hH.1.2.2
  have out : ∀ v : Int32, fX0_hut σ z a b c = some (v, σ) → fX7_hut σ (z + 1064) a b c = some (v, σ) → ∃ v σ1 σ2, fX0_hut σ z a b c = some (v, σ1) ∧ fX7_hut σ1 (z + 1064) a b c = some (v, σ2) ∧ Fr (PL z [(3, none), (7, none), (0, some 3), (1065, none), (1066, none), (1067, none), (1077, none), (1064, some 1)]) σ σ2 ∧ ∃ n', Hu σ2 z n' ∧ Wd σ2 z n' nt ∧ Ha σ2 z n' := fun v e1 e2 => ⟨v, σ, σ, e1, e2, Fr.refl, n, hH, hW, hA⟩
  by_cases cc : (0 ≤ a ∧ a ≤ 30) ∧ (0 ≤ b ∧ b ≤ 30) ∧ (0 ≤ c ∧ c ≤ 99)
  · obtain ⟨c1, c2, c3⟩ := cc
    by_cases c4 : n = 6
    · subst c4
      refine out (-5) ?_ ?_
      · unfold fX0_hut
        simp only [isSpan_eq, isIn_lit σ σ c 0 99 (lo' := 0) (hi' := 99) rfl rfl, in_eq, sb, i10, c1, c2, c3, and_self, if_true, if_false, e_0_i hS, h2]
        rw [if_pos (by decide)]
      · unfold fX7_hut
        simp only [in_eq, sb, i10, c1, c2, c3, and_self, if_true, if_false, e_1064_i hS, h3]
        rw [if_pos (by decide)]
    · have hn : n < 6 := by omega
      obtain ⟨σ1, e1⟩ : ∃ σ1, σ1 = setI (setI (setR (setI (setI (born σ (.inl 6)) (s_z σ) 0 a) (s_z σ) 1 b) (z + 3) n (some (s_z σ))) (z + 7) n c) z 3 (nI n + 1) := ⟨_, rfl⟩
      have hF1 : Fr (PL z [(3, none), (7, none), (0, some 3)]) σ σ1 := by rw [e1]; (repeat (first | exact Fr.refl | refine Fr.aS ?_ rfl | refine Fr.aS0 ?_ rfl | refine Fr.aR ?_ rfl | refine Fr.newI ?_ (Nat.le_refl _) | refine Fr.brn ?_))
      have hS1 : Sh σ1 z := hF1.sh hS (by decide)
      have g3 : s_i σ1 (z + 1064) 1 = nI n := (hF1.ki hS 1064 1 (by decide) rfl).trans h3
      obtain ⟨σ2, e2⟩ : ∃ σ2, σ2 = setI (setI (setI (setI (setI (setI (setI (setI σ1 (z + 1065) n a) (z + 1066) n b) (z + 1067) n c) (z + 1067) (6 + n) 0) (z + 1067) (12 + n) 0) (z + 1067) (18 + n) (-1)) (z + 1077) n 0) (z + 1064) 1 (nI n + 1) := ⟨_, rfl⟩
      have hF : Fr (PL z [(3, none), (7, none), (0, some 3), (1065, none), (1066, none), (1067, none), (1077, none), (1064, some 1)]) σ σ2 := by rw [e2, e1]; (repeat (first | exact Fr.refl | refine Fr.aS ?_ rfl | refine Fr.aS0 ?_ rfl | refine Fr.aR ?_ rfl | refine Fr.newI ?_ (Nat.le_refl _) | refine Fr.brn ?_))
      refine ⟨nI n, σ1, σ2, ?_, ?_, hF, n + 1, ?_, ?_, ?_⟩
      · rw [e1]; exact hutX_eq hS hn h2 c1 c2 c3
      · rw [e2]; exact hutM_eq hS1 hn g3 c1 c2 c3
      · refine ⟨⟨by omega, ?_, ?_⟩, fun k hk => ?_⟩
        · rw [e2, e1]; simp [i_setI, up2, nI_1]
        · rw [e2]; simp [i_setI, up2, nI_1]
        · by_cases hkn : k = n
          · subst hkn
            refine ⟨s_z σ, ?_, ?_, ?_, ?_⟩
            · rw [e2, e1]; simp [r_setI, r_setR, up2]
            · rw [e2, e1]; simp [k_setI, k_setR, k_born]
            · rw [e2, e1]; simp [i_setI, i_setR, up2, hS.nz, hS.nz', hS.n0, hS.n0']
            · rw [e2, e1]; simp [i_setI, i_setR, up2, hS.nz, hS.nz', hS.n0, hS.n0']
          · obtain ⟨p, p1, p2, p3, p4⟩ := hH.2 k (by omega)
            obtain ⟨q1, q2⟩ := hF.kd hS p2 (by decide)
            refine ⟨p, ?_, q1, ?_, ?_⟩
            · rw [e2, e1]; simp [r_setI, r_setR, up2, r_born, hS.nz, hkn]; exact p1
            · rw [(q2 0).1, p3, e2, e1]; simp [i_setI, i_setR, up2, i_born, hS.nz, hS.nz', hS.n0, hS.n0', hkn]
            · rw [(q2 1).1, p4, e2, e1]; simp [i_setI, i_setR, up2, i_born, hS.nz, hS.nz', hS.n0, hS.n0', hkn]
      · have w1067 : ∀ j, j ≠ n → j ≠ 6 + n → j ≠ 12 + n → j ≠ 18 + n → s_i σ2 (z + 1067) j = s_i σ (z + 1067) j := fun j j1 j2 j3 j4 => by
          rw [e2, e1]; simp [i_setI, i_setR, up2, i_born, hS.nz, j1, j2, j3, j4]
        have w7 : ∀ j, j ≠ n → s_i σ2 (z + 7) j = s_i σ (z + 7) j := fun j j1 => by
          rw [e2, e1]; simp [i_setI, i_setR, up2, i_born, hS.nz, j1]
        have n1 : s_i σ2 (z + 1067) n = c := by
          rw [e2]; simp [i_setI, up2, show ¬ n = 6 + n by omega, show ¬ n = 12 + n by omega, show ¬ n = 18 + n by omega]
        have n2 : s_i σ2 (z + 1067) (6 + n) = 0 := by rw [e2]; simp [i_setI, up2, show ¬ 6 + n = n by omega]
        have n3 : s_i σ2 (z + 1067) (12 + n) = 0 := by rw [e2]; simp [i_setI, up2, show ¬ 6 + n = n by omega]
        have n4 : s_i σ2 (z + 1067) (18 + n) = -1 := by rw [e2]; simp [i_setI, up2, show ¬ 6 + n = n by omega]
        have k8 := hF.kia hS 8 (by decide) rfl
        have k9 := hF.kia hS 9 (by decide) rfl
        have k11 := hF.kia hS 11 (by decide) rfl
        have k13 := hF.kia hS 13 (by decide) rfl
        have k1070 := hF.kia hS 1070 (by decide) rfl
        obtain ⟨g1, ⟨g2, g4⟩, g5, g6⟩ := hW
        refine ⟨(hF.ki hS 6 0 (by decide) rfl).trans (g1.trans (hF.ki hS 1064 0 (by decide) rfl).symm), ⟨fun k hk => ?_, fun t ht => ?_⟩, fun k hk => ?_, fun k hk h6 => ?_⟩
        · show s_i σ2 (z + 7) k = _ ∧ s_i σ2 (z + 8) k = _ ∧ s_i σ2 (z + 9) k = _ ∧ _
          rw [k8, k9]
          by_cases hkn : k = n
          · subst hkn
            obtain ⟨d1, d2, -⟩ := g6 k (Nat.le_refl k) hn
            rw [n1, n2, n3, d1, d2]
            obtain ⟨q, hq, eq⟩ := in_lit (n := 99) rfl c3
            exact ⟨by rw [e2, e1]; simp [i_setI, up2], rfl, rfl, ⟨q, hq, eq⟩, 0, by omega, rfl⟩
          · rw [w1067 k hkn (by omega) (by omega) (by omega), w1067 (6 + k) (by omega) (by omega) (by omega) (by omega), w1067 (12 + k) (by omega) (by omega) (by omega) (by omega), w7 k hkn]
            exact g2 k (by omega)
        · show s_i σ2 (z + 13) t = _
          rw [k13, k1070]; exact g4 t ht
        · rw [k11]
          by_cases hkn : k = n
          · subst hkn
            rw [n4, (g6 k (Nat.le_refl k) hn).2.2]
          · rw [w1067 (18 + k) (by omega) (by omega) (by omega) (by omega)]; exact g5 k (by omega)
        · rw [k8, k9, k11]; exact g6 k (by omega) h6
      · refine ⟨fun k hk => ?_, fun k hk h6 => (hF.kra hS 22 (by decide) rfl k).trans (hA.2 k (by omega) h6)⟩
        by_cases hkn : k = n
        · subst hkn
          exact Or.inl ⟨(hF.kra hS 22 (by decide) rfl k).trans (hA.2 k (Nat.le_refl k) hn), by rw [e2]; simp [i_setI, up2]⟩
        · refine (hA.1 k (by omega)).nw hS (hF.nw (by decide)) (hF.kra hS 22 (by decide) rfl k) ?_ (fun j _ => hF.kia hS 1078 (by decide) rfl _)
          rw [e2, e1]; simp [i_setI, i_setR, up2, i_born, hS.nz, hkn]
  · refine out (-3) ?_ ?_
    · unfold fX0_hut
      simp only [isSpan_eq, isIn_lit σ σ c 0 99 (lo' := 0) (hi' := 99) rfl rfl, in_eq, sb, if01]
      by_cases c1 : 0 ≤ a ∧ a ≤ 30
      · by_cases c2 : 0 ≤ b ∧ b ≤ 30
        · rw [if_pos c1, if_pos c2, if_neg (fun c3 => cc ⟨c1, c2, c3⟩)]
        · rw [if_pos c1, if_neg c2]
      · rw [if_neg c1]
    · unfold fX7_hut
      simp only [in_eq, sb, if01]
      by_cases c1 : 0 ≤ a ∧ a ≤ 30
      · by_cases c2 : 0 ≤ b ∧ b ≤ 30
        · rw [if_pos c1, if_pos c2, if_neg (fun c3 => cc ⟨c1, c2, c3⟩)]
        · rw [if_pos c1, if_neg c2]
      · rw [if_neg c1]
