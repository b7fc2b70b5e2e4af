set_option maxRecDepth 100000
/-! spots, choices, pairs, count -/
theorem spot_sim {σ : St} {z n : Nat} (hS : Sh σ z) (hP : Sp σ z n) (a b : Int32) : ∃ v σ1 σ2, fX0_spot σ z a b = some (v, σ1) ∧ fX7_spot σ1 (z + 1064) a b = some (v, σ2) ∧ Fr (PL z [(38, none), (0, some 31), (1092, none), (1093, none), (1064, some 47)]) σ σ2 ∧ ∃ n', Sp σ2 z n' := by
  obtain ⟨h1, h2, h3, h4⟩ := hP
  by_cases cc : (0 ≤ a ∧ a ≤ 30) ∧ (0 ≤ b ∧ b ≤ 30)
  · obtain ⟨c1, c2⟩ := cc
    by_cases c4 : n = 10
    · subst c4
      refine ⟨-5, σ, σ, ?_, ?_, Fr.refl, 10, h1, h2, h3, h4⟩
      · unfold fX0_spot
        simp only [isSpan_eq, in_eq, sb, i10, c1, c2, and_self, if_true, if_false, e_0_i hS, h2]
        rw [if_pos (by decide)]
      · unfold fX7_spot
        simp only [in_eq, sb, i10, c1, c2, and_self, if_true, if_false, e_1064_i hS, h3]
        rw [if_pos (by decide)]
    · have hn : n < 10 := by omega
      have c5 : ¬ nI n = 10 := lit_ne 10 10 n rfl c4 (by omega) (by decide)
      obtain ⟨σ1, e1⟩ : ∃ σ1, σ1 = setI (setR (setI (setI (born σ (.inl 6)) (s_z σ) 0 a) (s_z σ) 1 b) (z + 38) n (some (s_z σ))) z 31 (nI n + 1) := ⟨_, rfl⟩
      have hF1 : Fr (PL z [(38, none), (0, some 31)]) σ σ1 := by rw [e1]; (repeat (first | exact Fr.refl | refine Fr.aS ?_ rfl | refine Fr.aS0 ?_ rfl | refine Fr.aR ?_ rfl | refine Fr.newI ?_ (Nat.le_refl _) | refine Fr.brn ?_))
      have hS1 : Sh σ1 z := hF1.sh hS (by decide)
      have g3 : s_i σ1 (z + 1064) 47 = nI n := (hF1.ki hS 1064 47 (by decide) rfl).trans h3
      obtain ⟨σ2, e2⟩ : ∃ σ2, σ2 = setI (setI (setI σ1 (z + 1092) n a) (z + 1093) n b) (z + 1064) 47 (nI n + 1) := ⟨_, rfl⟩
      have hF : Fr (PL z [(38, none), (0, some 31), (1092, none), (1093, none), (1064, some 47)]) σ σ2 := by rw [e2, e1]; (repeat (first | exact Fr.refl | refine Fr.aS ?_ rfl | refine Fr.aS0 ?_ rfl | refine Fr.aR ?_ rfl | refine Fr.newI ?_ (Nat.le_refl _) | refine Fr.brn ?_))
      refine ⟨nI n, σ1, σ2, ?_, ?_, hF, n + 1, by omega, ?_, ?_, fun k hk => ?_⟩
      · unfold fX0_spot fX8_init
        rw [e1]
        simp (maxDischargeDepth := 9) only [e_0_0, e_0_1, e_0_2, e_0_4, e_0_6, e_0_7, e_0_8, e_0_9, e_0_10, e_0_11, e_0_13, e_0_14, e_0_15, e_0_16, e_0_17, e_0_18, e_0_20, e_0_21, e_0_22, e_0_24, e_0_25, e_0_26, e_0_28, e_0_30, e_0_32, e_0_i, e_0_p, e_0_k, e_6_1, e_6_2, e_6_3, e_6_4, e_6_5, e_6_6, e_6_7, e_6_8, e_6_i, e_6_p, e_6_k, e_14_1, e_14_2, e_14_3, e_14_4, e_14_5, e_14_6, e_14_7, e_14_8, e_14_i, e_14_p, e_14_k, e_25_3, e_25_i, e_25_p, e_25_k, e_1064_2, e_1064_3, e_1064_4, e_1064_5, e_1064_6, e_1064_8, e_1064_9, e_1064_10, e_1064_11, e_1064_12, e_1064_19, e_1064_27, e_1064_28, e_1064_29, e_1064_30, e_1064_31, e_1064_32, e_1064_33, e_1064_34, e_1064_36, e_1064_37, e_1064_39, e_1064_40, e_1064_41, e_1064_42, e_1064_44, e_1064_46, e_1064_48, e_1064_49, e_1064_i, e_1064_p, e_1064_k, e_1064_l, e_1064_pl, a_5, s_5, a_7, s_7, a_8, s_8, a_9, s_9, a_10, s_10, a_11, s_11, a_13, s_13, a_15, s_15, a_16, s_16, a_17, s_17, a_18, s_18, a_19, s_19, a_21, s_21, a_24, s_24, a_26, s_26, a_27, s_27, a_28, s_28, a_29, s_29, a_30, s_30, a_31, s_31, a_32, s_32, a_33, s_33, a_34, s_34, a_36, s_36, a_1065, s_1065, a_1066, s_1066, a_1067, s_1067, a_1068, s_1068, a_1069, s_1069, a_1070, s_1070, a_1071, s_1071, a_1072, s_1072, a_1073, s_1073, a_1074, s_1074, a_1075, s_1075, a_1076, s_1076, a_1077, s_1077, a_1078, s_1078, a_1079, s_1079, a_1080, s_1080, a_1081, s_1081, a_1082, s_1082, a_1083, s_1083, a_1084, s_1084, a_1085, s_1085, a_1086, s_1086, a_1087, s_1087, a_1088, s_1088, a_1089, s_1089, a_1090, s_1090, a_1091, s_1091, a_1092, s_1092, a_1093, s_1093, a_3, q_3, s_3, a_4, q_4, s_4, a_12, q_12, s_12, a_20, q_20, s_20, a_22, q_22, s_22, a_23, q_23, s_23, a_35, q_35, s_35, a_37, q_37, s_37, a_38, q_38, s_38, Sh_setI, Sh_setL, i_setI, r_setI, k_setI, z_setI, i_setR, r_setR, k_setR, z_setR, up2, Nat.add_left_cancel_iff, Nat.reduceEqDiff, Nat.reduceAdd, false_and, true_and, and_false, and_true, if_true, if_false, reduceIte, ite_true, ite_false, sb, in_eq, if01, jn, o_let, un2, o_new, o_pI_eq, k_born, Sh_born, Sh_sR, i_born, r_born, z_born, Nat.reduceLT, Nat.left_eq_add, Nat.add_eq_left, reduceCtorEq, Option.some.injEq, Sum.inl.injEq, Nat.reduceEqDiff, eq_self, hS, hn, c1, c2, and_self, i10, h2, c5, sub1, isSpan_eq, hS.nz, hS.n0, hS.nz', hS.n0', sn_38, ps38]
      · unfold fX7_spot
        rw [e2]
        simp (maxDischargeDepth := 9) only [e_0_0, e_0_1, e_0_2, e_0_4, e_0_6, e_0_7, e_0_8, e_0_9, e_0_10, e_0_11, e_0_13, e_0_14, e_0_15, e_0_16, e_0_17, e_0_18, e_0_20, e_0_21, e_0_22, e_0_24, e_0_25, e_0_26, e_0_28, e_0_30, e_0_32, e_0_i, e_0_p, e_0_k, e_6_1, e_6_2, e_6_3, e_6_4, e_6_5, e_6_6, e_6_7, e_6_8, e_6_i, e_6_p, e_6_k, e_14_1, e_14_2, e_14_3, e_14_4, e_14_5, e_14_6, e_14_7, e_14_8, e_14_i, e_14_p, e_14_k, e_25_3, e_25_i, e_25_p, e_25_k, e_1064_2, e_1064_3, e_1064_4, e_1064_5, e_1064_6, e_1064_8, e_1064_9, e_1064_10, e_1064_11, e_1064_12, e_1064_19, e_1064_27, e_1064_28, e_1064_29, e_1064_30, e_1064_31, e_1064_32, e_1064_33, e_1064_34, e_1064_36, e_1064_37, e_1064_39, e_1064_40, e_1064_41, e_1064_42, e_1064_44, e_1064_46, e_1064_48, e_1064_49, e_1064_i, e_1064_p, e_1064_k, e_1064_l, e_1064_pl, a_5, s_5, a_7, s_7, a_8, s_8, a_9, s_9, a_10, s_10, a_11, s_11, a_13, s_13, a_15, s_15, a_16, s_16, a_17, s_17, a_18, s_18, a_19, s_19, a_21, s_21, a_24, s_24, a_26, s_26, a_27, s_27, a_28, s_28, a_29, s_29, a_30, s_30, a_31, s_31, a_32, s_32, a_33, s_33, a_34, s_34, a_36, s_36, a_1065, s_1065, a_1066, s_1066, a_1067, s_1067, a_1068, s_1068, a_1069, s_1069, a_1070, s_1070, a_1071, s_1071, a_1072, s_1072, a_1073, s_1073, a_1074, s_1074, a_1075, s_1075, a_1076, s_1076, a_1077, s_1077, a_1078, s_1078, a_1079, s_1079, a_1080, s_1080, a_1081, s_1081, a_1082, s_1082, a_1083, s_1083, a_1084, s_1084, a_1085, s_1085, a_1086, s_1086, a_1087, s_1087, a_1088, s_1088, a_1089, s_1089, a_1090, s_1090, a_1091, s_1091, a_1092, s_1092, a_1093, s_1093, a_3, q_3, s_3, a_4, q_4, s_4, a_12, q_12, s_12, a_20, q_20, s_20, a_22, q_22, s_22, a_23, q_23, s_23, a_35, q_35, s_35, a_37, q_37, s_37, a_38, q_38, s_38, Sh_setI, Sh_setL, i_setI, r_setI, k_setI, z_setI, i_setR, r_setR, k_setR, z_setR, up2, Nat.add_left_cancel_iff, Nat.reduceEqDiff, Nat.reduceAdd, false_and, true_and, and_false, and_true, if_true, if_false, reduceIte, ite_true, ite_false, sb, in_eq, if01, jn, o_let, un2, o_new, o_pI_eq, k_born, Sh_born, Sh_sR, i_born, r_born, z_born, Nat.reduceLT, Nat.left_eq_add, Nat.add_eq_left, reduceCtorEq, Option.some.injEq, Sum.inl.injEq, Nat.reduceEqDiff, eq_self, hS1, hn, c1, c2, and_self, i10, g3, c5, sub1]
      · rw [e2, e1]; simp [i_setI, up2, nI_1]
      · rw [e2]; simp [i_setI, up2, nI_1]
      · by_cases hkn : k = n
        · subst hkn
          refine ⟨s_z σ, ?_, ⟨?_, hS.2.2.2.1⟩, ?_, ?_, ?_, ?_⟩
          · rw [e2, e1]; simp [r_setI, r_setR, up2]
          · rw [e2, e1]; simp [k_setI, k_setR, k_born]
          · rw [e2, e1]; simp [i_setI, i_setR, up2, hS.nz, hS.nz', hS.n0, hS.n0']
          · rw [e2, e1]; simp [i_setI, i_setR, up2, hS.nz, hS.nz', hS.n0, hS.n0']
          · obtain ⟨q, hq, eq⟩ := in_lit (n := 30) rfl c1
            exact ⟨q, hq, by rw [e2]; simp [i_setI, up2, eq]⟩
          · obtain ⟨q, hq, eq⟩ := in_lit (n := 30) rfl c2
            exact ⟨q, hq, by rw [e2]; simp [i_setI, up2, eq]⟩
        · obtain ⟨p, p1, p2, p3, p4, p5⟩ := h4 k (by omega)
          obtain ⟨q1, q2⟩ := p2.nw hS (hF.nw (by decide))
          have r1 : s_i σ2 (z + 1092) k = s_i σ (z + 1092) k := by rw [e2, e1]; simp [i_setI, i_setR, up2, i_born, hS.nz, hkn]
          have r2 : s_i σ2 (z + 1093) k = s_i σ (z + 1093) k := by rw [e2, e1]; simp [i_setI, i_setR, up2, i_born, hS.nz, hkn]
          rw [r1, r2]
          refine ⟨p, ?_, q1, (q2 0).1.trans p3, (q2 1).1.trans p4, p5⟩
          rw [e2, e1]; simp [r_setI, r_setR, up2, r_born, hS.nz, hkn]; exact p1
  · refine ⟨-3, σ, σ, ?_, ?_, Fr.refl, n, h1, h2, h3, h4⟩
    · unfold fX0_spot
      simp only [isSpan_eq, in_eq, sb, if01]
      by_cases c1 : 0 ≤ a ∧ a ≤ 30
      · rw [if_pos c1, if_neg (fun c2 => cc ⟨c1, c2⟩)]
      · rw [if_neg c1]
    · unfold fX7_spot
      simp only [in_eq, sb, if01]
      by_cases c1 : 0 ≤ a ∧ a ≤ 30
      · rw [if_pos c1, if_neg (fun c2 => cc ⟨c1, c2⟩)]
      · rw [if_neg c1]
def Tld (a b c d : Int32) : Prop := (0 ≤ a ∧ a ≤ 99) ∧ (0 ≤ b ∧ b ≤ 99) ∧ (0 ≤ c ∧ c ≤ 99) ∧ (0 ≤ d ∧ d ≤ 99)
theorem told4 (a b c d : Int32) (X Y : Option Int32) : (if 0 ≤ a ∧ a ≤ 99 then (if 0 ≤ b ∧ b ≤ 99 then (if 0 ≤ c ∧ c ≤ 99 then (if 0 ≤ d ∧ d ≤ 99 then X else Y) else Y) else Y) else Y) = X ∧ Tld a b c d ∨ (if 0 ≤ a ∧ a ≤ 99 then (if 0 ≤ b ∧ b ≤ 99 then (if 0 ≤ c ∧ c ≤ 99 then (if 0 ≤ d ∧ d ≤ 99 then X else Y) else Y) else Y) else Y) = Y ∧ ¬ Tld a b c d := by
  by_cases h1 : 0 ≤ a ∧ a ≤ 99
  · by_cases h2 : 0 ≤ b ∧ b ≤ 99
    · by_cases h3 : 0 ≤ c ∧ c ≤ 99
      · by_cases h4 : 0 ≤ d ∧ d ≤ 99
        · left; rw [if_pos h1, if_pos h2, if_pos h3, if_pos h4]; exact ⟨rfl, h1, h2, h3, h4⟩
        · right; rw [if_pos h1, if_pos h2, if_pos h3, if_neg h4]; exact ⟨rfl, fun q => h4 q.2.2.2⟩
      · right; rw [if_pos h1, if_pos h2, if_neg h3]; exact ⟨rfl, fun q => h3 q.2.2.1⟩
    · right; rw [if_pos h1, if_neg h2]; exact ⟨rfl, fun q => h2 q.2.1⟩
  · right; rw [if_neg h1]; exact ⟨rfl, fun q => h1 q.1⟩
theorem told_eq (σ : St) (a b c d : Int32) : (fX0_areTold σ a b c d = some 1 ∧ ∀ σ', fX7_areShown σ' a b c d = some 1) ∨ (fX0_areTold σ a b c d = some 0 ∧ ∀ σ', fX7_areShown σ' a b c d = some 0) := by
  have e : ∀ σ', fX7_areShown σ' a b c d = (if 0 ≤ a ∧ a ≤ 99 then (if 0 ≤ b ∧ b ≤ 99 then (if 0 ≤ c ∧ c ≤ 99 then (if 0 ≤ d ∧ d ≤ 99 then some 1 else some 0) else some 0) else some 0) else some 0) := fun σ' => by
    unfold fX7_areShown
    simp only [jn, in_eq, sb, if01]
  have e0 : fX0_areTold σ a b c d = (if 0 ≤ a ∧ a ≤ 99 then (if 0 ≤ b ∧ b ≤ 99 then (if 0 ≤ c ∧ c ≤ 99 then (if 0 ≤ d ∧ d ≤ 99 then some 1 else some 0) else some 0) else some 0) else some 0) := by
    unfold fX0_areTold
    simp only [jn, isIn_lit σ σ _ 0 99 (lo' := 0) (hi' := 99) rfl rfl, in_eq, sb, if01]
  rcases told4 a b c d (some 1) (some 0) with ⟨q, -⟩ | ⟨q, -⟩
  · left; exact ⟨e0.trans q, fun σ' => (e σ').trans q⟩
  · right; exact ⟨e0.trans q, fun σ' => (e σ').trans q⟩
theorem nar_b (a : Int32) (h : a = 0 ∨ a = 1) : vp_nar .boolean a = a := by rcases h with rfl | rfl <;> decide
theorem nI_mul (a b : Nat) : nI a * nI b = nI (a * b) := (Int32.ofNat_mul a b).symm
theorem nI_mul5 (k : Nat) : 5 * nI k = nI (5 * k) := nI_mul 5 k
theorem nI_mul4 (k : Nat) : 4 * nI k = nI (4 * k) := nI_mul 4 k
theorem nI_hi (c : Int32) (m n : Nat) (hc : c = nI m) : nI n + c = nI (n + m) := by rw [hc, nI_add]
theorem chose_sim {σ : St} {z : Nat} (hS : Sh σ z) (hP : Ch σ z) (a b c d f : Int32) (hf : f = 0 ∨ f = 1) : ∃ v σ1 σ2, fX0_chose σ z a b c d f = some (v, σ1) ∧ fX7_chose σ1 (z + 1064) a b c d f = some (v, σ2) ∧ Fr (PL z [(35, none), (36, none), (0, some 27), (1090, none), (1064, some 43)]) σ σ2 ∧ Ch σ2 z := by
  have hP0 := hP
  obtain ⟨n, h1, h2, h3, h4⟩ := hP
  rcases told_eq σ a b c d with ⟨t1, t2⟩ | ⟨t1, t2⟩
  · by_cases c4 : n = 16
    · subst c4
      refine ⟨-5, σ, σ, ?_, ?_, Fr.refl, hP0⟩
      · unfold fX0_chose
        simp only [t1, sb, i10, if_false, e_0_i hS, h2]
        rw [if_pos (by decide)]
      · unfold fX7_chose
        simp only [t2, sb, i10, if_false, e_1064_i hS, h3]
        rw [if_pos (by decide)]
    · have hn : n < 16 := by omega
      have c5 : ¬ nI n = 16 := lit_ne 16 16 n rfl c4 (by omega) (by decide)
      obtain ⟨σ1, e1⟩ : ∃ σ1, σ1 = setI (setI (setR (setI (setI (born σ (.inl 15)) (s_z σ) 0 (a - c)) (s_z σ) 1 (b - d)) (z + 35) n (some (s_z σ))) (z + 36) n f) z 27 (nI n + 1) := ⟨_, rfl⟩
      have hF1 : Fr (PL z [(35, none), (36, none), (0, some 27)]) σ σ1 := by rw [e1]; (repeat (first | exact Fr.refl | refine Fr.aS ?_ rfl | refine Fr.aS0 ?_ rfl | refine Fr.aR ?_ rfl | refine Fr.newI ?_ (Nat.le_refl _) | refine Fr.brn ?_))
      have hS1 : Sh σ1 z := hF1.sh hS (by decide)
      have g3 : s_i σ1 (z + 1064) 43 = nI n := (hF1.ki hS 1064 43 (by decide) rfl).trans h3
      obtain ⟨σ2, e2⟩ : ∃ σ2, σ2 = setI (setI (setI (setI (setI (setI σ1 (z + 1090) (5 * n) a) (z + 1090) (5 * n + 1) b) (z + 1090) (5 * n + 2) c) (z + 1090) (5 * n + 3) d) (z + 1090) (5 * n + 4) f) (z + 1064) 43 (nI n + 1) := ⟨_, rfl⟩
      have hF : Fr (PL z [(35, none), (36, none), (0, some 27), (1090, none), (1064, some 43)]) σ σ2 := by rw [e2, e1]; (repeat (first | exact Fr.refl | refine Fr.aS ?_ rfl | refine Fr.aS0 ?_ rfl | refine Fr.aR ?_ rfl | refine Fr.newI ?_ (Nat.le_refl _) | refine Fr.brn ?_))
      have l0 : 5 * n < 80 := by omega
      have l1 : 5 * n + 1 < 80 := by omega
      have l2 : 5 * n + 2 < 80 := by omega
      have l3 : 5 * n + 3 < 80 := by omega
      have l4 : 5 * n + 4 < 80 := by omega
      refine ⟨nI n + 1, σ1, σ2, ?_, ?_, hF, n + 1, by omega, ?_, ?_, fun k hk => ?_⟩
      · unfold fX0_chose fX18_init
        rw [e1]
        simp (maxDischargeDepth := 9) only [e_0_0, e_0_1, e_0_2, e_0_4, e_0_6, e_0_7, e_0_8, e_0_9, e_0_10, e_0_11, e_0_13, e_0_14, e_0_15, e_0_16, e_0_17, e_0_18, e_0_20, e_0_21, e_0_22, e_0_24, e_0_25, e_0_26, e_0_28, e_0_30, e_0_32, e_0_i, e_0_p, e_0_k, e_6_1, e_6_2, e_6_3, e_6_4, e_6_5, e_6_6, e_6_7, e_6_8, e_6_i, e_6_p, e_6_k, e_14_1, e_14_2, e_14_3, e_14_4, e_14_5, e_14_6, e_14_7, e_14_8, e_14_i, e_14_p, e_14_k, e_25_3, e_25_i, e_25_p, e_25_k, e_1064_2, e_1064_3, e_1064_4, e_1064_5, e_1064_6, e_1064_8, e_1064_9, e_1064_10, e_1064_11, e_1064_12, e_1064_19, e_1064_27, e_1064_28, e_1064_29, e_1064_30, e_1064_31, e_1064_32, e_1064_33, e_1064_34, e_1064_36, e_1064_37, e_1064_39, e_1064_40, e_1064_41, e_1064_42, e_1064_44, e_1064_46, e_1064_48, e_1064_49, e_1064_i, e_1064_p, e_1064_k, e_1064_l, e_1064_pl, a_5, s_5, a_7, s_7, a_8, s_8, a_9, s_9, a_10, s_10, a_11, s_11, a_13, s_13, a_15, s_15, a_16, s_16, a_17, s_17, a_18, s_18, a_19, s_19, a_21, s_21, a_24, s_24, a_26, s_26, a_27, s_27, a_28, s_28, a_29, s_29, a_30, s_30, a_31, s_31, a_32, s_32, a_33, s_33, a_34, s_34, a_36, s_36, a_1065, s_1065, a_1066, s_1066, a_1067, s_1067, a_1068, s_1068, a_1069, s_1069, a_1070, s_1070, a_1071, s_1071, a_1072, s_1072, a_1073, s_1073, a_1074, s_1074, a_1075, s_1075, a_1076, s_1076, a_1077, s_1077, a_1078, s_1078, a_1079, s_1079, a_1080, s_1080, a_1081, s_1081, a_1082, s_1082, a_1083, s_1083, a_1084, s_1084, a_1085, s_1085, a_1086, s_1086, a_1087, s_1087, a_1088, s_1088, a_1089, s_1089, a_1090, s_1090, a_1091, s_1091, a_1092, s_1092, a_1093, s_1093, a_3, q_3, s_3, a_4, q_4, s_4, a_12, q_12, s_12, a_20, q_20, s_20, a_22, q_22, s_22, a_23, q_23, s_23, a_35, q_35, s_35, a_37, q_37, s_37, a_38, q_38, s_38, Sh_setI, Sh_setL, i_setI, r_setI, k_setI, z_setI, i_setR, r_setR, k_setR, z_setR, up2, Nat.add_left_cancel_iff, Nat.reduceEqDiff, Nat.reduceAdd, false_and, true_and, and_false, and_true, if_true, if_false, reduceIte, ite_true, ite_false, sb, in_eq, if01, jn, o_let, un2, o_new, o_pI_eq, k_born, Sh_born, Sh_sR, i_born, r_born, z_born, Nat.reduceLT, Nat.left_eq_add, Nat.add_eq_left, reduceCtorEq, Option.some.injEq, Sum.inl.injEq, Nat.reduceEqDiff, eq_self, t1, nar_b f hf, hS, hn, i10, h2, c5, hS.nz, hS.n0, hS.nz', hS.n0', sn_35, ps35]
      · unfold fX7_chose
        rw [e2]
        rcases hf with rfl | rfl
        · simp (maxDischargeDepth := 9) only [e_0_0, e_0_1, e_0_2, e_0_4, e_0_6, e_0_7, e_0_8, e_0_9, e_0_10, e_0_11, e_0_13, e_0_14, e_0_15, e_0_16, e_0_17, e_0_18, e_0_20, e_0_21, e_0_22, e_0_24, e_0_25, e_0_26, e_0_28, e_0_30, e_0_32, e_0_i, e_0_p, e_0_k, e_6_1, e_6_2, e_6_3, e_6_4, e_6_5, e_6_6, e_6_7, e_6_8, e_6_i, e_6_p, e_6_k, e_14_1, e_14_2, e_14_3, e_14_4, e_14_5, e_14_6, e_14_7, e_14_8, e_14_i, e_14_p, e_14_k, e_25_3, e_25_i, e_25_p, e_25_k, e_1064_2, e_1064_3, e_1064_4, e_1064_5, e_1064_6, e_1064_8, e_1064_9, e_1064_10, e_1064_11, e_1064_12, e_1064_19, e_1064_27, e_1064_28, e_1064_29, e_1064_30, e_1064_31, e_1064_32, e_1064_33, e_1064_34, e_1064_36, e_1064_37, e_1064_39, e_1064_40, e_1064_41, e_1064_42, e_1064_44, e_1064_46, e_1064_48, e_1064_49, e_1064_i, e_1064_p, e_1064_k, e_1064_l, e_1064_pl, a_5, s_5, a_7, s_7, a_8, s_8, a_9, s_9, a_10, s_10, a_11, s_11, a_13, s_13, a_15, s_15, a_16, s_16, a_17, s_17, a_18, s_18, a_19, s_19, a_21, s_21, a_24, s_24, a_26, s_26, a_27, s_27, a_28, s_28, a_29, s_29, a_30, s_30, a_31, s_31, a_32, s_32, a_33, s_33, a_34, s_34, a_36, s_36, a_1065, s_1065, a_1066, s_1066, a_1067, s_1067, a_1068, s_1068, a_1069, s_1069, a_1070, s_1070, a_1071, s_1071, a_1072, s_1072, a_1073, s_1073, a_1074, s_1074, a_1075, s_1075, a_1076, s_1076, a_1077, s_1077, a_1078, s_1078, a_1079, s_1079, a_1080, s_1080, a_1081, s_1081, a_1082, s_1082, a_1083, s_1083, a_1084, s_1084, a_1085, s_1085, a_1086, s_1086, a_1087, s_1087, a_1088, s_1088, a_1089, s_1089, a_1090, s_1090, a_1091, s_1091, a_1092, s_1092, a_1093, s_1093, a_3, q_3, s_3, a_4, q_4, s_4, a_12, q_12, s_12, a_20, q_20, s_20, a_22, q_22, s_22, a_23, q_23, s_23, a_35, q_35, s_35, a_37, q_37, s_37, a_38, q_38, s_38, Sh_setI, Sh_setL, i_setI, r_setI, k_setI, z_setI, i_setR, r_setR, k_setR, z_setR, up2, Nat.add_left_cancel_iff, Nat.reduceEqDiff, Nat.reduceAdd, false_and, true_and, and_false, and_true, if_true, if_false, reduceIte, ite_true, ite_false, sb, in_eq, if01, jn, o_let, un2, o_new, o_pI_eq, k_born, Sh_born, Sh_sR, i_born, r_born, z_born, Nat.reduceLT, Nat.left_eq_add, Nat.add_eq_left, reduceCtorEq, Option.some.injEq, Sum.inl.injEq, Nat.reduceEqDiff, eq_self, t2, hS1, hn, i10, g3, c5, l0, l1, l2, l3, l4, nI_mul5, nI_hi 1 1 _ rfl, nI_hi 2 2 _ rfl, nI_hi 3 3 _ rfl, nI_hi 4 4 _ rfl]
        · simp (maxDischargeDepth := 9) only [e_0_0, e_0_1, e_0_2, e_0_4, e_0_6, e_0_7, e_0_8, e_0_9, e_0_10, e_0_11, e_0_13, e_0_14, e_0_15, e_0_16, e_0_17, e_0_18, e_0_20, e_0_21, e_0_22, e_0_24, e_0_25, e_0_26, e_0_28, e_0_30, e_0_32, e_0_i, e_0_p, e_0_k, e_6_1, e_6_2, e_6_3, e_6_4, e_6_5, e_6_6, e_6_7, e_6_8, e_6_i, e_6_p, e_6_k, e_14_1, e_14_2, e_14_3, e_14_4, e_14_5, e_14_6, e_14_7, e_14_8, e_14_i, e_14_p, e_14_k, e_25_3, e_25_i, e_25_p, e_25_k, e_1064_2, e_1064_3, e_1064_4, e_1064_5, e_1064_6, e_1064_8, e_1064_9, e_1064_10, e_1064_11, e_1064_12, e_1064_19, e_1064_27, e_1064_28, e_1064_29, e_1064_30, e_1064_31, e_1064_32, e_1064_33, e_1064_34, e_1064_36, e_1064_37, e_1064_39, e_1064_40, e_1064_41, e_1064_42, e_1064_44, e_1064_46, e_1064_48, e_1064_49, e_1064_i, e_1064_p, e_1064_k, e_1064_l, e_1064_pl, a_5, s_5, a_7, s_7, a_8, s_8, a_9, s_9, a_10, s_10, a_11, s_11, a_13, s_13, a_15, s_15, a_16, s_16, a_17, s_17, a_18, s_18, a_19, s_19, a_21, s_21, a_24, s_24, a_26, s_26, a_27, s_27, a_28, s_28, a_29, s_29, a_30, s_30, a_31, s_31, a_32, s_32, a_33, s_33, a_34, s_34, a_36, s_36, a_1065, s_1065, a_1066, s_1066, a_1067, s_1067, a_1068, s_1068, a_1069, s_1069, a_1070, s_1070, a_1071, s_1071, a_1072, s_1072, a_1073, s_1073, a_1074, s_1074, a_1075, s_1075, a_1076, s_1076, a_1077, s_1077, a_1078, s_1078, a_1079, s_1079, a_1080, s_1080, a_1081, s_1081, a_1082, s_1082, a_1083, s_1083, a_1084, s_1084, a_1085, s_1085, a_1086, s_1086, a_1087, s_1087, a_1088, s_1088, a_1089, s_1089, a_1090, s_1090, a_1091, s_1091, a_1092, s_1092, a_1093, s_1093, a_3, q_3, s_3, a_4, q_4, s_4, a_12, q_12, s_12, a_20, q_20, s_20, a_22, q_22, s_22, a_23, q_23, s_23, a_35, q_35, s_35, a_37, q_37, s_37, a_38, q_38, s_38, Sh_setI, Sh_setL, i_setI, r_setI, k_setI, z_setI, i_setR, r_setR, k_setR, z_setR, up2, Nat.add_left_cancel_iff, Nat.reduceEqDiff, Nat.reduceAdd, false_and, true_and, and_false, and_true, if_true, if_false, reduceIte, ite_true, ite_false, sb, in_eq, if01, jn, o_let, un2, o_new, o_pI_eq, k_born, Sh_born, Sh_sR, i_born, r_born, z_born, Nat.reduceLT, Nat.left_eq_add, Nat.add_eq_left, reduceCtorEq, Option.some.injEq, Sum.inl.injEq, Nat.reduceEqDiff, eq_self, t2, hS1, hn, i10, g3, c5, l0, l1, l2, l3, l4, nI_mul5, nI_hi 1 1 _ rfl, nI_hi 2 2 _ rfl, nI_hi 3 3 _ rfl, nI_hi 4 4 _ rfl]
      · rw [e2, e1]; simp [i_setI, up2, nI_1]
      · rw [e2]; simp [i_setI, up2, nI_1]
      · by_cases hkn : k = n
        · subst hkn
          have r0 : s_i σ2 (z + 1090) (5 * k) = a := by rw [e2]; simp [i_setI, up2]
          have r1 : s_i σ2 (z + 1090) (5 * k + 1) = b := by rw [e2]; simp [i_setI, up2]
          have r2 : s_i σ2 (z + 1090) (5 * k + 2) = c := by rw [e2]; simp [i_setI, up2]
          have r3 : s_i σ2 (z + 1090) (5 * k + 3) = d := by rw [e2]; simp [i_setI, up2]
          have r4 : s_i σ2 (z + 1090) (5 * k + 4) = f := by rw [e2]; simp [i_setI, up2]
          rw [r0, r1, r2, r3, r4]
          refine ⟨⟨s_z σ, ?_, ⟨?_, hS.2.2.2.1⟩, ?_, ?_⟩, hf, ?_⟩
          · rw [e2, e1]; simp [r_setI, r_setR, up2]
          · rw [e2, e1]; simp [k_setI, k_setR, k_born]
          · rw [e2, e1]; simp [i_setI, i_setR, up2, hS.nz, hS.nz', hS.n0, hS.n0']
          · rw [e2, e1]; simp [i_setI, i_setR, up2, hS.nz, hS.nz', hS.n0, hS.n0']
          · rw [e2, e1]; simp [i_setI, i_setR, up2, hS.nz, hS.nz', hS.n0, hS.n0']
        · obtain ⟨⟨p, p1, p2, p3, p4⟩, p5, p6⟩ := h4 k (by omega)
          obtain ⟨q1, q2⟩ := p2.nw hS (hF.nw (by decide))
          have r : ∀ j, j < 5 * n → s_i σ2 (z + 1090) j = s_i σ (z + 1090) j := fun j hj => by
            rw [e2, e1]; simp [i_setI, i_setR, up2, i_born, hS.nz, show ¬ j = 5 * n by omega, show ¬ j = 5 * n + 1 by omega, show ¬ j = 5 * n + 2 by omega, show ¬ j = 5 * n + 3 by omega, show ¬ j = 5 * n + 4 by omega]
          have r36 : s_i σ2 (z + 36) k = s_i σ (z + 36) k := by rw [e2, e1]; simp [i_setI, i_setR, up2, i_born, hS.nz, hkn]
          rw [r _ (by omega), r _ (by omega), r _ (by omega), r _ (by omega), r _ (by omega), r36]
          refine ⟨⟨p, ?_, q1, (q2 0).1.trans p3, (q2 1).1.trans p4⟩, p5, p6⟩
          rw [e2, e1]; simp [r_setI, r_setR, up2, r_born, hS.nz, hkn]; exact p1
  · refine ⟨-3, σ, σ, ?_, ?_, Fr.refl, hP0⟩
    · unfold fX0_chose
      simp only [t1, sb, if_true]
    · unfold fX7_chose
      simp only [t2, sb, if_true]
theorem pair_sim {σ : St} {z : Nat} (hS : Sh σ z) (hP : Pa σ z) (a b c d : Int32) : ∃ v σ1 σ2, fX0_pair σ z a b c d = some (v, σ1) ∧ fX7_pair σ1 (z + 1064) a b c d = some (v, σ2) ∧ Fr (PL z [(37, none), (0, some 29), (1091, none), (1064, some 45)]) σ σ2 ∧ Pa σ2 z := by
  have hP0 := hP
  obtain ⟨n, h1, h2, h3, h4⟩ := hP
  rcases told_eq σ a b c d with ⟨t1, t2⟩ | ⟨t1, t2⟩
  · by_cases c4 : n = 8
    · subst c4
      refine ⟨-5, σ, σ, ?_, ?_, Fr.refl, hP0⟩
      · unfold fX0_pair
        simp only [t1, sb, i10, if_false, e_0_i hS, h2]
        rw [if_pos (by decide)]
      · unfold fX7_pair
        simp only [t2, sb, i10, if_false, e_1064_i hS, h3]
        rw [if_pos (by decide)]
    · have hn : n < 8 := by omega
      have c5 : ¬ nI n = 8 := lit_ne 8 8 n rfl c4 (by omega) (by decide)
      obtain ⟨σ1, e1⟩ : ∃ σ1, σ1 = setI (setR (setI (setI (born σ (.inl 15)) (s_z σ) 0 (a - c)) (s_z σ) 1 (b - d)) (z + 37) n (some (s_z σ))) z 29 (nI n + 1) := ⟨_, rfl⟩
      have hF1 : Fr (PL z [(37, none), (0, some 29)]) σ σ1 := by rw [e1]; (repeat (first | exact Fr.refl | refine Fr.aS ?_ rfl | refine Fr.aS0 ?_ rfl | refine Fr.aR ?_ rfl | refine Fr.newI ?_ (Nat.le_refl _) | refine Fr.brn ?_))
      have hS1 : Sh σ1 z := hF1.sh hS (by decide)
      have g3 : s_i σ1 (z + 1064) 45 = nI n := (hF1.ki hS 1064 45 (by decide) rfl).trans h3
      obtain ⟨σ2, e2⟩ : ∃ σ2, σ2 = setI (setI (setI (setI (setI σ1 (z + 1091) (4 * n) a) (z + 1091) (4 * n + 1) b) (z + 1091) (4 * n + 2) c) (z + 1091) (4 * n + 3) d) (z + 1064) 45 (nI n + 1) := ⟨_, rfl⟩
      have hF : Fr (PL z [(37, none), (0, some 29), (1091, none), (1064, some 45)]) σ σ2 := by rw [e2, e1]; (repeat (first | exact Fr.refl | refine Fr.aS ?_ rfl | refine Fr.aS0 ?_ rfl | refine Fr.aR ?_ rfl | refine Fr.newI ?_ (Nat.le_refl _) | refine Fr.brn ?_))
      have l0 : 4 * n < 32 := by omega
      have l1 : 4 * n + 1 < 32 := by omega
      have l2 : 4 * n + 2 < 32 := by omega
      have l3 : 4 * n + 3 < 32 := by omega
      refine ⟨nI n + 1, σ1, σ2, ?_, ?_, hF, n + 1, by omega, ?_, ?_, fun k hk => ?_⟩
      · unfold fX0_pair fX18_init
        rw [e1]
        simp (maxDischargeDepth := 9) only [e_0_0, e_0_1, e_0_2, e_0_4, e_0_6, e_0_7, e_0_8, e_0_9, e_0_10, e_0_11, e_0_13, e_0_14, e_0_15, e_0_16, e_0_17, e_0_18, e_0_20, e_0_21, e_0_22, e_0_24, e_0_25, e_0_26, e_0_28, e_0_30, e_0_32, e_0_i, e_0_p, e_0_k, e_6_1, e_6_2, e_6_3, e_6_4, e_6_5, e_6_6, e_6_7, e_6_8, e_6_i, e_6_p, e_6_k, e_14_1, e_14_2, e_14_3, e_14_4, e_14_5, e_14_6, e_14_7, e_14_8, e_14_i, e_14_p, e_14_k, e_25_3, e_25_i, e_25_p, e_25_k, e_1064_2, e_1064_3, e_1064_4, e_1064_5, e_1064_6, e_1064_8, e_1064_9, e_1064_10, e_1064_11, e_1064_12, e_1064_19, e_1064_27, e_1064_28, e_1064_29, e_1064_30, e_1064_31, e_1064_32, e_1064_33, e_1064_34, e_1064_36, e_1064_37, e_1064_39, e_1064_40, e_1064_41, e_1064_42, e_1064_44, e_1064_46, e_1064_48, e_1064_49, e_1064_i, e_1064_p, e_1064_k, e_1064_l, e_1064_pl, a_5, s_5, a_7, s_7, a_8, s_8, a_9, s_9, a_10, s_10, a_11, s_11, a_13, s_13, a_15, s_15, a_16, s_16, a_17, s_17, a_18, s_18, a_19, s_19, a_21, s_21, a_24, s_24, a_26, s_26, a_27, s_27, a_28, s_28, a_29, s_29, a_30, s_30, a_31, s_31, a_32, s_32, a_33, s_33, a_34, s_34, a_36, s_36, a_1065, s_1065, a_1066, s_1066, a_1067, s_1067, a_1068, s_1068, a_1069, s_1069, a_1070, s_1070, a_1071, s_1071, a_1072, s_1072, a_1073, s_1073, a_1074, s_1074, a_1075, s_1075, a_1076, s_1076, a_1077, s_1077, a_1078, s_1078, a_1079, s_1079, a_1080, s_1080, a_1081, s_1081, a_1082, s_1082, a_1083, s_1083, a_1084, s_1084, a_1085, s_1085, a_1086, s_1086, a_1087, s_1087, a_1088, s_1088, a_1089, s_1089, a_1090, s_1090, a_1091, s_1091, a_1092, s_1092, a_1093, s_1093, a_3, q_3, s_3, a_4, q_4, s_4, a_12, q_12, s_12, a_20, q_20, s_20, a_22, q_22, s_22, a_23, q_23, s_23, a_35, q_35, s_35, a_37, q_37, s_37, a_38, q_38, s_38, Sh_setI, Sh_setL, i_setI, r_setI, k_setI, z_setI, i_setR, r_setR, k_setR, z_setR, up2, Nat.add_left_cancel_iff, Nat.reduceEqDiff, Nat.reduceAdd, false_and, true_and, and_false, and_true, if_true, if_false, reduceIte, ite_true, ite_false, sb, in_eq, if01, jn, o_let, un2, o_new, o_pI_eq, k_born, Sh_born, Sh_sR, i_born, r_born, z_born, Nat.reduceLT, Nat.left_eq_add, Nat.add_eq_left, reduceCtorEq, Option.some.injEq, Sum.inl.injEq, Nat.reduceEqDiff, eq_self, t1, hS, hn, i10, h2, c5, hS.nz, hS.n0, hS.nz', hS.n0', sn_37, ps37]
      · unfold fX7_pair
        rw [e2]
        simp (maxDischargeDepth := 9) only [e_0_0, e_0_1, e_0_2, e_0_4, e_0_6, e_0_7, e_0_8, e_0_9, e_0_10, e_0_11, e_0_13, e_0_14, e_0_15, e_0_16, e_0_17, e_0_18, e_0_20, e_0_21, e_0_22, e_0_24, e_0_25, e_0_26, e_0_28, e_0_30, e_0_32, e_0_i, e_0_p, e_0_k, e_6_1, e_6_2, e_6_3, e_6_4, e_6_5, e_6_6, e_6_7, e_6_8, e_6_i, e_6_p, e_6_k, e_14_1, e_14_2, e_14_3, e_14_4, e_14_5, e_14_6, e_14_7, e_14_8, e_14_i, e_14_p, e_14_k, e_25_3, e_25_i, e_25_p, e_25_k, e_1064_2, e_1064_3, e_1064_4, e_1064_5, e_1064_6, e_1064_8, e_1064_9, e_1064_10, e_1064_11, e_1064_12, e_1064_19, e_1064_27, e_1064_28, e_1064_29, e_1064_30, e_1064_31, e_1064_32, e_1064_33, e_1064_34, e_1064_36, e_1064_37, e_1064_39, e_1064_40, e_1064_41, e_1064_42, e_1064_44, e_1064_46, e_1064_48, e_1064_49, e_1064_i, e_1064_p, e_1064_k, e_1064_l, e_1064_pl, a_5, s_5, a_7, s_7, a_8, s_8, a_9, s_9, a_10, s_10, a_11, s_11, a_13, s_13, a_15, s_15, a_16, s_16, a_17, s_17, a_18, s_18, a_19, s_19, a_21, s_21, a_24, s_24, a_26, s_26, a_27, s_27, a_28, s_28, a_29, s_29, a_30, s_30, a_31, s_31, a_32, s_32, a_33, s_33, a_34, s_34, a_36, s_36, a_1065, s_1065, a_1066, s_1066, a_1067, s_1067, a_1068, s_1068, a_1069, s_1069, a_1070, s_1070, a_1071, s_1071, a_1072, s_1072, a_1073, s_1073, a_1074, s_1074, a_1075, s_1075, a_1076, s_1076, a_1077, s_1077, a_1078, s_1078, a_1079, s_1079, a_1080, s_1080, a_1081, s_1081, a_1082, s_1082, a_1083, s_1083, a_1084, s_1084, a_1085, s_1085, a_1086, s_1086, a_1087, s_1087, a_1088, s_1088, a_1089, s_1089, a_1090, s_1090, a_1091, s_1091, a_1092, s_1092, a_1093, s_1093, a_3, q_3, s_3, a_4, q_4, s_4, a_12, q_12, s_12, a_20, q_20, s_20, a_22, q_22, s_22, a_23, q_23, s_23, a_35, q_35, s_35, a_37, q_37, s_37, a_38, q_38, s_38, Sh_setI, Sh_setL, i_setI, r_setI, k_setI, z_setI, i_setR, r_setR, k_setR, z_setR, up2, Nat.add_left_cancel_iff, Nat.reduceEqDiff, Nat.reduceAdd, false_and, true_and, and_false, and_true, if_true, if_false, reduceIte, ite_true, ite_false, sb, in_eq, if01, jn, o_let, un2, o_new, o_pI_eq, k_born, Sh_born, Sh_sR, i_born, r_born, z_born, Nat.reduceLT, Nat.left_eq_add, Nat.add_eq_left, reduceCtorEq, Option.some.injEq, Sum.inl.injEq, Nat.reduceEqDiff, eq_self, t2, hS1, hn, i10, g3, c5, l0, l1, l2, l3, nI_mul4, nI_hi 1 1 _ rfl, nI_hi 2 2 _ rfl, nI_hi 3 3 _ rfl]
      · rw [e2, e1]; simp [i_setI, up2, nI_1]
      · rw [e2]; simp [i_setI, up2, nI_1]
      · by_cases hkn : k = n
        · subst hkn
          have r0 : s_i σ2 (z + 1091) (4 * k) = a := by rw [e2]; simp [i_setI, up2]
          have r1 : s_i σ2 (z + 1091) (4 * k + 1) = b := by rw [e2]; simp [i_setI, up2]
          have r2 : s_i σ2 (z + 1091) (4 * k + 2) = c := by rw [e2]; simp [i_setI, up2]
          have r3 : s_i σ2 (z + 1091) (4 * k + 3) = d := by rw [e2]; simp [i_setI, up2]
          rw [r0, r1, r2, r3]
          refine ⟨s_z σ, ?_, ⟨?_, hS.2.2.2.1⟩, ?_, ?_⟩
          · rw [e2, e1]; simp [r_setI, r_setR, up2]
          · rw [e2, e1]; simp [k_setI, k_setR, k_born]
          · rw [e2, e1]; simp [i_setI, i_setR, up2, hS.nz, hS.nz', hS.n0, hS.n0']
          · rw [e2, e1]; simp [i_setI, i_setR, up2, hS.nz, hS.nz', hS.n0, hS.n0']
        · obtain ⟨p, p1, p2, p3, p4⟩ := h4 k (by omega)
          obtain ⟨q1, q2⟩ := p2.nw hS (hF.nw (by decide))
          have r : ∀ j, j < 4 * n → s_i σ2 (z + 1091) j = s_i σ (z + 1091) j := fun j hj => by
            rw [e2, e1]; simp [i_setI, i_setR, up2, i_born, hS.nz, show ¬ j = 4 * n by omega, show ¬ j = 4 * n + 1 by omega, show ¬ j = 4 * n + 2 by omega, show ¬ j = 4 * n + 3 by omega]
          rw [r _ (by omega), r _ (by omega), r _ (by omega), r _ (by omega)]
          refine ⟨p, ?_, q1, (q2 0).1.trans p3, (q2 1).1.trans p4⟩
          rw [e2, e1]; simp [r_setI, r_setR, up2, r_born, hS.nz, hkn]; exact p1
  · refine ⟨-3, σ, σ, ?_, ?_, Fr.refl, hP0⟩
    · unfold fX0_pair
      simp only [t1, sb, if_true]
    · unfold fX7_pair
      simp only [t2, sb, if_true]
theorem count_sim {σ : St} {z n nt ns : Nat} (hS : Sh σ z) (hH : Hn σ z n) (hT : Th σ z nt) (hW : Wd σ z n nt) (hp : Tp σ z) (hg : Gus σ z) (hc : Ch σ z) (ha : Pa σ z) (hs : Sp σ z ns) (hn : Sns σ z) (a : Int32) : ∃ v, fX0_count σ z a = some v ∧ fX7_count σ (z + 1064) a = some v := by
  obtain ⟨_, -, p1, p2, -⟩ := hp
  obtain ⟨_, _, _, -, g1, g2, -⟩ := hg
  obtain ⟨_, -, c1, c2, -⟩ := hc
  obtain ⟨_, -, a1, a2, -⟩ := ha
  obtain ⟨-, s1, s2, -⟩ := hs
  obtain ⟨_, -, n1, n2, -⟩ := hn
  unfold fX0_count fX7_count
  simp only [e_0_7 hS, e_6_i hS, e_0_i hS, e_6_k hS, e_1064_i hS, e_1064_k hS, many_eq hS (w := 6) (Or.inl rfl) hT.1 hT.2.1, thingsOf_eq hS hT.1 hT.2.2.1, sb, hW.1, p1, p2, g1, g2, c1, c2, a1, a2, s1, s2, n1, n2, hH.2.1, hH.2.2, hT.2.1, hT.2.2.1]
  rw [cnt_congr (f := s_i σ (z + (6 + 7))) (f' := s_i σ (z + 1070)) _ _ hW.2.1.2]
  (repeat' split) <;> exact ⟨_, rfl, rfl⟩
