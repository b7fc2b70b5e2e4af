set_option maxRecDepth 100000
/-! an hour -/
section STEP
variable {τa τb : St} {z w n nt : Nat}
theorem least_two (hw : Ws w) (hA : Sh τa z) (hB : Sh τb z) (tA : Th τa z nt) (tB : Th τb z nt) (hat : ∀ t, t < nt → s_i τa (z + (w + 7)) t = s_i τb (z + 1070) t) : ∃ N, N ≤ nt ∧ fX5_leastIn τa (z + w) (-1) = some (if N < nt then nI N else -1) ∧ loopF fuel (fun y => lX7_goHour_231 τb (z + 1064) y) 0 = some (nI N) := by
  have h40 := tA.1
  obtain ⟨N, hN, hlo, hhi⟩ := first_ex (fun t => s_i τb (z + 1070) t = -1) nt
  refine ⟨N, hN, ?_, ?_⟩
  · have sX : ∀ k, k < nt → lX5_leastIn_2 τa (z + w) (-1) (nI k) = if s_i τb (z + 1070) k = -1 then some (.inr (.inl (nI k))) else some (.inl (nI (k + 1))) := by
      intro k hk
      unfold lX5_leastIn_2
      rw [w_8 hw hA, e_0_i hA, tA.2.1, if_neg (nI_ge hk (by omega)), w_7 hw hA, wa_7 hw hA (by omega), hat k hk, nI_1]
    unfold fX5_leastIn
    by_cases c : N < nt
    · have : loopF fuel (fun y => lX5_leastIn_2 τa (z + w) (-1) y) 0 = some (.inl (nI N)) := by
        refine loopF_seq (st := fun k => nI k) N (fun k hk => ?_) ?_ fuel (fuel_lt (by omega))
        · rw [sX k (by omega), if_neg (hlo k hk)]
        · rw [sX N c, if_pos (hhi c)]
      rw [this, sb, if_pos c]
      rfl
    · have : loopF fuel (fun y => lX5_leastIn_2 τa (z + w) (-1) y) 0 = some (.inr ()) := by
        refine loopF_seq (st := fun k => nI k) nt (fun k hk => ?_) ?_ fuel (fuel_lt (by omega))
        · rw [sX k hk, if_neg (hlo k (by omega))]
        · show lX5_leastIn_2 τa (z + w) (-1) (nI nt) = _
          unfold lX5_leastIn_2
          rw [w_8 hw hA, e_0_i hA, tA.2.1, if_pos (nI_le (Nat.le_refl nt) (by omega))]
      rw [this, sb, if_neg c]
      rfl
  · refine loopF_seq (st := fun k => nI k) N (fun k hk => ?_) ?_ fuel (fuel_lt (by omega))
    · show lX7_goHour_231 τb (z + 1064) (nI k) = _
      unfold lX7_goHour_231
      rw [e_1064_i hB, tB.2.2.1, if_neg (nI_ge (by omega) (by omega)), e_1064_8 hB, a_1070 hB (by omega), if_neg (hlo k hk), nI_1]
    · show lX7_goHour_231 τb (z + 1064) (nI N) = _
      unfold lX7_goHour_231
      rw [e_1064_i hB, tB.2.2.1]
      by_cases c : N < nt
      · rw [if_neg (nI_ge c (by omega)), e_1064_8 hB, a_1070 hB (by omega), if_pos (hhi c)]
      · rw [if_pos (nI_le (by omega) (by omega))]
theorem run_two (hw : Ws w) (sA : Stt z n nt τa) (sB : Stt z n nt τb) (hal : Alk z τa τb) (hQ : WQ z w 4 n nt τa τb) (hac : ∀ i, i < n → ∃ r, s_r τa (z + (w + 6)) i = some r ∧ ActC τa z r (s_i τb (z + 1069) i)) {h r : Nat} (hh : h < n) (hr : ActC τa z r (s_i τb (z + 1069) h)) : ∃ τa' τb', vAct_run τa r (z + w) (nI h) = some τa' ∧ lX7_goHour_87 (z + 1064) τb (nI h) = some (.inl (τb', nI (h + 1))) ∧ Fr (PL z (L2 w)) τa τa' ∧ Fr (PL z LM2) τb τb' ∧ WQ z w 4 n nt τa' τb' ∧ ∀ j, n ≤ j → s_i τa' (z + (w + 2)) j = s_i τa (z + (w + 2)) j := by
  have sA0 := sA
  have sB0 := sB
  obtain ⟨hA, uA, tA, -, -, eA⟩ := sA
  obtain ⟨hB, uB, tB, -, -, -⟩ := sB
  have hn := uA.1.1
  have nt40 := tA.1
  have b6 : h < 6 := by omega
  have b24 : h < 24 := by omega
  have b624 : 6 + h < 24 := by omega
  have k1 : s_k τa (z + 1) = some (.inl 1) := hA.k 1 _ (by decide) rfl
  have k2 : s_k τa (z + 2) = some (.inl 2) := hA.k 2 _ (by decide) rfl
  obtain ⟨q1, q2, q3, ⟨k, hk, q4⟩, ⟨f, hf, q5⟩⟩ := hQ.1 h hh
  have M := Eq.refl (lX7_goHour_87 (z + 1064) τb (nI h))
  conv at M => rhs; unfold lX7_goHour_87
  rw [e_1064_i hB, uB.1.2.2, if_neg (nI_ge hh (by omega)), e_1064_6 hB, a_1069 hB b6] at M
  simp only [jn, nI_1, e_1064_6 hB, a_1069 hB b6] at M
  rcases hr with ⟨ec, rfl⟩ | ⟨ec, d⟩ | ⟨ec, d⟩ | ⟨ec, rfl⟩ | ⟨g, g1, ec, d, g2⟩
  · -- guard
    rw [ec, if_pos (by decide), if_neg (by decide), if_neg (by decide), if_neg (by decide)] at M
    refine ⟨τa, τb, ?_, M, Fr.refl, Fr.refl, hQ, fun _ _ => rfl⟩
    unfold vAct_run
    rw [if_pos k1]
    rfl
  · -- mend
    rw [ec, if_pos (by decide), if_pos (by decide), e_1064_4 hB, e_1064_4 hB, a_1067 hB b24, q4] at M
    simp only [e_1064_4 hB, a_1067 hB b24, q4, s_1067 hB b24] at M
    obtain ⟨m1, j, hj, m2⟩ := jmin99 k hk
    have X : vAct_run τa r (z + w) (nI h) = some (setI τa (z + (w + 1)) h (jmin 99 (nI k + 3))) := by
      unfold vAct_run fX12_run
      simp only [d.1, Option.some.injEq, Sum.inl.injEq, Nat.reduceEqDiff, if_false, if_true, reduceCtorEq]
      rw [w_1 hw hA, w_1 hw hA, wa_1 hw hA b6, q1, q4, o_let, ws_1 hw hA b6]
    have M2 : lX7_goHour_87 (z + 1064) τb (nI h) = some (.inl (setI τb (z + 1067) h (jmin 99 (nI k + 3)), nI (h + 1))) := by
      rw [M, m1]
      split <;> rfl
    refine ⟨_, _, X, M2, Fr.refl.aS (nsh1 hw h), Fr.refl.aS rfl, hQ.stick hn (Or.inr rfl) hh hj m2, fun i _ => by rw [gi_ne (by omega)]⟩
  · -- find
    obtain ⟨N, n1, n2, n3⟩ := least_two hw hA hB tA tB hQ.2
    rw [ec, if_pos (by decide), if_neg (by decide), if_neg (by decide), if_pos (by decide), n3, sb, e_1064_i hB, tB.2.2.1, e_1064_k hB, thingsOf_eq hB tB.1 tB.2.2.1, sb] at M
    have X := Eq.refl (vAct_run τa r (z + w) (nI h))
    conv at X => rhs; unfold vAct_run fX13_run
    simp only [d.1, Option.some.injEq, Sum.inl.injEq, Nat.reduceEqDiff, if_false, if_true, reduceCtorEq] at X
    rw [w_k hw hA, n2, sb, w_k hw hA, many_eq hA hw tA.1 tA.2.1, sb, cnt_congr (f := s_i τa (z + (w + 7))) (f' := s_i τb (z + 1070)) _ _ hQ.2] at X
    by_cases c : N < nt
    · rw [if_pos c, if_neg (neg1_ne (by omega))] at X
      rw [if_neg (nI_ge c (by omega))] at M
      by_cases c2 : 12 ≤ cnt (s_i τb (z + 1070)) (nI h) nt
      · rw [if_pos c2] at X M
        exact ⟨τa, τb, X, M, Fr.refl, Fr.refl, hQ, fun _ _ => rfl⟩
      · rw [if_neg c2, w_7 hw hA, ws_7 hw hA (by omega)] at X
        rw [if_neg c2, e_1064_8 hB, s_1070 hB (by omega)] at M
        exact ⟨_, _, X, M, Fr.refl.aS (nsh7 hw N), Fr.refl.aS rfl, hQ.lay (Or.inr rfl), fun i _ => by rw [gi_ne (by omega)]⟩
    · rw [if_neg c, if_pos rfl] at X
      rw [if_pos (nI_le (by omega) (by omega))] at M
      exact ⟨τa, τb, X, M, Fr.refl, Fr.refl, hQ, fun _ _ => rfl⟩
  · -- feed
    rw [ec, if_pos (by decide), if_neg (by decide), if_pos (by decide), e_1064_4 hB, e_1064_4 hB, nI_lo 6 6 h rfl, a_1067 hB b624, q5] at M
    simp only [e_1064_4 hB, a_1067 hB b624, q5, s_1067 hB b624] at M
    obtain ⟨m1, j, hj, m2⟩ := jmax0_6 f hf
    have X : vAct_run τa (z + 2) (z + w) (nI h) = some (setI τa (z + (w + 2)) h (jmax 0 (nI f - 6))) := by
      unfold vAct_run fX4_run
      simp only [k2, Option.some.injEq, Sum.inl.injEq, Nat.reduceEqDiff, if_false, if_true, reduceCtorEq]
      rw [w_2 hw hA, w_2 hw hA, wa_2 hw hA b6, q2, q5, o_let, ws_2 hw hA b6]
    have M2 : lX7_goHour_87 (z + 1064) τb (nI h) = some (.inl (setI τb (z + 1067) (6 + h) (jmax 0 (nI f - 6)), nI (h + 1))) := by
      rw [M, m1]
      split <;> rfl
    refine ⟨_, _, X, M2, Fr.refl.aS (nsh2 hw h), Fr.refl.aS rfl, hQ.hung hn (Or.inr rfl) hh hj m2, fun i hi => by rw [gi_nj (by omega)]⟩
  · -- raid
    obtain ⟨τa', τb', r1, r2, r3, r4, r5, r6⟩ := raid_two hw sA0 sB0 hal hQ hac hh g1
    have e10 : ∀ g, g ≤ 5 → ¬ nI (10 + g) < 10 ∧ nI (10 + g) - 10 = nI g := by decide +kernel
    rw [ec, if_neg (e10 g g1).1, (e10 g g1).2, e_1064_k hB, r2, sb] at M
    refine ⟨τa', τb', ?_, M, r3, r4, r5, fun i _ => r6 i⟩
    unfold vAct_run fX15_run
    simp only [d.1, Option.some.injEq, Sum.inl.injEq, Nat.reduceEqDiff, if_false, if_true, reduceCtorEq]
    rw [o_gI_eq d.1, g2, w_k hw hA, r1, sb]
end STEP
