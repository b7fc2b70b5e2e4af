set_option maxRecDepth 100000
/-! worth, choose, act -/
section WORTH
variable {σa σb : St} {z w n nt : Nat}
theorem tasteOf_eq {σ : St} (hB : Sh σ z) {v m : Nat} (hv : v < 4) (hm : s_i σ (z + 1079) v = nI m) (hm8 : m ≤ 8) (sort c : Int32) : fX7_tasteOf σ (z + 1064) (nI v) sort c = some (tof (fun j => s_i σ (z + 1080) (24 * v + j)) sort c m) := by
  have key : loopF fuel (fun y => lX7_tasteOf_6 σ (z + 1064) (nI v) sort c y.1 y.2) (0, 0) = some (tof (fun j => s_i σ (z + 1080) (24 * v + j)) sort c m) := by
    refine loopF_seq (st := fun k => (tof (fun j => s_i σ (z + 1080) (24 * v + j)) sort c k, nI k)) m (fun k hk => ?_) ?_ fuel (fuel_lt (by omega))
    · show lX7_tasteOf_6 σ (z + 1064) (nI v) sort c (tof (fun j => s_i σ (z + 1080) (24 * v + j)) sort c k) (nI k) = _
      unfold lX7_tasteOf_6
      have ix : 24 * nI v + 3 * nI k = nI (24 * v + 3 * k) := by rw [← nI_add, ← nI_mul 24 v, ← nI_mul 3 k]; rfl
      have b0 : 24 * v + 3 * k < 96 := by omega
      have b1 : 24 * v + 3 * k + 1 < 96 := by omega
      have b2 : 24 * v + 3 * k + 2 < 96 := by omega
      rw [e_1064_30 hB, a_1079 hB hv, hm, if_neg (nI_ge hk (by omega))]
      simp only [jn, ix, nI_hi 2 2 _ rfl, nI_1, e_1064_31 hB, a_1080 hB b0, a_1080 hB b1, a_1080 hB b2, tof]
      simp only [← Nat.add_assoc]
      split
      · split <;> rfl
      · rfl
    · show lX7_tasteOf_6 σ (z + 1064) (nI v) sort c (tof (fun j => s_i σ (z + 1080) (24 * v + j)) sort c m) (nI m) = _
      unfold lX7_tasteOf_6
      rw [e_1064_30 hB, a_1079 hB hv, hm, if_pos (nI_le (Nat.le_refl m) (by omega))]
  unfold fX7_tasteOf
  rw [key, sb]
theorem worthOf_two (hw : Ws w) (hA : Sh σa z) (hB : Sh σb z) (tA : Th σa z nt) (tB : Th σb z nt) (hn : n ≤ 6) (hT : Ta σa z) (h72 : ∀ j, s_i σb (z + 1072) j = s_i σa (z + 1072) j) (h73 : ∀ j, s_i σb (z + 1073) j = s_i σa (z + 1073) j) (h79 : ∀ j, s_i σb (z + 1079) j = s_i σa (z + 1079) j) (h80 : ∀ j, s_i σb (z + 1080) j = s_i σa (z + 1080) j) (hW : WR z w n nt σa σb) {v h : Nat} (hv : v < 4) (hh : h < n) : ∃ x, fX0_worthOf σa z (nI v) (z + w) (nI h) = some x ∧ fX7_worthOf σb (z + 1064) (nI v) (nI h) = some x := by
  have l : h < 6 := by omega
  have l0 : h < 24 := by omega
  obtain ⟨g1, g2, g3, -⟩ := hW.1 h hh
  have h1 := tA.1
  rcases hT v hv with ⟨u1, u2⟩ | ⟨p, m, u1, u2, u3⟩
  · refine ⟨0, ?_, ?_⟩
    · unfold fX0_worthOf
      rw [e_0_10 hA, q_23 hA hv, u1]
      rfl
    · have tz : ∀ s c, fX7_tasteOf σb (z + 1064) (nI v) s c = some 0 := fun s c => by
        rw [tasteOf_eq hB hv (m := 0) (by rw [h79, u2]; rfl) (by omega)]
        rfl
      unfold fX7_worthOf
      rw [e_1064_4 hB, a_1067 hB l0, e_1064_k hB, tz, sb]
      obtain ⟨r, e1, e2⟩ := loopF_inv (b := fun y : Int32 × Int32 × Int32 × Int32 => lX7_worthOf_24 σb (z + 1064) (nI h) (nI v) y.1 y.2.1 y.2.2.1 y.2.2.2) (fun k s => s.1 = 0 ∧ s.2.2.2 = nI k) nt (Q := fun r => r.1 = 0) (by
          rintro k ⟨x1, x2, x3, x4⟩ hk ⟨i1, i2⟩
          simp only at i1 i2
          subst i1; subst i2
          show ∃ t, lX7_worthOf_24 σb (z + 1064) (nI h) (nI v) 0 x2 x3 (nI k) = _ ∧ _
          unfold lX7_worthOf_24
          have b : k < 40 := by omega
          rw [e_1064_i hB, tB.2.2.1, if_neg (nI_ge hk (by omega))]
          simp only [jn, nI_1, e_1064_8 hB, a_1070 hB b, e_1064_10 hB, a_1072 hB b, e_1064_k hB, tz, sb, e_1064_11 hB, a_1073 hB b]
          have z0 : ∀ q : Int32, (0 : Int32) + (0 + q * 0) = 0 := fun q => by simp
          rw [z0]
          (repeat' split) <;> exact ⟨_, rfl, rfl, rfl⟩) (by
          rintro ⟨x1, x2, x3, x4⟩ ⟨i1, i2⟩
          simp only at i1 i2
          subst i1; subst i2
          show ∃ t, lX7_worthOf_24 σb (z + 1064) (nI h) (nI v) 0 x2 x3 (nI nt) = _ ∧ _
          unfold lX7_worthOf_24
          rw [e_1064_i hB, tB.2.2.1, if_pos (nI_le (Nat.le_refl nt) (by omega))]
          exact ⟨_, rfl, rfl⟩) (s := (s_i σb (z + 1067) h * 0, 0, 1, 0)) ⟨by simp, rfl⟩ fuel (fuel_lt (by omega))
      rw [e1, sb]
      obtain ⟨r1, r2⟩ := r
      simp only at e2
      subst e2
      simp only [un2, jn, e_1064_k hB, tz, sb]
      simp
  · obtain ⟨p0, p1, p2, p3, ⟨C, c1, c2, c3⟩, p4, p5, p6, p7⟩ := u3
    have tz : ∀ s c, fX7_tasteOf σb (z + 1064) (nI v) s c = some (tof (fun j => s_i σa (z + 1080) (24 * v + j)) s c m) := fun s c => by
      rw [tasteOf_eq hB hv (m := m) (by rw [h79, u2]) p2]
      congr 1
      exact tof_congr s c m (fun j _ => h80 _)
    unfold fX0_worthOf fX7_worthOf fX17_worth
    rw [e_0_10 hA, q_23 hA hv, u1, e_1064_4 hB, a_1067 hB l0, e_1064_k hB, tz, sb]
    simp only [o_opt, e_0_10 hA, a_23 hA hv u1, o_k_eq p0.1, w_1 hw hA, wa_1 hw hA l, g1, o_gI_eq p0.1, p4]
    obtain ⟨r, r', e1, e2, rfl⟩ := loopF_two (b := fun y : Int32 × Int32 × Int32 × Int32 => lX17_worth_21 σa p (z + w) (nI h) y.1 y.2.1 y.2.2.1 y.2.2.2) (b' := fun y : Int32 × Int32 × Int32 × Int32 => lX7_worthOf_24 σb (z + 1064) (nI h) (nI v) y.1 y.2.1 y.2.2.1 y.2.2.2) (fun k s s' => s = s' ∧ s.2.2.2 = nI k) nt (Q := fun r r' => r = r') (by
        rintro k ⟨x1, x2, x3, x4⟩ s' hk ⟨rfl, i2⟩
        simp only at i2
        subst i2
        show ∃ t t', lX17_worth_21 σa p (z + w) (nI h) x1 x2 x3 (nI k) = _ ∧ lX7_worthOf_24 σb (z + 1064) (nI h) (nI v) x1 x2 x3 (nI k) = _ ∧ _
        unfold lX17_worth_21 lX7_worthOf_24
        have b : k < 40 := by omega
        obtain ⟨q, q1, q2, q3, q4, q5, ⟨cc, q6, q7⟩, -⟩ := tA.2.2.2 k hk
        have qa : s_i σb (z + 1070) k = s_i σa (z + (w + 7)) k := (hW.2 k hk).symm
        have c3' := c3 cc (by omega)
        rw [← q7] at c3'
        rw [o_gR_eq p0.1 p3, e_0_i hA, tA.2.1, if_neg (nI_ge hk (by omega)), e_1064_i hB, tB.2.2.1, if_neg (nI_ge hk (by omega))]
        have ca : ∀ (K : Int32 → Option ((Int32 × Int32 × Int32 × Int32) ⊕ (Int32 × Int32))), o_aI σa C 0 (s_i σa (z + 1072) k) K = K (tof (fun j => s_i σa (z + 1080) (24 * v + j)) 1 (s_i σa (z + 1072) k) m) := fun K => by
          rw [← c3', q7, o_aI_eq c2.1 (show cc < 4 by omega) (by decide)]
        simp only [jn, nI_1, w_7 hw hA, wa_7 hw hA b, o_gR_eq p0.1 c1, o_gR_eq p0.1 p3, e_0_4 hA, a_4 hA b q1, o_gI_eq q2.1, q3, q4, ca, o_gI_eq p0.1, p5, e_1064_8 hB, a_1070 hB b, e_1064_10 hB, a_1072 hB b, e_1064_k hB, tz, sb, e_1064_11 hB, a_1073 hB b, qa, h72, h73]
        (repeat' split) <;> exact ⟨_, _, rfl, rfl, rfl, rfl⟩) (by
        rintro ⟨x1, x2, x3, x4⟩ s' ⟨rfl, i2⟩
        simp only at i2
        subst i2
        show ∃ t t', lX17_worth_21 σa p (z + w) (nI h) x1 x2 x3 (nI nt) = _ ∧ lX7_worthOf_24 σb (z + 1064) (nI h) (nI v) x1 x2 x3 (nI nt) = _ ∧ _
        unfold lX17_worth_21 lX7_worthOf_24
        rw [o_gR_eq p0.1 p3, e_0_i hA, tA.2.1, if_pos (nI_le (Nat.le_refl nt) (by omega)), e_1064_i hB, tB.2.2.1, if_pos (nI_le (Nat.le_refl nt) (by omega))]
        exact ⟨_, _, rfl, rfl, rfl⟩) (s := (s_i σb (z + 1067) h * tof (fun j => s_i σa (z + 1080) (24 * v + j)) 0 0 m, 0, 1, 0)) (s' := (s_i σb (z + 1067) h * tof (fun j => s_i σa (z + 1080) (24 * v + j)) 0 0 m, 0, 1, 0)) ⟨rfl, rfl⟩ fuel (fuel_lt (by omega))
    rw [e1, e2, sb, sb]
    obtain ⟨r1, r2⟩ := r
    simp only [un2, jn, e_1064_k hB, tz, sb, o_gI_eq p0.1, p6, p7]
    split
    · split <;> exact ⟨_, rfl, rfl⟩
    · split <;> exact ⟨_, rfl, rfl⟩
end WORTH
theorem isVisitor_eq (σ : St) (v : Int32) : fX0_isVisitor σ v = some (if 0 ≤ v ∧ v ≤ 3 then 1 else 0) := by
  unfold fX0_isVisitor
  rw [isIn_lit σ σ v 0 3 (lo' := 0) (hi' := 3) rfl rfl, in_eq, sb, bz_01]
theorem isVisitorM_eq (σ : St) (v : Int32) : fX7_isVisitor σ v = some (if 0 ≤ v ∧ v ≤ 3 then 1 else 0) := by
  unfold fX7_isVisitor
  rw [in_eq, sb, bz_01]
section WORTH2
variable {σ : St} {z n nt : Nat}
theorem worth_one (hS : Sh σ z) (hH : Hn σ z n) (hT : Th σ z nt) (hTa : Ta σ z) (hW : Wd σ z n nt) {v h : Nat} (hv : v < 4) (hh : h < n) : ∃ x, fX0_worthOf σ z (nI v) (z + 6) (nI h) = some x ∧ fX7_worthOf σ (z + 1064) (nI v) (nI h) = some x :=
  worthOf_two (w := 6) (Or.inl rfl) hS hS hT hT hH.1 hTa (fun _ => rfl) (fun _ => rfl) (fun _ => rfl) (fun _ => rfl) hW.2.1 hv hh
theorem worth_sim (hS : Sh σ z) (hH : Hn σ z n) (hT : Th σ z nt) (hTa : Ta σ z) (hW : Wd σ z n nt) (a b : Int32) : ∃ v, fX0_worth σ z a b = some v ∧ fX7_worth σ (z + 1064) a b = some v := by
  have hn := hH.1
  unfold fX0_worth fX7_worth
  simp only [jn, isVisitor_eq, isVisitorM_eq, sb, if01, e_0_k hS, e_1064_k hS, isHut_eq hS hH, isHutM_eq hS hH, e_0_7 hS]
  by_cases c1 : 0 ≤ a ∧ a ≤ 3
  · by_cases c2 : 0 ≤ b ∧ b ≤ nI n - 1
    · obtain ⟨v, hv, rfl⟩ := in_lit (n := 3) rfl c1
      obtain ⟨h, hh, rfl⟩ := in_nat (by omega) c2
      obtain ⟨x, x1, x2⟩ := worth_one hS hH hT hTa hW (show v < 4 by omega) hh
      rw [if_pos c1, if_pos c2, if_pos c1, if_pos c2, x1, x2]
      exact ⟨_, rfl, rfl⟩
    · rw [if_pos c1, if_neg c2, if_pos c1, if_neg c2]; exact ⟨_, rfl, rfl⟩
  · rw [if_neg c1, if_neg c1]; exact ⟨_, rfl, rfl⟩
theorem choose_sim (hS : Sh σ z) (hH : Hn σ z n) (hT : Th σ z nt) (hTa : Ta σ z) (hW : Wd σ z n nt) (a : Int32) : ∃ v, fX0_choose σ z a = some v ∧ fX7_choose σ (z + 1064) a = some v := by
  have hn := hH.1
  unfold fX0_choose fX7_choose
  simp only [isVisitor_eq, isVisitorM_eq, sb, if01]
  by_cases c1 : 0 ≤ a ∧ a ≤ 3
  · obtain ⟨v, hv, rfl⟩ := in_lit (n := 3) rfl c1
    rw [if_pos c1, if_pos c1]
    obtain ⟨r, r', e1, e2, rfl⟩ := loopF_two (b := fun y : Int32 × Int32 => lX0_choose_14 σ z (nI v) y.1 y.2) (b' := fun y : Int32 × Int32 × Int32 => lX7_choose_17 σ (z + 1064) (nI v) y.1 y.2.1 y.2.2) (fun k s s' => s.1 = s'.1 ∧ s.2 = nI k ∧ s'.2.2 = nI k ∧ ((s.1 = -1 ∧ s'.2.1 = 0) ∨ ∃ j, j < n ∧ s.1 = nI j ∧ 0 < s'.2.1 ∧ fX0_worthOf σ z (nI v) (z + 6) (nI j) = some s'.2.1)) n (Q := fun r r' => r = r') (by
        rintro k ⟨x1, x2⟩ ⟨y1, y2, y3⟩ hk ⟨i1, i2, i3, i4⟩
        simp only at i1 i2 i3 i4
        subst i1; subst i2; subst i3
        obtain ⟨x, q1, q2⟩ := worth_one hS hH hT hTa hW (show v < 4 by omega) hk
        show ∃ t t', lX0_choose_14 σ z (nI v) x1 (nI k) = _ ∧ lX7_choose_17 σ (z + 1064) (nI v) x1 y2 (nI k) = _ ∧ _
        unfold lX0_choose_14 lX7_choose_17
        rw [e_0_i hS, hH.2.1, if_neg (nI_ge hk (by omega)), e_1064_i hS, hH.2.2, if_neg (nI_ge hk (by omega))]
        simp only [jn, nI_1, e_0_7 hS, e_0_k hS, e_1064_k hS, q1, q2, sb]
        rcases i4 with ⟨j1, j2⟩ | ⟨j, hj, j1, j2, j3⟩
        · subst j1; subst j2
          by_cases c : x ≤ 0
          · rw [if_pos c, if_pos c, if_pos c]
            exact ⟨_, _, rfl, rfl, rfl, rfl, rfl, Or.inl ⟨rfl, rfl⟩⟩
          · rw [if_neg c, if_neg c, if_neg c, if_pos rfl]
            exact ⟨_, _, rfl, rfl, rfl, rfl, rfl, Or.inr ⟨k, hk, rfl, Int32.not_le.mp c, q1⟩⟩
        · subst j1
          rw [j3, sb, if_neg (neg1_ne (by omega))]
          by_cases c : x ≤ y2
          · rw [if_pos c, if_pos c, if_pos c, ite_self]
            exact ⟨_, _, rfl, rfl, rfl, rfl, rfl, Or.inr ⟨j, hj, rfl, j2, j3⟩⟩
          · have c0 : ¬ x ≤ 0 := fun q => c (Int32.le_of_lt (Int32.lt_of_le_of_lt q j2))
            rw [if_neg c, if_neg c, if_neg c, if_neg c0]
            exact ⟨_, _, rfl, rfl, rfl, rfl, rfl, Or.inr ⟨k, hk, rfl, Int32.not_le.mp c0, q1⟩⟩) (by
        rintro ⟨x1, x2⟩ ⟨y1, y2, y3⟩ ⟨i1, i2, i3, i4⟩
        simp only at i1 i2 i3 i4
        subst i1; subst i2; subst i3
        show ∃ t t', lX0_choose_14 σ z (nI v) x1 (nI n) = _ ∧ lX7_choose_17 σ (z + 1064) (nI v) x1 y2 (nI n) = _ ∧ _
        unfold lX0_choose_14 lX7_choose_17
        rw [e_0_i hS, hH.2.1, if_pos (nI_le (Nat.le_refl n) (by omega)), e_1064_i hS, hH.2.2, if_pos (nI_le (Nat.le_refl n) (by omega))]
        exact ⟨_, _, rfl, rfl, rfl⟩) (s := (-1, 0)) (s' := (-1, 0, 0)) ⟨rfl, rfl, rfl, Or.inl ⟨rfl, rfl⟩⟩ fuel (fuel_lt (by omega))
    rw [e1, e2]
    exact ⟨_, rfl, rfl⟩
  · rw [if_neg c1, if_neg c1]; exact ⟨_, rfl, rfl⟩
theorem act_sim (hS : Sh σ z) (hH : Hn σ z n) (hT : Th σ z nt) (hA : Ha σ z n) (hW : Wd σ z n nt) (a : Int32) : ∃ v, fX0_act σ z a = some v ∧ fX7_act σ (z + 1064) a = some v := by
  have hn := hH.1
  unfold fX0_act fX7_act
  simp only [e_0_k hS, e_1064_k hS, isHut_eq hS hH, isHutM_eq hS hH, sb, if01, e_0_7 hS, e_6_k hS, e_1064_i hS]
  by_cases c1 : 0 ≤ a ∧ a ≤ nI n - 1
  · obtain ⟨h, hh, rfl⟩ := in_nat (by omega) c1
    obtain ⟨r, c, r1, r2, r3⟩ := actOf_two (w := 6) (Or.inl rfl) hS hS hT hT hn hA (fun _ => rfl) (fun _ => rfl) (fun _ => rfl) hW.2.1 hh (now := s_i σ (z + 1064) 0) hW.1.symm
    rw [if_pos c1, if_pos c1, r1, r2, sb, sb]
    have k1 := hS.k 1 _ (by decide) rfl
    have k2 := hS.k 2 _ (by decide) rfl
    rcases r3 with ⟨rfl, rfl⟩ | ⟨rfl, d⟩ | ⟨rfl, d⟩ | ⟨rfl, rfl⟩ | ⟨g, g1, rfl, d, g2⟩
    · refine ⟨0, ?_, rfl⟩
      simp [o_inst, k1, vAct_code, kTL, kT, fX2_code]
    · refine ⟨1, ?_, rfl⟩
      simp [o_inst, d.1, vAct_code, fX12_code]
    · refine ⟨2, ?_, rfl⟩
      simp [o_inst, d.1, vAct_code, fX13_code]
    · refine ⟨3, ?_, rfl⟩
      simp [o_inst, k2, vAct_code, kTL, kT, fX4_code]
    · refine ⟨nI (10 + g), ?_, rfl⟩
      simp only [o_inst, d.1, if_true, i10, if_false, o_k_eq d.1, o_gI_eq d.1, g2, nI_lo 10 10 g rfl]
  · rw [if_neg c1, if_neg c1]; exact ⟨_, rfl, rfl⟩
end WORTH2
