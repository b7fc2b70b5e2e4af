set_option maxRecDepth 100000
/-! the tape -/
theorem nar_all : ∀ b, b < 256 → vp_nar .byte ((nI b).toInt8.toInt32) = sx8 b := by decide +kernel
theorem byte_of (x : Int64) : ∃ b, b < 256 ∧ (x &&& 255).toInt32 = nI b ∧ vp_nar .byte (x.toInt32.toInt8.toInt32) = sx8 b := by
  refine ⟨x.toBitVec.toNat % 256, Nat.mod_lt _ (by decide), ?_, ?_⟩
  · apply Int32.toBitVec_inj.mp
    apply BitVec.eq_of_toNat_eq
    have e : (x &&& 255).toInt32.toBitVec = (x.toBitVec &&& 255#64).setWidth 32 := by
      show ((x &&& 255).toBitVec.signExtend 32) = _
      rw [BitVec.signExtend_eq_setWidth_of_le _ (by decide)]
      rfl
    rw [e]
    show _ = (Int32.ofNat (x.toBitVec.toNat % 256)).toBitVec.toNat
    have e2 : (Int32.ofNat (x.toBitVec.toNat % 256)).toBitVec = BitVec.ofNat 32 (x.toBitVec.toNat % 256) := rfl
    have e3 : (255#64).toNat = 2 ^ 8 - 1 := rfl
    rw [e2, BitVec.toNat_setWidth, BitVec.toNat_and, e3, Nat.and_two_pow_sub_one_eq_mod, BitVec.toNat_ofNat]
  · rw [← nar_all (x.toBitVec.toNat % 256) (Nat.mod_lt _ (by decide))]
    congr 2
    apply Int8.toBitVec_inj.mp
    apply BitVec.eq_of_toNat_eq
    have e : x.toInt32.toInt8.toBitVec = (x.toBitVec.setWidth 32).setWidth 8 := by
      show ((x.toBitVec.signExtend 32).signExtend 8) = _
      rw [BitVec.signExtend_eq_setWidth_of_le _ (by decide), BitVec.signExtend_eq_setWidth_of_le _ (by decide)]
    have e2 : (nI (x.toBitVec.toNat % 256)).toInt8.toBitVec = (BitVec.ofNat 32 (x.toBitVec.toNat % 256)).setWidth 8 := by
      show ((BitVec.ofNat 32 (x.toBitVec.toNat % 256)).signExtend 8) = _
      rw [BitVec.signExtend_eq_setWidth_of_le _ (by decide)]
    rw [e, e2, BitVec.toNat_setWidth, BitVec.toNat_setWidth, BitVec.toNat_setWidth, BitVec.toNat_ofNat]
    omega
theorem write_sim {σ : St} {z : Nat} (hS : Sh σ z) (hP : Tp σ z) (a : Int64) (c : Int32) : ∃ v σ1 σ2, fX0_write σ z a c = some (v, σ1) ∧ fX7_write σ1 (z + 1064) a c = some (v, σ2) ∧ Fr (PL z [(24, none), (0, some 12), (1075, none), (1064, some 18)]) σ σ2 ∧ Tp σ2 z := by
  have hP0 := hP
  obtain ⟨n, h1, h2, h3, h4⟩ := hP
  have eX : fX0_write σ z a c = if 1 ≤ c ∧ c ≤ 8 then (if nI n + c ≤ 160 then ((loopF fuel (fun y => lX0_write_33 c z a y.1 y.2) (σ, 0)).bind <| fun σ10 => o_gI σ10 z 0 12 fun x11 => some (x11, σ10)) else some ((-5), σ)) else some ((-3), σ) := by
    unfold fX0_write
    rw [isIn_lit σ σ c 1 8 (lo' := 1) (hi' := 8) rfl rfl, in_eq, sb, if01, e_0_i hS, h2]
  have eM : ∀ σ1, Sh σ1 z → s_i σ1 (z + 1064) 18 = nI n → fX7_write σ1 (z + 1064) a c = if 1 ≤ c ∧ c ≤ 8 then (if nI n + c ≤ 160 then ((loopF fuel (fun y => lX7_write_31 c (z + 1064) a y.1 y.2) (σ1, 0)).bind <| fun σ8 => o_gI σ8 (z + 1064) 5 18 fun x9 => o_pI σ8 (z + 1064) 5 18 (x9 + c) fun σ10 => o_gI σ10 (z + 1064) 5 18 fun x11 => some (x11, σ10)) else some ((-5), σ1)) else some ((-3), σ1) := by
    intro σ1 q1 q2
    unfold fX7_write
    rw [in_eq, sb, if01, e_1064_i q1, q2]
  by_cases c1 : 1 ≤ c ∧ c ≤ 8
  · obtain ⟨m, hm, rfl⟩ : ∃ m, m ≤ 8 ∧ c = nI m := in_lit (hi := 8) (n := 8) rfl ⟨Int32.le_trans (by decide) c1.1, c1.2⟩
    by_cases c2 : n + m ≤ 160
    · have c3 : nI n + nI m ≤ 160 := by rw [nI_add]; exact nI_le (b := 160) c2 (by decide)
      rw [if_pos c1, if_pos c3] at eX
      obtain ⟨by_, hby⟩ : ∃ by_ : Nat → Nat, ∀ i, by_ i < 256 ∧ ((a >>> ((8 * nI i).toInt64 &&& 63)) &&& 255).toInt32 = nI (by_ i) ∧ vp_nar .byte (((a >>> ((8 * nI i).toInt64 &&& 63)).toInt32).toInt8.toInt32) = sx8 (by_ i) := ⟨fun i => Classical.choose (byte_of (a >>> ((8 * nI i).toInt64 &&& 63))), fun i => Classical.choose_spec (byte_of (a >>> ((8 * nI i).toInt64 &&& 63)))⟩
      obtain ⟨σ1, x1, x2, x3, x4, x5⟩ := loopF_inv (b := fun y : St × Int32 => lX0_write_33 (nI m) z a y.1 y.2) (fun k s => s.2 = nI k ∧ Fr (PL z [(24, none), (0, some 12)]) σ s.1 ∧ s_i s.1 z 12 = nI (n + k) ∧ (∀ i, i < k → s_i s.1 (z + 24) (n + i) = sx8 (by_ i)) ∧ ∀ i, i < n → s_i s.1 (z + 24) i = s_i σ (z + 24) i) m (Q := fun s => Fr (PL z [(24, none), (0, some 12)]) σ s ∧ s_i s z 12 = nI (n + m) ∧ (∀ i, i < m → s_i s (z + 24) (n + i) = sx8 (by_ i)) ∧ ∀ i, i < n → s_i s (z + 24) i = s_i σ (z + 24) i) (by
          rintro k ⟨τ, y⟩ hk ⟨i1, i2, i3, i4, i5⟩
          simp only at i1 i2 i3 i4 i5
          subst i1
          have hT : Sh τ z := i2.sh hS (by decide)
          have hT1 : Sh (setI τ (z + 24) (n + k) (sx8 (by_ k))) z := hT
          show ∃ t, lX0_write_33 (nI m) z a τ (nI k) = _ ∧ _
          unfold lX0_write_33
          rw [if_neg (nI_ge hk (by omega)), e_0_11 hT, e_0_i hT, i3, (hby k).2.2, s_24 hT (by omega), e_0_i hT1, gi_ne (by omega), i3, e_0_p hT1, nI_1 k, nI_1 (n + k)]
          refine ⟨_, rfl, rfl, ((i2.aS (o := 24) rfl).aS0 rfl), ?_, fun i hi => ?_, fun i hi => ?_⟩
          · show s_i (setI (setI τ (z + 24) (n + k) (sx8 (by_ k))) z 12 (nI (n + k + 1))) z 12 = _
            rw [gi_eq]; rfl
          · show s_i (setI (setI τ (z + 24) (n + k) (sx8 (by_ k))) z 12 (nI (n + k + 1))) (z + 24) (n + i) = _
            rw [gi_ne (by omega)]
            by_cases e : i = k
            · subst e; rw [gi_eq]
            · rw [gi_nj (by omega)]; exact i4 i (by omega)
          · show s_i (setI (setI τ (z + 24) (n + k) (sx8 (by_ k))) z 12 (nI (n + k + 1))) (z + 24) i = _
            rw [gi_ne (by omega), gi_nj (by omega)]; exact i5 i hi) (by
          rintro ⟨τ, y⟩ ⟨i1, i2, i3, i4, i5⟩
          simp only at i1 i2 i3 i4 i5
          subst i1
          show ∃ t, lX0_write_33 (nI m) z a τ (nI m) = _ ∧ _
          unfold lX0_write_33
          rw [if_pos (nI_le (Nat.le_refl m) (by omega))]
          exact ⟨_, rfl, i2, i3, i4, i5⟩) (s := (σ, 0)) ⟨rfl, Fr.refl, h2, fun i hi => absurd hi (Nat.not_lt_zero i), fun _ _ => rfl⟩ fuel (fuel_lt (by omega))
      have hS1 : Sh σ1 z := x2.sh hS (by decide)
      have g3 : s_i σ1 (z + 1064) 18 = nI n := (x2.ki hS 1064 18 (by decide) rfl).trans h3
      rw [x1, sb, e_0_i hS1, x3] at eX
      have eM := eM σ1 hS1 g3
      obtain ⟨σ2, y1, y2, y4, y5⟩ := loopF_inv (b := fun y : St × Int32 => lX7_write_31 (nI m) (z + 1064) a y.1 y.2) (fun k s => s.2 = nI k ∧ Fr (PL z [(1075, none)]) σ1 s.1 ∧ (∀ i, i < k → s_i s.1 (z + 1075) (n + i) = nI (by_ i)) ∧ ∀ i, i < n → s_i s.1 (z + 1075) i = s_i σ1 (z + 1075) i) m (Q := fun s => Fr (PL z [(1075, none)]) σ1 s ∧ (∀ i, i < m → s_i s (z + 1075) (n + i) = nI (by_ i)) ∧ ∀ i, i < n → s_i s (z + 1075) i = s_i σ1 (z + 1075) i) (by
          rintro k ⟨τ, y⟩ hk ⟨i1, i2, i4, i5⟩
          simp only at i1 i2 i4 i5
          subst i1
          have hT : Sh τ z := i2.sh hS1 (by decide)
          show ∃ t, lX7_write_31 (nI m) (z + 1064) a τ (nI k) = _ ∧ _
          unfold lX7_write_31
          rw [if_neg (nI_ge hk (by omega)), e_1064_19 hT, e_1064_i hT, i2.ki hS1 1064 18 (by decide) rfl, g3, (hby k).2.1, nI_add, s_1075 hT (by omega), nI_1 k]
          refine ⟨_, rfl, rfl, i2.aS (o := 1075) rfl, fun i hi => ?_, fun i hi => ?_⟩
          · show s_i (setI τ (z + 1075) (n + k) (nI (by_ k))) (z + 1075) (n + i) = _
            by_cases e : i = k
            · subst e; rw [gi_eq]
            · rw [gi_nj (by omega)]; exact i4 i (by omega)
          · show s_i (setI τ (z + 1075) (n + k) (nI (by_ k))) (z + 1075) i = _
            rw [gi_nj (by omega)]; exact i5 i hi) (by
          rintro ⟨τ, y⟩ ⟨i1, i2, i4, i5⟩
          simp only at i1 i2 i4 i5
          subst i1
          show ∃ t, lX7_write_31 (nI m) (z + 1064) a τ (nI m) = _ ∧ _
          unfold lX7_write_31
          rw [if_pos (nI_le (Nat.le_refl m) (by omega))]
          exact ⟨_, rfl, i2, i4, i5⟩) (s := (σ1, 0)) ⟨rfl, Fr.refl, fun i hi => absurd hi (Nat.not_lt_zero i), fun _ _ => rfl⟩ fuel (fuel_lt (by omega))
      have hS2 : Sh σ2 z := y2.sh hS1 (by decide)
      have hS3 : Sh (setI σ2 (z + 1064) 18 (nI n + nI m)) z := hS2
      rw [if_pos c1, if_pos c3, y1, sb, e_1064_i hS2, y2.ki hS1 1064 18 (by decide) rfl, g3, e_1064_p hS2, e_1064_i hS3, gi_eq, nI_add] at eM
      refine ⟨_, _, _, eX, eM, ((x2.transL y2).inL (by decide) : Fr (PL z [(24, none), (0, some 12), (1075, none), (1064, some 18)]) σ σ2).aS (o := 1064) rfl, n + m, c2, ?_, gi_eq, fun i hi => ?_⟩
      · rw [gi_ne (by omega)]; exact (y2.ki hS1 0 12 (by decide) rfl).trans x3
      · rw [gi_ne (a := z + 1064) (b := z + 1075) (by omega), gi_ne (a := z + 1064) (b := z + 24) (by omega), y2.kia hS1 24 (by decide) rfl]
        by_cases ci : i < n
        · rw [y5 i ci, x5 i ci, x2.kia hS 1075 (by decide) rfl]; exact h4 i ci
        · obtain ⟨j, rfl⟩ : ∃ j, i = n + j := ⟨i - n, by omega⟩
          rw [y4 j (by omega), x4 j (by omega)]
          exact ⟨by_ j, (hby j).1, rfl, rfl⟩
    · have c3 : ¬ nI n + nI m ≤ 160 := by rw [nI_add]; exact nI_ge (b := n + m) (a := 160) (by omega) (by omega)
      rw [if_pos c1, if_neg c3] at eX
      have eM := eM σ hS h3
      rw [if_pos c1, if_neg c3] at eM
      exact ⟨_, _, _, eX, eM, Fr.refl, hP0⟩
  · rw [if_neg c1] at eX
    have eM := eM σ hS h3
    rw [if_neg c1] at eM
    exact ⟨_, _, _, eX, eM, Fr.refl, hP0⟩
