set_option maxRecDepth 100000
/-! hours; would; lost -/
theorem areHours_eq (σ : St) (v : Int32) : fX0_areHours σ v = some (if 1 ≤ v ∧ v ≤ 60 then 1 else 0) := by
  unfold fX0_areHours
  rw [isIn_lit σ σ v 1 60 (lo' := 1) (hi' := 60) rfl rfl, in_eq, sb, bz_01]
theorem in_60 {v : Int32} (h : 1 ≤ v ∧ v ≤ 60) : ∃ N, N ≤ 60 ∧ v = nI N := in_lit (hi := 60) (n := 60) rfl ⟨Int32.le_trans (by decide) h.1, h.2⟩
def LH : PlL := [(1067, none), (1069, none), (1070, none), (1064, some 0)]
section HOURS
variable {σ σb : St} {z n nt : Nat}
theorem hours_two (sA : Stt z n nt σ) (sB : Stt z n nt σb) (hal : Alk z σ σb) (hW : WR z 6 n nt σ σb) (hh : s_i σ (z + 6) 0 = s_i σb (z + 1064) 0) (hc : ∀ h, h < n → s_i σ (z + 11) h = s_i σb (z + 1067) (18 + h)) {N : Nat} (hN : N ≤ 60) : ∃ ra rb, loopF fuel (fun y => lX0_hours_27 (nI N) z y.1 y.2) (σ, 0) = some ra ∧ loopF fuel (fun y => lX7_hours_27 (nI N) (z + 1064) y.1 y.2) (σb, 0) = some rb ∧ Fr (PL z (LX 6)) σ ra ∧ Fr (PL z LH) σb rb ∧ WR z 6 n nt ra rb ∧ s_i ra (z + 6) 0 = s_i rb (z + 1064) 0 ∧ (∀ h, h < n → s_i ra (z + 11) h = s_i rb (z + 1067) (18 + h)) ∧ ∀ h, n ≤ h → s_i ra (z + 8) h = s_i σ (z + 8) h ∧ s_i ra (z + 9) h = s_i σ (z + 9) h ∧ s_i ra (z + 11) h = s_i σ (z + 11) h := by
  obtain ⟨r, r', e1, e2, q⟩ := loopF_two (b := fun y : St × Int32 => lX0_hours_27 (nI N) z y.1 y.2) (b' := fun y : St × Int32 => lX7_hours_27 (nI N) (z + 1064) y.1 y.2)
    (fun k s s' => s.2 = nI k ∧ s'.2 = nI k ∧ Fr (PL z (LX 6)) σ s.1 ∧ Fr (PL z LH) σb s'.1 ∧ WR z 6 n nt s.1 s'.1 ∧ s_i s.1 (z + 6) 0 = s_i s'.1 (z + 1064) 0 ∧ (∀ h, h < n → s_i s.1 (z + 11) h = s_i s'.1 (z + 1067) (18 + h)) ∧ ∀ h, n ≤ h → s_i s.1 (z + 8) h = s_i σ (z + 8) h ∧ s_i s.1 (z + 9) h = s_i σ (z + 9) h ∧ s_i s.1 (z + 11) h = s_i σ (z + 11) h) N
    (Q := fun s s' => Fr (PL z (LX 6)) σ s ∧ Fr (PL z LH) σb s' ∧ WR z 6 n nt s s' ∧ s_i s (z + 6) 0 = s_i s' (z + 1064) 0 ∧ (∀ h, h < n → s_i s (z + 11) h = s_i s' (z + 1067) (18 + h)) ∧ ∀ h, n ≤ h → s_i s (z + 8) h = s_i σ (z + 8) h ∧ s_i s (z + 9) h = s_i σ (z + 9) h ∧ s_i s (z + 11) h = s_i σ (z + 11) h) (by
      rintro k ⟨τa, x⟩ ⟨τb, y⟩ hk ⟨i1, i2, i3, i4, i5, i6, i7, i8⟩
      simp only at i1 i2 i3 i4 i5 i6 i7 i8
      subst i1; subst i2
      have fA : Fr (PL z LW) σ τa := LX_W (Or.inl rfl) i3
      have fB : Fr (PL z LW) σb τb := i4.inL (by decide)
      have sA' := sA.keep fA
      have sB' := sB.keep fB
      have al : Alk z τa τb := ((Alk.keep sA.1 fA).symm.trans hal).trans (Alk.keep sB.1 fB)
      obtain ⟨τa', τb', p1, p2, p3, p4, p5, p6, p7, p8⟩ := step_two (w := 6) (Or.inl rfl) sA' sB' al i5 (now := s_i τb (z + 1064) 0) (a1 := 1) (a2 := 0) i6.symm (Or.inl ⟨rfl, rfl⟩)
      have hB' : Sh τb' z := (LM_W p4).sh sB'.1 (by decide)
      have h0 : s_i τb' (z + 1064) 0 = s_i τb (z + 1064) 0 := p4.ki sB'.1 1064 0 (by decide) rfl
      show ∃ t t', lX0_hours_27 (nI N) z τa (nI k) = _ ∧ lX7_hours_27 (nI N) (z + 1064) τb (nI k) = _ ∧ _
      have X : lX0_hours_27 (nI N) z τa (nI k) = some (.inl (τa', nI (k + 1))) := by
        unfold lX0_hours_27
        rw [if_neg (nI_ge hk (by omega)), e_0_7 sA'.1, e_6_k sA'.1, p1, sb, nI_1]
      have M : lX7_hours_27 (nI N) (z + 1064) τb (nI k) = some (.inl (setI τb' (z + 1064) 0 (s_i τb (z + 1064) 0 + 1), nI (k + 1))) := by
        unfold lX7_hours_27
        rw [if_neg (nI_ge hk (by omega)), e_1064_i sB'.1, e_1064_k sB'.1, p2, sb, e_1064_i hB', e_1064_p hB', h0, nI_1]
      refine ⟨_, _, X, M, rfl, rfl, (Fr.trans i3 p3).mono (fun a j q => q.elim id id), ?_, ?_, ?_, fun h hh => ?_, fun h hh => ?_⟩
      · exact ((Fr.trans i4 (p4.inL (by decide) : Fr (PL z LH) τb τb')).mono (fun a j q => q.elim id id) : Fr (PL z LH) σb τb').aS (o := 1064) rfl
      · refine ⟨fun i hi => ?_, fun t ht => ?_⟩
        · rw [gi_ne (a := z + 1064) (b := z + 1067) (by omega), gi_ne (a := z + 1064) (b := z + 1067) (by omega), gi_ne (a := z + 1064) (b := z + 1067) (by omega)]
          exact p5.1 i hi
        · rw [gi_ne (a := z + 1064) (b := z + 1070) (by omega)]
          exact p5.2 t ht
      · show s_i τa' (z + 6) 0 = s_i (setI τb' (z + 1064) 0 (s_i τb (z + 1064) 0 + 1)) (z + 1064) 0
        rw [gi_eq, p6]
      · show s_i τa' (z + 11) h = s_i (setI τb' (z + 1064) 0 (s_i τb (z + 1064) 0 + 1)) (z + 1067) (18 + h)
        rw [gi_ne (by omega)]
        exact p7 h hh
      · obtain ⟨u1, u2, u3⟩ := p8 h hh
        obtain ⟨v1, v2, v3⟩ := i8 h hh
        exact ⟨u1.trans v1, u2.trans v2, u3.trans v3⟩) (by
      rintro ⟨τa, x⟩ ⟨τb, y⟩ ⟨i1, i2, i3, i4, i5, i6, i7, i8⟩
      simp only at i1 i2 i3 i4 i5 i6 i7 i8
      subst i1; subst i2
      show ∃ t t', lX0_hours_27 (nI N) z τa (nI N) = _ ∧ lX7_hours_27 (nI N) (z + 1064) τb (nI N) = _ ∧ _
      unfold lX0_hours_27 lX7_hours_27
      rw [if_pos (nI_le (Nat.le_refl N) (by omega)), if_pos (nI_le (Nat.le_refl N) (by omega))]
      exact ⟨_, _, rfl, rfl, i3, i4, i5, i6, i7, i8⟩) (s := (σ, 0)) (s' := (σb, 0)) ⟨rfl, rfl, Fr.refl, Fr.refl, hW, hh, hc, fun _ _ => ⟨rfl, rfl, rfl⟩⟩ fuel (fuel_lt (by omega))
  exact ⟨r, r', e1, e2, q⟩
theorem hours_sim (hs : Stt z n nt σ) (hW : Wd σ z n nt) (a : Int32) : ∃ v σ1 σ2, fX0_hours σ z a = some (v, σ1) ∧ fX7_hours σ1 (z + 1064) a = some (v, σ2) ∧ Fr (PL z [(6, some 0), (7, none), (8, none), (9, none), (10, none), (11, none), (12, none), (13, none), (1067, none), (1069, none), (1070, none), (1064, some 0)]) σ σ2 ∧ Wd σ2 z n nt := by
  have hS := hs.1
  have eX : fX0_hours σ z a = if 1 ≤ a ∧ a ≤ 60 then (if s_i σ (z + 1064) 0 + a ≤ 900 then ((loopF fuel (fun y => lX0_hours_27 a z y.1 y.2) (σ, 0)).bind <| fun σ8 => o_gR σ8 z 0 7 fun r9 => o_gI σ8 r9 3 0 fun x10 => some (x10, σ8)) else some ((-3), σ)) else some ((-3), σ) := by
    unfold fX0_hours
    rw [areHours_eq, sb, if01, e_0_7 hS, e_6_i hS, hW.1]
  have eM : ∀ σ1, Sh σ1 z → s_i σ1 (z + 1064) 0 = s_i σ (z + 1064) 0 → fX7_hours σ1 (z + 1064) a = if 1 ≤ a ∧ a ≤ 60 then (if s_i σ (z + 1064) 0 + a ≤ 900 then ((loopF fuel (fun y => lX7_hours_27 a (z + 1064) y.1 y.2) (σ1, 0)).bind <| fun σ9 => o_gI σ9 (z + 1064) 5 0 fun x10 => some (x10, σ9)) else some ((-3), σ1)) else some ((-3), σ1) := by
    intro σ1 h1 h2
    unfold fX7_hours
    rw [in_eq, sb, if01, e_1064_i h1, h2]
  by_cases c1 : 1 ≤ a ∧ a ≤ 60
  · by_cases c2 : s_i σ (z + 1064) 0 + a ≤ 900
    · obtain ⟨N, hN, rfl⟩ := in_60 c1
      rw [if_pos c1, if_pos c2] at eX
      obtain ⟨hh, hR, hc, hz⟩ := hW
      obtain ⟨ra, rb0, x1, -, x3, -⟩ := hours_two hs hs Alk.refl hR hh hc hN
      have fA : Fr (PL z LW) σ ra := LX_W (Or.inl rfl) x3
      have sra := hs.keep fA
      have l67 : ∀ j, s_i ra (z + 1067) j = s_i σ (z + 1067) j := x3.kia hS 1067 (by decide) rfl
      have l70 : ∀ j, s_i ra (z + 1070) j = s_i σ (z + 1070) j := x3.kia hS 1070 (by decide) rfl
      have l64 : s_i ra (z + 1064) 0 = s_i σ (z + 1064) 0 := x3.ki hS 1064 0 (by decide) rfl
      have hR' : WR z 6 n nt σ ra := by
        refine ⟨fun i hi => ?_, fun t ht => ?_⟩
        · rw [l67, l67, l67]; exact hR.1 i hi
        · rw [l70]; exact hR.2 t ht
      obtain ⟨ra', rb, y1, y2, y3, y4, y5, y6, y7, y8⟩ := hours_two hs sra (Alk.keep hS fA) hR' (hh.trans l64.symm) (fun h hh => by rw [l67]; exact hc h hh) hN
      cases x1.symm.trans y1
      rw [x1, sb, e_0_7 sra.1, e_6_i sra.1] at eX
      have eM := eM ra sra.1 l64
      have hb : Sh rb z := y4.sh sra.1 (by decide)
      rw [if_pos c1, if_pos c2, y2, sb, e_1064_i hb, ← y6] at eM
      have k6 : s_i rb (z + 6) 0 = s_i ra (z + 6) 0 := y4.ki sra.1 6 0 (by decide) rfl
      have k7 : ∀ j, s_i rb (z + 7) j = s_i ra (z + 7) j := y4.kia sra.1 7 (by decide) rfl
      have k8 : ∀ j, s_i rb (z + 8) j = s_i ra (z + 8) j := y4.kia sra.1 8 (by decide) rfl
      have k9 : ∀ j, s_i rb (z + 9) j = s_i ra (z + 9) j := y4.kia sra.1 9 (by decide) rfl
      have k11 : ∀ j, s_i rb (z + 11) j = s_i ra (z + 11) j := y4.kia sra.1 11 (by decide) rfl
      have k13 : ∀ j, s_i rb (z + 13) j = s_i ra (z + 13) j := y4.kia sra.1 13 (by decide) rfl
      refine ⟨_, _, _, eX, eM, (x3.transL y4).inL (by decide), k6.trans y6, ⟨fun i hi => ?_, fun t ht => ?_⟩, fun i hi => ?_, fun i hi h6 => ?_⟩
      · simp only [Nat.reduceAdd, k7, k8, k9]; exact y5.1 i hi
      · simp only [Nat.reduceAdd, k13]; exact y5.2 t ht
      · rw [k11]; exact y7 i hi
      · rw [k8, k9, k11, (y8 i hi).1, (y8 i hi).2.1, (y8 i hi).2.2]; exact hz i hi h6
    · rw [if_pos c1, if_neg c2] at eX
      have eM := eM σ hS rfl
      rw [if_pos c1, if_neg c2] at eM
      exact ⟨_, _, _, eX, eM, Fr.refl, hW⟩
  · rw [if_neg c1] at eX
    have eM := eM σ hS rfl
    rw [if_neg c1] at eM
    exact ⟨_, _, _, eX, eM, Fr.refl, hW⟩
end HOURS
