set_option maxRecDepth 100000
/-! an hour, whole -/
def cd (c : Int32) : Int32 := if c < 10 then c else 4
theorem ActC.kind {σ : St} {z r : Nat} {c : Int32} (hS : Sh σ z) (h : ActC σ z r c) : ∃ ci, s_k σ r = some (.inl ci) ∧ okA 5 ci = true := by
  rcases h with ⟨-, rfl⟩ | ⟨-, d⟩ | ⟨-, d⟩ | ⟨-, rfl⟩ | ⟨g, -, -, d, -⟩
  · exact ⟨1, hS.k 1 _ (by decide) rfl, rfl⟩
  · exact ⟨9, d.1, rfl⟩
  · exact ⟨10, d.1, rfl⟩
  · exact ⟨2, hS.k 2 _ (by decide) rfl, rfl⟩
  · exact ⟨12, d.1, rfl⟩
theorem ws_6 {α : Type} {σ : St} {z w k v ci : Nat} {K : St → Option α} (hw : Ws w) (h : Sh σ z) (hk : k < 6) (hv : s_k σ v = some (.inl ci)) (hc : okA 5 ci = true) : o_sR σ (z + (w + 6)) 5 (nI k) v K = K (setR σ (z + (w + 6)) k (some v)) := by
  rcases hw with rfl | rfl
  · exact s_12 h hk hv hc
  · exact s_20 h hk hv hc
theorem wa_6 {α : Type} {σ : St} {z w k v : Nat} {K : Nat → Option α} (hw : Ws w) (h : Sh σ z) (hk : k < 6) (hv : s_r σ (z + (w + 6)) k = some v) : o_aR σ (z + (w + 6)) 5 (nI k) K = K v := by
  rcases hw with rfl | rfl
  · exact a_12 h hk hv
  · exact a_20 h hk hv
theorem wsh {w : Nat} (hw : Ws w) {σ : St} {z j : Nat} {v : Option Nat} (h : Sh σ z) : Sh (setR σ (z + (w + 6)) j v) z := by
  rcases hw with rfl | rfl
  · exact h.sR (o := 12) (by decide)
  · exact h.sR (o := 20) (by decide)
section FRW
variable {σ σ' : St} {z w : Nat}
theorem L1_i (hw : Ws w) (h : Fr (PL z (L1 w)) σ σ') (hS : Sh σ z) (d : Nat) (hd : d = 1 ∨ d = 2 ∨ d = 3 ∨ d = 7) (j : Nat) : s_i σ' (z + (w + d)) j = s_i σ (z + (w + d)) j := by
  rcases hw with rfl | rfl <;> rcases hd with rfl | rfl | rfl | rfl <;> exact h.kia hS _ (by decide) rfl j
theorem L2_i (hw : Ws w) (h : Fr (PL z (L2 w)) σ σ') (hS : Sh σ z) (d : Nat) (hd : d = 3 ∨ d = 5) (j : Nat) : s_i σ' (z + (w + d)) j = s_i σ (z + (w + d)) j := by
  rcases hw with rfl | rfl <;> rcases hd with rfl | rfl <;> exact h.kia hS _ (by decide) rfl j
theorem L3_i (hw : Ws w) (h : Fr (PL z (L3 w)) σ σ') (hS : Sh σ z) (d : Nat) (hd : d = 1 ∨ d = 4 ∨ d = 5 ∨ d = 7) (j : Nat) : s_i σ' (z + (w + d)) j = s_i σ (z + (w + d)) j := by
  rcases hw with rfl | rfl <;> rcases hd with rfl | rfl | rfl | rfl <;> exact h.kia hS _ (by decide) rfl j
theorem L1_h (hw : Ws w) (h : Fr (PL z (L1 w)) σ σ') (hS : Sh σ z) : s_i σ' (z + w) 0 = s_i σ (z + w) 0 := by
  rcases hw with rfl | rfl <;> exact h.ki hS _ 0 (by decide) rfl
theorem L2_h (hw : Ws w) (h : Fr (PL z (L2 w)) σ σ') (hS : Sh σ z) : s_i σ' (z + w) 0 = s_i σ (z + w) 0 := by
  rcases hw with rfl | rfl <;> exact h.ki hS _ 0 (by decide) rfl
theorem L3_h (hw : Ws w) (h : Fr (PL z (L3 w)) σ σ') (hS : Sh σ z) : s_i σ' (z + w) 0 = s_i σ (z + w) 0 := by
  rcases hw with rfl | rfl <;> exact h.ki hS _ 0 (by decide) rfl
theorem L2_r (hw : Ws w) (h : Fr (PL z (L2 w)) σ σ') (hS : Sh σ z) (j : Nat) : s_r σ' (z + (w + 6)) j = s_r σ (z + (w + 6)) j := by
  rcases hw with rfl | rfl <;> exact h.kra hS _ (by decide) rfl j
theorem LW_nw (h : Fr (PL z LW) σ σ') : Nw σ σ' z := h.nw (by decide)
end FRW
section HOUR
variable {σa σb : St} {z w n nt : Nat}
theorem hour1 (hw : Ws w) (sA : Stt z n nt σa) (sB : Stt z n nt σb) (hal : Alk z σa σb) (hQ : WQ z w 3 n nt σa σb) {now a1 a2 : Int32} (hnow : now = s_i σa (z + w) 0) (rp : (a1 = 1 ∧ a2 = 0) ∨ (a1 = 0 ∧ a2 = 1)) : ∃ σa' σb', loopF fuel (fun y => lX5_step_2 (z + w) a1 y.1 y.2) (σa, 0) = some σa' ∧ loopF fuel (fun y => lX7_goHour_2 (z + 1064) now a2 y.1 y.2) (σb, 0) = some σb' ∧ Fr (PL z (L1 w)) σa σa' ∧ Fr (PL z [(1069, none)]) σb σb' ∧ (∀ i, i < n → (∃ r, s_r σa' (z + (w + 6)) i = some r ∧ ActC σa' z r (s_i σb' (z + 1069) i)) ∧ s_i σa' (z + (w + 5)) i = cd (s_i σb' (z + 1069) i) ∧ s_i σa' (z + (w + 4)) i = 0) ∧ ∀ i, n ≤ i → s_i σa' (z + (w + 5)) i = s_i σa (z + (w + 5)) i := by
  have hn := sA.2.1.1.1
  obtain ⟨r, r', e1, e2, q1, q2, q3, q4⟩ := loopF_two (b := fun y : St × Int32 => lX5_step_2 (z + w) a1 y.1 y.2) (b' := fun y : St × Int32 => lX7_goHour_2 (z + 1064) now a2 y.1 y.2)
    (fun k s s' => s.2 = nI k ∧ s'.2 = nI k ∧ Fr (PL z (L1 w)) σa s.1 ∧ Fr (PL z [(1069, none)]) σb s'.1 ∧ (∀ i, i < k → (∃ r, s_r s.1 (z + (w + 6)) i = some r ∧ ActC s.1 z r (s_i s'.1 (z + 1069) i)) ∧ s_i s.1 (z + (w + 5)) i = cd (s_i s'.1 (z + 1069) i) ∧ s_i s.1 (z + (w + 4)) i = 0) ∧ ∀ i, n ≤ i → s_i s.1 (z + (w + 5)) i = s_i σa (z + (w + 5)) i) n
    (Q := fun s s' => Fr (PL z (L1 w)) σa s ∧ Fr (PL z [(1069, none)]) σb s' ∧ (∀ i, i < n → (∃ r, s_r s (z + (w + 6)) i = some r ∧ ActC s z r (s_i s' (z + 1069) i)) ∧ s_i s (z + (w + 5)) i = cd (s_i s' (z + 1069) i) ∧ s_i s (z + (w + 4)) i = 0) ∧ ∀ i, n ≤ i → s_i s (z + (w + 5)) i = s_i σa (z + (w + 5)) i) (by
      rintro k ⟨τa, x⟩ ⟨τb, y⟩ hk ⟨i1, i2, i3, i4, i5, i6⟩
      simp only at i1 i2 i3 i4 i5 i6
      subst i1; subst i2
      have fA := L1_W hw i3
      have fB : Fr (PL z LW) σb τb := i4.inL (by decide)
      obtain ⟨hA, uA, tA, cA, vA, eA⟩ := sA.keep fA
      obtain ⟨hB, uB, tB, cB, vB, eB⟩ := sB.keep fB
      have al : Alk z τa τb := ((Alk.keep sA.1 fA).symm.trans hal).trans (Alk.keep sB.1 fB)
      have b6 : k < 6 := by omega
      have w67 : ∀ j, s_i τb (z + 1067) j = s_i σb (z + 1067) j := i4.kia sB.1 1067 (by decide) rfl
      have w70 : ∀ j, s_i τb (z + 1070) j = s_i σb (z + 1070) j := i4.kia sB.1 1070 (by decide) rfl
      have hR : WR z w n nt τa τb := by
        refine ⟨fun i hi => ?_, fun t ht => ?_⟩
        · rw [L1_i hw i3 sA.1 1 (by omega), L1_i hw i3 sA.1 2 (by omega), L1_i hw i3 sA.1 3 (by omega), w67, w67, w67]
          exact hQ.1 i hi
        · rw [L1_i hw i3 sA.1 7 (by omega), w70]
          exact hQ.2 t ht
      obtain ⟨r, c, r1, r2, r3⟩ := actOf_two hw hA hB tA tB hn cA al.2.2.1 al.2.2.2.2.1 al.2.2.2.2.2.1 hR hk (now := now) (hnow.trans (L1_h hw i3 sA.1).symm)
      obtain ⟨-, rc⟩ := away_eq hA r3
      show ∃ t t', lX5_step_2 (z + w) a1 τa (nI k) = _ ∧ lX7_goHour_2 (z + 1064) now a2 τb (nI k) = _ ∧ _
      -- what is chosen
      obtain ⟨r', c', hX, hM, rr⟩ : ∃ r' c', (∀ J : Nat → Option ((St × Int32) ⊕ St), (if a1 = 0 then (vAct_code τa r).bind fun x7 => if x7 = 4 then (o_gR τa (z + w) 3 8 fun r8 => o_gR τa r8 0 0 fun r9 => J r9) else J r else J r) = J r') ∧ (∀ J : Int32 → Option ((St × Int32) ⊕ St), (if a2 = 0 then J c else if c < 10 then J c else J 0) = J c') ∧ ActC τa z r' c' := by
        rcases rp with ⟨rfl, rfl⟩ | ⟨rfl, rfl⟩
        · exact ⟨r, c, fun J => if_neg (by decide), fun J => if_pos rfl, r3⟩
        · by_cases c10 : c < 10
          · refine ⟨r, c, fun J => ?_, fun J => ?_, r3⟩
            · rw [if_pos rfl, rc, sb, if_pos c10]
              have : ¬ c = 4 := by
                rcases r3 with ⟨rfl, -⟩ | ⟨rfl, -⟩ | ⟨rfl, -⟩ | ⟨rfl, -⟩ | ⟨g, g1, rfl, -⟩
                · decide
                · decide
                · decide
                · decide
                · have e : ∀ g, g ≤ 5 → ¬ nI (10 + g) = 4 := by decide +kernel
                  exact e g g1
              rw [if_neg this]
            · rw [if_neg (by decide), if_pos c10]
          · refine ⟨z + 1, 0, fun J => ?_, fun J => ?_, Or.inl ⟨rfl, rfl⟩⟩
            · rw [if_pos rfl, rc, sb, if_neg c10, if_pos rfl, w_8 hw hA, e_0_0 hA]
            · rw [if_neg (by decide), if_neg c10]
      obtain ⟨ci, ck, co⟩ := rr.kind hA
      have hA1 : Sh (setR τa (z + (w + 6)) k (some r')) z := wsh hw hA
      have rr1 : ActC (setR τa (z + (w + 6)) k (some r')) z r' c' := by
        refine rr.nw hA (fun a ha hz => ⟨rfl, fun j => ⟨rfl, ?_⟩⟩)
        rw [r_setR, up2_ne (by rcases hw with rfl | rfl <;> omega)]
      obtain ⟨-, rc1⟩ := away_eq hA1 rr1
      have s1 : s_r (setR τa (z + (w + 6)) k (some r')) (z + (w + 6)) k = some r' := by rw [r_setR, up2_same]
      have hA2 : Sh (setI (setR τa (z + (w + 6)) k (some r')) (z + (w + 5)) k (if c' < 10 then c' else 4)) z := hA1
      have X : lX5_step_2 (z + w) a1 τa (nI k) = some (.inl (setI (setI (setR τa (z + (w + 6)) k (some r')) (z + (w + 5)) k (cd c')) (z + (w + 4)) k 0, nI (k + 1))) := by
        unfold lX5_step_2
        rw [w_8 hw hA, e_0_i hA, uA.1.2.1, if_neg (nI_ge hk (by omega)), w_k hw hA, r1, sb, w_6 hw hA]
        simp only [jn]
        rw [hX, ws_6 hw hA b6 ck co, w_5 hw hA1, w_6 hw hA1, wa_6 hw hA1 b6 s1, rc1, sb, ws_5 hw hA1 b6, w_4 hw hA2, ws_4 hw hA2 b6, nI_1]
        rfl
      have hB1 : Sh (setI τb (z + 1069) k c) z := hB
      have M : lX7_goHour_2 (z + 1064) now a2 τb (nI k) = some (.inl (setI (setI τb (z + 1069) k c) (z + 1069) k c', nI (k + 1))) := by
        unfold lX7_goHour_2
        rw [e_1064_i hB, uB.1.2.2, if_neg (nI_ge hk (by omega)), e_1064_6 hB, e_1064_k hB, r2, sb, s_1069 hB b6, e_1064_6 hB1]
        simp only [jn, e_1064_6 hB1, a_1069 hB1 b6, gi_eq]
        refine (hM (fun x => o_sI (setI τb (z + 1069) k c) (z + 1069) 0 (nI k) x fun σ13 => some (Sum.inl (σ13, nI k + 1)))).trans ?_
        rw [s_1069 hB1 b6, nI_1]
      refine ⟨_, _, X, M, rfl, rfl, ?_, ?_, fun i hi => ?_, fun i hi => ?_⟩
      · refine ((Fr.trans i3 ?_).mono (fun a j q => q.elim id id) : Fr (PL z (L1 w)) σa _)
        have f1 : Fr (PL z (L1 w)) τa (setR τa (z + (w + 6)) k (some r')) := Fr.refl.aR (by rcases hw with rfl | rfl <;> rfl)
        exact (f1.aS (by rcases hw with rfl | rfl <;> rfl)).aS (by rcases hw with rfl | rfl <;> rfl)
      · exact (i4.aS (o := 1069) rfl).aS (o := 1069) rfl
      · show (∃ r, s_r (setI (setI (setR τa (z + (w + 6)) k (some r')) (z + (w + 5)) k (cd c')) (z + (w + 4)) k 0) (z + (w + 6)) i = some r ∧ ActC (setI (setI (setR τa (z + (w + 6)) k (some r')) (z + (w + 5)) k (cd c')) (z + (w + 4)) k 0) z r (s_i (setI (setI τb (z + 1069) k c) (z + 1069) k c') (z + 1069) i)) ∧ s_i (setI (setI (setR τa (z + (w + 6)) k (some r')) (z + (w + 5)) k (cd c')) (z + (w + 4)) k 0) (z + (w + 5)) i = cd (s_i (setI (setI τb (z + 1069) k c) (z + 1069) k c') (z + 1069) i) ∧ s_i (setI (setI (setR τa (z + (w + 6)) k (some r')) (z + (w + 5)) k (cd c')) (z + (w + 4)) k 0) (z + (w + 4)) i = 0
        have hN : Nw τa (setI (setI (setR τa (z + (w + 6)) k (some r')) (z + (w + 5)) k (cd c')) (z + (w + 4)) k 0) z := by
          intro a ha hz
          have ne : ∀ d, d ≤ 7 → a ≠ z + (w + d) := fun d hd => by rcases hw with rfl | rfl <;> omega
          refine ⟨rfl, fun j => ⟨?_, ?_⟩⟩
          · rw [gi_ne (ne 4 (by omega)), gi_ne (ne 5 (by omega))]; rfl
          · show s_r (setR τa (z + (w + 6)) k (some r')) a j = _
            rw [r_setR, up2_ne (fun q => ne 6 (by omega) q.1)]
        by_cases e : i = k
        · subst e
          rw [gi_eq, gi_ne (a := z + (w + 4)) (b := z + (w + 5)) (by omega), gi_eq, gi_eq]
          exact ⟨⟨r', s1, rr.nw hA hN⟩, rfl, rfl⟩
        · obtain ⟨⟨ri, ri1, ri2⟩, p1, p2⟩ := i5 i (by omega)
          rw [gi_nj (a := z + 1069) e, gi_nj (a := z + 1069) e, gi_ne (a := z + (w + 4)) (b := z + (w + 5)) (by omega), gi_nj (a := z + (w + 5)) e, gi_nj (a := z + (w + 4)) e, gi_ne (a := z + (w + 5)) (b := z + (w + 4)) (by omega)]
          refine ⟨⟨ri, ?_, ri2.nw hA hN⟩, p1, p2⟩
          show s_r (setR τa (z + (w + 6)) k (some r')) (z + (w + 6)) i = some ri
          rw [r_setR, up2_ne (fun q => e q.2)]
          exact ri1
      · show s_i (setI (setI (setR τa (z + (w + 6)) k (some r')) (z + (w + 5)) k (cd c')) (z + (w + 4)) k 0) (z + (w + 5)) i = _
        rw [gi_ne (a := z + (w + 4)) (b := z + (w + 5)) (by omega), gi_nj (a := z + (w + 5)) (by omega)]
        exact i6 i hi) (by
      rintro ⟨τa, x⟩ ⟨τb, y⟩ ⟨i1, i2, i3, i4, i5, i6⟩
      simp only at i1 i2 i3 i4 i5 i6
      subst i1; subst i2
      have fA := L1_W hw i3
      have fB : Fr (PL z LW) σb τb := i4.inL (by decide)
      obtain ⟨hA, uA, -⟩ := sA.keep fA
      obtain ⟨hB, uB, -⟩ := sB.keep fB
      show ∃ t t', lX5_step_2 (z + w) a1 τa (nI n) = _ ∧ lX7_goHour_2 (z + 1064) now a2 τb (nI n) = _ ∧ _
      unfold lX5_step_2 lX7_goHour_2
      rw [w_8 hw hA, e_0_i hA, uA.1.2.1, if_pos (nI_le (Nat.le_refl n) (by omega)), e_1064_i hB, uB.1.2.2, if_pos (nI_le (Nat.le_refl n) (by omega))]
      exact ⟨_, _, rfl, rfl, i3, i4, i5, i6⟩) (s := (σa, 0)) (s' := (σb, 0)) ⟨rfl, rfl, Fr.refl, Fr.refl, fun i hi => absurd hi (Nat.not_lt_zero i), fun _ _ => rfl⟩ fuel (fuel_lt (by omega))
  exact ⟨r, r', e1, e2, q1, q2, q3, q4⟩
/-- the model's marks of what was taken are laid anew -/
theorem hour2 (sB : Stt z n nt σb) : ∃ σb', loopF fuel (fun y => lX7_goHour_61 (z + 1064) y.1 y.2) (σb, 0) = some σb' ∧ Fr (PL z [(1067, none)]) σb σb' ∧ (∀ i, i < n → s_i σb' (z + 1067) (12 + i) = 0) ∧ ∀ j, j < 12 → s_i σb' (z + 1067) j = s_i σb (z + 1067) j := by
  have hn := sB.2.1.1.1
  obtain ⟨r, e, h1, h2, h3⟩ := loopF_inv (b := fun y : St × Int32 => lX7_goHour_61 (z + 1064) y.1 y.2) (fun k s => s.2 = nI k ∧ Fr (PL z [(1067, none)]) σb s.1 ∧ (∀ i, i < k → s_i s.1 (z + 1067) (12 + i) = 0) ∧ ∀ j, j < 12 → s_i s.1 (z + 1067) j = s_i σb (z + 1067) j) n (Q := fun r => Fr (PL z [(1067, none)]) σb r ∧ (∀ i, i < n → s_i r (z + 1067) (12 + i) = 0) ∧ ∀ j, j < 12 → s_i r (z + 1067) j = s_i σb (z + 1067) j) (by
      rintro k ⟨τ, y⟩ hk ⟨i1, i2, i3, i4⟩
      simp only at i1 i2 i3 i4
      subst i1
      obtain ⟨hB, uB, -⟩ := sB.keep (i2.inL (by decide))
      show ∃ t, lX7_goHour_61 (z + 1064) τ (nI k) = _ ∧ _
      unfold lX7_goHour_61
      rw [e_1064_i hB, uB.1.2.2, if_neg (nI_ge hk (by omega)), e_1064_4 hB, nI_lo 12 12 k rfl, s_1067 hB (by omega), nI_1]
      refine ⟨_, rfl, rfl, i2.aS (o := 1067) rfl, fun i hi => ?_, fun j hj => ?_⟩
      · show s_i (setI τ (z + 1067) (12 + k) 0) (z + 1067) (12 + i) = 0
        by_cases e : i = k
        · rw [e, gi_eq]
        · rw [gi_nj (by omega)]; exact i3 i (by omega)
      · show s_i (setI τ (z + 1067) (12 + k) 0) (z + 1067) j = _
        rw [gi_nj (by omega)]; exact i4 j hj) (by
      rintro ⟨τ, y⟩ ⟨i1, i2, i3, i4⟩
      simp only at i1 i2 i3 i4
      subst i1
      obtain ⟨hB, uB, -⟩ := sB.keep (i2.inL (by decide))
      show ∃ t, lX7_goHour_61 (z + 1064) τ (nI n) = _ ∧ _
      unfold lX7_goHour_61
      rw [e_1064_i hB, uB.1.2.2, if_pos (nI_le (Nat.le_refl n) (by omega))]
      exact ⟨_, rfl, i2, i3, i4⟩) (s := (σb, 0)) ⟨rfl, Fr.refl, fun i hi => absurd hi (Nat.not_lt_zero i), fun _ _ => rfl⟩ fuel (fuel_lt (by omega))
  exact ⟨r, e, h1, h2, h3⟩
/-- all run -/
theorem hour3 (hw : Ws w) (sA : Stt z n nt σa) (sB : Stt z n nt σb) (hal : Alk z σa σb) (hQ : WQ z w 4 n nt σa σb) (hac : ∀ i, i < n → ∃ r, s_r σa (z + (w + 6)) i = some r ∧ ActC σa z r (s_i σb (z + 1069) i)) : ∃ σa' σb', loopF fuel (fun y => lX5_step_78 (z + w) y.1 y.2) (σa, 0) = some σa' ∧ loopF fuel (fun y => lX7_goHour_87 (z + 1064) y.1 y.2) (σb, 0) = some σb' ∧ Fr (PL z (L2 w)) σa σa' ∧ Fr (PL z LM2) σb σb' ∧ WQ z w 4 n nt σa' σb' ∧ ∀ i, n ≤ i → s_i σa' (z + (w + 2)) i = s_i σa (z + (w + 2)) i := by
  have hn := sA.2.1.1.1
  obtain ⟨r, r', e1, e2, q1, q2, q3, q4⟩ := loopF_two (b := fun y : St × Int32 => lX5_step_78 (z + w) y.1 y.2) (b' := fun y : St × Int32 => lX7_goHour_87 (z + 1064) y.1 y.2)
    (fun k s s' => s.2 = nI k ∧ s'.2 = nI k ∧ Fr (PL z (L2 w)) σa s.1 ∧ Fr (PL z LM2) σb s'.1 ∧ WQ z w 4 n nt s.1 s'.1 ∧ ∀ i, n ≤ i → s_i s.1 (z + (w + 2)) i = s_i σa (z + (w + 2)) i) n
    (Q := fun s s' => Fr (PL z (L2 w)) σa s ∧ Fr (PL z LM2) σb s' ∧ WQ z w 4 n nt s s' ∧ ∀ i, n ≤ i → s_i s (z + (w + 2)) i = s_i σa (z + (w + 2)) i) (by
      rintro k ⟨τa, x⟩ ⟨τb, y⟩ hk ⟨i1, i2, i3, i4, i5, i6⟩
      simp only at i1 i2 i3 i4 i5 i6
      subst i1; subst i2
      have fA := L2_W hw i3
      have fB := LM2_W i4
      have sA' := sA.keep fA
      have sB' := sB.keep fB
      have al : Alk z τa τb := ((Alk.keep sA.1 fA).symm.trans hal).trans (Alk.keep sB.1 fB)
      have c69 : ∀ j, s_i τb (z + 1069) j = s_i σb (z + 1069) j := i4.kia sB.1 1069 (by decide) rfl
      have hac' : ∀ i, i < n → ∃ r, s_r τa (z + (w + 6)) i = some r ∧ ActC τa z r (s_i τb (z + 1069) i) := fun i hi => by
        obtain ⟨r, r1, r2⟩ := hac i hi
        exact ⟨r, by rw [L2_r hw i3 sA.1]; exact r1, by rw [c69]; exact r2.nw sA.1 (LW_nw fA)⟩
      obtain ⟨r, r1, r2⟩ := hac' k hk
      obtain ⟨τa', τb', p1, p2, p3, p4, p5, p6⟩ := run_two hw sA' sB' al i5 hac' hk r2
      show ∃ t t', lX5_step_78 (z + w) τa (nI k) = _ ∧ lX7_goHour_87 (z + 1064) τb (nI k) = _ ∧ _
      have X : lX5_step_78 (z + w) τa (nI k) = some (.inl (τa', nI (k + 1))) := by
        unfold lX5_step_78
        rw [w_8 hw sA'.1, e_0_i sA'.1, sA'.2.1.1.2.1, if_neg (nI_ge hk (by omega)), w_6 hw sA'.1, wa_6 hw sA'.1 (by omega) r1, p1, sb, nI_1]
      exact ⟨_, _, X, p2, rfl, rfl, (Fr.trans i3 p3).mono (fun a j q => q.elim id id), (Fr.trans i4 p4).mono (fun a j q => q.elim id id), p5, fun i hi => (p6 i hi).trans (i6 i hi)⟩) (by
      rintro ⟨τa, x⟩ ⟨τb, y⟩ ⟨i1, i2, i3, i4, i5, i6⟩
      simp only at i1 i2 i3 i4 i5 i6
      subst i1; subst i2
      obtain ⟨hA, uA, -⟩ := sA.keep (L2_W hw i3)
      obtain ⟨hB, uB, -⟩ := sB.keep (LM2_W i4)
      show ∃ t t', lX5_step_78 (z + w) τa (nI n) = _ ∧ lX7_goHour_87 (z + 1064) τb (nI n) = _ ∧ _
      unfold lX5_step_78 lX7_goHour_87
      rw [w_8 hw hA, e_0_i hA, uA.1.2.1, if_pos (nI_le (Nat.le_refl n) (by omega)), e_1064_i hB, uB.1.2.2, if_pos (nI_le (Nat.le_refl n) (by omega))]
      exact ⟨_, _, rfl, rfl, i3, i4, i5, i6⟩) (s := (σa, 0)) (s' := (σb, 0)) ⟨rfl, rfl, Fr.refl, Fr.refl, hQ, fun _ _ => rfl⟩ fuel (fuel_lt (by omega))
  exact ⟨r, r', e1, e2, q1, q2, q3, q4⟩
theorem WQ.oth {τa τb : St} (h : WQ z w 4 n nt τa τb) (hn : n ≤ 6) {g : Nat} {u v : Int32} : WQ z w 4 n nt (setI τa (z + (w + 3)) g u) (setI τb (z + 1067) (18 + g) v) := by
  obtain ⟨h1, h2⟩ := h
  refine ⟨fun i hi => ?_, fun t ht => ?_⟩
  · rw [gi_ne (a := z + (w + 3)) (b := z + (w + 1)) (by omega), gi_ne (a := z + (w + 3)) (b := z + (w + 2)) (by omega), gi_ne (a := z + (w + 3)) (b := z + (w + 4)) (by omega), gi_nj (a := z + 1067) (show i ≠ 18 + g by omega), gi_nj (a := z + 1067) (show 6 + i ≠ 18 + g by omega), gi_nj (a := z + 1067) (show 12 + i ≠ 18 + g by omega)]
    exact h1 i hi
  · rw [gi_ne (by omega), gi_ne (by omega)]
    exact h2 t ht
/-- hunger grows -/
theorem hour4 (hw : Ws w) (sA : Stt z n nt σa) (sB : Stt z n nt σb) (hQ : WQ z w 4 n nt σa σb) : ∃ σa' σb', loopF fuel (fun y => lX5_step_108 (z + w) y.1 y.2) (σa, 0) = some σa' ∧ loopF fuel (fun y => lX7_goHour_292 (z + 1064) y.1 y.2) (σb, 0) = some σb' ∧ Fr (PL z (L3 w)) σa σa' ∧ Fr (PL z [(1067, none)]) σb σb' ∧ WQ z w 4 n nt σa' σb' ∧ (∀ i, i < n → s_i σa' (z + (w + 3)) i = s_i σb' (z + 1067) (12 + i) ∧ s_i σb' (z + 1067) (18 + i) = cd (s_i σb (z + 1069) i)) ∧ ∀ i, n ≤ i → s_i σa' (z + (w + 2)) i = s_i σa (z + (w + 2)) i ∧ s_i σa' (z + (w + 3)) i = s_i σa (z + (w + 3)) i := by
  have hn := sA.2.1.1.1
  obtain ⟨r, r', e1, e2, q1, q2, q3, q4, q5⟩ := loopF_two (b := fun y : St × Int32 => lX5_step_108 (z + w) y.1 y.2) (b' := fun y : St × Int32 => lX7_goHour_292 (z + 1064) y.1 y.2)
    (fun k s s' => s.2 = nI k ∧ s'.2 = nI k ∧ Fr (PL z (L3 w)) σa s.1 ∧ Fr (PL z [(1067, none)]) σb s'.1 ∧ WQ z w 4 n nt s.1 s'.1 ∧ (∀ i, i < k → s_i s.1 (z + (w + 3)) i = s_i s'.1 (z + 1067) (12 + i) ∧ s_i s'.1 (z + 1067) (18 + i) = cd (s_i σb (z + 1069) i)) ∧ ∀ i, n ≤ i → s_i s.1 (z + (w + 2)) i = s_i σa (z + (w + 2)) i ∧ s_i s.1 (z + (w + 3)) i = s_i σa (z + (w + 3)) i) n
    (Q := fun s s' => Fr (PL z (L3 w)) σa s ∧ Fr (PL z [(1067, none)]) σb s' ∧ WQ z w 4 n nt s s' ∧ (∀ i, i < n → s_i s (z + (w + 3)) i = s_i s' (z + 1067) (12 + i) ∧ s_i s' (z + 1067) (18 + i) = cd (s_i σb (z + 1069) i)) ∧ ∀ i, n ≤ i → s_i s (z + (w + 2)) i = s_i σa (z + (w + 2)) i ∧ s_i s (z + (w + 3)) i = s_i σa (z + (w + 3)) i) (by
      rintro k ⟨τa, x⟩ ⟨τb, y⟩ hk ⟨i1, i2, i3, i4, i5, i6, i7⟩
      simp only at i1 i2 i3 i4 i5 i6 i7
      subst i1; subst i2
      obtain ⟨hA, uA, -⟩ := sA.keep (L3_W hw i3)
      obtain ⟨hB, uB, -⟩ := sB.keep (i4.inL (by decide))
      have b6 : k < 6 := by omega
      have b624 : 6 + k < 24 := by omega
      have b1824 : 18 + k < 24 := by omega
      obtain ⟨q1, q2, q3, ⟨s, hs, q4⟩, ⟨f, hf, q5⟩⟩ := i5.1 k hk
      obtain ⟨m1, j, hj, m2⟩ := jmin30 f hf
      have c69 : s_i τb (z + 1069) k = s_i σb (z + 1069) k := i4.kia sB.1 1069 (by decide) rfl k
      have hA1 : Sh (setI τa (z + (w + 2)) k (jmin 30 (nI f + 1))) z := hA
      have hB1 : Sh (setI τb (z + 1067) (6 + k) (jmin 30 (nI f + 1))) z := hB
      show ∃ t t', lX5_step_108 (z + w) τa (nI k) = _ ∧ lX7_goHour_292 (z + 1064) τb (nI k) = _ ∧ _
      have X : lX5_step_108 (z + w) τa (nI k) = some (.inl (setI (setI τa (z + (w + 2)) k (jmin 30 (nI f + 1))) (z + (w + 3)) k (s_i τa (z + (w + 4)) k), nI (k + 1))) := by
        unfold lX5_step_108
        rw [w_8 hw hA, e_0_i hA, uA.1.2.1, if_neg (nI_ge hk (by omega)), w_2 hw hA, w_2 hw hA, wa_2 hw hA b6, q2, q5, o_let, ws_2 hw hA b6, w_3 hw hA1, w_4 hw hA1, wa_4 hw hA1 b6, ws_3 hw hA1 b6, gi_ne (by omega), nI_1 k]
      have M : lX7_goHour_292 (z + 1064) τb (nI k) = some (.inl (setI (setI τb (z + 1067) (6 + k) (jmin 30 (nI f + 1))) (z + 1067) (18 + k) (cd (s_i τb (z + 1069) k)), nI (k + 1))) := by
        have tail : ∀ v : Int32, v = jmin 30 (nI f + 1) → (o_sI τb (z + 1067) 0 (6 + nI k) v fun σ69 => o_gR σ69 (z + 1064) 5 4 fun r70 => o_gR σ69 (z + 1064) 5 6 fun r71 => o_aI σ69 r71 0 (nI k) fun x72 => if x72 < 10 then (o_gR σ69 (z + 1064) 5 6 fun r73 => o_aI σ69 r73 0 (nI k) fun x74 => o_sI σ69 r70 0 (18 + nI k) x74 fun σ76 => some (.inl (σ76, nI k + 1))) else (o_sI σ69 r70 0 (18 + nI k) 4 fun σ76 => some (.inl (σ76, nI k + 1)))) = (some (.inl (setI (setI τb (z + 1067) (6 + k) (jmin 30 (nI f + 1))) (z + 1067) (18 + k) (cd (s_i τb (z + 1069) k)), nI (k + 1))) : Option ((St × Int32) ⊕ St)) := by
          intro v hv
          subst hv
          have g69 : s_i (setI τb (z + 1067) (6 + k) (jmin 30 (nI f + 1))) (z + 1069) k = s_i τb (z + 1069) k := gi_ne (by omega)
          rw [nI_lo 6 6 k rfl, s_1067 hB b624, e_1064_4 hB1, e_1064_6 hB1, a_1069 hB1 b6, g69, e_1064_6 hB1, a_1069 hB1 b6, g69, nI_lo 18 18 k rfl, s_1067 hB1 b1824, s_1067 hB1 b1824, nI_1 k]
          unfold cd
          split <;> rfl
        unfold lX7_goHour_292
        rw [e_1064_i hB, uB.1.2.2, if_neg (nI_ge hk (by omega)), e_1064_4 hB, e_1064_4 hB, nI_lo 6 6 k rfl, a_1067 hB b624, q5]
        simp only [jn, e_1064_4 hB, a_1067 hB b624, q5]
        rw [← nI_lo 6 6 k rfl]
        by_cases c : nI f = 30
        · rw [if_pos c] at m1 ⊢
          exact tail 30 m1.symm
        · rw [if_neg c] at m1 ⊢
          exact tail _ m1.symm
      refine ⟨_, _, X, M, rfl, rfl, ?_, ?_, ?_, fun i hi => ?_, fun i hi => ?_⟩
      · exact (i3.aS (by rcases hw with rfl | rfl <;> rfl)).aS (by rcases hw with rfl | rfl <;> rfl)
      · exact (i4.aS (o := 1067) rfl).aS (o := 1067) rfl
      · exact (i5.hung hn (Or.inr rfl) hk hj m2).oth hn
      · show s_i (setI (setI τa (z + (w + 2)) k (jmin 30 (nI f + 1))) (z + (w + 3)) k (s_i τa (z + (w + 4)) k)) (z + (w + 3)) i = s_i (setI (setI τb (z + 1067) (6 + k) (jmin 30 (nI f + 1))) (z + 1067) (18 + k) (cd (s_i τb (z + 1069) k))) (z + 1067) (12 + i) ∧ s_i (setI (setI τb (z + 1067) (6 + k) (jmin 30 (nI f + 1))) (z + 1067) (18 + k) (cd (s_i τb (z + 1069) k))) (z + 1067) (18 + i) = _
        rw [gi_nj (a := z + 1067) (show 12 + i ≠ 18 + k by omega), gi_nj (a := z + 1067) (show 12 + i ≠ 6 + k by omega)]
        by_cases e : i = k
        · subst e
          rw [gi_eq, gi_eq, c69]
          exact ⟨q3, rfl⟩
        · rw [gi_nj (a := z + (w + 3)) e, gi_ne (a := z + (w + 2)) (b := z + (w + 3)) (by omega), gi_nj (a := z + 1067) (show 18 + i ≠ 18 + k by omega), gi_nj (a := z + 1067) (show 18 + i ≠ 6 + k by omega)]
          exact i6 i (by omega)
      · show s_i (setI (setI τa (z + (w + 2)) k (jmin 30 (nI f + 1))) (z + (w + 3)) k (s_i τa (z + (w + 4)) k)) (z + (w + 2)) i = _ ∧ s_i (setI (setI τa (z + (w + 2)) k (jmin 30 (nI f + 1))) (z + (w + 3)) k (s_i τa (z + (w + 4)) k)) (z + (w + 3)) i = _
        rw [gi_ne (a := z + (w + 3)) (b := z + (w + 2)) (by omega), gi_nj (a := z + (w + 2)) (by omega), gi_nj (a := z + (w + 3)) (by omega), gi_ne (a := z + (w + 2)) (b := z + (w + 3)) (by omega)]
        exact i7 i hi) (by
      rintro ⟨τa, x⟩ ⟨τb, y⟩ ⟨i1, i2, i3, i4, i5, i6, i7⟩
      simp only at i1 i2 i3 i4 i5 i6 i7
      subst i1; subst i2
      obtain ⟨hA, uA, -⟩ := sA.keep (L3_W hw i3)
      obtain ⟨hB, uB, -⟩ := sB.keep (i4.inL (by decide))
      show ∃ t t', lX5_step_108 (z + w) τa (nI n) = _ ∧ lX7_goHour_292 (z + 1064) τb (nI n) = _ ∧ _
      unfold lX5_step_108 lX7_goHour_292
      rw [w_8 hw hA, e_0_i hA, uA.1.2.1, if_pos (nI_le (Nat.le_refl n) (by omega)), e_1064_i hB, uB.1.2.2, if_pos (nI_le (Nat.le_refl n) (by omega))]
      exact ⟨_, _, rfl, rfl, i3, i4, i5, i6, i7⟩) (s := (σa, 0)) (s' := (σb, 0)) ⟨rfl, rfl, Fr.refl, Fr.refl, hQ, fun i hi => absurd hi (Nat.not_lt_zero i), fun _ _ => ⟨rfl, rfl⟩⟩ fuel (fuel_lt (by omega))
  exact ⟨r, r', e1, e2, q1, q2, q3, q4, q5⟩
theorem step_two (hw : Ws w) (sA : Stt z n nt σa) (sB : Stt z n nt σb) (hal : Alk z σa σb) (hQ : WR z w n nt σa σb) {now a1 a2 : Int32} (hnow : now = s_i σa (z + w) 0) (rp : (a1 = 1 ∧ a2 = 0) ∨ (a1 = 0 ∧ a2 = 1)) : ∃ σa' σb', fX5_step σa (z + w) a1 = some σa' ∧ fX7_goHour σb (z + 1064) now a2 = some σb' ∧ Fr (PL z (LX w)) σa σa' ∧ Fr (PL z LM) σb σb' ∧ WR z w n nt σa' σb' ∧ s_i σa' (z + w) 0 = now + 1 ∧ (∀ h, h < n → s_i σa' (z + (w + 5)) h = s_i σb' (z + 1067) (18 + h)) ∧ ∀ h, n ≤ h → s_i σa' (z + (w + 2)) h = s_i σa (z + (w + 2)) h ∧ s_i σa' (z + (w + 3)) h = s_i σa (z + (w + 3)) h ∧ s_i σa' (z + (w + 5)) h = s_i σa (z + (w + 5)) h := by
  obtain ⟨a1', b1', x1, m1, f1, g1, p1, o1⟩ := hour1 hw sA sB hal hQ hnow rp
  have sA1 := sA.keep (L1_W hw f1)
  have sB1 := sB.keep (g1.inL (by decide) : Fr (PL z LW) σb b1')
  obtain ⟨b2', m2, g2, z2, k2⟩ := hour2 sB1
  have sB2 := sB1.keep (g2.inL (by decide) : Fr (PL z LW) b1' b2')
  have fB2 : Fr (PL z LW) σb b2' := (g1.transL g2).inL (by decide)
  have al1 : Alk z a1' b2' := ((Alk.keep sA.1 (L1_W hw f1)).symm.trans hal).trans (Alk.keep sB.1 fB2)
  have w67 : ∀ j, s_i b1' (z + 1067) j = s_i σb (z + 1067) j := g1.kia sB.1 1067 (by decide) rfl
  have w70 : ∀ j, s_i b2' (z + 1070) j = s_i σb (z + 1070) j := fun j => (g2.kia sB1.1 1070 (by decide) rfl j).trans (g1.kia sB.1 1070 (by decide) rfl j)
  have w69 : ∀ j, s_i b2' (z + 1069) j = s_i b1' (z + 1069) j := g2.kia sB1.1 1069 (by decide) rfl
  have hn := sA.2.1.1.1
  have Q1 : WQ z w 4 n nt a1' b2' := by
    refine ⟨fun i hi => ?_, fun t ht => ?_⟩
    · obtain ⟨u1, u2, u3, u4, u5⟩ := hQ.1 i hi
      rw [L1_i hw f1 sA.1 1 (by omega), L1_i hw f1 sA.1 2 (by omega), (p1 i hi).2.2, z2 i hi, k2 i (by omega), k2 (6 + i) (by omega), w67, w67]
      exact ⟨u1, u2, rfl, u4, u5⟩
    · rw [L1_i hw f1 sA.1 7 (by omega), w70]
      exact hQ.2 t ht
  obtain ⟨a2', b3', x2, m3, f2, g3, Q2, o2⟩ := hour3 hw sA1 sB2 al1 Q1 (fun i hi => by
    obtain ⟨r, r1, r2⟩ := (p1 i hi).1
    exact ⟨r, r1, by rw [w69]; exact r2⟩)
  have sA2 := sA1.keep (L2_W hw f2)
  have sB3 := sB2.keep (LM2_W g3)
  obtain ⟨a3', b4', x3, m4, f3, g4, Q3, p3, o3⟩ := hour4 hw sA2 sB3 Q2
  have hA3 : Sh a3' z := (L3_W hw f3).sh sA2.1 (by decide)
  have hh : s_i a3' (z + w) 0 = now := by rw [L3_h hw f3 sA2.1, L2_h hw f2 sA1.1, L1_h hw f1 sA.1, hnow]
  have c5 : ∀ i, s_i a3' (z + (w + 5)) i = s_i a1' (z + (w + 5)) i := fun i => (L3_i hw f3 sA2.1 5 (by omega) i).trans (L2_i hw f2 sA1.1 5 (by omega) i)
  have c69 : ∀ j, s_i b3' (z + 1069) j = s_i b1' (z + 1069) j := fun j => (g3.kia sB2.1 1069 (by decide) rfl j).trans (w69 j)
  have ne : ∀ d j v i, d ≠ 0 → s_i (setI a3' (z + w) j v) (z + (w + d)) i = s_i a3' (z + (w + d)) i := fun d j v i hd => gi_ne (by omega)
  refine ⟨setI a3' (z + w) 0 (now + 1), b4', ?_, ?_, ?_, ?_, ?_, gi_eq, fun i hi => ?_, fun i hi => ?_⟩
  · unfold fX5_step
    rw [x1, sb, x2, sb, x3, sb, w_i hw hA3, w_p hw hA3, hh]
  · unfold fX7_goHour
    rw [m1, sb, m2, sb, m3, sb, m4, sb]
  · have f : Fr (PL z (LX w)) σa a3' := by
      rcases hw with rfl | rfl
      · exact ((f1.transL f2).transL f3).inL (by decide)
      · exact ((f1.transL f2).transL f3).inL (by decide)
    exact f.aS (by rcases hw with rfl | rfl <;> rfl)
  · exact (((g1.transL g2).transL g3).transL g4).inL (by decide)
  · refine ⟨fun i hi => ?_, fun t ht => ?_⟩
    · rw [ne 1 _ _ _ (by omega), ne 2 _ _ _ (by omega), ne 3 _ _ _ (by omega), (p3 i hi).1]
      obtain ⟨u1, u2, u3, u4, u5⟩ := Q3.1 i hi
      exact ⟨u1, u2, rfl, u4, u5⟩
    · rw [ne 7 _ _ _ (by omega)]
      exact Q3.2 t ht
  · rw [ne 5 _ _ _ (by omega), c5, (p1 i hi).2.1, (p3 i hi).2, c69]
  · rw [ne 2 _ _ _ (by omega), ne 3 _ _ _ (by omega), ne 5 _ _ _ (by omega), c5, (o3 i hi).1, (o3 i hi).2, o2 i hi, L1_i hw f1 sA.1 2 (by omega), L2_i hw f2 sA1.1 3 (by omega), L1_i hw f1 sA.1 3 (by omega)]
    exact ⟨rfl, rfl, o1 i hi⟩
end HOUR
