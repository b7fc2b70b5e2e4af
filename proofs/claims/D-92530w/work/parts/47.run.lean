set_option maxRecDepth 100000
/-! an hour: what is done -/
section UPD
variable {σa σb : St} {z w d n nt : Nat}
theorem WQ.stick (h : WQ z w d n nt σa σb) (hn : n ≤ 6) (hd : d = 3 ∨ d = 4) {g k : Nat} (hg : g < n) {v : Int32} (hk : k ≤ 99) (hv : v = nI k) : WQ z w d n nt (setI σa (z + (w + 1)) g v) (setI σb (z + 1067) g v) := by
  obtain ⟨h1, h2⟩ := h
  refine ⟨fun i hi => ?_, fun t ht => ?_⟩
  · obtain ⟨a1, a2, a3, a4, a5⟩ := h1 i hi
    have e1 : s_i (setI σa (z + (w + 2)) g v) (z + (w + 2)) g = v := gi_eq
    rw [gi_ne (a := z + (w + 1)) (b := z + (w + 2)) (by omega), gi_ne (a := z + (w + 1)) (b := z + (w + d)) (by omega), gi_nj (a := z + 1067) (show 6 + i ≠ g by omega), gi_nj (a := z + 1067) (show 12 + i ≠ g by omega)]
    by_cases e : i = g
    · subst e
      rw [gi_eq, gi_eq]
      exact ⟨rfl, a2, a3, ⟨k, hk, hv⟩, a5⟩
    · rw [gi_nj e, gi_nj e]
      exact ⟨a1, a2, a3, a4, a5⟩
  · rw [gi_ne (by omega), gi_ne (by omega)]
    exact h2 t ht
theorem WQ.hung (h : WQ z w d n nt σa σb) (hn : n ≤ 6) (hd : d = 3 ∨ d = 4) {g k : Nat} (hg : g < n) {v : Int32} (hk : k ≤ 30) (hv : v = nI k) : WQ z w d n nt (setI σa (z + (w + 2)) g v) (setI σb (z + 1067) (6 + g) v) := by
  obtain ⟨h1, h2⟩ := h
  refine ⟨fun i hi => ?_, fun t ht => ?_⟩
  · obtain ⟨a1, a2, a3, a4, a5⟩ := h1 i hi
    rw [gi_ne (a := z + (w + 2)) (b := z + (w + 1)) (by omega), gi_ne (a := z + (w + 2)) (b := z + (w + d)) (by omega), gi_nj (a := z + 1067) (show i ≠ 6 + g by omega), gi_nj (a := z + 1067) (show 12 + i ≠ 6 + g by omega)]
    by_cases e : i = g
    · subst e
      rw [gi_eq, gi_eq]
      exact ⟨a1, rfl, a3, a4, ⟨k, hk, hv⟩⟩
    · rw [gi_nj e, gi_nj (a := z + 1067) (show 6 + i ≠ 6 + g by omega)]
      exact ⟨a1, a2, a3, a4, a5⟩
  · rw [gi_ne (by omega), gi_ne (by omega)]
    exact h2 t ht
theorem WQ.take (h : WQ z w d n nt σa σb) (hn : n ≤ 6) (hd : d = 3 ∨ d = 4) {g : Nat} (hg : g < n) {v : Int32} : WQ z w d n nt (setI σa (z + (w + d)) g v) (setI σb (z + 1067) (12 + g) v) := by
  obtain ⟨h1, h2⟩ := h
  refine ⟨fun i hi => ?_, fun t ht => ?_⟩
  · obtain ⟨a1, a2, a3, a4, a5⟩ := h1 i hi
    rw [gi_ne (a := z + (w + d)) (b := z + (w + 1)) (by omega), gi_ne (a := z + (w + d)) (b := z + (w + 2)) (by omega), gi_nj (a := z + 1067) (show i ≠ 12 + g by omega), gi_nj (a := z + 1067) (show 6 + i ≠ 12 + g by omega)]
    by_cases e : i = g
    · subst e
      rw [gi_eq, gi_eq]
      exact ⟨a1, a2, rfl, a4, a5⟩
    · rw [gi_nj e, gi_nj (a := z + 1067) (show 12 + i ≠ 12 + g by omega)]
      exact ⟨a1, a2, a3, a4, a5⟩
  · rw [gi_ne (by omega), gi_ne (by omega)]
    exact h2 t ht
theorem WQ.lay (h : WQ z w d n nt σa σb) (hd : d = 3 ∨ d = 4) {g : Nat} {v : Int32} : WQ z w d n nt (setI σa (z + (w + 7)) g v) (setI σb (z + 1070) g v) := by
  obtain ⟨h1, h2⟩ := h
  refine ⟨fun i hi => ?_, fun t ht => ?_⟩
  · rw [gi_ne (a := z + (w + 7)) (b := z + (w + 1)) (by omega), gi_ne (a := z + (w + 7)) (b := z + (w + 2)) (by omega), gi_ne (a := z + (w + 7)) (b := z + (w + d)) (by omega), gi_ne (a := z + 1070) (b := z + 1067) (by omega), gi_ne (a := z + 1070) (b := z + 1067) (by omega), gi_ne (a := z + 1070) (b := z + 1067) (by omega)]
    exact h1 i hi
  · by_cases e : t = g
    · subst e
      rw [gi_eq, gi_eq]
    · rw [gi_nj e, gi_nj e]
      exact h2 t ht
end UPD
theorem Dst.congr {P : Nat → Prop} {f c s f' c' s' : Nat → Int32} {g x : Int32} (h : Dst P f c s g x) (hf : ∀ t, P t → f' t = f t) (hc : ∀ t, c' t = c t) (hs : ∀ t, s' t = s t) : Dst P f' c' s' g x := by
  rcases h with ⟨h1, h2⟩ | ⟨j, j1, j2, j3, j4, j5⟩
  · exact Or.inl ⟨h1, fun t ht => by rw [hf t ht]; exact h2 t ht⟩
  · refine Or.inr ⟨j, j1, j2, j3, by rw [hf j j1]; exact j4, fun t ht hg hne => ?_⟩
    unfold dear
    rw [hc, hc, hs, hs]
    exact j5 t ht (by rw [← hf t ht]; exact hg) hne
theorem nsh1 {w : Nat} (hw : Ws w) (j : Nat) : plin [(w + 1, some j)] (L2 w) = true := by rcases hw with rfl | rfl <;> rfl
theorem nsh2 {w : Nat} (hw : Ws w) (j : Nat) : plin [(w + 2, some j)] (L2 w) = true := by rcases hw with rfl | rfl <;> rfl
theorem nsh4 {w : Nat} (hw : Ws w) (j : Nat) : plin [(w + 4, some j)] (L2 w) = true := by rcases hw with rfl | rfl <;> rfl
theorem nsh7 {w : Nat} (hw : Ws w) (j : Nat) : plin [(w + 7, some j)] (L2 w) = true := by rcases hw with rfl | rfl <;> rfl
section RUN
variable {τa τb : St} {z w n nt : Nat}
theorem raid_two (hw : Ws w) (sA : Stt z n nt τa) (sB : Stt z n nt τb) (hal : Alk z τa τb) (hQ : WQ z w 4 n nt τa τb) (hac : ∀ i, i < n → ∃ r, s_r τa (z + (w + 6)) i = some r ∧ ActC τa z r (s_i τb (z + 1069) i)) {h g : Nat} (hh : h < n) (hg : g ≤ 5) : ∃ τa' τb', fX5_raid τa (z + w) (nI h) (nI g) = some τa' ∧ fX7_raid τb (z + 1064) (nI h) (nI g) = some τb' ∧ Fr (PL z (L2 w)) τa τa' ∧ Fr (PL z LM2) τb τb' ∧ WQ z w 4 n nt τa' τb' ∧ ∀ j, s_i τa' (z + (w + 2)) j = s_i τa (z + (w + 2)) j := by
  obtain ⟨hA, uA, tA, -, -, eA⟩ := sA
  obtain ⟨hB, uB, tB, -, -, -⟩ := sB
  have hn := uA.1.1
  have nt40 := tA.1
  have out : fX5_raid τa (z + w) (nI h) (nI g) = some τa → fX7_raid τb (z + 1064) (nI h) (nI g) = some τb → ∃ τa' τb', fX5_raid τa (z + w) (nI h) (nI g) = some τa' ∧ fX7_raid τb (z + 1064) (nI h) (nI g) = some τb' ∧ Fr (PL z (L2 w)) τa τa' ∧ Fr (PL z LM2) τb τb' ∧ WQ z w 4 n nt τa' τb' ∧ ∀ j, s_i τa' (z + (w + 2)) j = s_i τa (z + (w + 2)) j := fun e1 e2 => ⟨τa, τb, e1, e2, Fr.refl, Fr.refl, hQ, fun _ => rfl⟩
  by_cases c1 : g < n
  · have c1m := nat_in (show n < 2 ^ 30 by omega) c1
    by_cases c2 : g = h
    · subst c2
      refine out ?_ ?_
      · unfold fX5_raid
        rw [w_8 hw hA, e_0_i hA, uA.1.2.1, if_neg (nI_ge c1 (by omega)), if_pos rfl]
      · unfold fX7_raid
        rw [e_1064_k hB, isHutM_eq hB uB.1, sb, if01, if_pos c1m, if_pos rfl]
    · have c2' : ¬ nI g = nI h := fun q => c2 ((nI_eq (by omega) (by omega)).mp q)
      obtain ⟨ph, ph1, ph2, -⟩ := uA.2 h hh
      obtain ⟨pg, pg1, pg2, -⟩ := uA.2 g c1
      have far := (far8_eq uA hh c1 ph1 pg1).2
      have farM : fX7_farOf τb (z + 1064) (nI h) (nI g) = some (farS τa z h g) := by rw [farOf_eq hB (by omega) (by omega), hal.far]
      have l5 : ∀ K : Int32 → Option St, o_aI τa (z + 5) 0 0 K = K (s_i τa (z + 1064) 13) := fun K => by rw [← eA.1]; exact a_5 (k := 0) hA (by decide)
      obtain ⟨r, r1, r2⟩ := hac g c1
      have b6 : g < 6 := by omega
      have gA : ∀ K : Nat → Option St, o_aR τa (z + (w + 6)) 5 (nI g) K = K r := fun K => by rcases hw with rfl | rfl; exact a_12 hA b6 r1; exact a_20 hA b6 r1
      obtain ⟨aw, -⟩ := away_eq hA r2
      have X := Eq.refl (fX5_raid τa (z + w) (nI h) (nI g))
      conv at X => rhs; unfold fX5_raid
      rw [w_8 hw hA, e_0_i hA, uA.1.2.1, if_neg (nI_ge c1 (by omega)), if_neg c2', w_8 hw hA, e_0_2 hA, a_3 hA (by omega) ph1, w_8 hw hA, e_0_2 hA, a_3 hA (by omega) pg1, o_k_eq ph2, far, sb, w_8 hw hA, e_0_6 hA, l5, w_6 hw hA, gA, aw, sb, w_1 hw hA, w_1 hw hA, wa_1 hw hA b6, o_let, ws_1 hw hA b6] at X
      have M := Eq.refl (fX7_raid τb (z + 1064) (nI h) (nI g))
      conv at M => rhs; unfold fX7_raid
      rw [e_1064_k hB, isHutM_eq hB uB.1, sb, if01, if_pos c1m, if_neg c2', e_1064_k hB, farM, sb, e_1064_i hB, hal.2.2.2.2.2.2.2.2, e_1064_6 hB, a_1069 hB b6, e_1064_6 hB, a_1069 hB b6, e_1064_4 hB, e_1064_4 hB, a_1067 hB (by omega)] at M
      by_cases c3 : s_i τa (z + 1064) 13 < farS τa z h g
      · refine out ?_ ?_
        · rw [X, if_pos c3]
        · rw [M, if_pos c3]
      · rw [if_neg c3] at X M
        by_cases c4 : s_i τb (z + 1069) g = 0 ∨ s_i τb (z + 1069) g = 1
        · refine out ?_ ?_
          · rw [X, if_pos c4, if_pos rfl]
          · rw [M]
            rcases c4 with c4 | c4
            · rw [if_pos c4]
            · rw [if_pos c4, ite_self]
        · rw [if_neg c4, if_neg (by decide)] at X
          rw [if_neg (fun q => c4 (Or.inl q)), if_neg (fun q => c4 (Or.inr q))] at M
          obtain ⟨q1, q2, q3, ⟨k, hk, q4⟩, q5⟩ := hQ.1 g c1
          obtain ⟨m1, j, hj, m2⟩ := jmax0_5 k hk
          rw [q1, q4] at X
          -- the sticks
          have M2 : fX7_raid τb (z + 1064) (nI h) (nI g) = (o_gI (setI τb (z + 1067) g (jmax 0 (nI k - 5))) (z + 1064) 5 7 fun x15 =>
    (loopF fuel (fun y => lX7_raid_84 (setI τb (z + 1067) g (jmax 0 (nI k - 5))) (z + 1064) (nI g) y.1 y.2) ((-1), x15 - 1)).bind <| fun x34 =>
    if x34 = ((-1)) then
      some (setI τb (z + 1067) g (jmax 0 (nI k - 5)))
    else
    o_k (setI τb (z + 1067) g (jmax 0 (nI k - 5))) (z + 1064) 5 <|
    (fX7_thingsOf (setI τb (z + 1067) g (jmax 0 (nI k - 5))) (z + 1064) (nI h)).bind fun x35 =>
    if 12 ≤ x35 then
      some (setI τb (z + 1067) g (jmax 0 (nI k - 5)))
    else
    o_gR (setI τb (z + 1067) g (jmax 0 (nI k - 5))) (z + 1064) 5 8 fun r36 =>
    o_sI (setI τb (z + 1067) g (jmax 0 (nI k - 5))) r36 0 x34 (nI h) fun σ37 =>
    o_gR σ37 (z + 1064) 5 4 fun r38 =>
    o_aI σ37 r38 0 (12 + nI g) fun x39 =>
    o_sI σ37 r38 0 (12 + nI g) (x39 + 1) fun σ40 =>
    some σ40) := by
            rw [M, q4, m1]
            simp only [jn]
            split
            · rw [e_1064_4 hB, a_1067 hB (by omega), q4, s_1067 hB (by omega)]
            · rw [s_1067 hB (by omega)]
          obtain ⟨τa1, ea1⟩ : ∃ τa1, τa1 = setI τa (z + (w + 1)) g (jmax 0 (nI k - 5)) := ⟨_, rfl⟩
          obtain ⟨τb1, eb1⟩ : ∃ τb1, τb1 = setI τb (z + 1067) g (jmax 0 (nI k - 5)) := ⟨_, rfl⟩
          rw [← ea1] at X
          rw [← eb1] at M2
          have hF1 : Fr (PL z (L2 w)) τa τa1 := by rw [ea1]; exact Fr.refl.aS (nsh1 hw g)
          have hG1 : Fr (PL z LM2) τb τb1 := by rw [eb1]; exact Fr.refl.aS rfl
          have hA1 : Sh τa1 z := by rw [ea1]; exact hA
          have hB1 : Sh τb1 z := by rw [eb1]; exact hB
          have tA1 := tA.keep hA (L2_W hw hF1) (by decide)
          have tB1 := tB.keep hB (LM2_W hG1) (by decide)
          have hQ1 : WQ z w 4 n nt τa1 τb1 := by rw [ea1, eb1]; exact hQ.stick hn (Or.inr rfl) c1 hj m2
          obtain ⟨x, x1, x2⟩ := bestX hA1 hw tA1 (nI g)
          obtain ⟨y, y1, y2⟩ := bestM hB1 tB1 (nI g)
          have hal1 : Alk z τa1 τb1 := ((Alk.keep hA (L2_W hw hF1)).symm.trans hal).trans (Alk.keep hB (LM2_W hG1))
          have exy : x = y := Dst.uniq x2 (y2.congr (fun t ht => hQ1.2 t ht) (fun t => (hal1.2.2.1 t).symm) (fun t => (hal1.2.2.2.1 t).symm))
          subst exy
          rw [x1, sb] at X
          rw [e_1064_i hB1, tB1.2.2.1, y1, sb] at M2
          have hh1 : ∀ j, s_i τa1 (z + (w + 2)) j = s_i τa (z + (w + 2)) j := fun j => by rw [ea1, gi_ne (by omega)]
          by_cases c5 : x = -1
          · rw [if_pos c5] at X M2
            exact ⟨τa1, τb1, X, M2, hF1, hG1, hQ1, hh1⟩
          · rw [if_neg c5, w_k hw hA1, many_eq hA1 hw tA1.1 tA1.2.1, sb] at X
            rw [if_neg c5, e_1064_k hB1, thingsOf_eq hB1 tB1.1 tB1.2.2.1, sb] at M2
            rw [cnt_congr (f := s_i τa1 (z + (w + 7))) (f' := s_i τb1 (z + 1070)) _ _ hQ1.2] at X
            by_cases c6 : 12 ≤ cnt (s_i τb1 (z + 1070)) (nI h) nt
            · rw [if_pos c6] at X M2
              exact ⟨τa1, τb1, X, M2, hF1, hG1, hQ1, hh1⟩
            · rw [if_neg c6] at X M2
              rcases x2 with ⟨x2, -⟩ | ⟨t, t1, t2, t3, -⟩
              · exact absurd x2 c5
              · subst t3
                obtain ⟨τa2, ea2⟩ : ∃ τa2, τa2 = setI τa1 (z + (w + 7)) t (nI h) := ⟨_, rfl⟩
                obtain ⟨τb2, eb2⟩ : ∃ τb2, τb2 = setI τb1 (z + 1070) t (nI h) := ⟨_, rfl⟩
                have hA2 : Sh τa2 z := by rw [ea2]; exact hA1
                have hB2 : Sh τb2 z := by rw [eb2]; exact hB1
                have hQ2 : WQ z w 4 n nt τa2 τb2 := by rw [ea2, eb2]; exact hQ1.lay (Or.inr rfl)
                rw [w_7 hw hA1, ws_7 hw hA1 t2, ← ea2, w_4 hw hA2, wa_4 hw hA2 b6, ws_4 hw hA2 b6] at X
                rw [e_1064_8 hB1, s_1070 hB1 t2, ← eb2, e_1064_4 hB2, nI_lo 12 12 g rfl, a_1067 hB2 (by omega), s_1067 hB2 (by omega), ← (hQ2.1 g c1).2.2.1] at M2
                refine ⟨_, _, X, M2, ?_, ?_, hQ2.take hn (Or.inr rfl) c1, fun j => ?_⟩
                · rw [ea2]; exact (hF1.aS (nsh7 hw t)).aS (nsh4 hw g)
                · rw [eb2]; exact (hG1.aS rfl).aS rfl
                · rw [gi_ne (by omega), ea2, gi_ne (by omega)]; exact hh1 j
  · refine out ?_ ?_
    · unfold fX5_raid
      rw [w_8 hw hA, e_0_i hA, uA.1.2.1, if_pos (nI_le (by omega) (by omega))]
    · unfold fX7_raid
      rw [e_1064_k hB, isHutM_eq hB uB.1, sb, if01, if_neg]
      intro q
      obtain ⟨k, k1, k2⟩ := in_nat (show n < 2 ^ 30 by omega) q
      have := (nI_eq (by omega) (by omega)).mp k2
      omega
end RUN
