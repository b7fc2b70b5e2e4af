set_option maxRecDepth 100000
/-! what an owner would do; what a visitor finds -/
section ACT
variable {σa σb : St} {z w n nt : Nat}
theorem read_two (hw : Ws w) (hA : Sh σa z) (hB : Sh σb z) (tA : Th σa z nt) (tB : Th σb z nt) (hn : n ≤ 6) (h72 : ∀ j, s_i σb (z + 1072) j = s_i σa (z + 1072) j) (hW : WR z w n nt σa σb) {q h k : Nat} {ab nn now : Int32} (hT : TestR σa z q (nI k) ab nn) (hh : h < n) (hnow : now = s_i σa (z + w) 0) : ∃ v, fX16_value σa q (z + w) (nI h) = some v ∧ fX7_reading σb (z + 1064) (nI h) (nI k) now = some v := by
  obtain ⟨t1, t2, -⟩ := hT
  obtain ⟨g1, g2, g3, -⟩ := hW.1 h hh
  unfold fX16_value fX7_reading
  have l : h < 6 := by omega
  have l0 : h < 24 := by omega
  have l1 : 6 + h < 24 := by omega
  have l2 : 12 + h < 24 := by omega
  simp only [o_gI_eq t1.1, t2, w_1 hw hA, wa_1 hw hA l, w_k hw hA, many_eq hA hw tA.1 tA.2.1, blue_eq hA hw tA, w_2 hw hA, wa_2 hw hA l, w_3 hw hA, wa_3 hw hA l, w_i hw hA, sb, e_1064_4 hB, nI_lo 6 6 h rfl, nI_lo 12 12 h rfl, a_1067 hB l0, a_1067 hB l1, a_1067 hB l2, e_1064_k hB, thingsOf_eq hB tB.1 tB.2.2.1, coloured_eq hB tB.1 tB.2.2.1, g1, g2, g3, hnow]
  rw [cnt_congr (f := s_i σa (z + (w + 7))) (f' := s_i σb (z + 1070)) _ _ hW.2, cntB_congr (f := s_i σa (z + (w + 7))) (f' := s_i σb (z + 1070)) (g := s_i σa (z + 1072)) (g' := s_i σb (z + 1072)) _ _ (fun t ht => ⟨hW.2 t ht, (h72 t).symm⟩)]
  (repeat' split) <;> exact ⟨_, rfl, rfl⟩
/-- all of some -/
def andS (hv : Nat → Int32) : Nat → Int32
  | 0 => 1
  | k + 1 => if andS hv k = 0 then 0 else if hv k = 0 then 0 else 1
theorem andS_01 (hv : Nat → Int32) : ∀ k, andS hv k = 0 ∨ andS hv k = 1
  | 0 => Or.inr rfl
  | k + 1 => by
    unfold andS
    (repeat' split) <;> simp
/-- a line's tests -/
theorem line_two (hw : Ws w) (hA : Sh σa z) (hB : Sh σb z) (tA : Th σa z nt) (tB : Th σb z nt) (hn : n ≤ 6) (h72 : ∀ j, s_i σb (z + 1072) j = s_i σa (z + 1072) j) (hW : WR z w n nt σa σb) {p A G T h i : Nat} {now : Int32} (hp : Dy σa z p (.inl 8)) (hG : s_r σa p 2 = some G) (hG2 : Dy σa z G (.inr (10, 6))) (hT : s_r σa p 3 = some T) (hT2 : Dy σa z T (.inr (0, 6))) (hi : i < 6) (hL : LineR σa z A G T i (fun j => s_i σb (z + 1078) (72 * h + (12 * i + j)))) (hh : h < n) (hnow : now = s_i σa (z + w) 0) : ∃ v, (v = 0 ∨ v = 1) ∧ loopF fuel (fun y => lX11_act_16 σa p (nI i) (z + w) (nI h) y.1 y.2) (1, 0) = some v ∧ fX7_doesHold σb (z + 1064) (nI (72 * h + 12 * i)) (nI h) now = some v := by
  obtain ⟨-, Gi, tm, g1, g2, g3, g4, g5, g6⟩ := hL
  have key : ∀ k, ∃ x : Int32, k < tm → ∃ q v, s_r σa Gi k = some q ∧ TestR σa z q (s_i σb (z + 1078) (72 * h + (12 * i + (3 + 3 * k)))) (s_i σb (z + 1078) (72 * h + (12 * i + (4 + 3 * k)))) (s_i σb (z + 1078) (72 * h + (12 * i + (5 + 3 * k)))) ∧ fX7_reading σb (z + 1064) (nI h) (s_i σb (z + 1078) (72 * h + (12 * i + (3 + 3 * k)))) now = some v ∧ fX16_value σa q (z + w) (nI h) = some v ∧ x = if s_i σb (z + 1078) (72 * h + (12 * i + (4 + 3 * k))) = 0 then (if s_i σb (z + 1078) (72 * h + (12 * i + (5 + 3 * k))) ≤ v then 0 else 1) else (if v ≤ s_i σb (z + 1078) (72 * h + (12 * i + (5 + 3 * k))) then 0 else 1) := by
    intro k
    by_cases hk : k < tm
    · obtain ⟨q, q1, q2⟩ := g5 k hk
      obtain ⟨rd, rd1, rd2⟩ := q2.2.2.2.2.1
      have rd2 : s_i σb (z + 1078) (72 * h + (12 * i + (3 + 3 * k))) = nI rd := rd2
      have q2' : TestR σa z q (s_i σb (z + 1078) (72 * h + (12 * i + (3 + 3 * k)))) (s_i σb (z + 1078) (72 * h + (12 * i + (4 + 3 * k)))) (s_i σb (z + 1078) (72 * h + (12 * i + (5 + 3 * k)))) := q2
      rw [rd2] at q2'
      obtain ⟨v, v1, v2⟩ := read_two hw hA hB tA tB hn h72 hW q2' hh hnow
      exact ⟨_, fun _ => ⟨q, v, q1, q2, by rw [rd2]; exact v2, v1, rfl⟩⟩
    · exact ⟨0, fun q => absurd q hk⟩
  obtain ⟨hv, hhv⟩ : ∃ hv : Nat → Int32, ∀ k, k < tm → ∃ q v, s_r σa Gi k = some q ∧ TestR σa z q (s_i σb (z + 1078) (72 * h + (12 * i + (3 + 3 * k)))) (s_i σb (z + 1078) (72 * h + (12 * i + (4 + 3 * k)))) (s_i σb (z + 1078) (72 * h + (12 * i + (5 + 3 * k)))) ∧ fX7_reading σb (z + 1064) (nI h) (s_i σb (z + 1078) (72 * h + (12 * i + (3 + 3 * k)))) now = some v ∧ fX16_value σa q (z + w) (nI h) = some v ∧ hv k = if s_i σb (z + 1078) (72 * h + (12 * i + (4 + 3 * k))) = 0 then (if s_i σb (z + 1078) (72 * h + (12 * i + (5 + 3 * k))) ≤ v then 0 else 1) else (if v ≤ s_i σb (z + 1078) (72 * h + (12 * i + (5 + 3 * k))) then 0 else 1) := ⟨fun k => Classical.choose (key k), fun k hk => Classical.choose_spec (key k) hk⟩
  refine ⟨andS hv tm, andS_01 hv tm, ?_, ?_⟩
  · refine loopF_seq (st := fun k => (andS hv k, nI k)) tm (fun k hk => ?_) ?_ fuel (fuel_lt (by omega))
    · obtain ⟨q, v, q1, q2, q3, q4, q5⟩ := hhv k hk
      show lX11_act_16 σa p (nI i) (z + w) (nI h) (andS hv k) (nI k) = _
      unfold lX11_act_16
      rw [o_gR_eq hp.1 hT, o_aI_eq hT2.1 hi (by decide), g4, if_neg (nI_ge hk (by omega))]
      simp only [jn, nI_1, o_gR_eq hp.1 hG, o_aR_eq hG2.1 hi (by decide) g1, o_aR_eq g2.1 (show k < 3 by omega) (by decide) q1, o_k_eq q2.1.1, fX16_holds, q4, sb, o_gI_eq q2.1.1, q2.2.2.1, q2.2.2.2.1, andS, q5]
      split
      · rfl
      · split
        · split <;> simp [i10]
        · split <;> simp [i10]
    · show lX11_act_16 σa p (nI i) (z + w) (nI h) (andS hv tm) (nI tm) = _
      unfold lX11_act_16
      rw [o_gR_eq hp.1 hT, o_aI_eq hT2.1 hi (by decide), g4, if_pos (nI_le (Nat.le_refl tm) (by omega))]
  · have hl : loopF fuel (fun y => lX7_doesHold_6 σb (z + 1064) (nI (72 * h + 12 * i)) (nI h) now y.1 y.2) (1, 0) = some (andS hv tm) := by
      have st3 : some (andS hv tm) = some (andS hv (min 3 tm)) := by rw [show min 3 tm = tm by omega]
      rw [st3]
      refine loopF_seq (st := fun k => (andS hv (min k tm), nI k)) 3 (fun k hk => ?_) ?_ fuel (fuel_lt (by omega))
      · show lX7_doesHold_6 σb (z + 1064) (nI (72 * h + 12 * i)) (nI h) now (andS hv (min k tm)) (nI k) = _
        unfold lX7_doesHold_6
        have ix : (nI (72 * h + 12 * i) + 3) + 3 * nI k = nI (72 * h + (12 * i + (3 + 3 * k))) := by
          have e3 : (3 : Int32) * nI k = nI (3 * k) := nI_mul 3 k
          rw [e3, nI_hi 3 3 _ rfl, nI_add]
          congr 1; omega
        have ix1 : nI (72 * h + (12 * i + (3 + 3 * k))) + 1 = nI (72 * h + (12 * i + (4 + 3 * k))) := by rw [nI_1]; congr 1; omega
        have ix2 : nI (72 * h + (12 * i + (3 + 3 * k))) + 2 = nI (72 * h + (12 * i + (5 + 3 * k))) := by rw [nI_hi 2 2 _ rfl]; congr 1; omega
        have b0 : 72 * h + (12 * i + (3 + 3 * k)) < 432 := by omega
        have b1 : 72 * h + (12 * i + (4 + 3 * k)) < 432 := by omega
        have b2 : 72 * h + (12 * i + (5 + 3 * k)) < 432 := by omega
        rw [if_neg (lit_nle 3 3 k rfl hk (by decide))]
        simp only [ix, ix1, ix2, e_1064_29 hB, a_1078 hB b0, a_1078 hB b1, a_1078 hB b2, e_1064_k hB, jn, nI_1]
        by_cases ck : k < tm
        · obtain ⟨q, v, q1, q2, q3, q4, q5⟩ := hhv k ck
          obtain ⟨rd, rd1, rd2⟩ := q2.2.2.2.2.1
          rw [show min (k + 1) tm = k + 1 by omega, show min k tm = k by omega, if_neg (by rw [rd2]; exact neg1_ne (by omega)), q3, sb]
          simp only [andS, q5]
          rcases q2.2.2.2.2.2 with ea | ea
          · rw [ea]
            by_cases c0 : andS hv k = 0
            · simp [c0]
            · by_cases cv : s_i σb (z + 1078) (72 * h + (12 * i + (5 + 3 * k))) ≤ v
              · simp [c0, cv]
              · simp [c0, cv]
          · rw [ea]
            by_cases c0 : andS hv k = 0
            · simp [c0]
            · by_cases cv : v ≤ s_i σb (z + 1078) (72 * h + (12 * i + (5 + 3 * k)))
              · simp [c0, cv]
              · simp [c0, cv]
        · have : s_i σb (z + 1078) (72 * h + (12 * i + (3 + 3 * k))) = -1 := g6 k (by omega) hk
          rw [if_pos this, show min (k + 1) tm = tm by omega, show min k tm = tm by omega]
      · show lX7_doesHold_6 σb (z + 1064) (nI (72 * h + 12 * i)) (nI h) now (andS hv (min 3 tm)) (nI 3) = _
        unfold lX7_doesHold_6
        rw [if_pos (by decide)]
    unfold fX7_doesHold
    rw [hl, sb]
    exact if_pos (andS_01 hv tm)
/-- an act against its number -/
def ActC (σ : St) (z r : Nat) (c : Int32) : Prop := (c = 0 ∧ r = z + 1) ∨ (c = 1 ∧ Dy σ z r (.inl 9)) ∨ (c = 2 ∧ Dy σ z r (.inl 10)) ∨ (c = 3 ∧ r = z + 2) ∨ ∃ g, g ≤ 5 ∧ c = nI (10 + g) ∧ Dy σ z r (.inl 12) ∧ s_i σ r 0 = nI g
theorem actOf_two (hw : Ws w) (hA : Sh σa z) (hB : Sh σb z) (tA : Th σa z nt) (tB : Th σb z nt) (hn : n ≤ 6) (hH : Ha σa z n) (h72 : ∀ j, s_i σb (z + 1072) j = s_i σa (z + 1072) j) (h77 : ∀ j, s_i σb (z + 1077) j = s_i σa (z + 1077) j) (h78 : ∀ j, s_i σb (z + 1078) j = s_i σa (z + 1078) j) (hW : WR z w n nt σa σb) {h : Nat} {now : Int32} (hh : h < n) (hnow : now = s_i σa (z + w) 0) : ∃ r c, fX5_actOf σa (z + w) (nI h) = some r ∧ fX7_actOf σb (z + 1064) (nI h) now = some c ∧ ActC σa z r c := by
  obtain ⟨g1, g2, g3, -⟩ := hW.1 h hh
  have l : h < 6 := by omega
  have l1 : 6 + h < 24 := by omega
  unfold fX5_actOf fX7_actOf
  rw [w_2 hw hA, wa_2 hw hA l, g2, e_1064_4 hB, nI_lo 6 6 h rfl, a_1067 hB l1]
  by_cases c1 : s_i σb (z + 1067) (6 + h) < 20
  · rw [if_pos c1, if_pos c1]
    rcases hH.1 h hh with ⟨u1, u2⟩ | ⟨p, m, u1, u2, u3⟩
    · rw [w_8 hw hA, e_0_9 hA, q_22 hA l, u1]
      have : loopF fuel (fun y => lX7_actOf_18 σb (z + 1064) (nI h) now y) 0 = some (.inr ()) := by
        refine loopF_seq (st := fun _ => 0) 0 (fun k hk => absurd hk (Nat.not_lt_zero k)) ?_ fuel (fuel_lt (by decide))
        show lX7_actOf_18 σb (z + 1064) (nI h) now 0 = _
        unfold lX7_actOf_18
        rw [e_1064_28 hB, a_1077 hB l, h77, u2]
        rfl
      rw [this, sb]
      refine ⟨z + 1, 0, ?_, rfl, Or.inl ⟨rfl, rfl⟩⟩
      simp only [o_opt, w_8 hw hA, e_0_0 hA]
    · have hp := u3.1
      obtain ⟨-, p1, p2, p3, A, G, T, A1, A2, G1, G2, T1, T2, hL⟩ := u3
      have hL : ∀ i, i < m → LineR σa z A G T i (fun j => s_i σb (z + 1078) (72 * h + (12 * i + j))) := fun i hi => (hL i hi).congr (fun j _ => h78 _)
      rw [w_8 hw hA, e_0_9 hA, q_22 hA l, u1]
      simp only [o_opt, w_8 hw hA, e_0_9 hA, a_22 hA l u1, o_k_eq hp.1]
      -- the first line that holds
      obtain ⟨N, hN, hlo, hhi⟩ := first_ex (fun i => loopF fuel (fun y => lX11_act_16 σa p (nI i) (z + w) (nI h) y.1 y.2) (1, 0) = some 1) m
      have sX : ∀ i, i < m → lX11_act_2 σa p (z + w) (nI h) (nI i) = if loopF fuel (fun y => lX11_act_16 σa p (nI i) (z + w) (nI h) y.1 y.2) (1, 0) = some 1 then some (.inr (.inl (nI i))) else some (.inl (nI (i + 1))) := by
        intro i hi
        obtain ⟨v, v0, v1, v2⟩ := line_two hw hA hB tA tB hn h72 hW hp G1 G2 T1 T2 (show i < 6 by omega) (hL i hi) hh hnow
        unfold lX11_act_2
        rw [o_gI_eq hp.1, p1, if_neg (nI_ge hi (by omega)), v1, sb, nI_1]
        rcases v0 with rfl | rfl
        · rw [if_pos rfl, if_neg (by simp)]
        · rw [if_neg (by decide), if_pos rfl]
      have sM : ∀ i, i < m → lX7_actOf_18 σb (z + 1064) (nI h) now (nI i) = if loopF fuel (fun y => lX11_act_16 σa p (nI i) (z + w) (nI h) y.1 y.2) (1, 0) = some 1 then some (.inr (.inl (nI (72 * h + 12 * i)))) else some (.inl (nI (i + 1))) := by
        intro i hi
        obtain ⟨v, v0, v1, v2⟩ := line_two hw hA hB tA tB hn h72 hW hp G1 G2 T1 T2 (show i < 6 by omega) (hL i hi) hh hnow
        have ix : 72 * nI h + 12 * nI i = nI (72 * h + 12 * i) := by
          rw [← nI_add, ← nI_mul 72 h, ← nI_mul 12 i]; rfl
        unfold lX7_actOf_18
        rw [e_1064_28 hB, a_1077 hB l, h77, u2, if_neg (nI_ge hi (by omega)), e_1064_k hB]
        simp only [ix]
        rw [v1, v2, sb, nI_1]
        rcases v0 with rfl | rfl
        · rw [if_pos rfl, if_neg (by simp)]
        · rw [if_neg (by decide), if_pos rfl]
      by_cases c : N < m
      · have kX : loopF fuel (fun y => lX11_act_2 σa p (z + w) (nI h) y) 0 = some (.inl (nI N)) := by
          refine loopF_seq (st := fun k => nI k) N (fun k hk => ?_) ?_ fuel (fuel_lt (by omega))
          · rw [sX k (by omega), if_neg (hlo k hk)]
          · rw [sX N c, if_pos (hhi c)]
        have kM : loopF fuel (fun y => lX7_actOf_18 σb (z + 1064) (nI h) now y) 0 = some (.inl (nI (72 * h + 12 * N))) := by
          refine loopF_seq (st := fun k => nI k) N (fun k hk => ?_) ?_ fuel (fuel_lt (by omega))
          · rw [sM k (by omega), if_neg (hlo k hk)]
          · rw [sM N c, if_pos (hhi c)]
        obtain ⟨⟨r, r1, r2⟩, -⟩ := hL N c
        have bM : 72 * h + 12 * N < 432 := by omega
        have bM1 : 72 * h + 12 * N + 1 < 432 := by omega
        unfold fX11_act
        rw [kX, kM, sb, sb]
        simp only [sm, o_gR_eq hp.1 A1, o_aR_eq A2.1 (show N < 6 by omega) (by decide) r1, sb, e_1064_29 hB, a_1078 hB bM, nI_1, a_1078 hB bM1]
        have r2 : ActR σa z r (s_i σb (z + 1078) (72 * h + 12 * N)) (s_i σb (z + 1078) (72 * h + 12 * N + 1)) := r2
        rcases r2 with ⟨e, e1⟩ | ⟨e, e1⟩ | ⟨e, e1⟩ | ⟨e, e1⟩ | ⟨e, e1, e2, g, g4, g5⟩
        · rw [e]; exact ⟨_, _, rfl, rfl, Or.inl ⟨rfl, e1⟩⟩
        · rw [e]; exact ⟨_, _, rfl, rfl, Or.inr (Or.inl ⟨rfl, e1⟩)⟩
        · rw [e]; exact ⟨_, _, rfl, rfl, Or.inr (Or.inr (Or.inl ⟨rfl, e1⟩))⟩
        · rw [e]; exact ⟨_, _, rfl, rfl, Or.inr (Or.inr (Or.inr (Or.inl ⟨rfl, e1⟩)))⟩
        · rw [if_pos e]
          exact ⟨_, _, rfl, rfl, Or.inr (Or.inr (Or.inr (Or.inr ⟨g, g4, by rw [g5, nI_lo 10 10 g rfl], e1, by rw [e2, g5]⟩)))⟩
      · have hNm : N = m := by omega
        subst hNm
        have kX : loopF fuel (fun y => lX11_act_2 σa p (z + w) (nI h) y) 0 = some (.inr ()) := by
          refine loopF_seq (st := fun k => nI k) N (fun k hk => ?_) ?_ fuel (fuel_lt (by omega))
          · rw [sX k hk, if_neg (hlo k hk)]
          · show lX11_act_2 σa p (z + w) (nI h) (nI N) = _
            unfold lX11_act_2
            rw [o_gI_eq hp.1, p1, if_pos (nI_le (Nat.le_refl N) (by omega))]
        have kM : loopF fuel (fun y => lX7_actOf_18 σb (z + 1064) (nI h) now y) 0 = some (.inr ()) := by
          refine loopF_seq (st := fun k => nI k) N (fun k hk => ?_) ?_ fuel (fuel_lt (by omega))
          · rw [sM k hk, if_neg (hlo k hk)]
          · show lX7_actOf_18 σb (z + 1064) (nI h) now (nI N) = _
            unfold lX7_actOf_18
            rw [e_1064_28 hB, a_1077 hB l, h77, u2, if_pos (nI_le (Nat.le_refl N) (by omega))]
        unfold fX11_act
        rw [kX, kM, sb, sb]
        refine ⟨z + 1, 0, ?_, rfl, Or.inl ⟨rfl, rfl⟩⟩
        simp only [sm, o_gR_eq hp.1 p3, e_0_0 hA, sb]
  · rw [if_neg c1, if_neg c1, w_8 hw hA, e_0_1 hA]
    exact ⟨z + 2, 3, rfl, rfl, Or.inr (Or.inr (Or.inr (Or.inl ⟨rfl, rfl⟩)))⟩
end ACT
