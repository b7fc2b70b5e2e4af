set_option maxRecDepth 100000
/-! a wood: at 6 or at 14 -/
abbrev Ws (w : Nat) : Prop := w = 6 ∨ w = 14
theorem w_1 {α : Type} {σ : St} {z w : Nat} {K : Nat → Option α} (hw : Ws w) (h : Sh σ z) : o_gR σ (z + w) 3 1 K = K (z + (w + 1)) := by
  rcases hw with rfl | rfl
  · exact e_6_1 h
  · exact e_14_1 h
theorem w_2 {α : Type} {σ : St} {z w : Nat} {K : Nat → Option α} (hw : Ws w) (h : Sh σ z) : o_gR σ (z + w) 3 2 K = K (z + (w + 2)) := by
  rcases hw with rfl | rfl
  · exact e_6_2 h
  · exact e_14_2 h
theorem w_3 {α : Type} {σ : St} {z w : Nat} {K : Nat → Option α} (hw : Ws w) (h : Sh σ z) : o_gR σ (z + w) 3 3 K = K (z + (w + 3)) := by
  rcases hw with rfl | rfl
  · exact e_6_3 h
  · exact e_14_3 h
theorem w_4 {α : Type} {σ : St} {z w : Nat} {K : Nat → Option α} (hw : Ws w) (h : Sh σ z) : o_gR σ (z + w) 3 4 K = K (z + (w + 4)) := by
  rcases hw with rfl | rfl
  · exact e_6_4 h
  · exact e_14_4 h
theorem w_5 {α : Type} {σ : St} {z w : Nat} {K : Nat → Option α} (hw : Ws w) (h : Sh σ z) : o_gR σ (z + w) 3 5 K = K (z + (w + 5)) := by
  rcases hw with rfl | rfl
  · exact e_6_5 h
  · exact e_14_5 h
theorem w_6 {α : Type} {σ : St} {z w : Nat} {K : Nat → Option α} (hw : Ws w) (h : Sh σ z) : o_gR σ (z + w) 3 6 K = K (z + (w + 6)) := by
  rcases hw with rfl | rfl
  · exact e_6_6 h
  · exact e_14_6 h
theorem w_7 {α : Type} {σ : St} {z w : Nat} {K : Nat → Option α} (hw : Ws w) (h : Sh σ z) : o_gR σ (z + w) 3 7 K = K (z + (w + 7)) := by
  rcases hw with rfl | rfl
  · exact e_6_7 h
  · exact e_14_7 h
theorem w_8 {α : Type} {σ : St} {z w : Nat} {K : Nat → Option α} (hw : Ws w) (h : Sh σ z) : o_gR σ (z + w) 3 8 K = K z := by
  rcases hw with rfl | rfl
  · exact e_6_8 h
  · exact e_14_8 h
theorem w_i {α : Type} {σ : St} {z w j : Nat} {K : Int32 → Option α} (hw : Ws w) (h : Sh σ z) : o_gI σ (z + w) 3 j K = K (s_i σ (z + w) j) := by
  rcases hw with rfl | rfl
  · exact e_6_i h
  · exact e_14_i h
theorem w_p {α : Type} {σ : St} {z w j : Nat} {v : Int32} {K : St → Option α} (hw : Ws w) (h : Sh σ z) : o_pI σ (z + w) 3 j v K = K (setI σ (z + w) j v) := by
  rcases hw with rfl | rfl
  · exact e_6_p h
  · exact e_14_p h
theorem w_k {α : Type} {σ : St} {z w : Nat} {K : Option α} (hw : Ws w) (h : Sh σ z) : o_k σ (z + w) 3 K = K := by
  rcases hw with rfl | rfl
  · exact e_6_k h
  · exact e_14_k h
theorem wa_1 {α : Type} {σ : St} {z w k : Nat} {K : Int32 → Option α} (hw : Ws w) (h : Sh σ z) (hk : k < 6) : o_aI σ (z + (w + 1)) 0 (nI k) K = K (s_i σ (z + (w + 1)) k) := by
  rcases hw with rfl | rfl
  · exact a_7 h hk
  · exact a_15 h hk
theorem ws_1 {α : Type} {σ : St} {z w k : Nat} {v : Int32} {K : St → Option α} (hw : Ws w) (h : Sh σ z) (hk : k < 6) : o_sI σ (z + (w + 1)) 0 (nI k) v K = K (setI σ (z + (w + 1)) k v) := by
  rcases hw with rfl | rfl
  · exact s_7 h hk
  · exact s_15 h hk
theorem wa_2 {α : Type} {σ : St} {z w k : Nat} {K : Int32 → Option α} (hw : Ws w) (h : Sh σ z) (hk : k < 6) : o_aI σ (z + (w + 2)) 0 (nI k) K = K (s_i σ (z + (w + 2)) k) := by
  rcases hw with rfl | rfl
  · exact a_8 h hk
  · exact a_16 h hk
theorem ws_2 {α : Type} {σ : St} {z w k : Nat} {v : Int32} {K : St → Option α} (hw : Ws w) (h : Sh σ z) (hk : k < 6) : o_sI σ (z + (w + 2)) 0 (nI k) v K = K (setI σ (z + (w + 2)) k v) := by
  rcases hw with rfl | rfl
  · exact s_8 h hk
  · exact s_16 h hk
theorem wa_3 {α : Type} {σ : St} {z w k : Nat} {K : Int32 → Option α} (hw : Ws w) (h : Sh σ z) (hk : k < 6) : o_aI σ (z + (w + 3)) 0 (nI k) K = K (s_i σ (z + (w + 3)) k) := by
  rcases hw with rfl | rfl
  · exact a_9 h hk
  · exact a_17 h hk
theorem ws_3 {α : Type} {σ : St} {z w k : Nat} {v : Int32} {K : St → Option α} (hw : Ws w) (h : Sh σ z) (hk : k < 6) : o_sI σ (z + (w + 3)) 0 (nI k) v K = K (setI σ (z + (w + 3)) k v) := by
  rcases hw with rfl | rfl
  · exact s_9 h hk
  · exact s_17 h hk
theorem wa_4 {α : Type} {σ : St} {z w k : Nat} {K : Int32 → Option α} (hw : Ws w) (h : Sh σ z) (hk : k < 6) : o_aI σ (z + (w + 4)) 0 (nI k) K = K (s_i σ (z + (w + 4)) k) := by
  rcases hw with rfl | rfl
  · exact a_10 h hk
  · exact a_18 h hk
theorem ws_4 {α : Type} {σ : St} {z w k : Nat} {v : Int32} {K : St → Option α} (hw : Ws w) (h : Sh σ z) (hk : k < 6) : o_sI σ (z + (w + 4)) 0 (nI k) v K = K (setI σ (z + (w + 4)) k v) := by
  rcases hw with rfl | rfl
  · exact s_10 h hk
  · exact s_18 h hk
theorem wa_5 {α : Type} {σ : St} {z w k : Nat} {K : Int32 → Option α} (hw : Ws w) (h : Sh σ z) (hk : k < 6) : o_aI σ (z + (w + 5)) 0 (nI k) K = K (s_i σ (z + (w + 5)) k) := by
  rcases hw with rfl | rfl
  · exact a_11 h hk
  · exact a_19 h hk
theorem ws_5 {α : Type} {σ : St} {z w k : Nat} {v : Int32} {K : St → Option α} (hw : Ws w) (h : Sh σ z) (hk : k < 6) : o_sI σ (z + (w + 5)) 0 (nI k) v K = K (setI σ (z + (w + 5)) k v) := by
  rcases hw with rfl | rfl
  · exact s_11 h hk
  · exact s_19 h hk
theorem wa_7 {α : Type} {σ : St} {z w k : Nat} {K : Int32 → Option α} (hw : Ws w) (h : Sh σ z) (hk : k < 40) : o_aI σ (z + (w + 7)) 0 (nI k) K = K (s_i σ (z + (w + 7)) k) := by
  rcases hw with rfl | rfl
  · exact a_13 h hk
  · exact a_21 h hk
theorem ws_7 {α : Type} {σ : St} {z w k : Nat} {v : Int32} {K : St → Option α} (hw : Ws w) (h : Sh σ z) (hk : k < 40) : o_sI σ (z + (w + 7)) 0 (nI k) v K = K (setI σ (z + (w + 7)) k v) := by
  rcases hw with rfl | rfl
  · exact s_13 h hk
  · exact s_21 h hk
/-- how many are there -/
def cnt (f : Nat → Int32) (a : Int32) : Nat → Int32
  | 0 => 0
  | k + 1 => cnt f a k + (if f k = a then 1 else 0)
def cntB (f g : Nat → Int32) (a : Int32) : Nat → Int32
  | 0 => 0
  | k + 1 => cntB f g a k + (if f k = a then (if g k = 0 then 1 else 0) else 0)
theorem cnt_congr {f f' : Nat → Int32} (a : Int32) : ∀ k, (∀ t, t < k → f t = f' t) → cnt f a k = cnt f' a k
  | 0, _ => rfl
  | k + 1, h => by unfold cnt; rw [cnt_congr a k (fun t ht => h t (by omega)), h k (by omega)]
theorem cntB_congr {f f' g g' : Nat → Int32} (a : Int32) : ∀ k, (∀ t, t < k → f t = f' t ∧ g t = g' t) → cntB f g a k = cntB f' g' a k
  | 0, _ => rfl
  | k + 1, h => by unfold cntB; rw [cntB_congr a k (fun t ht => h t (by omega)), (h k (by omega)).1, (h k (by omega)).2]
section WOOD
variable {σ : St} {z w nt : Nat}
theorem many_eq (hS : Sh σ z) (hw : Ws w) (h1 : nt ≤ 40) (h2 : s_i σ z 5 = nI nt) (a : Int32) : fX5_many σ (z + w) a = some (cnt (s_i σ (z + (w + 7))) a nt) := by
  have key : loopF fuel (fun y => lX5_many_4 σ (z + w) a y.1 y.2) (0, 0) = some (cnt (s_i σ (z + (w + 7))) a nt) := by
    refine loopF_seq (st := fun k => (cnt (s_i σ (z + (w + 7))) a k, nI k)) nt (fun k hk => ?_) ?_ fuel (fuel_lt (by omega))
    · show lX5_many_4 σ (z + w) a (cnt (s_i σ (z + (w + 7))) a k) (nI k) = _
      unfold lX5_many_4
      rw [w_8 hw hS, e_0_i hS, h2, if_neg (nI_ge hk (by omega)), w_7 hw hS, wa_7 hw hS (by omega)]
      simp only [jn, nI_1, cnt]
      split <;> rfl
    · show lX5_many_4 σ (z + w) a (cnt (s_i σ (z + (w + 7))) a nt) (nI nt) = _
      unfold lX5_many_4
      rw [w_8 hw hS, e_0_i hS, h2, if_pos (nI_le (Nat.le_refl nt) (by omega))]
  unfold fX5_many
  rw [key, sb]
theorem thingsOf_eq (hS : Sh σ z) (h1 : nt ≤ 40) (h2 : s_i σ (z + 1064) 7 = nI nt) (a : Int32) : fX7_thingsOf σ (z + 1064) a = some (cnt (s_i σ (z + 1070)) a nt) := by
  have key : loopF fuel (fun y => lX7_thingsOf_4 σ (z + 1064) a y.1 y.2) (0, 0) = some (cnt (s_i σ (z + 1070)) a nt) := by
    refine loopF_seq (st := fun k => (cnt (s_i σ (z + 1070)) a k, nI k)) nt (fun k hk => ?_) ?_ fuel (fuel_lt (by omega))
    · show lX7_thingsOf_4 σ (z + 1064) a (cnt (s_i σ (z + 1070)) a k) (nI k) = _
      unfold lX7_thingsOf_4
      rw [e_1064_i hS, h2, if_neg (nI_ge hk (by omega)), e_1064_8 hS, a_1070 hS (by omega)]
      simp only [jn, nI_1, cnt]
      split <;> rfl
    · show lX7_thingsOf_4 σ (z + 1064) a (cnt (s_i σ (z + 1070)) a nt) (nI nt) = _
      unfold lX7_thingsOf_4
      rw [e_1064_i hS, h2, if_pos (nI_le (Nat.le_refl nt) (by omega))]
  unfold fX7_thingsOf
  rw [key, sb]
theorem blue_eq (hS : Sh σ z) (hw : Ws w) (hT : Th σ z nt) (a : Int32) : fX5_blue σ (z + w) a = some (cntB (s_i σ (z + (w + 7))) (s_i σ (z + 1072)) a nt) := by
  have h1 := hT.1
  have key : loopF fuel (fun y => lX5_blue_4 σ (z + w) a y.1 y.2) (0, 0) = some (cntB (s_i σ (z + (w + 7))) (s_i σ (z + 1072)) a nt) := by
    refine loopF_seq (st := fun k => (cntB (s_i σ (z + (w + 7))) (s_i σ (z + 1072)) a k, nI k)) nt (fun k hk => ?_) ?_ fuel (fuel_lt (by omega))
    · show lX5_blue_4 σ (z + w) a (cntB (s_i σ (z + (w + 7))) (s_i σ (z + 1072)) a k) (nI k) = _
      unfold lX5_blue_4
      obtain ⟨p, p1, p2, p3, -⟩ := hT.2.2.2 k hk
      rw [w_8 hw hS, e_0_i hS, hT.2.1, if_neg (nI_ge hk (by omega)), w_7 hw hS, wa_7 hw hS (by omega)]
      simp only [jn, nI_1, cntB, w_8 hw hS, e_0_4 hS, a_4 hS (show k < 40 by omega) p1, o_gI_eq p2.1, p3]
      split
      · split <;> rfl
      · rfl
    · show lX5_blue_4 σ (z + w) a (cntB (s_i σ (z + (w + 7))) (s_i σ (z + 1072)) a nt) (nI nt) = _
      unfold lX5_blue_4
      rw [w_8 hw hS, e_0_i hS, hT.2.1, if_pos (nI_le (Nat.le_refl nt) (by omega))]
  unfold fX5_blue
  rw [key, sb]
theorem coloured_eq (hS : Sh σ z) (h1 : nt ≤ 40) (h2 : s_i σ (z + 1064) 7 = nI nt) (a : Int32) : fX7_coloured σ (z + 1064) a 0 = some (cntB (s_i σ (z + 1070)) (s_i σ (z + 1072)) a nt) := by
  have key : loopF fuel (fun y => lX7_coloured_5 σ (z + 1064) a 0 y.1 y.2) (0, 0) = some (cntB (s_i σ (z + 1070)) (s_i σ (z + 1072)) a nt) := by
    refine loopF_seq (st := fun k => (cntB (s_i σ (z + 1070)) (s_i σ (z + 1072)) a k, nI k)) nt (fun k hk => ?_) ?_ fuel (fuel_lt (by omega))
    · show lX7_coloured_5 σ (z + 1064) a 0 (cntB (s_i σ (z + 1070)) (s_i σ (z + 1072)) a k) (nI k) = _
      unfold lX7_coloured_5
      rw [e_1064_i hS, h2, if_neg (nI_ge hk (by omega)), e_1064_8 hS, a_1070 hS (by omega)]
      simp only [jn, nI_1, cntB, e_1064_10 hS, a_1072 hS (show k < 40 by omega)]
      split
      · split <;> rfl
      · rfl
    · show lX7_coloured_5 σ (z + 1064) a 0 (cntB (s_i σ (z + 1070)) (s_i σ (z + 1072)) a nt) (nI nt) = _
      unfold lX7_coloured_5
      rw [e_1064_i hS, h2, if_pos (nI_le (Nat.le_refl nt) (by omega))]
  unfold fX7_coloured
  rw [key, sb]
end WOOD
theorem isThing_eq {σ : St} {z nt : Nat} (hS : Sh σ z) (h : s_i σ z 5 = nI nt) (v : Int32) : fX0_isThing σ z v = some (if 0 ≤ v ∧ v ≤ nI nt - 1 then 1 else 0) := by
  unfold fX0_isThing
  rw [e_0_i hS, h, isIn_lit σ σ v 0 (nI nt - 1) (lo' := 0) (hi' := (nI nt - 1).toInt64) rfl rfl, in_eq, sb, bz_01]
theorem at_sim {σ : St} {z n nt : Nat} (hS : Sh σ z) (hT : Th σ z nt) (hW : Wd σ z n nt) (a b : Int32) : ∃ v, fX0_at σ z a b = some v ∧ fX7_at σ (z + 1064) a b = some v := by
  have h1 := hT.1
  unfold fX0_at fX7_at
  rw [e_0_k hS, isThing_eq hS hT.2.1, e_1064_i hS, hT.2.2.1, in_eq, sb, sb, if01, if01]
  by_cases c1 : 0 ≤ a ∧ a ≤ nI nt - 1
  · obtain ⟨t, ht, rfl⟩ := in_nat (by omega) c1
    obtain ⟨p, p1, p2, p3, p4, p5, -⟩ := hT.2.2.2 t ht
    have l : t < 40 := by omega
    have e := hW.2.1.2 t ht
    rw [if_pos c1, if_pos c1]
    simp only [e_0_7 hS, e_6_7 hS, a_13 hS l, e_1064_8 hS, a_1070 hS l, e_0_4 hS, a_4 hS l p1, o_gI_eq p2.1, e_1064_10 hS, a_1072 hS l, e_1064_11 hS, a_1073 hS l, e_1064_12 hS, a_1074 hS l, p3, p4, p5]
    have e : s_i σ (z + 13) t = s_i σ (z + 1070) t := e
    rw [e]
    (repeat' split) <;> exact ⟨_, rfl, rfl⟩
  · rw [if_neg c1, if_neg c1]; exact ⟨_, rfl, rfl⟩
theorem of_sim {σ : St} {z n nt : Nat} (hS : Sh σ z) (hH : Hn σ z n) (hT : Th σ z nt) (hW : Wd σ z n nt) (a b : Int32) : ∃ v, fX0_of σ z a b = some v ∧ fX7_of σ (z + 1064) a b = some v := by
  have h1 := hH.1
  unfold fX0_of fX7_of
  rw [e_0_k hS, isHut_eq hS hH, e_1064_k hS, isHutM_eq hS hH, sb, sb, if01, if01]
  by_cases c1 : 0 ≤ a ∧ a ≤ nI n - 1
  · obtain ⟨h, hh, rfl⟩ := in_nat (by omega) c1
    have l : h < 6 := by omega
    have l0 : h < 24 := by omega
    have l1 : 6 + h < 24 := by omega
    have l2 : 12 + h < 24 := by omega
    have l3 : 18 + h < 24 := by omega
    obtain ⟨g1, ⟨g2, g3⟩, g4, -⟩ := hW
    obtain ⟨q1, q2, q3, -⟩ := g2 h hh
    have q1 : s_i σ (z + 7) h = _ := q1
    have q2 : s_i σ (z + 8) h = _ := q2
    have q3 : s_i σ (z + 9) h = _ := q3
    have q4 := g4 h hh
    rw [if_pos c1, if_pos c1]
    simp only [e_0_7 hS, e_6_1 hS, e_6_2 hS, e_6_3 hS, e_6_5 hS, e_6_k hS, a_7 hS l, a_8 hS l, a_9 hS l, a_11 hS l, e_1064_4 hS, nI_lo 6 6 h rfl, nI_lo 12 12 h rfl, nI_lo 18 18 h rfl, a_1067 hS l0, a_1067 hS l1, a_1067 hS l2, a_1067 hS l3, q1, q2, q3, q4, e_1064_k hS, many_eq hS (w := 6) (Or.inl rfl) hT.1 hT.2.1, thingsOf_eq hS hT.1 hT.2.2.1, blue_eq hS (w := 6) (Or.inl rfl) hT, coloured_eq hS hT.1 hT.2.2.1, sb]
    rw [cnt_congr (f := s_i σ (z + (6 + 7))) (f' := s_i σ (z + 1070)) _ _ g3, cntB_congr (f := s_i σ (z + (6 + 7))) (f' := s_i σ (z + 1070)) _ _ (fun t ht => ⟨g3 t ht, rfl⟩)]
    (repeat' split) <;> exact ⟨_, rfl, rfl⟩
  · rw [if_neg c1, if_neg c1]; exact ⟨_, rfl, rfl⟩
