set_option maxRecDepth 100000
/-! shows: guests, stay, held -/
def Gu (σ : St) (z n : Nat) (lo hi : Nat → Nat) : Prop := n ≤ 20 ∧ s_i σ z 19 = nI n ∧ s_i σ (z + 1064) 35 = nI n ∧ ∀ g, g < n → s_i σ (z + 29) g = nI (lo g) ∧ s_i σ (z + 30) g = nI (hi g) ∧ s_i σ (z + 1084) g = nI (lo g) ∧ s_i σ (z + 1085) g = nI (hi g) ∧ lo g ≤ hi g ∧ hi g ≤ 9
def Gus (σ : St) (z : Nat) : Prop := ∃ n lo hi, Gu σ z n lo hi
theorem Gus.keep {σ σ' : St} {z : Nat} {L : PlL} (h : Gus σ z) (hS : Sh σ z) (hF : Fr (PL z L) σ σ') (hL : (plno L 0 (some 19) && plno L 1064 (some 35) && plno L 29 none && plno L 30 none && plno L 1084 none && plno L 1085 none) = true) : Gus σ' z := by
  obtain ⟨n, lo, hi, h1, h2, h3, h4⟩ := h
  simp only [Bool.and_eq_true] at hL
  obtain ⟨⟨⟨⟨⟨l1, l2⟩, l3⟩, l4⟩, l5⟩, l6⟩ := hL
  refine ⟨n, lo, hi, h1, (hF.ki hS 0 19 (by decide) l1).trans h2, (hF.ki hS 1064 35 (by decide) l2).trans h3, fun g hg => ?_⟩
  rw [hF.kia hS 29 (by decide) l3, hF.kia hS 30 (by decide) l4, hF.kia hS 1084 (by decide) l5, hF.kia hS 1085 (by decide) l6]
  exact h4 g hg
/-- whether one stays: by steps from l on -/
def stI (set : Int32) (l : Nat) : Nat → Int32
  | 0 => 0
  | k + 1 => if stI set l k = 0 ∧ ¬ ((set >>> (nI (l + k) &&& 31)) &&& 1) = 1 then 0 else 1
/-- how many stay -/
def stC (set : Int32) (lo hi : Nat → Nat) : Nat → Int32
  | 0 => 0
  | g + 1 => stC set lo hi g + (if stI set (lo g) (hi g + 1 - lo g) = 0 then 0 else 1)
section STAY
variable {σ : St} {z n : Nat} {lo hi : Nat → Nat}
theorem stay_in (hS : Sh σ z) (h : Gu σ z n lo hi) (set : Int32) {g : Nat} (hg : g < n) : loopF fuel (fun y => lX0_stay_23 σ z (nI g) set y.1 y.2) (0, nI (lo g)) = some (stI set (lo g) (hi g + 1 - lo g)) := by
  obtain ⟨h1, h2, h3, h4⟩ := h
  obtain ⟨-, e2, -, -, e5, e6⟩ := h4 g hg
  refine loopF_seq (st := fun k => (stI set (lo g) k, nI (lo g + k))) (hi g + 1 - lo g) (fun k hk => ?_) ?_ fuel (fuel_lt (by omega))
  · show lX0_stay_23 σ z (nI g) set (stI set (lo g) k) (nI (lo g + k)) = _
    unfold lX0_stay_23
    rw [e_0_18 hS, a_30 hS (by omega), e2, if_neg (nI_nlt (by omega) (by omega))]
    simp only [jn, isSet_eq, nI_1, stI]
    by_cases c1 : stI set (lo g) k = 0
    · by_cases c2 : ((set >>> (nI (lo g + k) &&& 31)) &&& 1) = 1
      · simp [c1, c2, Nat.add_assoc]
      · simp [c1, c2, Nat.add_assoc]
    · simp [c1, Nat.add_assoc]
  · show lX0_stay_23 σ z (nI g) set (stI set (lo g) (hi g + 1 - lo g)) (nI (lo g + (hi g + 1 - lo g))) = _
    unfold lX0_stay_23
    rw [e_0_18 hS, a_30 hS (by omega), e2, if_pos (nI_lt (by omega) (by omega))]
theorem stay_eq (hS : Sh σ z) (h : Gu σ z n lo hi) (set : Int32) : fX0_stay σ z set = some (stC set lo hi n) := by
  have hh := h
  obtain ⟨h1, h2, h3, h4⟩ := h
  have key : loopF fuel (fun y => lX0_stay_4 σ z set y.1 y.2) (0, 0) = some (stC set lo hi n) := by
    refine loopF_seq (st := fun g => (stC set lo hi g, nI g)) n (fun g hg => ?_) ?_ fuel (fuel_lt (by omega))
    · obtain ⟨e1, -, -, -, e5, e6⟩ := h4 g hg
      show lX0_stay_4 σ z set (stC set lo hi g) (nI g) = _
      unfold lX0_stay_4
      rw [e_0_i hS, h2, if_neg (nI_ge hg (by omega)), e_0_17 hS, a_29 hS (by omega), e1, stay_in hS hh set hg, sb]
      simp only [jn, nI_1, stC]
      split <;> rfl
    · show lX0_stay_4 σ z set (stC set lo hi n) (nI n) = _
      unfold lX0_stay_4
      rw [e_0_i hS, h2, if_pos (nI_le (Nat.le_refl n) (by omega))]
  unfold fX0_stay
  rw [key, sb]
theorem staying_in (hS : Sh σ z) (h : Gu σ z n lo hi) (set : Int32) {g : Nat} (hg : g < n) : loopF fuel (fun y => lX7_staying_23 σ (z + 1064) (nI g) set y.1 y.2) (0, nI (lo g)) = some (stI set (lo g) (hi g + 1 - lo g)) := by
  obtain ⟨h1, h2, h3, h4⟩ := h
  obtain ⟨-, -, -, e2, e5, e6⟩ := h4 g hg
  refine loopF_seq (st := fun k => (stI set (lo g) k, nI (lo g + k))) (hi g + 1 - lo g) (fun k hk => ?_) ?_ fuel (fuel_lt (by omega))
  · show lX7_staying_23 σ (z + 1064) (nI g) set (stI set (lo g) k) (nI (lo g + k)) = _
    unfold lX7_staying_23
    rw [e_1064_37 hS, a_1085 hS (by omega), e2, if_neg (nI_nlt (by omega) (by omega))]
    simp only [jn, nI_1, stI]
    by_cases c1 : stI set (lo g) k = 0
    · by_cases c2 : ((set >>> (nI (lo g + k) &&& 31)) &&& 1) = 1
      · simp [c1, c2, Nat.add_assoc]
      · simp [c1, c2, Nat.add_assoc]
    · simp [c1, Nat.add_assoc]
  · show lX7_staying_23 σ (z + 1064) (nI g) set (stI set (lo g) (hi g + 1 - lo g)) (nI (lo g + (hi g + 1 - lo g))) = _
    unfold lX7_staying_23
    rw [e_1064_37 hS, a_1085 hS (by omega), e2, if_pos (nI_lt (by omega) (by omega))]
theorem staying_eq (hS : Sh σ z) (h : Gu σ z n lo hi) (set : Int32) : fX7_staying σ (z + 1064) set = some (stC set lo hi n) := by
  have hh := h
  obtain ⟨h1, h2, h3, h4⟩ := h
  have key : loopF fuel (fun y => lX7_staying_4 σ (z + 1064) set y.1 y.2) (0, 0) = some (stC set lo hi n) := by
    refine loopF_seq (st := fun g => (stC set lo hi g, nI g)) n (fun g hg => ?_) ?_ fuel (fuel_lt (by omega))
    · obtain ⟨-, -, e1, -, e5, e6⟩ := h4 g hg
      show lX7_staying_4 σ (z + 1064) set (stC set lo hi g) (nI g) = _
      unfold lX7_staying_4
      rw [e_1064_i hS, h3, if_neg (nI_ge hg (by omega)), e_1064_36 hS, a_1084 hS (by omega), e1, staying_in hS hh set hg, sb]
      simp only [jn, nI_1, stC]
      split <;> rfl
    · show lX7_staying_4 σ (z + 1064) set (stC set lo hi n) (nI n) = _
      unfold lX7_staying_4
      rw [e_1064_i hS, h3, if_pos (nI_le (Nat.le_refl n) (by omega))]
  unfold fX7_staying
  rw [key, sb]
/-- the best wild so far -/
def heI (f : Int32 → Int32) : Nat → Int32
  | 0 => 0
  | k + 1 => if f (1 <<< (nI (k + 1) &&& 31)) ≤ f (1 <<< (heI f k &&& 31)) then heI f k else nI (k + 1)
theorem held_sim (hS : Sh σ z) (h : Gus σ z) (w : Int32) : ∃ v, fX0_held σ z w = some v ∧ fX7_held σ (z + 1064) w = some v := by
  obtain ⟨n, lo, hi, h⟩ := h
  have k1 : loopF fuel (fun y => lX0_held_17 σ z y.1 y.2) (0, 1) = some (heI (fun s => stC s lo hi n) 9) := by
    refine loopF_seq (st := fun k => (heI (fun s => stC s lo hi n) k, nI (k + 1))) 9 (fun k hk => ?_) ?_ fuel (fuel_lt (by omega))
    · show lX0_held_17 σ z (heI (fun s => stC s lo hi n) k) (nI (k + 1)) = _
      unfold lX0_held_17
      rw [if_neg (lit_nle 10 10 (k + 1) rfl (by omega) (by decide)), e_0_k hS, stay_eq hS h, sb, e_0_k hS, stay_eq hS h, sb]
      simp only [jn, nI_1, heI]
      split <;> rfl
    · show lX0_held_17 σ z (heI (fun s => stC s lo hi n) 9) (nI 10) = _
      unfold lX0_held_17
      rw [if_pos (by decide)]
  have k2 : loopF fuel (fun y => lX7_held_16 σ (z + 1064) y.1 y.2) (0, 1) = some (heI (fun s => stC s lo hi n) 9) := by
    refine loopF_seq (st := fun k => (heI (fun s => stC s lo hi n) k, nI (k + 1))) 9 (fun k hk => ?_) ?_ fuel (fuel_lt (by omega))
    · show lX7_held_16 σ (z + 1064) (heI (fun s => stC s lo hi n) k) (nI (k + 1)) = _
      unfold lX7_held_16
      rw [if_neg (lit_nle 10 10 (k + 1) rfl (by omega) (by decide)), e_1064_k hS, staying_eq hS h, sb, e_1064_k hS, staying_eq hS h, sb]
      simp only [jn, nI_1, heI]
      split <;> rfl
    · show lX7_held_16 σ (z + 1064) (heI (fun s => stC s lo hi n) 9) (nI 10) = _
      unfold lX7_held_16
      rw [if_pos (by decide)]
  unfold fX0_held fX7_held
  rw [isIn_lit σ σ w 0 1 (lo' := 0) (hi' := 1) rfl rfl, in_eq, sb, sb, if01, if01, k1, k2, sb, sb, e_0_k hS, e_1064_k hS, stay_eq hS h, staying_eq hS h]
  simp only [sb]
  split
  · split
    · exact ⟨_, rfl, rfl⟩
    · exact ⟨_, rfl, rfl⟩
  · exact ⟨_, rfl, rfl⟩
end STAY

theorem gi_ne {σ : St} {a b j k : Nat} {v : Int32} (h : b ≠ a) : s_i (setI σ a j v) b k = s_i σ b k := by rw [i_setI, up2_ne (fun q => h q.1)]
theorem gi_nj {σ : St} {a j k : Nat} {v : Int32} (h : k ≠ j) : s_i (setI σ a j v) a k = s_i σ a k := by rw [i_setI, up2_ne (fun q => h q.2)]
theorem gi_eq {σ : St} {a j : Nat} {v : Int32} : s_i (setI σ a j v) a j = v := by rw [i_setI, up2_same]
theorem guest_sim {σ : St} {z : Nat} (hS : Sh σ z) (h : Gus σ z) (a b : Int32) : ∃ v σ1 σ2, fX0_guest σ z a b = some (v, σ1) ∧ fX7_guest σ1 (z + 1064) a b = some (v, σ2) ∧ Fr (PL z [(29, none), (30, none), (0, some 19), (1084, none), (1085, none), (1064, some 35)]) σ σ2 ∧ Gus σ2 z := by
  have hG := h
  obtain ⟨n, lo, hi, h1, h2, h3, h4⟩ := h
  unfold fX0_guest
  rw [isIn_lit σ σ a 0 9 (lo' := 0) (hi' := 9) rfl rfl, in_eq, sb, if01, isIn_lit σ σ b a 9 (lo' := a.toInt64) (hi' := 9) rfl rfl, in_eq, sb, if01]
  by_cases c1 : 0 ≤ a ∧ a ≤ 9
  · by_cases c2 : a ≤ b ∧ b ≤ 9
    · rw [if_pos c1, if_pos c2, e_0_i hS, h2]
      by_cases c3 : n = 20
      · subst c3
        refine ⟨-5, σ, σ, by rw [if_pos (by decide)], ?_, Fr.refl, hG⟩
        unfold fX7_guest
        rw [in_eq, sb, if01, if_pos c1, in_eq, sb, if01, if_pos c2, e_1064_i hS, h3, if_pos (by decide)]
      · have hn : n < 20 := by omega
        have hS1 : Sh (setI σ (z + 29) n a) z := hS
        have hS2 : Sh (setI (setI σ (z + 29) n a) (z + 30) n b) z := hS
        rw [if_neg (lit_ne 20 20 n rfl c3 (by omega) (by decide)), e_0_17 hS, e_0_i hS, h2, s_29 hS hn, e_0_18 hS1, e_0_i hS1, gi_ne (by omega), h2, s_30 hS1 hn, e_0_i hS2, gi_ne (by omega), gi_ne (by omega), h2, e_0_p hS2]
        obtain ⟨σ1, e1⟩ : ∃ σ1, σ1 = setI (setI (setI σ (z + 29) n a) (z + 30) n b) z 19 (nI n + 1) := ⟨_, rfl⟩
        have hS3 : Sh σ1 z := by rw [e1]; exact hS
        rw [← e1, e_0_i hS3]
        have g1 : s_i σ1 z 19 = nI (n + 1) := by rw [e1, gi_eq, nI_1]
        have g2 : s_i σ1 (z + 1064) 35 = nI n := by rw [e1, gi_ne (by omega), gi_ne (by omega), gi_ne (by omega), h3]
        have hS4 : Sh (setI σ1 (z + 1084) n a) z := hS3
        have hS5 : Sh (setI (setI σ1 (z + 1084) n a) (z + 1085) n b) z := hS3
        obtain ⟨σ2, e2⟩ : ∃ σ2, σ2 = setI (setI (setI σ1 (z + 1084) n a) (z + 1085) n b) (z + 1064) 35 (nI n + 1) := ⟨_, rfl⟩
        have hS6 : Sh σ2 z := by rw [e2]; exact hS3
        refine ⟨nI (n + 1), σ1, σ2, by rw [g1], ?_, ?_, ?_⟩
        · unfold fX7_guest
          rw [in_eq, sb, if01, if_pos c1, in_eq, sb, if01, if_pos c2, e_1064_i hS3, g2, if_neg (lit_ne 20 20 n rfl c3 (by omega) (by decide)), e_1064_36 hS3, e_1064_i hS3, g2, s_1084 hS3 hn, e_1064_37 hS4, e_1064_i hS4, gi_ne (by omega), g2, s_1085 hS4 hn, e_1064_i hS5, gi_ne (by omega), gi_ne (by omega), g2, e_1064_p hS5, ← e2, e_1064_i hS6]
          rw [e2, gi_eq, nI_1]
        · rw [e2, e1]
          exact ((((((Fr.sIa (o := 29)).transL (Fr.sIa (o := 30))).transL (Fr.sI (o := 0))).transL (Fr.sIa (o := 1084))).transL (Fr.sIa (o := 1085))).transL (Fr.sI (o := 1064))).inL (by decide)
        · obtain ⟨ka, hka, ea⟩ := in_lit (n := 9) rfl c1
          obtain ⟨kb, hkb, eb⟩ := in_lit (v := b) (hi := 9) (n := 9) rfl ⟨Int32.le_trans c1.1 c2.1, c2.2⟩
          have hab : ka ≤ kb := by
            have := c2.1
            rw [ea, eb] at this
            exact (nI_leI (by omega) (by omega)).mp this
          refine ⟨n + 1, fun g => if g = n then ka else lo g, fun g => if g = n then kb else hi g, by omega, ?_, ?_, fun g hg => ?_⟩
          · rw [e2, gi_ne (by omega), gi_ne (by omega), gi_ne (by omega), g1]
          · rw [e2, gi_eq, nI_1]
          · by_cases hgn : g = n
            · subst hgn
              rw [e2, e1]
              simp [i_setI, up2, ea, eb, hab, hkb]
            · have := h4 g (by omega)
              rw [e2, e1]
              simp [i_setI, up2, hgn, this]
    · refine ⟨-3, σ, σ, by rw [if_pos c1, if_neg c2], ?_, Fr.refl, hG⟩
      unfold fX7_guest
      rw [in_eq, sb, if01, if_pos c1, in_eq, sb, if01, if_neg c2]
  · refine ⟨-3, σ, σ, by rw [if_neg c1], ?_, Fr.refl, hG⟩
    unfold fX7_guest
    rw [in_eq, sb, if01, if_neg c1]
