set_option maxRecDepth 100000
/-! marks: seen, whose, thieves -/
theorem tr_aI {α : Type} {σ : St} {a b q n : Nat} {i : Int32} {K : Int32 → Option α} (ha : s_k σ a = some (.inr (q, n))) (hb : s_k σ b = some (.inr (q, n))) (h : ∀ g, s_i σ a g = s_i σ b g) : o_aI σ a q i K = o_aI σ b q i K := by
  unfold o_aI o_at
  rw [ha, hb]
  simp only [h]
theorem i10 : ((1 : Int32) = 0) = False := eq_false (by decide)
def Hn (σ : St) (z n : Nat) : Prop := n ≤ 6 ∧ s_i σ z 3 = nI n ∧ s_i σ (z + 1064) 1 = nI n
theorem isHut_eq {σ : St} {z n : Nat} (hS : Sh σ z) (h : Hn σ z n) (v : Int32) : fX0_isHut σ z v = some (if 0 ≤ v ∧ v ≤ nI n - 1 then 1 else 0) := by
  unfold fX0_isHut
  rw [e_0_i hS, h.2.1, isIn_lit σ σ v 0 (nI n - 1) (lo' := 0) (hi' := (nI n - 1).toInt64) rfl rfl, in_eq, sb, bz_01]
theorem isHutM_eq {σ : St} {z n : Nat} (hS : Sh σ z) (h : Hn σ z n) (v : Int32) : fX7_isHut σ (z + 1064) v = some (if 0 ≤ v ∧ v ≤ nI n - 1 then 1 else 0) := by
  unfold fX7_isHut
  rw [e_1064_i hS, h.2.2, in_eq, sb, bz_01]
theorem isMark_eq (σ : St) (v : Int32) : fX0_isMark σ v = fX7_in σ v 0 15 := by
  unfold fX0_isMark
  rw [isIn_lit σ σ v 0 15 (lo' := 0) (hi' := 15) rfl rfl, in_eq, sb, bz_01]
def Sn (σ : St) (z n : Nat) : Prop := n ≤ 24 ∧ s_i σ z 23 = nI n ∧ s_i σ (z + 1064) 38 = nI n ∧ (∀ g, s_i σ (z + 31) g = s_i σ (z + 1086) g) ∧ (∀ g, s_i σ (z + 32) g = s_i σ (z + 1087) g) ∧ ∀ g, s_i σ (z + 33) g = s_i σ (z + 1088) g
def Sns (σ : St) (z : Nat) : Prop := ∃ n, Sn σ z n
theorem Sns.keep {σ σ' : St} {z : Nat} {L : PlL} (h : Sns σ z) (hS : Sh σ z) (hF : Fr (PL z L) σ σ') (hL : (plno L 0 (some 23) && plno L 1064 (some 38) && plno L 31 none && plno L 32 none && plno L 33 none && plno L 1086 none && plno L 1087 none && plno L 1088 none) = true) : Sns σ' z := by
  obtain ⟨n, h1, h2, h3, h4, h5, h6⟩ := h
  simp only [Bool.and_eq_true] at hL
  obtain ⟨⟨⟨⟨⟨⟨⟨l1, l2⟩, l3⟩, l4⟩, l5⟩, l6⟩, l7⟩, l8⟩ := hL
  refine ⟨n, h1, (hF.ki hS 0 23 (by decide) l1).trans h2, (hF.ki hS 1064 38 (by decide) l2).trans h3, fun g => ?_, fun g => ?_, fun g => ?_⟩
  · rw [hF.kia hS 31 (by decide) l3, hF.kia hS 1086 (by decide) l6]; exact h4 g
  · rw [hF.kia hS 32 (by decide) l4, hF.kia hS 1087 (by decide) l7]; exact h5 g
  · rw [hF.kia hS 33 (by decide) l5, hF.kia hS 1088 (by decide) l8]; exact h6 g
section SEEN
variable {σ : St} {z n : Nat}
theorem firstOf_tr (hS : Sh σ z) (h : Sn σ z n) (a : Int32) : fX0_firstOf σ z a = fX7_firstOf σ (z + 1064) a := by
  obtain ⟨h1, h2, h3, h4, h5, h6⟩ := h
  have e : ∀ x y, lX0_firstOf_4 σ z a x y = lX7_firstOf_4 σ (z + 1064) a x y := by
    intro x y
    unfold lX0_firstOf_4 lX7_firstOf_4
    simp only [e_0_i hS, e_1064_i hS, h2, h3, e_0_20 hS, e_0_22 hS, e_1064_39 hS, e_1064_41 hS, tr_aI (hS.k 31 _ (by decide) rfl) (hS.k 1086 _ (by decide) rfl) h4, tr_aI (hS.k 33 _ (by decide) rfl) (hS.k 1088 _ (by decide) rfl) h6]
  unfold fX0_firstOf fX7_firstOf
  simp only [e]
theorem firstOf_ok (hS : Sh σ z) (h : Sn σ z n) (a : Int32) : ∃ r, fX7_firstOf σ (z + 1064) a = some r ∧ ((r = -1 ∧ ∀ j, j < n → s_i σ (z + 1086) j ≠ a) ∨ ∃ j, j < n ∧ r = nI j) := by
  obtain ⟨h1, h2, h3, h4, h5, h6⟩ := h
  obtain ⟨r, e, hr⟩ := loopF_inv (b := fun y : Int32 × Int32 => lX7_firstOf_4 σ (z + 1064) a y.1 y.2) (fun k s => s.2 = nI k ∧ ((s.1 = -1 ∧ ∀ j, j < k → s_i σ (z + 1086) j ≠ a) ∨ ∃ j, j < k ∧ s.1 = nI j)) n (Q := fun r => (r = -1 ∧ ∀ j, j < n → s_i σ (z + 1086) j ≠ a) ∨ ∃ j, j < n ∧ r = nI j) (by
      rintro k ⟨x, y⟩ hk ⟨hy, hx⟩
      simp only at hy hx
      subst hy
      show ∃ t, lX7_firstOf_4 σ (z + 1064) a x (nI k) = _ ∧ _
      unfold lX7_firstOf_4
      rw [e_1064_i hS, h3, if_neg (nI_ge hk (by omega)), e_1064_39 hS, a_1086 hS (by omega)]
      simp only [jn, nI_1, e_1064_41 hS]
      by_cases c1 : s_i σ (z + 1086) k = a
      · rw [if_pos c1]
        by_cases c2 : x = -1
        · rw [if_pos c2]
          exact ⟨_, rfl, rfl, Or.inr ⟨k, by omega, rfl⟩⟩
        · rw [if_neg c2]
          rcases hx with ⟨q, -⟩ | ⟨j, hj, rfl⟩
          · exact absurd q c2
          · rw [a_1088 hS (by omega), a_1088 hS (by omega)]
            split
            · exact ⟨_, rfl, rfl, Or.inr ⟨j, by omega, rfl⟩⟩
            · exact ⟨_, rfl, rfl, Or.inr ⟨k, by omega, rfl⟩⟩
      · rw [if_neg c1]
        refine ⟨_, rfl, rfl, ?_⟩
        rcases hx with ⟨q, hq⟩ | ⟨j, hj, e⟩
        · refine Or.inl ⟨q, fun j hj => ?_⟩
          by_cases hjk : j = k
          · subst hjk; exact c1
          · exact hq j (by omega)
        · exact Or.inr ⟨j, by omega, e⟩) (by
      rintro ⟨x, y⟩ ⟨hy, hx⟩
      simp only at hy hx
      subst hy
      show ∃ r, lX7_firstOf_4 σ (z + 1064) a x (nI n) = _ ∧ _
      unfold lX7_firstOf_4
      rw [e_1064_i hS, h3, if_pos (nI_le (Nat.le_refl n) (by omega))]
      exact ⟨_, rfl, hx⟩) (s := (-1, 0)) ⟨rfl, Or.inl ⟨rfl, fun j hj => absurd hj (Nat.not_lt_zero j)⟩⟩ fuel (fuel_lt (by omega))
  exact ⟨r, by unfold fX7_firstOf; rw [e, sb], hr⟩
theorem whose_sim (hS : Sh σ z) (hs : Sns σ z) (a : Int32) : ∃ v, fX0_whose σ z a = some v ∧ fX7_whose σ (z + 1064) a = some v := by
  obtain ⟨n, h⟩ := hs
  obtain ⟨r, e1, hr⟩ := firstOf_ok hS h a
  unfold fX0_whose fX7_whose
  rw [isMark_eq, in_eq, sb, sb, if01, if01, e_0_k hS, e_1064_k hS, firstOf_tr hS h, e1, sb, sb, e_0_21 hS, e_1064_40 hS, tr_aI (hS.k 32 _ (by decide) rfl) (hS.k 1087 _ (by decide) rfl) h.2.2.2.2.1]
  split
  · split
    · exact ⟨_, rfl, rfl⟩
    · next h9 =>
      rcases hr with ⟨q, -⟩ | ⟨j, hj, rfl⟩
      · exact absurd q h9
      · rw [a_1087 hS (by have := h.1; omega)]
        exact ⟨_, rfl, rfl⟩
  · exact ⟨_, rfl, rfl⟩
theorem thieves_sim (hS : Sh σ z) {nh : Nat} (hh : Hn σ z nh) (hs : Sns σ z) (a : Int32) : ∃ v, fX0_thieves σ z a = some v ∧ fX7_thieves σ (z + 1064) a = some v := by
  obtain ⟨n, h⟩ := hs
  have hh9 := h
  obtain ⟨h1, h2, h3, h4, h5, h6⟩ := h
  have e : ∀ x y, lX0_thieves_15 σ z a x y = lX7_thieves_15 σ (z + 1064) a x y := by
    intro x y
    unfold lX0_thieves_15 lX7_thieves_15
    simp only [e_0_i hS, e_1064_i hS, h2, h3, e_0_20 hS, e_0_21 hS, e_0_22 hS, e_1064_39 hS, e_1064_40 hS, e_1064_41 hS, e_0_k hS, e_1064_k hS, firstOf_tr hS hh9, tr_aI (hS.k 31 _ (by decide) rfl) (hS.k 1086 _ (by decide) rfl) h4, tr_aI (hS.k 32 _ (by decide) rfl) (hS.k 1087 _ (by decide) rfl) h5, tr_aI (hS.k 33 _ (by decide) rfl) (hS.k 1088 _ (by decide) rfl) h6]
  obtain ⟨r, e1, -⟩ := loopF_inv (b := fun y : Int32 × Int32 => lX7_thieves_15 σ (z + 1064) a y.1 y.2) (fun k s => s.2 = nI k) n (Q := fun _ => True) (by
      rintro k ⟨x, y⟩ hk hy
      simp only at hy
      subst hy
      show ∃ t, lX7_thieves_15 σ (z + 1064) a x (nI k) = _ ∧ _
      obtain ⟨r, f1, f2⟩ := firstOf_ok hS hh9 (s_i σ (z + 1086) k)
      rcases f2 with ⟨-, f2⟩ | ⟨j, hj, rfl⟩
      · exact absurd rfl (f2 k hk)
      · unfold lX7_thieves_15
        rw [e_1064_i hS, h3, if_neg (nI_ge hk (by omega)), e_1064_39 hS, a_1086 hS (by omega), e_1064_k hS, f1, sb]
        simp only [jn, nI_1, e_1064_40 hS, e_1064_41 hS, if_true, i10, if_false]
        rw [a_1087 hS (by omega), a_1087 hS (by omega), a_1088 hS (by omega), a_1088 hS (by omega)]
        split
        · split
          · exact ⟨_, rfl, rfl⟩
          · split
            · exact ⟨_, rfl, rfl⟩
            · rw [a_1087 hS (by omega)]
              exact ⟨_, rfl, rfl⟩
        · exact ⟨_, rfl, rfl⟩) (by
      rintro ⟨x, y⟩ hy
      simp only at hy
      subst hy
      show ∃ r, lX7_thieves_15 σ (z + 1064) a x (nI n) = _ ∧ _
      unfold lX7_thieves_15
      rw [e_1064_i hS, h3, if_pos (nI_le (Nat.le_refl n) (by omega))]
      exact ⟨_, rfl, trivial⟩) (s := (0, 0)) rfl fuel (fuel_lt (by omega))
  unfold fX0_thieves fX7_thieves
  rw [e_0_k hS, e_1064_k hS, isHut_eq hS hh, isHutM_eq hS hh, sb, sb, if01, if01]
  simp only [e]
  rw [e1, sb]
  split <;> exact ⟨_, rfl, rfl⟩
end SEEN
theorem seen_sim {σ : St} {z nh : Nat} (hS : Sh σ z) (hh : Hn σ z nh) (h : Sns σ z) (a b c : Int32) : ∃ v σ1 σ2, fX0_seen σ z a b c = some (v, σ1) ∧ fX7_seen σ1 (z + 1064) a b c = some (v, σ2) ∧ Fr (PL z [(31, none), (32, none), (33, none), (0, some 23), (1086, none), (1087, none), (1088, none), (1064, some 38)]) σ σ2 ∧ Sns σ2 z := by
  have hG := h
  obtain ⟨n, h1, h2, h3, h4, h5, h6⟩ := h
  unfold fX0_seen
  rw [e_0_k hS, isHut_eq hS hh, sb, if01, isMark_eq, in_eq, sb, if01, isIn_lit σ σ c 0 900 (lo' := 0) (hi' := 900) rfl rfl, in_eq, sb, if01]
  have out : ∀ v : Int32, (fX7_seen σ (z + 1064) a b c = some (v, σ)) → ∃ σ1 σ2, some (v, σ) = some (v, σ1) ∧ fX7_seen σ1 (z + 1064) a b c = some (v, σ2) ∧ Fr (PL z [(31, none), (32, none), (33, none), (0, some 23), (1086, none), (1087, none), (1088, none), (1064, some 38)]) σ σ2 ∧ Sns σ2 z := fun v hv => ⟨σ, σ, rfl, hv, Fr.refl, hG⟩
  by_cases c1 : 0 ≤ b ∧ b ≤ nI nh - 1
  · by_cases c2 : 0 ≤ a ∧ a ≤ 15
    · by_cases c3 : 0 ≤ c ∧ c ≤ 900
      · rw [if_pos c1, if_pos c2, if_pos c3, e_0_i hS, h2]
        by_cases c4 : n = 24
        · subst c4
          refine ⟨-5, ?_⟩
          rw [if_pos (by decide)]
          refine out _ ?_
          unfold fX7_seen
          rw [e_1064_k hS, isHutM_eq hS hh, sb, if01, if_pos c1, in_eq, sb, if01, if_pos c2, in_eq, sb, if01, if_pos c3, e_1064_i hS, h3, if_pos (by decide)]
        · have hn : n < 24 := by omega
          have hS1 : Sh (setI σ (z + 31) n a) z := hS
          have hS2 : Sh (setI (setI σ (z + 31) n a) (z + 32) n b) z := hS
          have hS2' : Sh (setI (setI (setI σ (z + 31) n a) (z + 32) n b) (z + 33) n c) z := hS
          rw [if_neg (lit_ne 24 24 n rfl c4 (by omega) (by decide)), e_0_20 hS, e_0_i hS, h2, s_31 hS hn, e_0_21 hS1, e_0_i hS1, gi_ne (by omega), h2, s_32 hS1 hn, e_0_22 hS2, e_0_i hS2, gi_ne (by omega), gi_ne (by omega), h2, s_33 hS2 hn, e_0_i hS2', gi_ne (by omega), gi_ne (by omega), gi_ne (by omega), h2, e_0_p hS2']
          obtain ⟨σ1, e1⟩ : ∃ σ1, σ1 = setI (setI (setI (setI σ (z + 31) n a) (z + 32) n b) (z + 33) n c) z 23 (nI n + 1) := ⟨_, rfl⟩
          have hS3 : Sh σ1 z := by rw [e1]; exact hS
          rw [← e1, e_0_i hS3]
          have g1 : s_i σ1 z 23 = nI (n + 1) := by rw [e1, gi_eq, nI_1]
          have g2 : s_i σ1 (z + 1064) 38 = nI n := by rw [e1, gi_ne (by omega), gi_ne (by omega), gi_ne (by omega), gi_ne (by omega), h3]
          have hh1 : Hn σ1 z nh := by
            refine ⟨hh.1, ?_, ?_⟩
            · rw [e1, gi_nj (by decide), gi_ne (by omega), gi_ne (by omega), gi_ne (by omega)]; exact hh.2.1
            · rw [e1, gi_ne (by omega), gi_ne (by omega), gi_ne (by omega), gi_ne (by omega)]; exact hh.2.2
          have hS4 : Sh (setI σ1 (z + 1086) n a) z := hS3
          have hS5 : Sh (setI (setI σ1 (z + 1086) n a) (z + 1087) n b) z := hS3
          have hS5' : Sh (setI (setI (setI σ1 (z + 1086) n a) (z + 1087) n b) (z + 1088) n c) z := hS3
          obtain ⟨σ2, e2⟩ : ∃ σ2, σ2 = setI (setI (setI (setI σ1 (z + 1086) n a) (z + 1087) n b) (z + 1088) n c) (z + 1064) 38 (nI n + 1) := ⟨_, rfl⟩
          have hS6 : Sh σ2 z := by rw [e2]; exact hS3
          refine ⟨nI (n + 1), σ1, σ2, by rw [g1], ?_, ?_, ?_⟩
          · unfold fX7_seen
            rw [e_1064_k hS3, isHutM_eq hS3 hh1, sb, if01, if_pos c1, in_eq, sb, if01, if_pos c2, in_eq, sb, if01, if_pos c3, e_1064_i hS3, g2, if_neg (lit_ne 24 24 n rfl c4 (by omega) (by decide)), e_1064_39 hS3, e_1064_i hS3, g2, s_1086 hS3 hn, e_1064_40 hS4, e_1064_i hS4, gi_ne (by omega), g2, s_1087 hS4 hn, e_1064_41 hS5, e_1064_i hS5, gi_ne (by omega), gi_ne (by omega), g2, s_1088 hS5 hn, e_1064_i hS5', gi_ne (by omega), gi_ne (by omega), gi_ne (by omega), g2, e_1064_p hS5', ← e2, e_1064_i hS6]
            rw [e2, gi_eq, nI_1]
          · rw [e2, e1]
            exact ((((((((Fr.sIa (o := 31)).transL (Fr.sIa (o := 32))).transL (Fr.sIa (o := 33))).transL (Fr.sI (o := 0))).transL (Fr.sIa (o := 1086))).transL (Fr.sIa (o := 1087))).transL (Fr.sIa (o := 1088))).transL (Fr.sI (o := 1064))).inL (by decide)
          · refine ⟨n + 1, by omega, ?_, ?_, fun g => ?_, fun g => ?_, fun g => ?_⟩
            · rw [e2, gi_ne (by omega), gi_ne (by omega), gi_ne (by omega), gi_ne (by omega), g1]
            · rw [e2, gi_eq, nI_1]
            · rw [e2, e1]; simp [i_setI, up2]; split
              · rfl
              · exact h4 g
            · rw [e2, e1]; simp [i_setI, up2]; split
              · rfl
              · exact h5 g
            · rw [e2, e1]; simp [i_setI, up2]; split
              · rfl
              · exact h6 g
      · refine ⟨-3, ?_⟩
        rw [if_pos c1, if_pos c2, if_neg c3]
        refine out _ ?_
        unfold fX7_seen
        rw [e_1064_k hS, isHutM_eq hS hh, sb, if01, if_pos c1, in_eq, sb, if01, if_pos c2, in_eq, sb, if01, if_neg c3]
    · refine ⟨-3, ?_⟩
      rw [if_pos c1, if_neg c2]
      refine out _ ?_
      unfold fX7_seen
      rw [e_1064_k hS, isHutM_eq hS hh, sb, if01, if_pos c1, in_eq, sb, if01, if_neg c2]
  · refine ⟨-2, ?_⟩
    rw [if_neg c1]
    refine out _ ?_
    unfold fX7_seen
    rw [e_1064_k hS, isHutM_eq hS hh, sb, if01, if_neg c1]
