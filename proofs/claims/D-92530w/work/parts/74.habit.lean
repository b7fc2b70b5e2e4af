set_option maxRecDepth 100000
/-! fault of a habit; a habit -/
theorem Fr.grd {P : Nat → Nat → Prop} {σ σ1 : St} {a b c d : Nat} (h : Fr P σ σ1) : Fr P σ (grid σ1 a b c d) := by
  have hz := h.2.1
  refine ⟨fun x hx => ?_, ?_, fun x j hx hn => ?_, fun hw x hx => ?_⟩
  · show (if x = s_z σ1 then _ else if s_z σ1 < x ∧ x < s_z σ1 + 1 + c then _ else s_k σ1 x) = _
    rw [if_neg (by omega), if_neg (by omega)]
    exact h.1 x hx
  · show s_z σ ≤ s_z σ1 + 1 + c
    omega
  · have h3 := h.2.2.1 x j hx hn
    refine ⟨?_, ?_, ?_⟩
    · show (if s_z σ1 ≤ x ∧ x < s_z σ1 + 1 + c then _ else s_i σ1 x j) = _
      rw [if_neg (by omega)]
      exact h3.1
    · show (if x = s_z σ1 then _ else if s_z σ1 < x ∧ x < s_z σ1 + 1 + c then _ else s_r σ1 x j) = _
      rw [if_neg (by omega), if_neg (by omega)]
      exact h3.2.1
    · show (if s_z σ1 ≤ x ∧ x < s_z σ1 + 1 + c then _ else s_l σ1 x j) = _
      rw [if_neg (by omega)]
      exact h3.2.2
  · show x < s_z σ1 + 1 + c
    have hx : (if x = s_z σ1 then some (.inr (a, c)) else if s_z σ1 < x ∧ x < s_z σ1 + 1 + c then some (.inr (b, d)) else s_k σ1 x) ≠ none := hx
    by_cases c1 : x = s_z σ1
    · omega
    · by_cases c2 : s_z σ1 < x ∧ x < s_z σ1 + 1 + c
      · omega
      · rw [if_neg c1, if_neg c2] at hx
        have := h.2.2.2 hw x hx
        omega
section HABIT
variable {σ σm τ ρ : St} {z n p m : Nat} {t : Nat → Nat}
/-- a new habit -/
theorem newHab (hS : Sh σ z) (hp : p = s_z σ) : ∃ τ, fX11_init (born σ (.inl 8)) p z = some τ ∧ Fr (PL z RD) σ τ ∧ HabS τ z p ∧ s_i τ p 0 = 0 ∧ ∀ i, i < 6 → s_i τ (p + 9) i = 0 := by
  have hz := hS.2.2.2.1
  obtain ⟨b0, hb0⟩ : ∃ b0, b0 = setR (born σ (.inl 8)) p 4 (some z) := ⟨_, rfl⟩
  obtain ⟨b1, hb1⟩ : ∃ b1, b1 = setR (born b0 (.inr (5, 6))) p 1 (some (p + 1)) := ⟨_, rfl⟩
  obtain ⟨b2, hb2⟩ : ∃ b2, b2 = setR (grid b1 10 9 6 3) p 2 (some (p + 2)) := ⟨_, rfl⟩
  obtain ⟨b3, hb3⟩ : ∃ b3, b3 = setR (born b2 (.inr (0, 6))) p 3 (some (p + 9)) := ⟨_, rfl⟩
  have z0 : s_z b0 = p + 1 := by rw [hb0, z_setR, z_born, hp]
  have z1 : s_z b1 = p + 2 := by rw [hb1, z_setR, z_born, z0]
  have z2 : s_z b2 = p + 9 := by
    rw [hb2, z_setR]
    show s_z b1 + 1 + 6 = p + 9
    rw [z1]
  have z3 : s_z b3 = p + 10 := by rw [hb3, z_setR, z_born, z2]
  have k0 : ∀ a, s_k b0 a = if a = p then some (.inl 8) else s_k σ a := fun a => by rw [hb0, k_setR, k_born, hp]
  have k1 : ∀ a, s_k b1 a = if a = p + 1 then some (.inr (5, 6)) else s_k b0 a := fun a => by rw [hb1, k_setR, k_born, z0]
  have k2 : ∀ a, s_k b2 a = if a = p + 2 then some (.inr (10, 6)) else if p + 2 < a ∧ a < p + 9 then some (.inr (9, 3)) else s_k b1 a := fun a => by
    rw [hb2, k_setR]
    show (if a = s_z b1 then _ else if s_z b1 < a ∧ a < s_z b1 + 1 + 6 then _ else s_k b1 a) = _
    rw [z1]
  have k3 : ∀ a, s_k b3 a = if a = p + 9 then some (.inr (0, 6)) else s_k b2 a := fun a => by rw [hb3, k_setR, k_born, z2]
  have kp0 : s_k b0 p = some (.inl 8) := by rw [k0, if_pos rfl]
  have kp1 : s_k b1 p = some (.inl 8) := by rw [k1, if_neg (by omega), kp0]
  have kp2 : s_k b2 p = some (.inl 8) := by rw [k2, if_neg (by omega), if_neg (by omega), kp1]
  have kp3 : s_k b3 p = some (.inl 8) := by rw [k3, if_neg (by omega), kp2]
  have kb : s_k (born σ (.inl 8)) p = some (.inl 8) := by rw [k_born, if_pos hp]
  -- references
  have r0 : s_r b0 p 4 = some z := by rw [hb0, r_setR, up2_same]
  have rb : ∀ (s : St) (kk : Nat ⊕ Nat × Nat) (a j : Nat), a ≠ s_z s → s_r (born s kk) a j = s_r s a j := fun s kk a j h => by rw [r_born, if_neg h]
  have r1 : ∀ j, j ≠ 1 → s_r b1 p j = s_r b0 p j := fun j hj => by rw [hb1, r_setR, up2_ne (fun q => hj q.2), rb _ _ _ _ (by omega)]
  have r2 : ∀ j, j ≠ 2 → s_r b2 p j = s_r b1 p j := fun j hj => by
    rw [hb2, r_setR, up2_ne (fun q => hj q.2)]
    show (if p = s_z b1 then _ else if s_z b1 < p ∧ p < s_z b1 + 1 + 6 then _ else s_r b1 p j) = _
    rw [if_neg (by omega), if_neg (by omega)]
  have r3 : ∀ j, j ≠ 3 → s_r b3 p j = s_r b2 p j := fun j hj => by rw [hb3, r_setR, up2_ne (fun q => hj q.2), rb _ _ _ _ (by omega)]
  have rg : ∀ i, i < 6 → s_r b3 (p + 2) i = some (p + 3 + i) := fun i hi => by
    rw [hb3, r_setR, up2_ne (fun q => by omega), rb _ _ _ _ (by omega), hb2, r_setR, up2_ne (fun q => by omega)]
    show (if p + 2 = s_z b1 then (if i < 6 then some (s_z b1 + 1 + i) else none) else _) = _
    rw [if_pos (by omega), if_pos hi, z1]
  have i3 : ∀ a j, p ≤ a → a < p + 10 → s_i b3 a j = 0 := fun a j h1 h2 => by
    have ib : ∀ (s : St) (kk : Nat ⊕ Nat × Nat), s_i (born s kk) a j = if a = s_z s then 0 else s_i s a j := fun s kk => by rw [i_born]
    rw [hb3, i_setR, ib, z2]
    by_cases c3 : a = p + 9
    · rw [if_pos c3]
    · rw [if_neg c3, hb2, i_setR]
      show (if s_z b1 ≤ a ∧ a < s_z b1 + 1 + 6 then 0 else s_i b1 a j) = _
      by_cases c2 : s_z b1 ≤ a ∧ a < s_z b1 + 1 + 6
      · rw [if_pos c2]
      · rw [if_neg c2, hb1, i_setR, ib, z0]
        by_cases c1 : a = p + 1
        · rw [if_pos c1]
        · rw [if_neg c1, hb0, i_setR, ib, if_pos (by omega)]
  have fr : Fr (PL z RD) σ b3 := by
    rw [hb3, hb2, hb1, hb0]
    exact (((((((Fr.refl.brn).newR (by omega)).brn).newR (by omega)).grd).newR (by omega)).brn).newR (by omega)
  refine ⟨b3, ?_, fr, ⟨kp3, ?_, ?_, ?_, ?_, ?_, ?_, fun i hi => ⟨rg i hi, ?_⟩, ?_, by omega, by omega⟩, i3 p 0 (by omega) (by omega), fun i _ => i3 (p + 9) i (by omega) (by omega)⟩
  · unfold fX11_init
    rw [o_pR_eq kb, ← hb0]
    have f10 : fX10_init b0 p z = some () := if_pos (Or.inl ⟨kp0, r0⟩)
    rw [f10, sb]
    unfold o_newa
    show (o_pR (born b0 (.inr (5, 6))) p 8 1 (some (s_z b0)) fun σ4 => o_grid σ4 10 9 6 3 fun r5 σ6 => o_pR σ6 p 8 2 (some r5) fun σ7 => (fun r8 σ9 => o_pR σ9 p 8 3 (some r8) fun σ10 => some σ10) (s_z σ7) (born σ7 (.inr (0, 6)))) = _
    rw [o_pR_eq (show s_k (born b0 (.inr (5, 6))) p = some (.inl 8) by rw [k_born, if_neg (by omega), kp0]), z0, ← hb1]
    unfold o_grid
    show (o_pR (grid b1 10 9 6 3) p 8 2 (some (s_z b1)) fun σ7 => (fun r8 σ9 => o_pR σ9 p 8 3 (some r8) fun σ10 => some σ10) (s_z σ7) (born σ7 (.inr (0, 6)))) = _
    rw [o_pR_eq (show s_k (grid b1 10 9 6 3) p = some (.inl 8) by
      show (if p = s_z b1 then _ else if s_z b1 < p ∧ p < s_z b1 + 1 + 6 then _ else s_k b1 p) = _
      rw [if_neg (by omega), if_neg (by omega), kp1]), z1, ← hb2]
    show (o_pR (born b2 (.inr (0, 6))) p 8 3 (some (s_z b2)) fun σ10 => some σ10) = _
    rw [o_pR_eq (show s_k (born b2 (.inr (0, 6))) p = some (.inl 8) by rw [k_born, if_neg (by omega), kp2]), z2, ← hb3]
  · rw [r3 1 (by decide), r2 1 (by decide), hb1, r_setR, up2_same]
  · rw [r3 2 (by decide), hb2, r_setR, up2_same]
  · rw [hb3, r_setR, up2_same]
  · rw [r3 4 (by decide), r2 4 (by decide), r1 4 (by decide), r0]
  · rw [k3, if_neg (by omega), k2, if_neg (by omega), if_neg (by omega), k1, if_pos rfl]
  · rw [k3, if_neg (by omega), k2, if_pos rfl]
  · rw [k3, if_neg (by omega), k2, if_neg (by omega), if_pos (by omega)]
  · rw [k3, if_pos rfl]
def HI (σ σm : St) (z p m k : Nat) (τ ρ : St) : Prop := Fr (PL z RD) σ τ ∧ Fr (PL z MR) σm ρ ∧ HabS τ z p ∧ s_i τ p 0 = nI m ∧ s_i ρ (z + 1064) 26 = nI m ∧ (∀ i, k ≤ i → i < 6 → s_i τ (p + 9) i = 0) ∧ ∀ i, i < k → i < 6 ∧ LineR τ z (p + 1) (p + 2) (p + 9) i (fun j => s_i ρ (z + 1076) (12 * i + j))
theorem hab_two (hSσ : Sh σ z) (hXσ : Tx σ z n t) (hSm : Sh σm z) (hXm : Ty σm z n t) (hp : p = s_z σ) {τ0 : St} (h0 : fX11_init (born σ (.inl 8)) p z = some τ0) :
    (∃ τ' ρ' mm, 1 ≤ mm ∧ mm ≤ 6 ∧ fX0_faultOf τ0 z p = some (-1, τ') ∧ fX7_isRead σm (z + 1064) 0 = some (1, ρ') ∧ HI σ σm z p mm mm τ' ρ') ∨
    (∃ τ' ρ' sf, fX0_faultOf τ0 z p = some (nI sf, τ') ∧ Fr (PL z RD) σ τ' ∧ fX7_isRead σm (z + 1064) 0 = some (0, ρ') ∧ Fr (PL z MR) σm ρ' ∧ s_i ρ' (z + 1064) 25 = nI sf ∧ sf ≤ 160) := by
  obtain ⟨τ0', z1, z2, z3, z4, z5⟩ := newHab hSσ hp
  cases z1.symm.trans h0
  have hS0 : Sh τ0 z := z2.sh hSσ (by decide)
  have hzp : z + 1094 ≤ p := by rw [hp]; exact hSσ.2.2.2.1
  obtain ⟨s, e, hT⟩ := tok_ex t (n := n) (p := 0) (Nat.zero_le n)
  obtain ⟨τ1, hτ1⟩ : ∃ τ1, τ1 = setI τ0 (z + 25) 0 (nI 0) := ⟨_, rfl⟩
  have F01 : Fr (PL z RD) τ0 τ1 := by rw [hτ1]; exact Fr.refl.aS (o := 25) rfl
  have F1 : Fr (PL z RD) σ τ1 := z2.pT F01
  have hS1 : Sh τ1 z := F1.sh hSσ (by decide)
  have hX1 := hXσ.keep hSσ F1 rd_tx
  obtain ⟨τ2, y1, y2, y3⟩ := token_eq hS1 hX1 (show s_i τ1 (z + 25) 0 = nI 0 by rw [hτ1, gi_eq]) hT
  have keepL : ∀ {τ τ' : St} {i : Nat} {row : Nat → Int32}, HabS τ z p → Sh τ z → (∀ m, Fr (PM z p m) τ τ') → i < 6 → LineR τ z (p + 1) (p + 2) (p + 9) i row → LineR τ' z (p + 1) (p + 2) (p + 9) i row := by
    intro τ τ' i row hH hS hF hi hL
    by_cases c : i = 0
    · exact hL.pm hH hS (hF 1) (by decide) hi (by omega)
    · exact hL.pm hH hS (hF 0) (by decide) hi c
  obtain ⟨ρ1, hρ1⟩ : ∃ ρ1, ρ1 = setI (setI σm (z + 1064) 20 0) (z + 1064) 26 0 := ⟨_, rfl⟩
  have Fm1 : Fr (PL z MR) σm ρ1 := by rw [hρ1]; exact (Fr.refl.aS (o := 1064) rfl).aS (o := 1064) rfl
  have hrd : ∀ m τ τ' ρ, HI σ σm z p m m τ ρ → Fr (PL z RD) τ τ' → HI σ σm z p m m τ' ρ := by
    rintro m τ τ' ρ ⟨i1, i2, i3, i4, i5, i6, i7⟩ hF
    have hS : Sh τ z := i1.sh hSσ (by decide)
    have hl := i3.2.2.2.2.2.2.2.2.2.2
    have same : ∀ a j, z + 1094 ≤ a → a < s_z τ → s_i τ' a j = s_i τ a j := fun a j h1 h2 => (hF.2.2.1 a j h2 (fun q => by have := rd_lo q; omega)).1
    have pm : ∀ m, Fr (PM z p m) τ τ' := fun m => hF.mono fun _ _ q => Or.inl q
    exact ⟨i1.pT hF, i2, i3.pm (pm 0) (by decide), (same p 0 hzp (by omega)).trans i4, i5, fun i h1 h2 => (same (p + 9) i (by omega) (by omega)).trans (i6 i h1 h2), fun i hi => ⟨(i7 i hi).1, keepL i3 hS pm (i7 i hi).1 (i7 i hi).2⟩⟩
  have start : HI σ σm z p 0 0 τ2 ρ1 := hrd 0 τ0 τ2 ρ1 ⟨z2, Fm1, z3, z4, by rw [hρ1, gi_eq]; rfl, fun i _ h2 => z5 i h2, fun i hi => absurd hi (Nat.not_lt_zero i)⟩ (F01.pT y2)
  have key := rd_two (p := p) hSσ hXσ hSm hXm (w := 0) (kd := 8) (most := 6) (Or.inl ⟨rfl, rfl, rfl⟩) (fun m τ ρ => HI σ σm z p m m τ ρ) (fun m τ ρ => HI σ σm z p m (m + 1) τ ρ)
    (fun m τ ρ h => ⟨h.1, h.2.1, h.2.2.1.1, h.2.2.2.2.1⟩) hrd
    (fun m τ ρ h => ⟨h.1, h.2.1, h.2.2.1.1, h.2.2.2.1, h.2.2.2.2.1, hzp⟩)
    (by
      rintro m τ ρ hm ⟨i1, i2, i3, i4, i5, i6, i7⟩
      have hS : Sh τ z := i1.sh hSσ (by decide)
      have pm : ∀ m', Fr (PM z p m') τ (setI τ p 0 (nI (m + 1))) := fun m' => Fr.refl.pI (Or.inr (Or.inl ⟨rfl, rfl⟩))
      refine ⟨i1.newI (by omega), i2.aS (o := 1064) rfl, i3.pm (pm 0) (by decide), gi_eq, gi_eq, fun i h1 h2 => ?_, fun i hi => ⟨(i7 i hi).1, ?_⟩⟩
      · rw [gi_ne (by omega)]
        exact i6 i h1 h2
      · have := keepL i3 hS pm (i7 i hi).1 (i7 i hi).2
        refine this.congr fun j hj => ?_
        rw [gi_ne (by omega)])
    (by
      rintro m τ ρ p0 s e hm ⟨i1, i2, i3, i4, i5, i6, i7⟩ hTok hR hpos
      have hS : Sh τ z := i1.sh hSσ (by decide)
      have hSr : Sh ρ z := i2.sh hSm (by decide)
      have hXr := hXm.keep hSm i2 (by decide)
      have hl := i3.2.2.2.2.2.2.2.2.2.2
      have vl : vTold_line τ p (z + 25) = fX11_line τ p (z + 25) := if_pos i3.1
      have ln : lnM z 0 m ρ = fX7_isHabitLine ρ (z + 1064) (nI (12 * m)) := if_pos rfl
      rw [vl, ln]
      rcases hline_two hSσ hXσ hSr hXr hm (by omega) i1 i3 i4 (i6 m (Nat.le_refl m) hm) hTok hR Fr.refl hpos with ⟨τ', ρ', p', s', e', g1, g2, g3, g4, g5, g6, g7, g8, g9, g10, g11, g12, g13⟩ | ⟨q, τ', ρ', sf, g1, g2, g3, g4, g5, g6, g7⟩
      · left
        refine ⟨τ', ρ', p', s', e', g1, g2, g6, g7, g8, g9, g10, g3, (i2.transL g5).inL (by decide), i3.pm g4 hm, g11, (g5.ki hSr 1064 26 (by decide) (by decide)).trans i5, fun i h1 h2 => ?_, fun i hi => ⟨by omega, ?_⟩⟩
        · rw [(g4.2.2.1 (p + 9) i (by omega) (pm_no (by omega) (by omega) (by omega) (by omega) (by omega))).1]
          exact i6 i (by omega) h2
        · by_cases c : i = m
          · subst c
            exact g12
          · have hL := (i7 i (by omega)).2.pm i3 hS g4 hm (i7 i (by omega)).1 c
            refine hL.congr fun j hj => ?_
            exact g13 _ (by omega)
      · right
        exact ⟨q, τ', ρ', sf, g1, g2, g3, g4, g5, (i2.transL g6).inL (by decide), g7⟩)
    6 0 rfl (by decide) τ2 ρ1 0 s e 9 fuel start hT y3 (by rw [hρ1, gi_nj (by decide), gi_eq]; rfl) (by decide) (by decide)
  have evX : fX0_faultOf τ0 z p = (XT z p 9 τ2).bind (fun rx => match rx with
    | .inl q => some (-1, q.2)
    | .inr q => o_gI q.2 q.1 11 0 fun v => some (v, q.2)) := by
    unfold fX0_faultOf
    rw [e_0_13 hS0, e_25_k hS0]
    unfold fX6_read
    rw [e_25_p hS0, show (0 : Int32) = nI 0 from rfl, ← hτ1, e_25_k hS1, y1, sb]
    rfl
  have evM : fX7_isRead σm (z + 1064) 0 = MT z 0 fuel ρ1 := by
    unfold fX7_isRead
    rw [e_1064_p hSm, e_1064_p (Sh_setI.mpr hSm), ← hρ1]
    rfl
  rcases key with ⟨τ', ρ', mm, g1, g2, g3, g4, g5⟩ | ⟨q, τ', ρ', sf, g1, g2, g3, g4, g5, g6, g7, g8⟩
  · left
    rw [g3, sb] at evX
    exact ⟨τ', ρ', mm, g1, g2, evX, evM.trans g4, g5⟩
  · right
    rw [g1, sb] at evX
    have evX2 : fX0_faultOf τ0 z p = o_gI τ' q 11 0 fun v => some (v, τ') := evX
    rw [o_gI_eq g2, g3] at evX2
    exact ⟨τ', ρ', sf, evX2, g4, evM.trans g5, g6, g7, g8⟩
end HABIT
