set_option maxRecDepth 100000
/-! ring -/
theorem xor_lt : ∀ n, n ≤ 6 → ∀ k, k < 2 ^ n → ∀ h, h < n → ∃ j, j < 2 ^ n ∧ nI k ^^^ ((1 : Int32) <<< (nI h &&& 31)) = nI j := by decide +kernel
theorem ringX_init {σ : St} {z : Nat} (hS : Sh σ z) : ∃ σ', loopF fuel (fun y => lX0_ring_24 z y.1 y.2) (σ, 0) = some σ' ∧ Fr (PL z [(34, none)]) σ σ' ∧ ∀ j, j < 64 → s_i σ' (z + 34) j = -1 := by
  obtain ⟨r, e, h1, h2⟩ := loopF_inv (b := fun y : St × Int32 => lX0_ring_24 z y.1 y.2) (fun k s => Fr (PL z [(34, none)]) σ s.1 ∧ (∀ j, j < k → s_i s.1 (z + 34) j = -1) ∧ s.2 = nI k) 64 (Q := fun r => Fr (PL z [(34, none)]) σ r ∧ ∀ j, j < 64 → s_i r (z + 34) j = -1) (by
      rintro k ⟨τ, y⟩ hk ⟨h1, h2, h3⟩
      simp only at h1 h2 h3
      subst h3
      have hT : Sh τ z := h1.sh hS (by decide)
      show ∃ t, lX0_ring_24 z τ (nI k) = _ ∧ _
      unfold lX0_ring_24
      have hlen : ∀ K : Int32 → Option ((St × Int32) ⊕ St), o_len τ (z + 34) 0 K = K 64 := fun K => by
        unfold o_len
        rw [hT.k 34 (some (.inr (0, 64))) (by decide) rfl]
        rfl
      rw [e_0_24 hT, hlen, if_neg (lit_nle 64 64 k rfl hk (by decide)), e_0_24 hT, s_34 hT hk, nI_1]
      refine ⟨_, rfl, h1.aS (o := 34) rfl, fun j hj => ?_, rfl⟩
      show s_i (setI τ (z + 34) k (-1)) (z + 34) j = -1
      by_cases c : j = k
      · rw [c, gi_eq]
      · rw [gi_nj c]; exact h2 j (by omega)) (by
      rintro ⟨τ, y⟩ ⟨h1, h2, h3⟩
      simp only at h1 h2 h3
      subst h3
      have hT : Sh τ z := h1.sh hS (by decide)
      show ∃ t, lX0_ring_24 z τ (nI 64) = _ ∧ _
      unfold lX0_ring_24
      have hlen : ∀ K : Int32 → Option ((St × Int32) ⊕ St), o_len τ (z + 34) 0 K = K 64 := fun K => by
        unfold o_len
        rw [hT.k 34 (some (.inr (0, 64))) (by decide) rfl]
        rfl
      rw [e_0_24 hT, hlen, if_pos (by decide)]
      exact ⟨_, rfl, h1, h2⟩) (s := (σ, 0)) ⟨Fr.refl, fun j hj => absurd hj (Nat.not_lt_zero j), rfl⟩ fuel (fuel_lt (by decide))
  exact ⟨r, e, h1, h2⟩
theorem ringM_init {σ : St} {z : Nat} (hS : Sh σ z) : ∃ σ', loopF fuel (fun y => lX7_ring_24 (z + 1064) y.1 y.2) (σ, 0) = some σ' ∧ Fr (PL z [(1089, none)]) σ σ' ∧ ∀ j, j < 64 → s_i σ' (z + 1089) j = -1 := by
  obtain ⟨r, e, h1, h2⟩ := loopF_inv (b := fun y : St × Int32 => lX7_ring_24 (z + 1064) y.1 y.2) (fun k s => Fr (PL z [(1089, none)]) σ s.1 ∧ (∀ j, j < k → s_i s.1 (z + 1089) j = -1) ∧ s.2 = nI k) 64 (Q := fun r => Fr (PL z [(1089, none)]) σ r ∧ ∀ j, j < 64 → s_i r (z + 1089) j = -1) (by
      rintro k ⟨τ, y⟩ hk ⟨h1, h2, h3⟩
      simp only at h1 h2 h3
      subst h3
      have hT : Sh τ z := h1.sh hS (by decide)
      show ∃ t, lX7_ring_24 (z + 1064) τ (nI k) = _ ∧ _
      unfold lX7_ring_24
      rw [if_neg (lit_nle 64 64 k rfl hk (by decide)), e_1064_42 hT, s_1089 hT hk, nI_1]
      refine ⟨_, rfl, h1.aS (o := 1089) rfl, fun j hj => ?_, rfl⟩
      show s_i (setI τ (z + 1089) k (-1)) (z + 1089) j = -1
      by_cases c : j = k
      · rw [c, gi_eq]
      · rw [gi_nj c]; exact h2 j (by omega)) (by
      rintro ⟨τ, y⟩ ⟨h1, h2, h3⟩
      simp only at h1 h2 h3
      subst h3
      show ∃ t, lX7_ring_24 (z + 1064) τ (nI 64) = _ ∧ _
      unfold lX7_ring_24
      rw [if_pos (by decide)]
      exact ⟨_, rfl, h1, h2⟩) (s := (σ, 0)) ⟨Fr.refl, fun j hj => absurd hj (Nat.not_lt_zero j), rfl⟩ fuel (fuel_lt (by decide))
  exact ⟨r, e, h1, h2⟩
theorem ring_sim {σ : St} {z n : Nat} (hS : Sh σ z) (h : Hu σ z n) (hse : Se σ z) (a : Int32) : ∃ v σ1 σ2, fX0_ring σ z a = some (v, σ1) ∧ fX7_ring σ1 (z + 1064) a = some (v, σ2) ∧ Fr (PL z [(34, none), (1089, none)]) σ σ2 := by
  have hn := h.1.1
  have eX : fX0_ring σ z a = if 0 ≤ a ∧ a ≤ (1 <<< (nI n &&& 31)) - 1 then (if 2 ≤ nI n then ((loopF fuel (fun y => lX0_ring_24 z y.1 y.2) (σ, 0)).bind <| fun σ9 =>
    (loopF fuel (fun y => lX0_ring_50 z y.1 y.2.1 y.2.2) (σ9, a, 0)).bind <| sm (  fun σ19 =>
      some (0, σ19)) <| un3 fun σ20 x21 x22 =>
    o_gR σ20 z 0 24 fun r23 =>
    o_aI σ20 r23 0 x21 fun x24 =>
    some (x22 - x24, σ20)) else some ((-4), σ)) else some ((-3), σ) := by
    unfold fX0_ring
    rw [e_0_k hS, areHuts_eq hS h.1, sb, if01, e_0_i hS, h.1.2.1]
  have eM : ∀ σ1, Sh σ1 z → Hn σ1 z n → fX7_ring σ1 (z + 1064) a = if 0 ≤ a ∧ a ≤ (1 <<< (nI n &&& 31)) - 1 then (if 2 ≤ nI n then ((loopF fuel (fun y => lX7_ring_24 (z + 1064) y.1 y.2) (σ1, 0)).bind <| fun σ7 =>
    (loopF fuel (fun y => lX7_ring_47 (z + 1064) y.1 y.2.1 y.2.2) (σ7, a, 0)).bind <| sm (  fun σ17 =>
      some (0, σ17)) <| un3 fun σ18 x19 x20 =>
    o_gR σ18 (z + 1064) 5 42 fun r21 =>
    o_aI σ18 r21 0 x19 fun x22 =>
    some (x20 - x22, σ18)) else some ((-4), σ1)) else some ((-3), σ1) := by
    intro σ1 hS1 h1
    unfold fX7_ring
    rw [e_1064_k hS1, areHutsM_eq hS1 h1, sb, if01, e_1064_i hS1, h1.2.2]
  by_cases c1 : 0 ≤ a ∧ a ≤ (1 <<< (nI n &&& 31)) - 1
  · by_cases c2 : 2 ≤ n
    · have hp : 2 ^ n ≤ 64 := Nat.pow_le_pow_right (n := 2) (by decide) hn
      have hp1 : 1 ≤ 2 ^ n := Nat.one_le_two_pow
      obtain ⟨ka, hka, rfl⟩ : ∃ k, k < 2 ^ n ∧ a = nI k := in_nat (n := 2 ^ n) (by omega) (by rw [← shl_pow n (by omega)]; exact c1)
      have c3 : (2 : Int32) ≤ nI n := lit_le 2 2 n rfl c2 (by omega)
      rw [if_pos c1, if_pos c3] at eX
      obtain ⟨σ9, f1, f2, f3⟩ := ringX_init hS
      rw [f1, sb] at eX
      -- the component's loop
      have stX : ∀ τ k q, Fr (PL z [(34, none)]) σ τ → k < 2 ^ n → lX0_ring_50 z τ (nI k) (nI q) = if s_i τ (z + 34) k = -1 then ((fX0_changes (setI τ (z + 34) k (nI q)) z (nI k)).bind fun x17 => if x17 = -1 then some (.inr (.inl (setI τ (z + 34) k (nI q)))) else some (.inl (setI τ (z + 34) k (nI q), nI k ^^^ (1 <<< (x17 &&& 31)), nI (q + 1)))) else some (.inr (.inr (τ, nI k, nI q))) := by
        intro τ k q hF hk
        have hT : Sh τ z := hF.sh hS (by decide)
        have hT1 : Sh (setI τ (z + 34) k (nI q)) z := hT
        unfold lX0_ring_50
        rw [e_0_24 hT, a_34 hT (by omega), e_0_24 hT, s_34 hT (by omega), e_0_k hT1]
        simp only [o_let, nI_1]
      have keepX : ∀ τ, Fr (PL z [(34, none)]) σ τ → Sh τ z ∧ Hu τ z n ∧ Se τ z := fun τ hF => ⟨hF.sh hS (by decide), h.keep hS hF (by decide), hse.keep hS hF (by decide)⟩
      have keepM : ∀ τ, Fr (PL z [(34, none), (1089, none)]) σ τ → Sh τ z ∧ Hu τ z n ∧ Se τ z := fun τ hF => ⟨hF.sh hS (by decide), h.keep hS hF (by decide), hse.keep hS hF (by decide)⟩
      have gX : ∀ τ τ', Fr (PL z [(34, none)]) σ τ → Fr (PL z [(34, none), (1089, none)]) σ τ' → ∀ a set, gaV τ' z n a set = gaV τ z n a set := fun τ τ' hF hF' a set => by
        refine gaV_congr (fun j => ?_) (fun j => ?_) ?_ ?_ ?_ ?_ a set
        · rw [hF.kia hS 1065 (by decide) rfl, hF'.kia hS 1065 (by decide) rfl]
        · rw [hF.kia hS 1066 (by decide) rfl, hF'.kia hS 1066 (by decide) rfl]
        · rw [hF.ki hS 1064 14 (by decide) rfl, hF'.ki hS 1064 14 (by decide) rfl]
        · rw [hF.ki hS 1064 15 (by decide) rfl, hF'.ki hS 1064 15 (by decide) rfl]
        · rw [hF.ki hS 1064 16 (by decide) rfl, hF'.ki hS 1064 16 (by decide) rfl]
        · rw [hF.ki hS 1064 17 (by decide) rfl, hF'.ki hS 1064 17 (by decide) rfl]
      obtain ⟨r, l1, l2⟩ := loopF_mu (b := fun y : St × Int32 × Int32 => lX0_ring_50 z y.1 y.2.1 y.2.2) (fun s => Fr (PL z [(34, none)]) σ s.1 ∧ (∃ k, k < 2 ^ n ∧ s.2.1 = nI k) ∧ ∃ q, s.2.2 = nI q ∧ q + cn (s_i s.1 (z + 34)) 64 = 64) (fun s => cn (s_i s.1 (z + 34)) 64) (Q := fun r => match r with
          | .inl τ => Fr (PL z [(34, none)]) σ τ
          | .inr s => Fr (PL z [(34, none)]) σ s.1 ∧ ∃ k, k < 2 ^ n ∧ s.2.1 = nI k) (by
          rintro ⟨τ, x, y⟩ ⟨i1, ⟨k, hk, i2⟩, q, i3, i4⟩
          simp only at i1 i2 i3 i4
          subst i2; subst i3
          show (∃ t, lX0_ring_50 z τ (nI k) (nI q) = _ ∧ _) ∨ ∃ t, lX0_ring_50 z τ (nI k) (nI q) = _ ∧ _
          rw [stX τ k q i1 hk]
          by_cases c : s_i τ (z + 34) k = -1
          · rw [if_pos c]
            have i1' : Fr (PL z [(34, none)]) σ (setI τ (z + 34) k (nI q)) := i1.aS (o := 34) rfl
            obtain ⟨w1, w2, w3⟩ := keepX _ i1'
            obtain ⟨v, v1, -, v3⟩ := changes_eq w1 w2 w3 c2 (nI k)
            rw [v1, sb]
            by_cases cv : v = -1
            · rw [if_pos cv]
              exact Or.inr ⟨_, rfl, i1'⟩
            · rw [if_neg cv]
              left
              rcases v3 with v3 | ⟨hh, hh1, v3⟩
              · exact absurd v3 cv
              · have hu : cn (s_i (setI τ (z + 34) k (nI q)) (z + 34)) 64 + 1 = cn (s_i τ (z + 34)) 64 := by
                  refine cn_upd c ?_ (fun b hb => gi_nj hb) 64 (by omega)
                  rw [gi_eq]
                  exact neg1_ne (by omega)
                subst v3
                refine ⟨_, rfl, ⟨i1', xor_lt n (by omega) k hk hh hh1, q + 1, rfl, ?_⟩, ?_⟩
                · show q + 1 + cn (s_i (setI τ (z + 34) k (nI q)) (z + 34)) 64 = 64
                  omega
                · show cn (s_i (setI τ (z + 34) k (nI q)) (z + 34)) 64 < cn (s_i τ (z + 34)) 64
                  omega
          · rw [if_neg c]
            exact Or.inr ⟨_, rfl, i1, k, hk, rfl⟩) fuel (σ9, nI ka, 0) ⟨f2, ⟨ka, hka, rfl⟩, 0, rfl, by
            show 0 + cn (s_i σ9 (z + 34)) 64 = 64
            rw [cn_all 64 f3]⟩ (by
            show cn (s_i σ9 (z + 34)) 64 < fuel
            rw [cn_all 64 f3]
            exact fuel_lt (by decide))
      rw [l1, sb] at eX
      -- what the component answers
      obtain ⟨v, σ1, hv, hF1⟩ : ∃ v σ1, fX0_ring σ z (nI ka) = some (v, σ1) ∧ Fr (PL z [(34, none)]) σ σ1 ∧ (match r with
          | .inl τ => v = 0 ∧ σ1 = τ
          | .inr s => ∃ k, s.2.1 = nI k ∧ k < 2 ^ n ∧ v = s.2.2 - s_i s.1 (z + 34) k ∧ σ1 = s.1) := by
        cases r with
        | inl τ => exact ⟨0, τ, eX, l2, rfl, rfl⟩
        | inr s =>
          obtain ⟨τ, x, y⟩ := s
          obtain ⟨l2, k, hk, l3⟩ := l2
          simp only at l2 l3
          subst l3
          have hT : Sh τ z := l2.sh hS (by decide)
          simp only [sm, un3] at eX
          rw [e_0_24 hT, a_34 hT (by omega)] at eX
          exact ⟨_, _, eX, l2, k, rfl, hk, rfl, rfl⟩
      obtain ⟨hF1, hm⟩ := hF1
      obtain ⟨w1, w2, w3⟩ := keepX _ hF1
      have eM := eM σ1 w1 w2.1
      rw [if_pos c1, if_pos c3] at eM
      obtain ⟨σ7, g1, g2, g3⟩ := ringM_init w1
      rw [g1, sb] at eM
      have hF7 : Fr (PL z [(34, none), (1089, none)]) σ σ7 := (hF1.transL g2).inL (by decide)
      obtain ⟨r', k1, k2⟩ := loopF_sim (b := fun y : St × Int32 × Int32 => lX0_ring_50 z y.1 y.2.1 y.2.2) (b' := fun y : St × Int32 × Int32 => lX7_ring_47 (z + 1064) y.1 y.2.1 y.2.2)
        (fun s s' => Fr (PL z [(34, none)]) σ s.1 ∧ Fr (PL z [(34, none), (1089, none)]) σ s'.1 ∧ (∃ k, k < 2 ^ n ∧ s.2.1 = nI k ∧ s'.2.1 = nI k) ∧ (∃ q, s.2.2 = nI q ∧ s'.2.2 = nI q) ∧ ∀ j, j < 64 → s_i s'.1 (z + 1089) j = s_i s.1 (z + 34) j)
        (fun r r' => match r with
          | .inl _ => ∃ τ', r' = .inl τ' ∧ Fr (PL z [(34, none), (1089, none)]) σ τ'
          | .inr s => ∃ s', r' = .inr s' ∧ Fr (PL z [(34, none), (1089, none)]) σ s'.1 ∧ s'.2 = s.2 ∧ ∀ j, j < 64 → s_i s'.1 (z + 1089) j = s_i s.1 (z + 34) j) (by
          rintro ⟨τ, x, y⟩ ⟨τ', x', y'⟩ t ⟨i1, i2, ⟨k, hk, i3, i4⟩, ⟨q, i5, i6⟩, i7⟩ hb
          simp only at i1 i2 i3 i4 i5 i6 i7
          subst i3; subst i4; subst i5; subst i6
          have hb : lX0_ring_50 z τ (nI k) (nI q) = some (.inl t) := hb
          have hT : Sh τ' z := i2.sh hS (by decide)
          have hT1 : Sh (setI τ' (z + 1089) k (nI q)) z := hT
          show ∃ t', lX7_ring_47 (z + 1064) τ' (nI k) (nI q) = _ ∧ _
          rw [stX τ k q i1 hk] at hb
          unfold lX7_ring_47
          rw [e_1064_42 hT, a_1089 hT (by omega), e_1064_42 hT, s_1089 hT (by omega), e_1064_k hT1, i7 k (by omega)]
          by_cases c : s_i τ (z + 34) k = -1
          · rw [if_pos c] at hb ⊢
            have i1' : Fr (PL z [(34, none)]) σ (setI τ (z + 34) k (nI q)) := i1.aS (o := 34) rfl
            have i2' : Fr (PL z [(34, none), (1089, none)]) σ (setI τ' (z + 1089) k (nI q)) := i2.aS (o := 1089) rfl
            obtain ⟨u1, u2, u3⟩ := keepX _ i1'
            obtain ⟨w1, w2, w3⟩ := keepM _ i2'
            obtain ⟨v, v1, v2, v3⟩ := changes_two u1 u2 u3 w1 w2 w3 c2 (nI k) (gX _ _ i1' i2')
            rw [v1, sb] at hb
            rw [v2, sb]
            by_cases cv : v = -1
            · rw [if_pos cv] at hb; cases hb
            · rw [if_neg cv] at hb ⊢
              rcases v3 with v3 | ⟨hh, hh1, v3⟩
              · exact absurd v3 cv
              · subst v3
                cases hb
                obtain ⟨j, hj, ej⟩ := xor_lt n (by omega) k hk hh hh1
                refine ⟨_, rfl, i1', i2', ⟨j, hj, ej, ej⟩, ⟨q + 1, rfl, by rw [nI_1]⟩, fun j hj => ?_⟩
                show s_i (setI τ' (z + 1089) k (nI q)) (z + 1089) j = s_i (setI τ (z + 34) k (nI q)) (z + 34) j
                by_cases e : j = k
                · subst e; rw [gi_eq, gi_eq]
                · rw [gi_nj e, gi_nj e]; exact i7 j hj
          · rw [if_neg c] at hb; cases hb) (by
          rintro ⟨τ, x, y⟩ ⟨τ', x', y'⟩ t ⟨i1, i2, ⟨k, hk, i3, i4⟩, ⟨q, i5, i6⟩, i7⟩ hb
          simp only at i1 i2 i3 i4 i5 i6 i7
          subst i3; subst i4; subst i5; subst i6
          have hb : lX0_ring_50 z τ (nI k) (nI q) = some (.inr t) := hb
          have hT : Sh τ' z := i2.sh hS (by decide)
          have hT1 : Sh (setI τ' (z + 1089) k (nI q)) z := hT
          show ∃ t', lX7_ring_47 (z + 1064) τ' (nI k) (nI q) = _ ∧ _
          rw [stX τ k q i1 hk] at hb
          unfold lX7_ring_47
          rw [e_1064_42 hT, a_1089 hT (by omega), e_1064_42 hT, s_1089 hT (by omega), e_1064_k hT1, i7 k (by omega)]
          by_cases c : s_i τ (z + 34) k = -1
          · rw [if_pos c] at hb ⊢
            have i1' : Fr (PL z [(34, none)]) σ (setI τ (z + 34) k (nI q)) := i1.aS (o := 34) rfl
            have i2' : Fr (PL z [(34, none), (1089, none)]) σ (setI τ' (z + 1089) k (nI q)) := i2.aS (o := 1089) rfl
            obtain ⟨u1, u2, u3⟩ := keepX _ i1'
            obtain ⟨w1, w2, w3⟩ := keepM _ i2'
            obtain ⟨v, v1, v2, v3⟩ := changes_two u1 u2 u3 w1 w2 w3 c2 (nI k) (gX _ _ i1' i2')
            rw [v1, sb] at hb
            rw [v2, sb]
            by_cases cv : v = -1
            · rw [if_pos cv] at hb ⊢
              cases hb
              exact ⟨_, rfl, _, rfl, i2'⟩
            · rw [if_neg cv] at hb; cases hb
          · rw [if_neg c] at hb ⊢
            cases hb
            exact ⟨_, rfl, _, rfl, i2, rfl, i7⟩) fuel (σ9, nI ka, 0) (σ7, nI ka, 0) r ⟨f2, hF7, ⟨ka, hka, rfl, rfl⟩, ⟨0, rfl, rfl⟩, fun j hj => by rw [g3 j hj, f3 j hj]⟩ l1
      rw [k1, sb] at eM
      cases r with
      | inl τ =>
        obtain ⟨τ', rfl, k2⟩ := k2
        obtain ⟨rfl, rfl⟩ := hm
        exact ⟨0, _, τ', hv, eM, k2⟩
      | inr s =>
        obtain ⟨s', rfl, k2, k3, k4⟩ := k2
        obtain ⟨k, m1, m2, m3, m4⟩ := hm
        obtain ⟨τ', x', y'⟩ := s'
        obtain ⟨τ, x, y⟩ := s
        simp only [Prod.mk.injEq] at k2 k3 k4 m1 m3
        obtain ⟨rfl, rfl⟩ := k3
        have hT : Sh τ' z := k2.sh hS (by decide)
        simp only [sm, un3] at eM
        rw [m1, e_1064_42 hT, a_1089 hT (by omega), k4 k (by omega), ← m3] at eM
        exact ⟨v, σ1, τ', hv, eM, k2⟩
    · have c3 : ¬ (2 : Int32) ≤ nI n := lit_nle 2 2 n rfl (by omega) (by decide)
      rw [if_pos c1, if_neg c3] at eX
      have eM := eM σ hS h.1
      rw [if_pos c1, if_neg c3] at eM
      exact ⟨_, _, _, eX, eM, Fr.refl⟩
  · rw [if_neg c1] at eX
    have eM := eM σ hS h.1
    rw [if_neg c1] at eM
    exact ⟨_, _, _, eX, eM, Fr.refl⟩
