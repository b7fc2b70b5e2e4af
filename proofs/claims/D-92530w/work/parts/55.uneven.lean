set_option maxRecDepth 100000
/-! how uneven a row is -/
def unS (s : Nat → Int32) (g : Nat → Nat) : Nat → Int32
  | 0 => 0
  | k + 1 => if k = 0 then 0 else unS s g k + jabs (s (g k) * (420 / (nI (k + 1))) - s (g (k - 1)) * (420 / nI k))
theorem unS_congr {s s' : Nat → Int32} {g g' : Nat → Nat} (hs : ∀ t, s t = s' t) : ∀ k, (∀ i, i < k → g i = g' i) → unS s g k = unS s' g' k
  | 0, _ => rfl
  | k + 1, h => by
    unfold unS
    rw [unS_congr hs k (fun i hi => h i (by omega)), h k (by omega), hs, hs]
    by_cases c : k = 0
    · rw [if_pos c, if_pos c]
    · rw [if_neg c, if_neg c, h (k - 1) (by omega)]
section UNEVEN
variable {σ : St} {z nt m : Nat}
theorem looks_eq (hS : Sh σ z) (hT : Th σ z nt) {t : Nat} (ht : t < nt) (p : Int32) (hp : ¬ p + 1 = 0) : fX0_looks σ z (nI t) p = some (s_i σ (z + 1073) t * (420 / (p + 1))) := by
  obtain ⟨q, q1, q2, q3, q4, -⟩ := hT.2.2.2 t ht
  have := hT.1
  unfold fX0_looks
  rw [e_0_4 hS, a_4 hS (by omega) q1, o_gI_eq q2.1, q4]
  exact if_neg hp
theorem unevenOf_eq (hS : Sh σ z) (hT : Th σ z nt) {o : Nat} (ho : o = 26 ∨ o = 27) (h1 : 1 ≤ m) (h7 : m ≤ 7) {g : Nat → Nat} (hg : ∀ k, k < m → s_i σ (z + o) k = nI (g k) ∧ g k < nt) : fX0_unevenOf σ z (z + o) (nI m) = some (unS (s_i σ (z + 1073)) g m) := by
  have rd : ∀ {α : Type} (k : Nat) (K : Int32 → Option α), k < 7 → o_aI σ (z + o) 0 (nI k) K = K (s_i σ (z + o) k) := fun k K hk => by
    rcases ho with rfl | rfl
    · exact a_26 hS hk
    · exact a_27 hS hk
  have key : loopF fuel (fun y => lX0_unevenOf_5 (nI m) σ (z + o) z y.1 y.2) (0, 1) = some (unS (s_i σ (z + 1073)) g m) := by
    have e : unS (s_i σ (z + 1073)) g m = unS (s_i σ (z + 1073)) g (m - 1 + 1) := by rw [show m - 1 + 1 = m by omega]
    rw [e]
    refine loopF_seq (st := fun j => (unS (s_i σ (z + 1073)) g (j + 1), nI (j + 1))) (m - 1) (fun j hj => ?_) ?_ fuel (fuel_lt (by omega))
    · show lX0_unevenOf_5 (nI m) σ (z + o) z (unS (s_i σ (z + 1073)) g (j + 1)) (nI (j + 1)) = _
      unfold lX0_unevenOf_5
      have n1 : ¬ nI (j + 1) + 1 = 0 := by rw [nI_1]; exact nI_ne0 (by omega) (by omega)
      have n2 : ¬ nI j + 1 = 0 := by rw [nI_1]; exact nI_ne0 (by omega) (by omega)
      rw [if_neg (nI_ge (by omega) (by omega)), rd (j + 1) _ (by omega), (hg (j + 1) (by omega)).1, e_0_k hS, looks_eq hS hT (hg (j + 1) (by omega)).2 _ n1, sb, nI_pred, rd j _ (by omega), (hg j (by omega)).1, e_0_k hS, looks_eq hS hT (hg j (by omega)).2 _ n2, sb, o_let, nI_1 (j + 1), nI_1 j]
      show _ = some (Sum.inl (unS (s_i σ (z + 1073)) g (j + 1 + 1), nI (j + 1 + 1)))
      conv => rhs; unfold unS
      rw [if_neg (show ¬ j + 1 = 0 by omega)]
      rfl
    · show lX0_unevenOf_5 (nI m) σ (z + o) z (unS (s_i σ (z + 1073)) g (m - 1 + 1)) (nI (m - 1 + 1)) = _
      unfold lX0_unevenOf_5
      rw [if_pos (nI_le (by omega) (by omega))]
  unfold fX0_unevenOf
  rw [key, sb]
theorem unevenOfM_eq (hS : Sh σ z) (hT : Th σ z nt) (h1 : 1 ≤ m) (h7 : m ≤ 7) {o g : Nat → Nat} (hg : ∀ k, k < m → s_i σ (z + 1082) k = nI (o k) ∧ o k < 7 ∧ s_i σ (z + 1081) (o k) = nI (g k) ∧ g k < nt) : fX7_unevenOf σ (z + 1064) (nI m) = some (unS (s_i σ (z + 1073)) g m) := by
  have h40 := hT.1
  have key : loopF fuel (fun y => lX7_unevenOf_4 (nI m) σ (z + 1064) y.1 y.2) (0, 1) = some (unS (s_i σ (z + 1073)) g m) := by
    have e : unS (s_i σ (z + 1073)) g m = unS (s_i σ (z + 1073)) g (m - 1 + 1) := by rw [show m - 1 + 1 = m by omega]
    rw [e]
    refine loopF_seq (st := fun j => (unS (s_i σ (z + 1073)) g (j + 1), nI (j + 1))) (m - 1) (fun j hj => ?_) ?_ fuel (fuel_lt (by omega))
    · show lX7_unevenOf_4 (nI m) σ (z + 1064) (unS (s_i σ (z + 1073)) g (j + 1)) (nI (j + 1)) = _
      unfold lX7_unevenOf_4
      obtain ⟨p1, p2, p3, p4⟩ := hg (j + 1) (by omega)
      obtain ⟨q1, q2, q3, q4⟩ := hg j (by omega)
      have n1 : ¬ nI (j + 1 + 1) = 0 := nI_ne0 (by omega) (by omega)
      have n2 : ¬ nI (j + 1) = 0 := nI_ne0 (by omega) (by omega)
      rw [if_neg (nI_ge (by omega) (by omega)), e_1064_11 hS, e_1064_32 hS, e_1064_33 hS, a_1082 hS (by omega), p1, a_1081 hS p2, p3, a_1073 hS (by omega), nI_1 (j + 1)]
      unfold o_nz
      rw [if_neg n1, e_1064_11 hS, e_1064_32 hS, e_1064_33 hS, nI_pred, a_1082 hS (by omega), q1, a_1081 hS q2, q3, a_1073 hS (by omega), if_neg n2, jabs_much, sb]
      show _ = some (Sum.inl (unS (s_i σ (z + 1073)) g (j + 1 + 1), nI (j + 1 + 1)))
      conv => rhs; unfold unS
      rw [if_neg (show ¬ j + 1 = 0 by omega)]
      rfl
    · show lX7_unevenOf_4 (nI m) σ (z + 1064) (unS (s_i σ (z + 1073)) g (m - 1 + 1)) (nI (m - 1 + 1)) = _
      unfold lX7_unevenOf_4
      rw [if_pos (nI_le (by omega) (by omega))]
  unfold fX7_unevenOf
  rw [key, sb]
theorem uneven_sim (hS : Sh σ z) (hT : Th σ z nt) (a : Int64) (c : Int32) : ∃ v σ1 σ2, fX0_uneven σ z a c = some (v, σ1) ∧ fX7_uneven σ1 (z + 1064) a c = some (v, σ2) ∧ Fr (PL z [(26, none), (1081, none), (1082, none)]) σ σ2 := by
  by_cases c1 : 1 ≤ c ∧ c ≤ 7
  · obtain ⟨m, hm, rfl⟩ : ∃ m, m ≤ 7 ∧ c = nI m := in_lit (hi := 7) (n := 7) rfl ⟨Int32.le_trans (by decide) c1.1, c1.2⟩
    have h1 : 1 ≤ m := (nI_leI (a := 1) (by decide) (by omega)).mp c1.1
    obtain ⟨f, hf⟩ := told_ex a
    obtain ⟨v, σ1, x1, x2, x3, x4⟩ := layHand_eq hS hT.2.1 hT.1 hf h1 hm
    have hS1 : Sh σ1 z := x2.sh hS (by decide)
    have hT1 := hT.keep hS x2 (by decide)
    obtain ⟨v', σ2, y1, y2, y3⟩ := take_eq hS1 hT1.2.2.1 hT1.1 hf hm
    have hS2 : Sh σ2 z := y2.sh hS1 (by decide)
    have hT2 := hT1.keep hS1 y2 (by decide)
    have X : fX0_uneven σ z a (nI m) = if v = 0 then (o_gR σ1 z 0 14 fun r3 => o_k σ1 z 0 <| (fX0_unevenOf σ1 z r3 (nI m)).bind fun x4 => some (x4, σ1)) else some (v, σ1) := by
      unfold fX0_uneven
      rw [e_0_k hS, x1, sb]
      rfl
    have M : fX7_uneven σ1 (z + 1064) a (nI m) = if v' = 1 then ((loopF fuel (fun y => lX7_uneven_33 (nI m) (z + 1064) y.1 y.2) (σ2, 0)).bind <| fun σ8 => o_k σ8 (z + 1064) 5 <| (fX7_unevenOf σ8 (z + 1064) (nI m)).bind fun x9 => some (x9, σ8)) else some (v', σ2) := by
      unfold fX7_uneven
      rw [in_eq, sb, if01, if_pos c1, e_1064_k hS1, y1, sb]
      rfl
    have fr : Fr (PL z [(26, none), (1081, none), (1082, none)]) σ σ2 := (x2.transL y2).inL (by decide)
    rcases x4 with ⟨rfl, n1⟩ | ⟨rfl, n1, n2⟩ | ⟨rfl, n1, n2⟩
    · rcases y3 with ⟨rfl, m1⟩ | ⟨rfl, m1, -⟩ | ⟨rfl, m1, -⟩
      · exact ⟨_, _, _, X, M, fr⟩
      · exact absurd m1 n1
      · exact absurd m1 n1
    · rcases y3 with ⟨rfl, m1⟩ | ⟨rfl, m1, m2⟩ | ⟨rfl, m1, m2, -⟩
      · exact absurd n1 m1
      · exact ⟨_, _, _, X, M, fr⟩
      · exact absurd m2 n2
    · rcases y3 with ⟨rfl, m1⟩ | ⟨rfl, m1, m2⟩ | ⟨rfl, m1, m2, m3⟩
      · exact absurd n1 m1
      · exact absurd n2 m2
      · rw [if_pos rfl, e_0_14 hS1, e_0_k hS1, unevenOf_eq hS1 hT1 (Or.inl rfl) h1 hm (fun k hk => ⟨x3 k hk, n1 k hk⟩), sb] at X
        obtain ⟨σ3, l1, l2, l3⟩ := loopF_inv (b := fun y : St × Int32 => lX7_uneven_33 (nI m) (z + 1064) y.1 y.2) (fun k s => s.2 = nI k ∧ Fr (PL z [(1082, none)]) σ2 s.1 ∧ ∀ j, j < k → s_i s.1 (z + 1082) j = nI j) m (Q := fun s => Fr (PL z [(1082, none)]) σ2 s ∧ ∀ j, j < m → s_i s (z + 1082) j = nI j) (by
            rintro k ⟨τ, y⟩ hk ⟨i1, i2, i3⟩
            simp only at i1 i2 i3
            subst i1
            have hT : Sh τ z := i2.sh hS2 (by decide)
            show ∃ t, lX7_uneven_33 (nI m) (z + 1064) τ (nI k) = _ ∧ _
            unfold lX7_uneven_33
            rw [if_neg (nI_ge hk (by omega)), e_1064_33 hT, s_1082 hT (by omega), nI_1]
            refine ⟨_, rfl, rfl, i2.aS (o := 1082) rfl, fun j hj => ?_⟩
            show s_i (setI τ (z + 1082) k (nI k)) (z + 1082) j = _
            by_cases e : j = k
            · subst e; rw [gi_eq]
            · rw [gi_nj e]; exact i3 j (by omega)) (by
            rintro ⟨τ, y⟩ ⟨i1, i2, i3⟩
            simp only at i1 i2 i3
            subst i1
            show ∃ t, lX7_uneven_33 (nI m) (z + 1064) τ (nI m) = _ ∧ _
            unfold lX7_uneven_33
            rw [if_pos (nI_le (Nat.le_refl m) (by omega))]
            exact ⟨_, rfl, i2, i3⟩) (s := (σ2, 0)) ⟨rfl, Fr.refl, fun i hi => absurd hi (Nat.not_lt_zero i)⟩ fuel (fuel_lt (by omega))
        have hS3 : Sh σ3 z := l2.sh hS2 (by decide)
        have hT3 := hT2.keep hS2 l2 (by decide)
        rw [if_pos rfl, l1, sb, e_1064_k hS3, unevenOfM_eq hS3 hT3 h1 hm (o := fun k => k) (g := f) (fun k hk => ⟨l3 k hk, by omega, by rw [l2.kia hS2 1081 (by decide) rfl]; exact m3 k hk, m1 k hk⟩), sb] at M
        have e73 : ∀ t, s_i σ3 (z + 1073) t = s_i σ1 (z + 1073) t := fun t => (l2.kia hS2 1073 (by decide) rfl t).trans (y2.kia hS1 1073 (by decide) rfl t)
        rw [unS_congr e73 m (fun i _ => rfl)] at M
        exact ⟨_, _, _, X, M, (fr.transL l2).inL (by decide)⟩
  · refine ⟨-3, σ, σ, ?_, ?_, Fr.refl⟩
    · unfold fX0_uneven fX0_layHand
      rw [e_0_k hS, isIn_lit σ σ c 1 7 (lo' := 1) (hi' := 7) rfl rfl, in_eq, sb, if01, if_neg c1]
      rfl
    · unfold fX7_uneven
      rw [in_eq, sb, if01, if_neg c1]
end UNEVEN
