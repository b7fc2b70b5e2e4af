set_option maxRecDepth 100000
/-! small woods: gains, even -/
theorem b01 (x : Int32) : (x &&& 1) = 0 ↔ ¬ (x &&& 1) = 1 := by
  obtain ⟨j, hj, e⟩ := pk_andE x (m := 1) 1 (by decide)
  rw [e]
  match j, hj with
  | 0, _ => decide
  | 1, _ => decide
/-- what raids on a hut take -/
def gaS (set : Int32) (nr : Nat → Int32) (loss : Int32) (a : Nat) (s0 : Int32) : Nat → Int32
  | 0 => s0
  | k + 1 => gaS set nr loss a s0 k - (if k = a then 0 else if ((set >>> (nI k &&& 31)) &&& 1) = 1 then (if nr k = nI a then loss else 0) else 0)
/-- what a hut gains -/
def gaV (σ : St) (z n a : Nat) (set : Int32) : Int32 :=
  if ((set >>> (nI a &&& 31)) &&& 1) = 1 then
    gaS set (fun k => nrS (farS σ z) k n) (s_i σ (z + 1064) 16) a ((if ((set >>> (nrS (farS σ z) a n &&& 31)) &&& 1) = 1 then s_i σ (z + 1064) 15 else 0) - s_i σ (z + 1064) 17 * farS σ z a (nrS (farS σ z) a n).toNatClampNeg) n
  else s_i σ (z + 1064) 14
theorem nrS_some {f : Nat → Nat → Int32} {h k : Nat} (hk : k < 2 ^ 31) (h2 : 2 ≤ k) : ∃ j, j < k ∧ nrS f h k = nI j := by
  rcases nrS_in f h k hk with ⟨-, q⟩ | q
  · have e1 := q 0 (by omega)
    have e2 := q 1 (by omega)
    omega
  · exact q
section GAINS
variable {σ : St} {z n : Nat}
theorem gainsOf_eq (hS : Sh σ z) (h : Hu σ z n) (hse : Se σ z) (h2 : 2 ≤ n) {a : Nat} (ha : a < n) (set : Int32) : fX0_gainsOf σ z (nI a) set = some (gaV σ z n a set) := by
  have hn := h.1.1
  obtain ⟨w0, w1, w2, w3, w4⟩ := hse
  have l1 : ∀ K : Int32 → Option Int32, o_aI σ (z + 5) 0 1 K = K (s_i σ (z + 5) 1) := fun K => a_5 (k := 1) hS (by decide)
  have l2 : ∀ K : Int32 → Option Int32, o_aI σ (z + 5) 0 2 K = K (s_i σ (z + 5) 2) := fun K => a_5 (k := 2) hS (by decide)
  have l4 : ∀ K : Int32 → Option Int32, o_aI σ (z + 5) 0 4 K = K (s_i σ (z + 5) 4) := fun K => a_5 (k := 4) hS (by decide)
  have l3 : ∀ K : Int32 → Option ((Int32 × Int32) ⊕ Int32), o_aI σ (z + 5) 0 3 K = K (s_i σ (z + 5) 3) := fun K => a_5 (k := 3) hS (by decide)
  have loop : ∀ s0 : Int32, loopF fuel (fun y => lX0_gainsOf_67 σ z (nI a) set y.1 y.2) (s0, 0) = some (gaS set (fun k => nrS (farS σ z) k n) (s_i σ (z + 1064) 16) a s0 n) := by
    intro s0
    refine loopF_seq (st := fun k => (gaS set (fun k => nrS (farS σ z) k n) (s_i σ (z + 1064) 16) a s0 k, nI k)) n (fun k hk => ?_) ?_ fuel (fuel_lt (by omega))
    · show lX0_gainsOf_67 σ z (nI a) set (gaS set (fun k => nrS (farS σ z) k n) (s_i σ (z + 1064) 16) a s0 k) (nI k) = _
      unfold lX0_gainsOf_67
      simp only [jn, nI_1, isSet_eq]
      rw [e_0_i hS, h.1.2.1, if_neg (nI_ge hk (by omega))]
      simp only [gaS]
      by_cases c1 : k = a
      · rw [if_pos (by rw [c1]), if_pos c1]
      · rw [if_neg (fun q => c1 ((nI_eq (by omega) (by omega)).mp q)), if_neg c1, e_0_k hS, nearest_eq hS h hk, sb, e_0_6 hS, l3, w3]
        split
        · split <;> rfl
        · rfl
    · show lX0_gainsOf_67 σ z (nI a) set (gaS set (fun k => nrS (farS σ z) k n) (s_i σ (z + 1064) 16) a s0 n) (nI n) = _
      unfold lX0_gainsOf_67
      rw [e_0_i hS, h.1.2.1, if_pos (nI_le (Nat.le_refl n) (by omega))]
  obtain ⟨j, hj, ej⟩ := nrS_some (f := farS σ z) (h := a) (k := n) (by omega) h2
  obtain ⟨p, p1, p2, -⟩ := h.2 a ha
  obtain ⟨q, q1, q2, -⟩ := h.2 j hj
  unfold fX0_gainsOf gaV
  simp only [isSet_eq, jn, e_0_6 hS, l1, l2, l4, w1, w2, w4, e_0_k hS, nearest_eq hS h ha, sb, e_0_2 hS, loop]
  rw [ej, nI_clamp (by omega), a_3 hS (by omega) p1, a_3 hS (by omega) q1, o_k_eq p2, (far8_eq h ha hj p1 q1).2]
  simp only [sb, a_3 hS (k := a) (by omega) p1, a_3 hS (k := j) (by omega) q1, o_k_eq p2, (far8_eq h ha hj p1 q1).2]
  split
  · split <;> rfl
  · rfl
theorem gainsOfM_eq (hS : Sh σ z) (h : Hn σ z n) (h2 : 2 ≤ n) {a : Nat} (ha : a < n) (set : Int32) : fX7_gainsOf σ (z + 1064) (nI a) set = some (gaV σ z n a set) := by
  have hn := h.1
  have loop : ∀ s0 : Int32, loopF fuel (fun y => lX7_gainsOf_53 σ (z + 1064) (nI a) set y.1 y.2) (s0, 0) = some (gaS set (fun k => nrS (farS σ z) k n) (s_i σ (z + 1064) 16) a s0 n) := by
    intro s0
    refine loopF_seq (st := fun k => (gaS set (fun k => nrS (farS σ z) k n) (s_i σ (z + 1064) 16) a s0 k, nI k)) n (fun k hk => ?_) ?_ fuel (fuel_lt (by omega))
    · show lX7_gainsOf_53 σ (z + 1064) (nI a) set (gaS set (fun k => nrS (farS σ z) k n) (s_i σ (z + 1064) 16) a s0 k) (nI k) = _
      unfold lX7_gainsOf_53
      simp only [jn, nI_1]
      rw [e_1064_i hS, h.2.2, if_neg (nI_ge hk (by omega))]
      simp only [gaS]
      by_cases c1 : k = a
      · rw [if_pos (by rw [c1]), if_pos c1]
      · rw [if_neg (fun q => c1 ((nI_eq (by omega) (by omega)).mp q)), if_neg c1, e_1064_k hS, nearestM_eq hS h hk, sb, e_1064_i hS]
        split
        · split <;> rfl
        · rfl
    · show lX7_gainsOf_53 σ (z + 1064) (nI a) set (gaS set (fun k => nrS (farS σ z) k n) (s_i σ (z + 1064) 16) a s0 n) (nI n) = _
      unfold lX7_gainsOf_53
      rw [e_1064_i hS, h.2.2, if_pos (nI_le (Nat.le_refl n) (by omega))]
  obtain ⟨j, hj, ej⟩ := nrS_some (f := farS σ z) (h := a) (k := n) (by omega) h2
  unfold fX7_gainsOf gaV
  simp only [jn, e_1064_k hS, nearestM_eq hS h ha, sb, e_1064_i hS, loop]
  rw [ej, nI_clamp (by omega), farOf_eq hS (by omega) (by omega)]
  simp only [sb]
  by_cases c : ((set >>> (nI a &&& 31)) &&& 1) = 1
  · rw [if_pos c, if_neg (fun q => (b01 _).mp q c)]
    split <;> rfl
  · rw [if_neg c, if_pos ((b01 _).mpr c)]
theorem areHuts_eq (hS : Sh σ z) (h : Hn σ z n) (v : Int32) : fX0_areHuts σ z v = some (if 0 ≤ v ∧ v ≤ (1 <<< (nI n &&& 31)) - 1 then 1 else 0) := by
  unfold fX0_areHuts
  rw [e_0_i hS, h.2.1, isIn_lit σ σ v 0 ((1 <<< (nI n &&& 31)) - 1) (lo' := 0) (hi' := ((1 <<< (nI n &&& 31)) - 1).toInt64) rfl rfl, in_eq, sb, bz_01]
theorem areHutsM_eq (hS : Sh σ z) (h : Hn σ z n) (v : Int32) : fX7_isSet σ (z + 1064) v = some (if 0 ≤ v ∧ v ≤ (1 <<< (nI n &&& 31)) - 1 then 1 else 0) := by
  unfold fX7_isSet
  rw [e_1064_i hS, h.2.2, in_eq, sb, bz_01]
theorem gains_sim (hS : Sh σ z) (h : Hu σ z n) (hse : Se σ z) (a b : Int32) : ∃ v, fX0_gains σ z a b = some v ∧ fX7_gains σ (z + 1064) a b = some v := by
  have hn := h.1.1
  unfold fX0_gains fX7_gains
  simp only [jn, e_0_k hS, e_1064_k hS, isHut_eq hS h.1, isHutM_eq hS h.1, sb, if01, areHuts_eq hS h.1, areHutsM_eq hS h.1, e_0_i hS, e_1064_i hS, h.1.2.1, h.1.2.2]
  by_cases c1 : 0 ≤ a ∧ a ≤ nI n - 1
  · obtain ⟨ka, hka, rfl⟩ := in_nat (by omega) c1
    by_cases c2 : n < 2
    · have c3 : nI n ≤ 1 := nI_le (b := 1) (by omega) (by decide)
      rw [if_pos c3, if_pos c3]
      split <;> split <;> exact ⟨_, rfl, rfl⟩
    · rw [gainsOf_eq hS h hse (by omega) hka, gainsOfM_eq hS h.1 (by omega) hka]
      (repeat' split) <;> exact ⟨_, rfl, rfl⟩
  · rw [if_neg c1, if_neg c1]; exact ⟨_, rfl, rfl⟩
/-- the first that has a property -/
theorem first_ex (P : Nat → Prop) (n : Nat) : ∃ N, N ≤ n ∧ (∀ k, k < N → ¬ P k) ∧ (N < n → P N) := by
  by_cases h : ∃ k, k < n ∧ P k
  · obtain ⟨k, ⟨hk1, hk2⟩, hl⟩ := pk_least (fun k => k < n ∧ P k) h
    exact ⟨k, by omega, fun j hj hp => hl j hj ⟨by omega, hp⟩, fun _ => hk2⟩
  · exact ⟨n, Nat.le_refl n, fun k hk hp => h ⟨k, hk, hp⟩, fun h9 => absurd h9 (Nat.lt_irrefl n)⟩
/-- the least hut that would change -/
theorem changes_eqN (hS : Sh σ z) (h : Hu σ z n) (hse : Se σ z) (h2 : 2 ≤ n) (set : Int32) : ∃ v, fX0_changes σ z set = some v ∧ fX7_turnsOf σ (z + 1064) set = some v ∧ (v = -1 ∨ ∃ k, k < n ∧ v = nI k) ∧ ∃ N, N ≤ n ∧ (∀ k, k < N → gaV σ z n k (set ^^^ (1 <<< (nI k &&& 31))) ≤ gaV σ z n k set) ∧ (N < n → ¬ gaV σ z n N (set ^^^ (1 <<< (nI N &&& 31))) ≤ gaV σ z n N set) ∧ v = if N < n then nI N else -1 := by
  have hn := h.1.1
  obtain ⟨N, hN, hlo, hhi⟩ := first_ex (fun k => ¬ gaV σ z n k (set ^^^ (1 <<< (nI k &&& 31))) ≤ gaV σ z n k set) n
  have bX : ∀ k, k < n → lX0_changes_2 σ z set (nI k) = if gaV σ z n k (set ^^^ (1 <<< (nI k &&& 31))) ≤ gaV σ z n k set then some (.inl (nI (k + 1))) else some (.inr (.inl (nI k))) := by
    intro k hk
    unfold lX0_changes_2
    rw [e_0_i hS, h.1.2.1, if_neg (nI_ge hk (by omega)), e_0_k hS, gainsOf_eq hS h hse h2 hk, sb, e_0_k hS, gainsOf_eq hS h hse h2 hk, sb, nI_1]
  have kX : fX0_changes σ z set = some (if N < n then nI N else -1) := by
    unfold fX0_changes
    by_cases c : N < n
    · have : loopF fuel (fun y => lX0_changes_2 σ z set y) 0 = some (.inl (nI N)) := by
        refine loopF_seq (st := fun k => nI k) N (fun k hk => ?_) ?_ fuel (fuel_lt (by omega))
        · rw [bX k (by omega), if_pos (Decidable.not_not.mp (hlo k hk))]
        · rw [bX N c, if_neg (hhi c)]
      rw [this, sb, if_pos c]
      rfl
    · have hNn : N = n := by omega
      subst hNn
      have : loopF fuel (fun y => lX0_changes_2 σ z set y) 0 = some (.inr ()) := by
        refine loopF_seq (st := fun k => nI k) N (fun k hk => ?_) ?_ fuel (fuel_lt (by omega))
        · rw [bX k hk, if_pos (Decidable.not_not.mp (hlo k hk))]
        · show lX0_changes_2 σ z set (nI N) = _
          unfold lX0_changes_2
          rw [e_0_i hS, h.1.2.1, if_pos (nI_le (Nat.le_refl N) (by omega))]
      rw [this, sb, if_neg c]
      rfl
  have kM : fX7_turnsOf σ (z + 1064) set = some (if N < n then nI N else -1) := by
    unfold fX7_turnsOf
    rw [e_1064_i hS, h.1.2.2]
    have : loopF fuel (fun y => lX7_turnsOf_9 σ (z + 1064) set y.1 y.2) (-1, nI n - 1) = some (if N < n then nI N else -1) := by
      obtain ⟨r, e, hr⟩ := loopF_inv (b := fun y : Int32 × Int32 => lX7_turnsOf_9 σ (z + 1064) set y.1 y.2) (fun j s => s.2 = nI (n - j) - 1 ∧ ((∀ k, n - j ≤ k → k < n → gaV σ z n k (set ^^^ (1 <<< (nI k &&& 31))) ≤ gaV σ z n k set) ∧ s.1 = -1 ∨ ∃ k, n - j ≤ k ∧ k < n ∧ s.1 = nI k ∧ ¬ gaV σ z n k (set ^^^ (1 <<< (nI k &&& 31))) ≤ gaV σ z n k set ∧ ∀ i, n - j ≤ i → i < k → gaV σ z n i (set ^^^ (1 <<< (nI i &&& 31))) ≤ gaV σ z n i set)) n (Q := fun r => r = if N < n then nI N else -1) (by
          rintro j ⟨x, y⟩ hj ⟨hy, hx⟩
          simp only at hy hx
          subst hy
          obtain ⟨k, hk⟩ : ∃ k, n - j = k + 1 := ⟨n - j - 1, by omega⟩
          have hk2 : n - (j + 1) = k := by omega
          show ∃ t, lX7_turnsOf_9 σ (z + 1064) set x (nI (n - j) - 1) = _ ∧ _
          rw [hk] at hx ⊢
          rw [hk2, nI_pred]
          unfold lX7_turnsOf_9
          simp only [jn]
          rw [if_neg (nI_pos (by omega)), e_1064_k hS, gainsOfM_eq hS h.1 h2 (by omega), sb, e_1064_k hS, gainsOfM_eq hS h.1 h2 (by omega), sb]
          have ek : nI k + (-1) = nI k - 1 := by rw [Int32.sub_eq_add_neg]
          rw [ek]
          by_cases c : gaV σ z n k (set ^^^ (1 <<< (nI k &&& 31))) ≤ gaV σ z n k set
          · rw [if_pos c]
            refine ⟨_, rfl, rfl, ?_⟩
            rcases hx with ⟨q1, q2⟩ | ⟨i, q1, q2, q3, q4, q5⟩
            · refine Or.inl ⟨fun i h1 h2 => ?_, q2⟩
              by_cases hik : i = k
              · subst hik; exact c
              · exact q1 i (by omega) h2
            · refine Or.inr ⟨i, by omega, q2, q3, q4, fun i' h1 h2 => ?_⟩
              by_cases hik : i' = k
              · subst hik; exact c
              · exact q5 i' (by omega) h2
          · rw [if_neg c]
            exact ⟨_, rfl, rfl, Or.inr ⟨k, Nat.le_refl k, by omega, rfl, c, fun i h1 h2 => absurd h1 (by omega)⟩⟩) (by
          rintro ⟨x, y⟩ ⟨hy, hx⟩
          simp only at hy hx
          subst hy
          show ∃ r, lX7_turnsOf_9 σ (z + 1064) set x (nI (n - n) - 1) = _ ∧ _
          rw [Nat.sub_self] at hx ⊢
          unfold lX7_turnsOf_9
          rw [if_pos (by decide)]
          refine ⟨_, rfl, ?_⟩
          rcases hx with ⟨q1, q2⟩ | ⟨i, q1, q2, q3, q4, q5⟩
          · rw [q2, if_neg]
            intro c
            exact hhi c (q1 N (Nat.zero_le _) c)
          · have hNi : N = i := by
              by_cases c1 : N < i
              · exact absurd (q5 N (Nat.zero_le _) c1) (hhi (by omega))
              · by_cases c2 : i < N
                · exact absurd q4 (hlo i c2)
                · omega
            rw [hNi, if_pos q2, q3]) (s := (-1, nI n - 1)) ⟨rfl, Or.inl ⟨fun k h1 h2 => absurd h1 (by omega), rfl⟩⟩ fuel (fuel_lt (by omega))
      rw [e, hr]
    rw [this, sb]
  refine ⟨_, kX, kM, ?_, N, hN, fun k hk => Decidable.not_not.mp (hlo k hk), hhi, rfl⟩
  by_cases c : N < n
  · rw [if_pos c]; exact Or.inr ⟨N, c, rfl⟩
  · rw [if_neg c]; exact Or.inl rfl
theorem changes_eq (hS : Sh σ z) (h : Hu σ z n) (hse : Se σ z) (h2 : 2 ≤ n) (set : Int32) : ∃ v, fX0_changes σ z set = some v ∧ fX7_turnsOf σ (z + 1064) set = some v ∧ (v = -1 ∨ ∃ k, k < n ∧ v = nI k) := by
  obtain ⟨v, a, b, c, -⟩ := changes_eqN hS h hse h2 set
  exact ⟨v, a, b, c⟩
theorem gaV_congr {σ' : St} (h1 : ∀ j, s_i σ' (z + 1065) j = s_i σ (z + 1065) j) (h2 : ∀ j, s_i σ' (z + 1066) j = s_i σ (z + 1066) j) (h3 : s_i σ' (z + 1064) 14 = s_i σ (z + 1064) 14) (h4 : s_i σ' (z + 1064) 15 = s_i σ (z + 1064) 15) (h5 : s_i σ' (z + 1064) 16 = s_i σ (z + 1064) 16) (h6 : s_i σ' (z + 1064) 17 = s_i σ (z + 1064) 17) (a : Nat) (set : Int32) : gaV σ' z n a set = gaV σ z n a set := by
  have e : farS σ' z = farS σ z := by funext x y; unfold farS; rw [h1, h1, h2, h2]
  unfold gaV
  rw [e, h3, h4, h5, h6]
/-- in two heaps alike -/
theorem changes_two {σ' : St} (hS : Sh σ z) (h : Hu σ z n) (hse : Se σ z) (hS' : Sh σ' z) (h' : Hu σ' z n) (hse' : Se σ' z) (h2 : 2 ≤ n) (set : Int32) (hg : ∀ a set, gaV σ' z n a set = gaV σ z n a set) : ∃ v, fX0_changes σ z set = some v ∧ fX7_turnsOf σ' (z + 1064) set = some v ∧ (v = -1 ∨ ∃ k, k < n ∧ v = nI k) := by
  obtain ⟨v, a, b, c, N, n1, n2, n3, n4⟩ := changes_eqN hS h hse h2 set
  obtain ⟨v', a', b', c', N', m1, m2, m3, m4⟩ := changes_eqN hS' h' hse' h2 set
  have e : N = N' := by
    by_cases c1 : N < N'
    · exact absurd (m2 N c1) (by rw [hg, hg]; exact n3 (by omega))
    · by_cases c2 : N' < N
      · have := n2 N' c2
        rw [← hg, ← hg] at this
        exact absurd this (m3 (by omega))
      · omega
  subst e
  rw [m4, ← n4] at b'
  exact ⟨v, a, b', c⟩
end GAINS
