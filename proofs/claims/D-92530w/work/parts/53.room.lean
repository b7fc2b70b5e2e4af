set_option maxRecDepth 100000
/-! room -/
def jbc (a0 : Int32) : Int32 :=
  let x1 := a0 - (((a0.toUInt32 >>> ((1 : Int32).toUInt32 &&& Int32.toUInt32 31)).toInt32) &&& 1431655765)
  let x2 := (x1 &&& 858993459) + (((x1.toUInt32 >>> ((2 : Int32).toUInt32 &&& Int32.toUInt32 31)).toInt32) &&& 858993459)
  let x3 := (x2 + ((x2.toUInt32 >>> ((4 : Int32).toUInt32 &&& Int32.toUInt32 31)).toInt32)) &&& 252645135
  let x4 := x3 + ((x3.toUInt32 >>> ((8 : Int32).toUInt32 &&& Int32.toUInt32 31)).toInt32)
  let x5 := x4 + ((x4.toUInt32 >>> ((16 : Int32).toUInt32 &&& Int32.toUInt32 31)).toInt32)
  x5 &&& 63
def bcS (x : Int32) : Nat → Int32
  | 0 => 0
  | k + 1 => bcS x k + ((x >>> (nI k &&& 31)) &&& 1)
theorem jbc_eq : ∀ s, s < 1024 → jbc (nI s) = bcS (nI s) 10 := by decide +kernel
theorem bitCount_eq (σ : St) {s : Nat} (h : s < 1024) : fJ7_bitCount σ (nI s) = some (bcS (nI s) 10) := by
  rw [← jbc_eq s h]
  rfl
theorem bits_eq (σ : St) (x : Int32) : fX7_bits σ x = some (bcS x 10) := by
  have key : loopF fuel (fun y => lX7_bits_4 x y.1 y.2) (0, 0) = some (bcS x 10) := by
    refine loopF_seq (st := fun k => (bcS x k, nI k)) 10 (fun k hk => ?_) ?_ fuel (fuel_lt (by decide))
    · show lX7_bits_4 x (bcS x k) (nI k) = _
      unfold lX7_bits_4
      rw [if_neg (lit_nle 10 10 k rfl hk (by decide)), nI_1]
      rfl
    · show lX7_bits_4 x (bcS x 10) (nI 10) = _
      unfold lX7_bits_4
      rw [if_pos (by decide)]
  unfold fX7_bits
  rw [key, sb]
/-- how far two spots lie -/
def spS (σ : St) (z a b : Nat) : Int32 := jabs (s_i σ (z + 1092) a - s_i σ (z + 1092) b) + jabs (s_i σ (z + 1093) a - s_i σ (z + 1093) b)
def apI (set : Int32) (d : Nat → Nat → Int32) (reach : Int32) (a : Nat) (x : Int32) : Nat → Int32
  | 0 => x
  | b + 1 => if apI set d reach a x b = 0 then 0 else if ((set >>> (nI a &&& 31)) &&& 1) = 1 then (if ((set >>> (nI b &&& 31)) &&& 1) = 1 then (if d a b ≤ reach then 0 else 1) else 1) else 1
def apO (set : Int32) (d : Nat → Nat → Int32) (reach : Int32) : Nat → Int32
  | 0 => 1
  | a + 1 => apI set d reach a (apO set d reach a) a
theorem apI_0 (set : Int32) (d : Nat → Nat → Int32) (reach : Int32) (a : Nat) : ∀ b, apI set d reach a 0 b = 0
  | 0 => rfl
  | b + 1 => by unfold apI; rw [apI_0 set d reach a b, if_pos rfl]
theorem apI_01 (set : Int32) (d : Nat → Nat → Int32) (reach : Int32) (a : Nat) {x : Int32} (hx : x = 0 ∨ x = 1) : ∀ b, apI set d reach a x b = 0 ∨ apI set d reach a x b = 1
  | 0 => hx
  | b + 1 => by unfold apI; (repeat' split) <;> simp
theorem apO_01 (set : Int32) (d : Nat → Nat → Int32) (reach : Int32) : ∀ a, apO set d reach a = 0 ∨ apO set d reach a = 1
  | 0 => Or.inr rfl
  | a + 1 => apI_01 set d reach a (apO_01 set d reach a) a
theorem apO_stay (set : Int32) (d : Nat → Nat → Int32) (reach : Int32) {a : Nat} (h : apO set d reach a = 0) : ∀ k, apO set d reach (a + k) = 0
  | 0 => h
  | k + 1 => by
    show apI set d reach (a + k) (apO set d reach (a + k)) (a + k) = 0
    rw [apO_stay set d reach h k]
    exact apI_0 _ _ _ _ _
section ROOM
variable {σ : St} {z n : Nat}
theorem apart_eq (hS : Sh σ z) {a b : Nat} (ha : a < 10) (hb : b < 10) : fX7_apart σ (z + 1064) (nI a) (nI b) = some (spS σ z a b) := by
  unfold fX7_apart
  rw [e_1064_48 hS, a_1092 hS ha, e_1064_48 hS, a_1092 hS hb, jabs_much, sb, e_1064_49 hS, a_1093 hS ha, e_1064_49 hS, a_1093 hS hb, jabs_much, sb]
  rfl
theorem sp8_eq (h : Sp σ z n) {a b p q : Nat} (ha : a < n) (hb : b < n) (hp : s_r σ (z + 38) a = some p) (hq : s_r σ (z + 38) b = some q) : s_k σ p = some (.inl 6) ∧ fX8_far σ p q = some (spS σ z a b) := by
  obtain ⟨p', p1, p2, p3, p4, -⟩ := h.2.2.2 a ha
  obtain ⟨q', q1, q2, q3, q4, -⟩ := h.2.2.2 b hb
  cases p1.symm.trans hp
  cases q1.symm.trans hq
  refine ⟨p2.1, ?_⟩
  unfold fX8_far
  simp only [o_gI_eq p2.1, o_gI_eq q2.1, o_let, p3, q3, p4, q4]
  rfl
theorem areApart_eq (hS : Sh σ z) (h : Sp σ z n) (hse : Se σ z) (set : Int32) : fX0_areApart σ z set = some (apO set (spS σ z) (s_i σ (z + 1064) 13) n) := by
  have h10 := h.1
  have l5 : ∀ K : Int32 → Option ((Int32 × Int32) ⊕ Int32), o_aI σ (z + 5) 0 0 K = K (s_i σ (z + 1064) 13) := fun K => by rw [← hse.1]; exact a_5 (k := 0) hS (by decide)
  have inner : ∀ a x, a < n → loopF fuel (fun y => lX0_areApart_15 (nI a) σ set z y.1 y.2) (x, 0) = some (apI set (spS σ z) (s_i σ (z + 1064) 13) a x a) := by
    intro a x ha
    refine loopF_seq (st := fun b => (apI set (spS σ z) (s_i σ (z + 1064) 13) a x b, nI b)) a (fun b hb => ?_) ?_ fuel (fuel_lt (by omega))
    · show lX0_areApart_15 (nI a) σ set z (apI set (spS σ z) (s_i σ (z + 1064) 13) a x b) (nI b) = _
      obtain ⟨p, p1, -⟩ := h.2.2.2 a ha
      obtain ⟨q, q1, -⟩ := h.2.2.2 b (by omega)
      obtain ⟨f1, f2⟩ := sp8_eq h ha (show b < n by omega) p1 q1
      unfold lX0_areApart_15
      rw [if_neg (nI_ge hb (by omega))]
      simp only [jn, isSet_eq, nI_1, e_0_30 hS, a_38 hS (show a < 10 by omega) p1, a_38 hS (show b < 10 by omega) q1, o_k_eq f1, f2, sb, e_0_6 hS, l5, apI]
      (repeat' split) <;> rfl
    · show lX0_areApart_15 (nI a) σ set z (apI set (spS σ z) (s_i σ (z + 1064) 13) a x a) (nI a) = _
      unfold lX0_areApart_15
      rw [if_pos (nI_le (Nat.le_refl a) (by omega))]
  have outer : loopF fuel (fun y => lX0_areApart_4 σ z set y.1 y.2) (1, 0) = some (apO set (spS σ z) (s_i σ (z + 1064) 13) n) := by
    refine loopF_seq (st := fun a => (apO set (spS σ z) (s_i σ (z + 1064) 13) a, nI a)) n (fun a ha => ?_) ?_ fuel (fuel_lt (by omega))
    · show lX0_areApart_4 σ z set (apO set (spS σ z) (s_i σ (z + 1064) 13) a) (nI a) = _
      unfold lX0_areApart_4
      rw [e_0_i hS, h.2.1, if_neg (nI_ge ha (by omega)), inner a _ ha, sb, nI_1]
      rfl
    · show lX0_areApart_4 σ z set (apO set (spS σ z) (s_i σ (z + 1064) 13) n) (nI n) = _
      unfold lX0_areApart_4
      rw [e_0_i hS, h.2.1, if_pos (nI_le (Nat.le_refl n) (by omega))]
  unfold fX0_areApart
  rw [outer, sb]
  exact if_pos (apO_01 _ _ _ _)
theorem apM_eq (hS : Sh σ z) (h : Sp σ z n) (set : Int32) : loopF fuel (fun y => lX7_room_34 σ (z + 1064) set y.1 y.2) (1, 0) = some (apO set (spS σ z) (s_i σ (z + 1064) 13) n) := by
  have h10 := h.1
  have inner : ∀ a x, a < n → loopF fuel (fun y => lX7_room_50 (nI a) set σ (z + 1064) y.1 y.2) (x, 0) = some (apI set (spS σ z) (s_i σ (z + 1064) 13) a x a) := by
    intro a x ha
    refine loopF_seq (st := fun b => (apI set (spS σ z) (s_i σ (z + 1064) 13) a x b, nI b)) a (fun b hb => ?_) ?_ fuel (fuel_lt (by omega))
    · show lX7_room_50 (nI a) set σ (z + 1064) (apI set (spS σ z) (s_i σ (z + 1064) 13) a x b) (nI b) = _
      unfold lX7_room_50
      rw [if_neg (nI_ge hb (by omega))]
      simp only [jn, nI_1, e_1064_k hS, apart_eq hS (show a < 10 by omega) (show b < 10 by omega), sb, e_1064_i hS, apI, b01]
      by_cases c0 : apI set (spS σ z) (s_i σ (z + 1064) 13) a x b = 0
      · simp only [c0, if_true]
      · by_cases c1 : ((set >>> (nI a &&& 31)) &&& 1) = 1
        · by_cases c2 : ((set >>> (nI b &&& 31)) &&& 1) = 1
          · simp only [c0, c1, c2, if_true, if_false, not_true_eq_false]
            split <;> rfl
          · simp only [c0, c1, c2, if_true, if_false, not_true_eq_false, not_false_eq_true]
        · simp only [c0, c1, if_true, if_false, not_false_eq_true]
    · show lX7_room_50 (nI a) set σ (z + 1064) (apI set (spS σ z) (s_i σ (z + 1064) 13) a x a) (nI a) = _
      unfold lX7_room_50
      rw [if_pos (nI_le (Nat.le_refl a) (by omega))]
  have stp : ∀ a, a < n → apO set (spS σ z) (s_i σ (z + 1064) 13) a ≠ 0 → lX7_room_34 σ (z + 1064) set (apO set (spS σ z) (s_i σ (z + 1064) 13) a) (nI a) = some (.inl (apO set (spS σ z) (s_i σ (z + 1064) 13) (a + 1), nI (a + 1))) := by
    intro a ha hne
    unfold lX7_room_34
    rw [e_1064_i hS, h.2.2.1, if_neg (nI_ge ha (by omega)), if_neg hne, inner a _ ha, sb, nI_1]
    rfl
  obtain ⟨N, hN, hlo, hhi⟩ := first_ex (fun a => apO set (spS σ z) (s_i σ (z + 1064) 13) a = 0) n
  have eN : apO set (spS σ z) (s_i σ (z + 1064) 13) n = apO set (spS σ z) (s_i σ (z + 1064) 13) N := by
    by_cases c : N < n
    · have := apO_stay set (spS σ z) (s_i σ (z + 1064) 13) (hhi c) (n - N)
      rw [show N + (n - N) = n by omega] at this
      rw [this, hhi c]
    · rw [show N = n by omega]
  rw [eN]
  refine loopF_seq (st := fun a => (apO set (spS σ z) (s_i σ (z + 1064) 13) a, nI a)) N (fun a ha => stp a (by omega) (hlo a ha)) ?_ fuel (fuel_lt (by omega))
  show lX7_room_34 σ (z + 1064) set (apO set (spS σ z) (s_i σ (z + 1064) 13) N) (nI N) = _
  unfold lX7_room_34
  rw [e_1064_i hS, h.2.2.1]
  by_cases c : N < n
  · rw [if_neg (nI_ge c (by omega)), if_pos (hhi c)]
  · rw [if_pos (nI_le (by omega) (by omega))]
/-- the best of the sets so far -/
def rmS (bc ap : Nat → Int32) : Nat → Nat
  | 0 => 0
  | k + 1 => if k = 0 then 0 else if bc k ≤ bc (rmS bc ap k) then rmS bc ap k else if ap k = 0 then rmS bc ap k else k
theorem rmS_le (bc ap : Nat → Int32) : ∀ k, rmS bc ap k ≤ k
  | 0 => Nat.le_refl 0
  | k + 1 => by
    have := rmS_le bc ap k
    unfold rmS
    (repeat' split) <;> omega
theorem room_sim (hS : Sh σ z) (h : Sp σ z n) (hse : Se σ z) : ∃ v, fX0_room σ z = some v ∧ fX7_room σ (z + 1064) = some v := by
  have h10 := h.1
  have hp : 2 ^ n ≤ 1024 := Nat.pow_le_pow_right (n := 2) (by decide) h10
  have hp1 : 1 ≤ 2 ^ n := Nat.one_le_two_pow
  obtain ⟨bc, hbc⟩ : ∃ bc : Nat → Int32, bc = fun k => bcS (nI k) 10 := ⟨_, rfl⟩
  obtain ⟨ap, hap⟩ : ∃ ap : Nat → Int32, ap = fun k => apO (nI k) (spS σ z) (s_i σ (z + 1064) 13) n := ⟨_, rfl⟩
  have bE : ∀ k, bcS (nI k) 10 = bc k := fun k => by rw [hbc]
  have aE : ∀ k, apO (nI k) (spS σ z) (s_i σ (z + 1064) 13) n = ap k := fun k => by rw [hap]
  refine ⟨nI (rmS bc ap (2 ^ n)), ?_, ?_⟩
  · have : loopF fuel (fun y => lX0_room_4 σ z y.1 y.2) (0, 1) = some (nI (rmS bc ap (2 ^ n))) := by
      have e : some (nI (rmS bc ap (2 ^ n))) = some (nI (rmS bc ap ((2 ^ n - 1) + 1))) := by rw [show 2 ^ n - 1 + 1 = 2 ^ n by omega]
      rw [e]
      refine loopF_seq (st := fun k => (nI (rmS bc ap (k + 1)), nI (k + 1))) (2 ^ n - 1) (fun k hk => ?_) ?_ fuel (fuel_lt (by omega))
      · show lX0_room_4 σ z (nI (rmS bc ap (k + 1))) (nI (k + 1)) = _
        have := rmS_le bc ap (k + 1)
        unfold lX0_room_4
        rw [e_0_i hS, h.2.1, shl_pow n (by omega), if_neg (nI_ge (by omega) (by omega)), bitCount_eq σ (by omega), sb, bitCount_eq σ (by omega), sb]
        simp only [jn, e_0_k hS, areApart_eq hS h hse, sb, bE, aE, nI_1]
        show _ = some (Sum.inl (nI (rmS bc ap (k + 1 + 1)), nI (k + 1 + 1)))
        conv => rhs; unfold rmS
        rw [if_neg (show ¬ k + 1 = 0 by omega)]
        split
        · rfl
        · split <;> rfl
      · show lX0_room_4 σ z (nI (rmS bc ap (2 ^ n - 1 + 1))) (nI (2 ^ n - 1 + 1)) = _
        unfold lX0_room_4
        rw [e_0_i hS, h.2.1, shl_pow n (by omega), if_pos (nI_le (by omega) (by omega))]
    unfold fX0_room
    rw [this, sb]
  · have : loopF fuel (fun y => lX7_room_4 σ (z + 1064) y.1 y.2) (0, 0) = some (nI (rmS bc ap (2 ^ n))) := by
      refine loopF_seq (st := fun k => (nI (rmS bc ap k), nI k)) (2 ^ n) (fun k hk => ?_) ?_ fuel (fuel_lt (by omega))
      · show lX7_room_4 σ (z + 1064) (nI (rmS bc ap k)) (nI k) = _
        unfold lX7_room_4
        rw [e_1064_i hS, h.2.2.1, shl_pow n (by omega), if_neg (nI_ge (by omega) (by omega)), bits_eq, sb, bits_eq, sb]
        simp only [jn, bE, nI_1]
        have l0 : loopF fuel (fun y => lX7_room_34 σ (z + 1064) (nI k) y.1 y.2) (0, 0) = some 0 := by
          refine loopF_seq (st := fun _ => (0, 0)) 0 (fun k hk => absurd hk (Nat.not_lt_zero k)) ?_ fuel (fuel_lt (by decide))
          show lX7_room_34 σ (z + 1064) (nI k) 0 0 = _
          unfold lX7_room_34
          rw [e_1064_i hS, if_pos rfl, ite_self]
        rw [l0, apM_eq hS h, sb, sb, aE, if_pos rfl]
        show _ = some (Sum.inl (nI (rmS bc ap (k + 1)), nI (k + 1)))
        conv => rhs; unfold rmS
        by_cases k0 : k = 0
        · subst k0
          rw [if_pos rfl, show rmS bc ap 0 = 0 from rfl, if_pos (Int32.le_refl _)]
        · rw [if_neg k0]
          split
          · rfl
          · split <;> rfl
      · show lX7_room_4 σ (z + 1064) (nI (rmS bc ap (2 ^ n))) (nI (2 ^ n)) = _
        unfold lX7_room_4
        rw [e_1064_i hS, h.2.2.1, shl_pow n (by omega), if_pos (nI_le (Nat.le_refl _) (by omega))]
    unfold fX7_room
    rw [this, sb]
end ROOM
