set_option maxRecDepth 100000
/-! rows of shows: the order in which the sets are gone through -/
abbrev O4 : Type := Nat × Nat × Nat × Nat
def g4 (o : O4) (i : Nat) : Nat := if i = 0 then o.1 else if i = 1 then o.2.1 else if i = 2 then o.2.2.1 else o.2.2.2
def s4 (o : O4) (i v : Nat) : O4 := if i = 0 then (v, o.2) else if i = 1 then (o.1, v, o.2.2) else if i = 2 then (o.1, o.2.1, v, o.2.2.2) else (o.1, o.2.1, o.2.2.1, v)
def bt (o : O4) : Nat → Nat
  | 0 => 0
  | q + 1 => bt o q ||| 2 ^ (g4 o q - 1)
/-- one turn: numbers are kept one higher -/
def mch (k : Nat) (x : O4 × Nat × List Nat) : O4 × Nat × List Nat :=
  let v := g4 x.1 (x.2.1 - 1) + 1
  let o1 := s4 x.1 (x.2.1 - 1) v
  if 10 < v then (o1, x.2.1 - 1, x.2.2) else if x.2.1 < k then (s4 o1 x.2.1 v, x.2.1 + 1, x.2.2) else (o1, x.2.1, bt o1 k :: x.2.2)
def TT (k : Nat) : Nat := if k = 1 then 11 else if k = 2 then 66 else if k = 3 then 231 else 561
/-- the sets of so many, the last first -/
def CL1 : List Nat := [512, 256, 128, 64, 32, 16, 8, 4, 2, 1]
def CL2 : List Nat := [768, 640, 384, 576, 320, 192, 544, 288, 160, 96, 528, 272, 144, 80, 48, 520, 264, 136, 72, 40, 24, 516, 260, 132, 68, 36, 20, 12, 514, 258, 130, 66, 34, 18, 10, 6, 513, 257, 129, 65, 33, 17, 9, 5, 3]
def CL3 : List Nat := [896, 832, 704, 448, 800, 672, 416, 608, 352, 224, 784, 656, 400, 592, 336, 208, 560, 304, 176, 112, 776, 648, 392, 584, 328, 200, 552, 296, 168, 104, 536, 280, 152, 88, 56, 772, 644, 388, 580, 324, 196, 548, 292, 164, 100, 532, 276, 148, 84, 52, 524, 268, 140, 76, 44, 28, 770, 642, 386, 578, 322, 194, 546, 290, 162, 98, 530, 274, 146, 82, 50, 522, 266, 138, 74, 42, 26, 518, 262, 134, 70, 38, 22, 14, 769, 641, 385, 577, 321, 193, 545, 289, 161, 97, 529, 273, 145, 81, 49, 521, 265, 137, 73, 41, 25, 517, 261, 133, 69, 37, 21, 13, 515, 259, 131, 67, 35, 19, 11, 7]
def CL4 : List Nat := [960, 928, 864, 736, 480, 912, 848, 720, 464, 816, 688, 432, 624, 368, 240, 904, 840, 712, 456, 808, 680, 424, 616, 360, 232, 792, 664, 408, 600, 344, 216, 568, 312, 184, 120, 900, 836, 708, 452, 804, 676, 420, 612, 356, 228, 788, 660, 404, 596, 340, 212, 564, 308, 180, 116, 780, 652, 396, 588, 332, 204, 556, 300, 172, 108, 540, 284, 156, 92, 60, 898, 834, 706, 450, 802, 674, 418, 610, 354, 226, 786, 658, 402, 594, 338, 210, 562, 306, 178, 114, 778, 650, 394, 586, 330, 202, 554, 298, 170, 106, 538, 282, 154, 90, 58, 774, 646, 390, 582, 326, 198, 550, 294, 166, 102, 534, 278, 150, 86, 54, 526, 270, 142, 78, 46, 30, 897, 833, 705, 449, 801, 673, 417, 609, 353, 225, 785, 657, 401, 593, 337, 209, 561, 305, 177, 113, 777, 649, 393, 585, 329, 201, 553, 297, 169, 105, 537, 281, 153, 89, 57, 773, 645, 389, 581, 325, 197, 549, 293, 165, 101, 533, 277, 149, 85, 53, 525, 269, 141, 77, 45, 29, 771, 643, 387, 579, 323, 195, 547, 291, 163, 99, 531, 275, 147, 83, 51, 523, 267, 139, 75, 43, 27, 519, 263, 135, 71, 39, 23, 15]
def CLl (k : Nat) : List Nat := if k = 1 then CL1 else if k = 2 then CL2 else if k = 3 then CL3 else CL4
def chk (k : Nat) : Nat → O4 × Nat × List Nat → Bool
  | 0, x => x.2.1 == 0 && x.2.2 == CLl k
  | j + 1, x => (x.2.1 != 0) && chk k j (mch k x)
theorem chk_all : ∀ k, k < 5 → 1 ≤ k → chk k (TT k) ((0, 0, 0, 0), 1, []) = true := by decide +kernel
def pcN (s : Nat) : Nat → Nat
  | 0 => 0
  | k + 1 => pcN s k + (s >>> k) % 2
theorem sm32 : ∀ j, j < 32 → ((nI j &&& 31).toBitVec.smod 32).toNat = j := by decide +kernel
theorem nI_bit (q : Nat) (hq : q < 1024) (j : Nat) (hj : j < 10) : ((nI q >>> (nI j &&& 31)) &&& 1) = nI ((q >>> j) % 2) := by
  have h := Nat.div_le_self q (2 ^ j)
  rw [pk_shrN (by omega) _ j (sm32 j (by omega)), pk_andN (by omega) 1 (by decide), Nat.shiftRight_eq_div_pow]
theorem pcN_eq {q : Nat} (hq : q < 1024) : ∀ k, k ≤ 10 → bcS (nI q) k = nI (pcN q k)
  | 0, _ => rfl
  | k + 1, h => by
    show bcS (nI q) k + _ = nI (pcN q k + _)
    rw [pcN_eq hq k (by omega), nI_bit q hq k (by omega), nI_add]
theorem pcN_le (s : Nat) : ∀ k, pcN s k ≤ k
  | 0 => Nat.le_refl 0
  | k + 1 => by
    have := pcN_le s k
    unfold pcN
    omega
def inB (s : Nat) : List Nat → Bool
  | [] => false
  | a :: l => (Nat.beq a s).or (inB s l)
theorem inB_iff {s : Nat} : ∀ {l : List Nat}, inB s l = true → s ∈ l
  | [], h => by cases h
  | a :: l, h => by
    unfold inB at h
    rw [Bool.or_eq_true, Nat.beq_eq] at h
    rcases h with h | h
    · rw [h]
      exact List.mem_cons_self
    · exact List.mem_cons_of_mem _ (inB_iff h)
def bcB (k : Nat) (l : List Nat) : Nat → Bool
  | 0 => true
  | s + 1 => (bif Nat.beq (pcN s 10) k then inB s l else true).and (bcB k l s)
theorem bcB_at {k : Nat} {l : List Nat} : ∀ {n : Nat}, bcB k l n = true → ∀ s, s < n → pcN s 10 = k → s ∈ l
  | 0, _, s, h, _ => absurd h (Nat.not_lt_zero s)
  | n + 1, h, s, hs, hp => by
    unfold bcB at h
    rw [Bool.and_eq_true] at h
    by_cases e : s = n
    · subst e
      rw [Nat.beq_eq.mpr hp] at h
      exact inB_iff h.1
    · exact bcB_at h.2 s (by omega) hp
def pcB (k : Nat) (l : List Nat) : Bool := l.all fun s => Nat.beq (pcN s 10) k
theorem CL_bcs1 : bcB 1 CL1 1024 = true := by decide +kernel
theorem CL_bcs2 : bcB 2 CL2 1024 = true := by decide +kernel
theorem CL_bcs3 : bcB 3 CL3 1024 = true := by decide +kernel
theorem CL_bcs4 : bcB 4 CL4 1024 = true := by decide +kernel
theorem CL_pcs : (pcB 1 CL1 && pcB 2 CL2 && pcB 3 CL3 && pcB 4 CL4) = true := by decide +kernel
theorem CL_bc {k : Nat} (hk : k < 5) (h1 : 1 ≤ k) {s : Nat} (hs : s < 1024) : pcN s 10 = k ↔ s ∈ CLl k := by
  have h : k = 1 ∨ k = 2 ∨ k = 3 ∨ k = 4 := by omega
  have p := CL_pcs
  simp only [Bool.and_eq_true] at p
  obtain ⟨⟨⟨p1, p2⟩, p3⟩, p4⟩ := p
  rcases h with rfl | rfl | rfl | rfl
  · exact ⟨bcB_at CL_bcs1 s hs, fun h => Nat.eq_of_beq_eq_true (List.all_eq_true.mp p1 s h)⟩
  · exact ⟨bcB_at CL_bcs2 s hs, fun h => Nat.eq_of_beq_eq_true (List.all_eq_true.mp p2 s h)⟩
  · exact ⟨bcB_at CL_bcs3 s hs, fun h => Nat.eq_of_beq_eq_true (List.all_eq_true.mp p3 s h)⟩
  · exact ⟨bcB_at CL_bcs4 s hs, fun h => Nat.eq_of_beq_eq_true (List.all_eq_true.mp p4 s h)⟩
theorem CL_lts : ∀ k, k < 5 → 1 ≤ k → ((CLl k).all fun s => decide (s < 1024)) = true := by decide +kernel
theorem CL_lt {k : Nat} (hk : k < 5) (h1 : 1 ≤ k) {s : Nat} (hs : s ∈ CLl k) : s < 1024 := of_decide_eq_true (List.all_eq_true.mp (CL_lts k hk h1) s hs)
theorem CL_ne {k : Nat} (hk : k < 5) (h1 : 1 ≤ k) : CLl k ≠ [] := by
  have : ∀ k, k < 5 → 1 ≤ k → (CLl k).isEmpty = false := by decide +kernel
  intro h
  have := this k hk h1
  rw [h] at this
  cases this
def ahN (a b : Nat) : Nat := (a &&& (a ^^^ b)) &&& ((4294967296 - (a ^^^ b)) % 4294967296)
theorem ahN_eq {a b : Nat} (ha : a < 1024) (hb : b < 1024) : (((nI a &&& (nI a ^^^ nI b)) &&& (-(nI a ^^^ nI b))) = 0) ↔ ahN a b = 0 := by
  have e : ((nI a &&& (nI a ^^^ nI b)) &&& (-(nI a ^^^ nI b))).toBitVec.toNat = ahN a b := by
    have e1 : ((nI a &&& (nI a ^^^ nI b)) &&& (-(nI a ^^^ nI b))).toBitVec = (BitVec.ofNat 32 a &&& (BitVec.ofNat 32 a ^^^ BitVec.ofNat 32 b)) &&& (-(BitVec.ofNat 32 a ^^^ BitVec.ofNat 32 b)) := rfl
    rw [e1, BitVec.toNat_and, BitVec.toNat_and, BitVec.toNat_neg, BitVec.toNat_xor, BitVec.toNat_ofNat, BitVec.toNat_ofNat, Nat.mod_eq_of_lt (show a < 2 ^ 32 by omega), Nat.mod_eq_of_lt (show b < 2 ^ 32 by omega)]
    rfl
  constructor
  · intro h
    rw [← e, h]
    rfl
  · intro h
    apply Int32.toBitVec_inj.mp
    apply BitVec.eq_of_toNat_eq
    rw [e, h]
    rfl
/-- the number of a set with its shows turned round -/
def rvN (s : Nat) : Nat → Nat
  | 0 => 0
  | k + 1 => 2 * rvN s k + (s >>> k) % 2
def pwB (R : Nat → Nat → Bool) : List Nat → Bool
  | [] => true
  | a :: l => l.all (R a) && pwB R l
theorem pwB_or {R : Nat → Nat → Bool} : ∀ {l : List Nat}, pwB R l = true → ∀ {a b : Nat}, a ∈ l → b ∈ l → a ≠ b → R a b = true ∨ R b a = true
  | [], _, a, b, ha, _, _ => absurd ha List.not_mem_nil
  | c :: l, h, a, b, ha, hb, hn => by
    simp only [pwB, Bool.and_eq_true, List.all_eq_true] at h
    rcases List.mem_cons.mp ha with rfl | ha2
    · rcases List.mem_cons.mp hb with rfl | hb2
      · exact absurd rfl hn
      · exact Or.inl (h.1 b hb2)
    · rcases List.mem_cons.mp hb with rfl | hb2
      · exact Or.inr (h.1 a ha2)
      · exact pwB_or h.2 ha2 hb2 hn
def aR (a b : Nat) : Bool := Nat.blt (rvN a 10) (rvN b 10) && Nat.beq (ahN a b) 0 && !(Nat.beq (ahN b a) 0)
theorem CL_ah : ∀ k, k < 5 → 1 ≤ k → pwB aR (CLl k) = true := by decide +kernel
theorem aR_iff {a b : Nat} : aR a b = true ↔ rvN a 10 < rvN b 10 ∧ ahN a b = 0 ∧ ahN b a ≠ 0 := by
  unfold aR
  simp only [Bool.and_eq_true, Nat.blt_eq, Nat.beq_eq, Bool.not_eq_true', and_assoc]
  refine and_congr_right fun _ => and_congr_right fun _ => ?_
  constructor
  · intro h q
    rw [q] at h
    cases h
  · intro h
    cases hb : Nat.beq (ahN b a) 0
    · rfl
    · exact absurd (Nat.eq_of_beq_eq_true hb) h
theorem ah_iff {k : Nat} (hk : k < 5) (h1 : 1 ≤ k) {a b : Nat} (ha : a ∈ CLl k) (hb : b ∈ CLl k) (hn : a ≠ b) : (ahN a b ≠ 0 ↔ rvN b 10 < rvN a 10) ∧ rvN b 10 ≠ rvN a 10 := by
  rcases pwB_or (CL_ah k hk h1) ha hb hn with h | h
  · obtain ⟨q1, q2, q3⟩ := aR_iff.mp h
    exact ⟨⟨fun q => absurd q2 q, fun q => by omega⟩, by omega⟩
  · obtain ⟨q1, q2, q3⟩ := aR_iff.mp h
    exact ⟨⟨fun _ => q1, fun _ => q3⟩, by omega⟩
/-- the first of the greatest -/
def bst (F : Nat → Int32) : List Nat → Option Nat
  | [] => none
  | s :: l => match bst F l with
    | none => some s
    | some q => if F s ≤ F q then some q else some s
def Bts (F : Nat → Int32) (t q : Nat) : Prop := (F t).toInt < (F q).toInt ∨ ((F t).toInt = (F q).toInt ∧ rvN t 10 < rvN q 10)
theorem bst_spec (F : Nat → Int32) : ∀ {l : List Nat}, pwB aR l = true → l ≠ [] → ∃ q, bst F l = some q ∧ q ∈ l ∧ ∀ t ∈ l, t ≠ q → Bts F t q
  | [], _, h => absurd rfl h
  | [s], _, _ => ⟨s, rfl, List.mem_cons_self, fun t ht hn => absurd (List.mem_singleton.mp ht) hn⟩
  | s :: c :: l, h, _ => by
    have h' := h
    simp only [pwB, Bool.and_eq_true, List.all_eq_true] at h'
    obtain ⟨q, q1, q2, q3⟩ := bst_spec F (l := c :: l) (by simp only [pwB, Bool.and_eq_true, List.all_eq_true]; exact h'.2) (by simp)
    have e : bst F (s :: c :: l) = if F s ≤ F q then some q else some s := by
      conv => lhs; unfold bst
      rw [q1]
    rw [e]
    by_cases c1 : F s ≤ F q
    · rw [if_pos c1]
      refine ⟨q, rfl, List.mem_cons_of_mem _ q2, fun t ht hn => ?_⟩
      rcases List.mem_cons.mp ht with rfl | ht
      · have := (aR_iff.mp (h'.1 q q2)).1
        have := i32_le.mp c1
        unfold Bts
        omega
      · exact q3 t ht hn
    · rw [if_neg c1]
      refine ⟨s, rfl, List.mem_cons_self, fun t ht hn => ?_⟩
      rcases List.mem_cons.mp ht with rfl | ht
      · exact absurd rfl hn
      · have h2 : ¬ (F s).toInt ≤ (F q).toInt := fun w => c1 (i32_le.mpr w)
        by_cases e : t = q
        · subst e
          unfold Bts
          omega
        · have := q3 t ht e
          unfold Bts at this ⊢
          omega
