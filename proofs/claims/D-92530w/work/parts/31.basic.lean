set_option maxRecDepth 100000
/-! the plain law: numbers, and the smallest methods -/
theorem i32_le {a b : Int32} : a ≤ b ↔ a.toInt ≤ b.toInt := Int32.le_iff_toInt_le
theorem i32_lt {a b : Int32} : a < b ↔ a.toInt < b.toInt := Int32.lt_iff_toInt_lt
theorem i32_eq {a b : Int32} : a = b ↔ a.toInt = b.toInt := Int32.toInt_inj.symm
theorem i32_l64 {a b : Int32} : a.toInt64 ≤ b.toInt64 ↔ a ≤ b := by rw [Int64.le_iff_toInt_le, Int32.toInt_toInt64, Int32.toInt_toInt64, i32_le]
theorem in_eq (σ : St) (v lo hi : Int32) : fX7_in σ v lo hi = some (if lo ≤ v ∧ v ≤ hi then 1 else 0) := by
  simp only [fX7_in, jn]
  by_cases h1 : v < lo
  · rw [if_pos h1, if_neg (fun q => absurd q.1 (Int32.not_le.mpr h1))]
  · rw [if_neg h1]
    by_cases h2 : hi < v
    · rw [if_pos h2, if_neg (fun q => absurd q.2 (Int32.not_le.mpr h2))]
    · rw [if_neg h2, if_pos ⟨Int32.not_lt.mp h1, Int32.not_lt.mp h2⟩]
theorem cmp_lt (a b : Int64) : lg_cmp a b < 0 ↔ a < b := by
  unfold lg_cmp
  simp only [gt_iff_lt, Int64.lt_iff_toInt_lt, ← Int64.toInt_inj]
  repeat' split
  · constructor
    · intro h; exact absurd h (by decide)
    · intro h; omega
  · constructor
    · intro h; exact absurd h (by decide)
    · intro h; omega
  · constructor
    · intro _; omega
    · intro _; decide
theorem cmp_gt (a b : Int64) : 0 < lg_cmp a b ↔ b < a := by
  unfold lg_cmp
  simp only [gt_iff_lt, Int64.lt_iff_toInt_lt, ← Int64.toInt_inj]
  repeat' split
  · constructor
    · intro _; omega
    · intro _; decide
  · constructor
    · intro h; exact absurd h (by decide)
    · intro h; omega
  · constructor
    · intro h; exact absurd h (by decide)
    · intro h; omega
theorem isIn_eq (σ : St) (v lo hi : Int64) : fX0_isIn σ v lo hi = some (if lo ≤ v ∧ v ≤ hi then 1 else 0) := by
  simp only [fX0_isIn, jn]
  by_cases h1 : v < lo
  · rw [if_pos ((cmp_lt _ _).mpr h1), if_neg (fun q => absurd q.1 (Int64.not_le.mpr h1))]
  · rw [if_neg (fun q => h1 ((cmp_lt _ _).mp q))]
    by_cases h2 : hi < v
    · rw [if_pos ((cmp_gt _ _).mpr h2), if_neg (fun q => absurd q.2 (Int64.not_le.mpr h2))]
    · rw [if_neg (fun q => h2 ((cmp_gt _ _).mp q)), if_pos ⟨Int64.not_lt.mp h1, Int64.not_lt.mp h2⟩]
/-- the two ways to ask for a range agree -/
theorem isIn_in (σ σ1 : St) (v lo hi : Int32) : fX0_isIn σ v.toInt64 lo.toInt64 hi.toInt64 = fX7_in σ1 v lo hi := by
  rw [isIn_eq, in_eq]
  simp only [i32_l64]
theorem isIn_lit (σ σ1 : St) (v lo hi : Int32) {lo' hi' : Int64} (h1 : lo' = lo.toInt64) (h2 : hi' = hi.toInt64) : fX0_isIn σ v.toInt64 lo' hi' = fX7_in σ1 v lo hi := by rw [h1, h2]; exact isIn_in _ _ _ _ _
theorem bz_01 {α : Type} {P : Prop} [Decidable P] {K : Option α} : o_bz (if P then 1 else 0) K = K := by
  unfold o_bz
  split <;> simp
theorem if01 {α : Type} {P : Prop} [Decidable P] {A B : α} : (if (if P then (1 : Int32) else 0) = 0 then A else B) = if P then B else A := by
  by_cases h : P
  · rw [if_pos h, if_pos h, if_neg (by decide)]
  · rw [if_neg h, if_neg h, if_pos rfl]
theorem sb {α β : Type} {x : α} {f : α → Option β} : (some x).bind f = f x := rfl
theorem sub1_toInt {n : Nat} (h : n < 2 ^ 30) : (nI n - 1).toInt = (n : Int) - 1 := by
  have := pk_sub_toInt (a := n) (b := 1) h (by decide)
  exact this
/-- a number within a range of places -/
theorem in_nat {v : Int32} {n : Nat} (hn : n < 2 ^ 30) (h : 0 ≤ v ∧ v ≤ nI n - 1) : ∃ k, k < n ∧ v = nI k := by
  have h1 : (0 : Int) ≤ v.toInt := by simpa using i32_le.mp h.1
  have h2 := i32_le.mp h.2
  rw [sub1_toInt hn] at h2
  obtain ⟨k, hk, e⟩ := nI_of (x := v) (fun q => by have := i32_lt.mp q; simp at this; omega)
  refine ⟨k, ?_, e⟩
  rw [e, nI_toInt hk] at h2
  omega
theorem nat_in {k n : Nat} (hn : n < 2 ^ 30) (h : k < n) : (0 : Int32) ≤ nI k ∧ nI k ≤ nI n - 1 := by
  refine ⟨nI_pos' (by omega), ?_⟩
  rw [i32_le, sub1_toInt hn, nI_toInt (by omega)]
  omega
/-- .. with a literal's bounds -/
theorem in_lit {v hi : Int32} {n : Nat} (hh : hi.toInt = n) (h : 0 ≤ v ∧ v ≤ hi) : ∃ k, k ≤ n ∧ v = nI k := nI_of2 hh (fun q => by have h1 := i32_lt.mp q; have h2 := i32_le.mp h.1; simp at h1 h2; omega) h.2
theorem nI_lit_ne {k n : Nat} {c : Int32} (hc : c = nI n) (hk : k < 2 ^ 31) (hn : n < 2 ^ 31) (h : k ≠ n) : ¬ nI k = c := by rw [hc]; exact fun q => h ((nI_eq hk hn).mp q)
theorem jabs_much (σ : St) (x : Int32) : fX7_much σ x = some (jabs x) := by
  unfold fX7_much jabs
  split
  · rfl
  · congr 1
def bitC (set w : Int32) : Prop := ((set >>> (w &&& 31)) &&& 1) = 1
theorem isSet_eq (σ : St) (set w : Int32) {α : Type} {A B : Option α} : ((fX0_isSet σ set w).bind fun x => if x = 0 then A else B) = if ((set >>> (w &&& 31)) &&& 1) = 1 then B else A := by
  unfold fX0_isSet
  split
  · rw [sb, if_neg (by decide)]
  · rw [sb, if_pos rfl]
theorem Sh.k0 {σ : St} {z : Nat} (h : Sh σ z) : s_k σ z = some (.inl 0) := h.k 0 _ (by decide) rfl
theorem lit_nle (c : Int32) (n k : Nat) (hc : c = nI n) (h : k < n) (hn : n < 2 ^ 31) : ¬ c ≤ nI k := by rw [hc]; exact nI_ge h hn
theorem lit_le (c : Int32) (n k : Nat) (hc : c = nI n) (h : n ≤ k) (hn : k < 2 ^ 31) : c ≤ nI k := by rw [hc]; exact nI_le h hn
theorem lit_ne (c : Int32) (n k : Nat) (hc : c = nI n) (h : k ≠ n) (hk : k < 2 ^ 31) (hn : n < 2 ^ 31) : ¬ nI k = c := by rw [hc]; exact fun q => h ((nI_eq hk hn).mp q)
