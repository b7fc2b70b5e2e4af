set_option maxRecDepth 100000
/-! ways over spots -/
theorem nod_le : ∀ {l1 l2 : List Nat}, l1.Nodup → (∀ x ∈ l1, x ∈ l2) → l1.length ≤ l2.length
  | [], l2, _, _ => Nat.zero_le _
  | a :: l1, l2, h, hs => by
    obtain ⟨h1, h2⟩ := List.nodup_cons.mp h
    have ha := hs a List.mem_cons_self
    have h3 := nod_le (l2 := l2.erase a) h2 (fun x hx => (List.mem_erase_of_ne (a := x) (b := a) (fun (e : x = a) => h1 (by rw [← e]; exact hx))).mpr (hs x (List.mem_cons_of_mem _ hx)))
    rw [List.length_erase_of_mem ha] at h3
    have h4 : 0 < l2.length := List.length_pos_of_mem ha
    rw [List.length_cons]
    omega
theorem nod_all {l1 l2 : List Nat} (h1 : l1.Nodup) (hs : ∀ x ∈ l1, x ∈ l2) (hl : l2.length ≤ l1.length) : ∀ x ∈ l2, x ∈ l1 := by
  intro x hx
  apply Classical.byContradiction
  intro hn
  have := nod_le (l1 := x :: l1) (l2 := l2) (List.nodup_cons.mpr ⟨hn, h1⟩) (fun y hy => by
    rcases List.mem_cons.mp hy with rfl | hy
    · exact hx
    · exact hs y hy)
  rw [List.length_cons] at this
  omega
/-- the length of a way, the last spot first -/
def rlen (d : Nat → Nat → Nat) : List Nat → Nat
  | [] => 0
  | x :: l => match l with
    | [] => 0
    | y :: _ => d y x + rlen d l
def msk : List Nat → Nat
  | [] => 0
  | x :: l => msk l ||| 2 ^ x
theorem msk_bit : ∀ (l : List Nat) (i : Nat), (msk l).testBit i = true ↔ i ∈ l
  | [], i => by
    unfold msk
    rw [Nat.zero_testBit]
    exact ⟨fun h => (by cases h), fun h => (by cases h)⟩
  | x :: l, i => by
    unfold msk
    rw [Nat.testBit_or, Bool.or_eq_true, msk_bit l i, List.mem_cons, Nat.testBit_two_pow, decide_eq_true_eq]
    constructor
    · rintro (h | h)
      · exact Or.inr h
      · exact Or.inl h.symm
    · rintro (h | h)
      · exact Or.inr h.symm
      · exact Or.inl h
theorem msk_lt {x : Nat} {l : List Nat} (h : x ∉ l) : msk l < msk (x :: l) := by
  have h1 : msk l ≤ msk (x :: l) := Nat.left_le_or
  have h2 : msk l ≠ msk (x :: l) := fun e => by
    have h3 := (msk_bit (x :: l) x).mpr List.mem_cons_self
    rw [← e] at h3
    exact h ((msk_bit l x).mp h3)
  omega
def Sb (M S : Nat) : Prop := ∀ i, M.testBit i = true → S.testBit i = true
theorem Sb.le {M S : Nat} (h : Sb M S) : M ≤ S := by
  have e : M ||| S = S := Nat.eq_of_testBit_eq fun i => by
    rw [Nat.testBit_or]
    cases c : M.testBit i with
    | false => rfl
    | true => rw [h i c]; rfl
  have : M ≤ M ||| S := Nat.left_le_or
  omega
/-- a way within a set from a spot -/
def Way (S f : Nat) (q : List Nat) : Prop := q.Nodup ∧ (∀ x ∈ q, S.testBit x = true) ∧ q.getLast? = some f
theorem Way.sb {S f : Nat} {q : List Nat} (h : Way S f q) : Sb (msk q) S := fun i hi => h.2.1 i ((msk_bit q i).mp hi)
theorem Way.tl {S f x y : Nat} {l : List Nat} (h : Way S f (x :: y :: l)) : Way S f (y :: l) ∧ x ∉ y :: l ∧ S.testBit x = true := by
  obtain ⟨h1, h2, h3⟩ := h
  obtain ⟨h4, h5⟩ := List.nodup_cons.mp h1
  exact ⟨⟨h5, fun z hz => h2 z (List.mem_cons_of_mem _ hz), by rw [List.getLast?_cons_cons] at h3; exact h3⟩, h4, h2 x List.mem_cons_self⟩
theorem Way.ex {S f x y : Nat} {l : List Nat} (h : Way S f (y :: l)) (hx : x ∉ y :: l) (hS : S.testBit x = true) : Way S f (x :: y :: l) := by
  obtain ⟨h1, h2, h3⟩ := h
  refine ⟨List.nodup_cons.mpr ⟨hx, h1⟩, fun z hz => ?_, by rw [List.getLast?_cons_cons]; exact h3⟩
  rcases List.mem_cons.mp hz with rfl | hz
  · exact hS
  · exact h2 z hz
theorem rlen_le {d : Nat → Nat → Nat} {S f : Nat} (hd : ∀ a b, S.testBit a = true → S.testBit b = true → d a b ≤ 200) : ∀ {q : List Nat}, Way S f q → rlen d q ≤ 200 * msk q
  | [], _ => Nat.zero_le _
  | [x], _ => Nat.zero_le _
  | x :: y :: l, h => by
    obtain ⟨h1, h2, h3⟩ := h.tl
    have i1 := rlen_le hd h1
    have i2 := msk_lt h2
    have i3 := hd y x (h1.2.1 y List.mem_cons_self) h3
    show d y x + rlen d (y :: l) ≤ _
    omega
/-- the table so far -/
def Snd (d : Nat → Nat → Nat) (S f n : Nat) (T : Nat → Nat → Nat) : Prop := ∀ M s, M ≤ S → s < n → T M s < 268435456 → ∃ l, Way S f (s :: l) ∧ msk (s :: l) = M ∧ rlen d (s :: l) = T M s
def Cmp (d : Nat → Nat → Nat) (S f M s t : Nat) (T : Nat → Nat → Nat) : Prop := T (2 ^ f) f = 0 ∧ ∀ x y l, Way S f (x :: y :: l) → (msk (y :: l) < M ∨ (msk (y :: l) = M ∧ (y < s ∨ (y = s ∧ x < t)))) → T (msk (x :: y :: l)) x ≤ rlen d (x :: y :: l)
section TAB
variable {d : Nat → Nat → Nat} {S f n M s t : Nat} {T : Nat → Nat → Nat}
theorem Cmp.row (h : Cmp d S f M s t T) {y : Nat} {l : List Nat} (hw : Way S f (y :: l)) (hm : msk (y :: l) = M) : T M y ≤ rlen d (y :: l) := by
  cases l with
  | nil =>
    have e : y = f := by
      have := hw.2.2
      simpa using this
    subst e
    have e2 : M = 2 ^ y := by
      rw [← hm]
      show 0 ||| 2 ^ y = _
      exact Nat.zero_or _
    rw [e2, h.1]
    exact Nat.zero_le _
  | cons z l =>
    rw [← hm]
    exact h.2 y z l hw (Or.inl (by rw [← hm]; exact msk_lt hw.tl.2.1))
theorem Cmp.mono {M' s' t' : Nat} {T' : Nat → Nat → Nat} (h : Cmp d S f M s t T) (hT : ∀ a b, T' a b ≤ T a b) (hn : ∀ x y l, Way S f (x :: y :: l) → (msk (y :: l) < M' ∨ (msk (y :: l) = M' ∧ (y < s' ∨ (y = s' ∧ x < t')))) → ¬ (msk (y :: l) < M ∨ (msk (y :: l) = M ∧ (y < s ∨ (y = s ∧ x < t)))) → T' (msk (x :: y :: l)) x ≤ rlen d (x :: y :: l)) : Cmp d S f M' s' t' T' := by
  refine ⟨by have := hT (2 ^ f) f; rw [h.1] at this; omega, fun x y l hw hc => ?_⟩
  by_cases c : msk (y :: l) < M ∨ (msk (y :: l) = M ∧ (y < s ∨ (y = s ∧ x < t)))
  · exact Nat.le_trans (hT _ _) (h.2 x y l hw c)
  · exact hn x y l hw hc c
theorem Way.lt (hn : S < 2 ^ n) {q : List Nat} (h : Way S f q) {x : Nat} (hx : x ∈ q) : x < n := by
  apply Classical.byContradiction
  intro hc
  have h1 := Nat.testBit_lt_two_pow (x := S) (i := x) (Nat.lt_of_lt_of_le hn (Nat.pow_le_pow_right (by decide) (by omega)))
  rw [h.2.1 x hx] at h1
  cases h1
theorem Cmp.nextS (hn : S < 2 ^ n) (h : Cmp d S f M s n T) : Cmp d S f M (s + 1) 0 T := h.mono (fun _ _ => Nat.le_refl _) fun x y l hw hc hnc => by
  have := hw.lt hn List.mem_cons_self
  omega
theorem Cmp.nextM (hn : S < 2 ^ n) (h : Cmp d S f M n 0 T) : Cmp d S f (M + 1) 0 0 T := h.mono (fun _ _ => Nat.le_refl _) fun x y l hw hc hnc => by
  have := hw.lt hn (List.mem_cons_of_mem _ List.mem_cons_self)
  omega
/-- no way ends there -/
theorem Cmp.farS (hd : ∀ a b, S.testBit a = true → S.testBit b = true → d a b ≤ 200) (hS : S < 1024) (h : Cmp d S f M s t T) (hf : 268435456 ≤ T M s) : Cmp d S f M (s + 1) 0 T := h.mono (fun _ _ => Nat.le_refl _) fun x y l hw hc hnc => by
  by_cases e : msk (y :: l) = M ∧ y = s
  · obtain ⟨e1, rfl⟩ := e
    have h1 := h.row hw.tl.1 e1
    have h2 := rlen_le hd hw.tl.1
    have h3 := hw.tl.1.sb.le
    omega
  · omega
theorem Cmp.outM (h : Cmp d S f M 0 0 T) (hf : ¬ Sb M S) : Cmp d S f (M + 1) 0 0 T := h.mono (fun _ _ => Nat.le_refl _) fun x y l hw hc hnc => by
  have e : msk (y :: l) = M := by omega
  exact absurd (e ▸ hw.tl.1.sb) hf
theorem Cmp.skip (h : Cmp d S f M s t T) (hf : S.testBit t = false ∨ M.testBit t = true) : Cmp d S f M s (t + 1) T := h.mono (fun _ _ => Nat.le_refl _) fun x y l hw hc hnc => by
  have e : msk (y :: l) = M ∧ x = t := by omega
  obtain ⟨e1, rfl⟩ := e
  obtain ⟨h1, h2, h3⟩ := hw.tl
  rcases hf with hf | hf
  · rw [h3] at hf
    cases hf
  · rw [← e1] at hf
    exact absurd ((msk_bit _ _).mp hf) h2
def updT (T : Nat → Nat → Nat) (M t v : Nat) : Nat → Nat → Nat := fun a b => if a = M ∧ b = t then v else T a b
theorem Cmp.upd (h : Cmp d S f M s t T) : Cmp d S f M s (t + 1) (updT T (M ||| 2 ^ t) t (min (T (M ||| 2 ^ t) t) (T M s + d s t))) := by
  refine h.mono (fun a b => ?_) fun x y l hw hc hnc => ?_
  · unfold updT
    split
    · next e => rw [e.1, e.2]; exact Nat.min_le_left _ _
    · exact Nat.le_refl _
  · have e : msk (y :: l) = M ∧ y = s ∧ x = t := by omega
    obtain ⟨e1, rfl, rfl⟩ := e
    have h1 := h.row hw.tl.1 e1
    have e2 : msk (x :: y :: l) = M ||| 2 ^ x := by rw [← e1]; rfl
    unfold updT
    rw [if_pos ⟨e2, rfl⟩]
    show _ ≤ d y x + rlen d (y :: l)
    have := Nat.min_le_right (T (M ||| 2 ^ x) x) (T M y + d y x)
    omega
theorem Snd.upd (h : Snd d S f n T) (hM : M ≤ S) (hs : s < n) (hf : T M s < 268435456) (h1 : S.testBit t = true) (h2 : M.testBit t = false) : Snd d S f n (updT T (M ||| 2 ^ t) t (min (T (M ||| 2 ^ t) t) (T M s + d s t))) := by
  intro A b hA hb hl
  unfold updT at hl ⊢
  by_cases c : A = M ||| 2 ^ t ∧ b = t
  · rw [if_pos c] at hl ⊢
    obtain ⟨rfl, rfl⟩ := c
    by_cases c2 : T (M ||| 2 ^ b) b ≤ T M s + d s b
    · rw [Nat.min_eq_left c2] at hl ⊢
      exact h _ b hA hb hl
    · rw [Nat.min_eq_right (by omega)] at hl ⊢
      obtain ⟨l, l1, l2, l3⟩ := h M s hM hs hf
      refine ⟨s :: l, l1.ex (fun q => ?_) h1, ?_, ?_⟩
      · rw [← l2] at h2
        rw [(msk_bit _ _).mpr q] at h2
        cases h2
      · rw [← l2]
        rfl
      · show d s b + rlen d (s :: l) = _
        omega
  · rw [if_neg c] at hl ⊢
    exact h A b hA hb hl
end TAB
/-- the bits of a set, upwards -/
def bl (S k : Nat) : List Nat := (List.range k).filter fun i => S.testBit i
theorem bl_succ (S k : Nat) : bl S (k + 1) = if S.testBit k = true then bl S k ++ [k] else bl S k := by
  unfold bl
  rw [List.range_succ, List.filter_append]
  by_cases c : S.testBit k = true
  · rw [if_pos c, List.filter_cons_of_pos c]
    rfl
  · rw [if_neg c, List.filter_cons_of_neg c]
    exact List.append_nil _
theorem bl_mem {S k i : Nat} : i ∈ bl S k ↔ i < k ∧ S.testBit i = true := by
  unfold bl
  rw [List.mem_filter, List.mem_range]
theorem bl_nd (S k : Nat) : (bl S k).Nodup := (List.nodup_range).sublist (List.filter_sublist)
theorem bl_asc (S k : Nat) : (bl S k).Pairwise (· < ·) := (List.pairwise_lt_range).filter _
