set_option maxRecDepth 100000
/-! the least of all rows -/
def mnB (len : List Nat → Nat) (a : Option Nat) (p : List Nat) : Option Nat := match a with
  | none => some (len p)
  | some b => if len p < b then some (len p) else some b
def okT (_ : Option Nat) (pre : List Nat) (v : Nat) : Bool := !pre.contains v
theorem foldl_le {f : Option Nat → Nat → Option Nat} (hd : ∀ b x, ∃ y, f (some b) x = some y ∧ y ≤ b) : ∀ (l : List Nat) b, ∃ y, l.foldl f (some b) = some y ∧ y ≤ b
  | [], b => ⟨b, rfl, Nat.le_refl b⟩
  | x :: l, b => by
    obtain ⟨y, y1, y2⟩ := hd b x
    obtain ⟨w, w1, w2⟩ := foldl_le hd l y
    exact ⟨w, by rw [List.foldl_cons, y1, w1], by omega⟩
theorem foldl_hit {f : Option Nat → Nat → Option Nat} (hd : ∀ b x, ∃ y, f (some b) x = some y ∧ y ≤ b) {x c : Nat} (hx : ∀ a, ∃ y, f a x = some y ∧ y ≤ c) : ∀ (l : List Nat), x ∈ l → ∀ a, ∃ y, l.foldl f a = some y ∧ y ≤ c
  | [], h, _ => absurd h List.not_mem_nil
  | u :: l, h, a => by
    rw [List.foldl_cons]
    rcases List.mem_cons.mp h with rfl | h
    · obtain ⟨y, y1, y2⟩ := hx a
      obtain ⟨w, w1, w2⟩ := foldl_le hd l y
      exact ⟨w, by rw [y1, w1], by omega⟩
    · exact foldl_hit hd hx l h _
theorem foldl_is {f : Option Nat → Nat → Option Nat} {Q : Nat → Prop} : ∀ (l : List Nat), (∀ a x y, x ∈ l → f a x = some y → a = some y ∨ Q y) → ∀ a y, l.foldl f a = some y → a = some y ∨ Q y
  | [], _, _, _, h => Or.inl h
  | u :: l, hf, a, y, h => by
    rw [List.foldl_cons] at h
    rcases foldl_is l (fun a x y hx => hf a x y (List.mem_cons_of_mem _ hx)) _ y h with h | h
    · exact hf a u y List.mem_cons_self h
    · exact Or.inr h
section LEAST
variable {len : List Nat → Nat} {m : Nat}
theorem mnB_le (b : Nat) (p : List Nat) : ∃ y, mnB len (some b) p = some y ∧ y ≤ b := by
  unfold mnB
  simp only
  split
  · exact ⟨_, rfl, by omega⟩
  · exact ⟨_, rfl, Nat.le_refl _⟩
theorem mnB_hit (a : Option Nat) (p : List Nat) : ∃ y, mnB len a p = some y ∧ y ≤ len p := by
  cases a with
  | none => exact ⟨_, rfl, Nat.le_refl _⟩
  | some b =>
    unfold mnB
    simp only
    split
    · exact ⟨_, rfl, Nat.le_refl _⟩
    · exact ⟨_, rfl, by omega⟩
theorem mnB_is (a : Option Nat) (p : List Nat) (y : Nat) (h : mnB len a p = some y) : a = some y ∨ y = len p := by
  cases a with
  | none => exact Or.inr (Option.some.inj h).symm
  | some b =>
    unfold mnB at h
    simp only at h
    split at h
    · exact Or.inr (Option.some.inj h).symm
    · exact Or.inl h
theorem mn_dec : ∀ k ip b i, ∃ y, sub okT (mnB len) m 1 k ip (some b) i = some y ∧ y ≤ b
  | 0, ip, b, i => by
    unfold sub
    split
    · exact mnB_le b _
    · exact ⟨b, rfl, Nat.le_refl b⟩
  | k + 1, ip, b, i => by
    unfold sub
    split
    · exact foldl_le (fun b x => mn_dec k (ip ++ [i]) b x) _ b
    · exact ⟨b, rfl, Nat.le_refl b⟩
theorem nd_not {ip l : List Nat} {i : Nat} (h : (ip ++ [i] ++ l).Nodup) : ip.contains i = false := by
  rw [List.append_assoc, List.nodup_append] at h
  cases c : ip.contains i with
  | false => rfl
  | true =>
    rw [List.contains_iff_mem] at c
    exact absurd rfl (h.2.2 i c i (List.mem_append_left _ (List.mem_singleton.mpr rfl)))
theorem mn_all : ∀ k ip a i l, l.length = k → (ip ++ [i] ++ l).Nodup → (∀ x ∈ l, 1 ≤ x ∧ x < m) → ∃ y, sub okT (mnB len) m 1 k ip a i = some y ∧ y ≤ len (ip ++ [i] ++ l)
  | 0, ip, a, i, l, hl, hn, hx => by
    have e : l = [] := List.eq_nil_of_length_eq_zero hl
    subst e
    unfold sub
    rw [if_pos (by unfold okT; rw [nd_not hn]; rfl), List.append_nil]
    exact mnB_hit a _
  | k + 1, ip, a, i, l, hl, hn, hx => by
    cases l with
    | nil => cases hl
    | cons x l =>
      unfold sub
      rw [if_pos (by unfold okT; rw [nd_not hn]; rfl)]
      have hx1 := hx x List.mem_cons_self
      refine foldl_hit (fun b x => mn_dec k (ip ++ [i]) b x) (x := x) (fun a => ?_) _ (by rw [List.mem_range'_1]; omega) a
      have := mn_all k (ip ++ [i]) a x l (by simpa using hl) (by rw [List.append_assoc (ip ++ [i])]; exact hn) (fun u hu => hx u (List.mem_cons_of_mem _ hu))
      rw [List.append_assoc (ip ++ [i]) [x] l] at this
      exact this
theorem mn_is : ∀ k ip a i y, ip.Nodup → (∀ x ∈ ip, x < m) → i < m → sub okT (mnB len) m 1 k ip a i = some y → a = some y ∨ ∃ l, (ip ++ l).Nodup ∧ (ip ++ l).length = ip.length + 1 + k ∧ (∀ x ∈ ip ++ l, x < m) ∧ y = len (ip ++ l)
  | 0, ip, a, i, y, hn, hx, hi, h => by
    unfold sub at h
    split at h
    · next c =>
      rcases mnB_is a _ y h with h | h
      · exact Or.inl h
      · have c : i ∉ ip := fun q => by
          unfold okT at c
          rw [List.contains_iff_mem.mpr q] at c
          cases c
        refine Or.inr ⟨[i], ?_, by rw [len1], fun x hx1 => ?_, h⟩
        · rw [List.nodup_append]
          exact ⟨hn, by simp, fun a ha b hb e => c (by rw [List.mem_singleton.mp hb] at e; rw [← e]; exact ha)⟩
        · rcases List.mem_append.mp hx1 with h1 | h1
          · exact hx x h1
          · rw [List.mem_singleton.mp h1]; exact hi
    · exact Or.inl h
  | k + 1, ip, a, i, y, hn, hx, hi, h => by
    unfold sub at h
    split at h
    · next c =>
      have c : i ∉ ip := fun q => by
        unfold okT at c
        rw [List.contains_iff_mem.mpr q] at c
        cases c
      have hn1 : (ip ++ [i]).Nodup := by
        rw [List.nodup_append]
        exact ⟨hn, by simp, fun a ha b hb e => c (by rw [List.mem_singleton.mp hb] at e; rw [← e]; exact ha)⟩
      have hx1 : ∀ x ∈ ip ++ [i], x < m := fun x hx1 => by
        rcases List.mem_append.mp hx1 with h1 | h1
        · exact hx x h1
        · rw [List.mem_singleton.mp h1]; exact hi
      rcases foldl_is (Q := fun y => ∃ l, (ip ++ l).Nodup ∧ (ip ++ l).length = ip.length + 1 + (k + 1) ∧ (∀ x ∈ ip ++ l, x < m) ∧ y = len (ip ++ l)) _ (fun a x y hxm hf => by
        rcases mn_is k (ip ++ [i]) a x y hn1 hx1 (by rw [List.mem_range'_1] at hxm; omega) hf with h | ⟨l, l1, l2, l3, l4⟩
        · exact Or.inl h
        · rw [List.append_assoc] at l1 l2 l3 l4
          exact Or.inr ⟨[i] ++ l, l1, by rw [l2, len1]; omega, l3, l4⟩) a y h with h | h
      · exact Or.inl h
      · exact Or.inr h
    · exact Or.inl h
/-- the least of the rows that begin with nought -/
theorem mn_fin (hm : 2 ≤ m) : ∃ y, (List.range' 1 (m - 1)).foldl (sub okT (mnB len) m 1 (m - 2) [0]) none = some y ∧ (∃ l, ([0] ++ l).Nodup ∧ ([0] ++ l).length = m ∧ (∀ x ∈ [0] ++ l, x < m) ∧ y = len ([0] ++ l)) ∧ ∀ l, ([0] ++ l).Nodup → ([0] ++ l).length = m → (∀ x ∈ [0] ++ l, x < m) → y ≤ len ([0] ++ l) := by
  have all : ∀ l, ([0] ++ l).Nodup → ([0] ++ l).length = m → (∀ x ∈ [0] ++ l, x < m) → ∃ y, (List.range' 1 (m - 1)).foldl (sub okT (mnB len) m 1 (m - 2) [0]) none = some y ∧ y ≤ len ([0] ++ l) := by
    intro l h1 h2 h3
    have hpos : ∀ x ∈ l, 1 ≤ x ∧ x < m := fun x hx => by
      refine ⟨?_, h3 x (List.mem_append_right _ hx)⟩
      rw [List.nodup_append] at h1
      have := h1.2.2 0 (List.mem_singleton.mpr rfl) x hx
      omega
    cases l with
    | nil => simp at h2; omega
    | cons x l =>
      have hx1 := hpos x List.mem_cons_self
      refine foldl_hit (fun b x => mn_dec (m - 2) [0] b x) (x := x) (fun a => ?_) _ (by rw [List.mem_range'_1]; omega) none
      have := mn_all (len := len) (m := m) (m - 2) [0] a x l (by simp at h2; omega) (by rw [List.append_assoc]; exact h1) (fun u hu => hpos u (List.mem_cons_of_mem _ hu))
      rw [List.append_assoc [0] [x] l] at this
      exact this
  have e0 : [0] ++ List.range' 1 (m - 1) = List.range' 0 m := by
    rw [show m = (m - 1) + 1 by omega, List.range'_succ]
    rfl
  obtain ⟨y, y1, -⟩ := all (List.range' 1 (m - 1)) (by rw [e0]; exact List.nodup_range') (by rw [e0, List.length_range']) (fun x hx => by rw [e0, List.mem_range'_1] at hx; omega)
  refine ⟨y, y1, ?_, fun l h1 h2 h3 => ?_⟩
  · rcases foldl_is (Q := fun y => ∃ l, ([0] ++ l).Nodup ∧ ([0] ++ l).length = m ∧ (∀ x ∈ [0] ++ l, x < m) ∧ y = len ([0] ++ l)) _ (fun a x y hxm hf => by
      rcases mn_is (m - 2) [0] a x y (by simp) (fun x hx => by rw [List.mem_singleton.mp hx]; omega) (by rw [List.mem_range'_1] at hxm; omega) hf with h | ⟨l, l1, l2, l3, l4⟩
      · exact Or.inl h
      · exact Or.inr ⟨l, l1, by rw [l2]; simp; omega, l3, l4⟩) none y y1 with h | h
    · cases h
    · exact h
  · obtain ⟨w, w1, w2⟩ := all l h1 h2 h3
    rw [y1] at w1
    cases w1
    exact w2
end LEAST
theorem nd_rev {l : List Nat} : l.reverse.Nodup ↔ l.Nodup := by
  unfold List.Nodup
  rw [List.pairwise_reverse]
  exact ⟨fun h => h.imp Ne.symm, fun h => h.imp Ne.symm⟩
/-- the row of a set: places of its spots -/
theorem ways_eq {d : Nat → Nat → Nat} {S n f m y v : Nat} {r : Nat → Nat} (hS : S < 2 ^ n) (hr : ∀ i, r i = (bl S n).getD i 0) (hm : m = (bl S n).length) (h2 : 2 ≤ m) (hf : r 0 = f)
    (y1 : ∃ l, ([0] ++ l).Nodup ∧ ([0] ++ l).length = m ∧ (∀ x ∈ [0] ++ l, x < m) ∧ y = rlen d (([0] ++ l).map r).reverse) (y2 : ∀ l, ([0] ++ l).Nodup → ([0] ++ l).length = m → (∀ x ∈ [0] ++ l, x < m) → y ≤ rlen d (([0] ++ l).map r).reverse)
    (v1 : ∃ q, Way S f q ∧ msk q = S ∧ v = rlen d q) (v2 : ∀ q, Way S f q → msk q = S → v ≤ rlen d q) : v = y := by
  have rb : ∀ i, i < m → r i ∈ bl S n := fun i hi => by
    rw [hr]
    exact mem_getD.mpr ⟨i, by omega, rfl⟩
  have rj : ∀ i j, i < m → j < m → r i = r j → i = j := by
    intro i j hi hj e
    have key : ∀ a b, a < b → b < m → r a < r b := by
      intro a b hab hb
      have := List.pairwise_iff_getElem.mp (bl_asc S n) a b (by omega) (by omega) hab
      rw [hr, hr, List.getD_eq_getElem?_getD, List.getD_eq_getElem?_getD, List.getElem?_eq_getElem (by omega), List.getElem?_eq_getElem (by omega)]
      exact this
    rcases Nat.lt_trichotomy i j with c | c | c
    · have := key i j c hj; omega
    · exact c
    · have := key j i c hi; omega
  apply Nat.le_antisymm
  · obtain ⟨l, l1, l2, l3, rfl⟩ := y1
    refine v2 _ ⟨?_, fun x hx => ?_, ?_⟩ ?_
    · rw [nd_rev]
      refine List.pairwise_map.mpr (List.Pairwise.imp_of_mem (fun {a b} ha hb hab e => hab (rj a b (l3 a ha) (l3 b hb) e)) l1)
    · rw [List.mem_reverse, List.mem_map] at hx
      obtain ⟨i, i1, rfl⟩ := hx
      exact (bl_mem.mp (rb i (l3 i i1))).2
    · rw [List.getLast?_reverse]
      simp [hf]
    · apply Nat.eq_of_testBit_eq
      intro i
      rw [Bool.eq_iff_iff, msk_bit, List.mem_reverse, List.mem_map]
      constructor
      · rintro ⟨j, j1, rfl⟩
        exact (bl_mem.mp (rb j (l3 j j1))).2
      · intro hi
        have hin : i < n := by
          apply Classical.byContradiction
          intro hc
          have h1 := Nat.testBit_lt_two_pow (x := S) (i := i) (Nat.lt_of_lt_of_le hS (Nat.pow_le_pow_right (by decide) (by omega)))
          rw [hi] at h1
          cases h1
        obtain ⟨j, j1, j2⟩ := mem_getD.mp (bl_mem.mpr ⟨hin, hi⟩)
        exact ⟨j, nod_all (l2 := List.range m) l1 (fun x hx => List.mem_range.mpr (l3 x hx)) (by rw [List.length_range]; omega) j (List.mem_range.mpr (by omega)), by rw [hr]; exact j2⟩
  · obtain ⟨q, q1, q2, rfl⟩ := v1
    have qm : ∀ x, x ∈ q ↔ x ∈ bl S n := by
      intro x
      rw [bl_mem]
      constructor
      · intro hx
        exact ⟨q1.lt hS hx, q1.2.1 x hx⟩
      · intro hx
        rw [← msk_bit, q2]
        exact hx.2
    -- places of the spots on the way
    obtain ⟨ix, hix⟩ : ∃ ix : Nat → Nat, ∀ x, x ∈ bl S n → ix x < m ∧ r (ix x) = x := by
      refine ⟨fun x => (bl S n).idxOf x, fun x hx => ?_⟩
      have h1 := List.idxOf_lt_length_iff.mpr hx
      refine ⟨by simp only; omega, ?_⟩
      rw [hr, List.getD_eq_getElem?_getD, List.getElem?_eq_getElem h1, Option.getD_some]
      exact List.getElem_idxOf h1
    have mp : (q.reverse.map ix).map r = q.reverse := by
      rw [List.map_map]
      conv => rhs; rw [← List.map_id q.reverse]
      refine List.map_congr_left fun x hx => ?_
      rw [List.mem_reverse] at hx
      exact (hix x ((qm x).mp hx)).2
    have nd : (q.reverse.map ix).Nodup := by
      refine List.pairwise_map.mpr (List.Pairwise.imp_of_mem (fun {a b} ha hb hab e => hab ?_) (nd_rev.mpr q1.1))
      rw [List.mem_reverse] at ha hb
      rw [← (hix a ((qm a).mp ha)).2, ← (hix b ((qm b).mp hb)).2, e]
    have lt : ∀ x ∈ q.reverse.map ix, x < m := by
      intro x hx
      obtain ⟨u, u1, rfl⟩ := List.mem_map.mp hx
      rw [List.mem_reverse] at u1
      exact (hix u ((qm u).mp u1)).1
    have ln : (q.reverse.map ix).length = m := by
      rw [List.length_map, List.length_reverse, hm]
      exact Nat.le_antisymm (nod_le q1.1 (fun x hx => (qm x).mp hx)) (nod_le (bl_nd S n) (fun x hx => (qm x).mpr hx))
    have hd : ∃ l, q.reverse.map ix = [0] ++ l := by
      have h3 := q1.2.2
      rw [← List.head?_reverse] at h3
      cases hq : q.reverse with
      | nil => rw [hq] at h3; cases h3
      | cons x l =>
        rw [hq] at h3
        cases h3
        refine ⟨l.map ix, ?_⟩
        rw [List.map_cons]
        have : ix f = 0 := rj _ 0 (hix f ((qm f).mp (by rw [← List.mem_reverse, hq]; exact List.mem_cons_self))).1 (by omega) (by rw [(hix f ((qm f).mp (by rw [← List.mem_reverse, hq]; exact List.mem_cons_self))).2, hf])
        rw [this]
        rfl
    obtain ⟨l, hl⟩ := hd
    rw [hl] at nd lt ln mp
    have := y2 l nd ln lt
    rw [mp, List.reverse_reverse] at this
    exact this
