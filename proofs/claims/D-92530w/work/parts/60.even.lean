set_option maxRecDepth 100000
/-! the evenest row: plain numbers and trees -/
def dst (a b : Nat) : Nat := (a - b) + (b - a)
theorem jabs_dst {a b : Nat} (ha : a < 2 ^ 30) (hb : b < 2 ^ 30) : jabs (nI a - nI b) = nI (dst a b) := by
  unfold jabs dst
  by_cases c : b ≤ a
  · rw [pk_sub c, if_pos (nI_pos' (by omega)), show a - b + (b - a) = a - b by omega]
  · have h := pk_sneg (a := a) (b := b) hb (by omega)
    rw [if_neg (fun q => by have h1 := i32_le.mp q; have h2 := i32_lt.mp h; omega), Int32.zero_sub, Int32.neg_sub, pk_sub (by omega), show a - b + (b - a) = b - a by omega]
def unN (w : Nat → Nat) (g : Nat → Nat) : Nat → Nat
  | 0 => 0
  | k + 1 => if k = 0 then 0 else unN w g k + dst (w (g k) * (420 / (k + 1))) (w (g (k - 1)) * (420 / k))
theorem unN_congr {w g g' : Nat → Nat} : ∀ k, (∀ i, i < k → g i = g' i) → unN w g k = unN w g' k
  | 0, _ => rfl
  | k + 1, h => by
    unfold unN
    rw [unN_congr k (fun i hi => h i (by omega)), h k (by omega)]
    by_cases c : k = 0
    · rw [if_pos c, if_pos c]
    · rw [if_neg c, if_neg c, h (k - 1) (by omega)]
theorem unS_unN {s : Nat → Int32} {w g : Nat → Nat} : ∀ k, k ≤ 7 → (∀ i, i < k → s (g i) = nI (w (g i)) ∧ w (g i) ≤ 9) → unS s g k = nI (unN w g k) ∧ unN w g k ≤ 4000 * k
  | 0, _, _ => ⟨rfl, Nat.zero_le _⟩
  | k + 1, h7, h => by
    obtain ⟨h1, h2⟩ := unS_unN k (by omega) (fun i hi => h i (by omega))
    unfold unS unN
    by_cases c : k = 0
    · rw [if_pos c, if_pos c]
      exact ⟨rfl, Nat.zero_le _⟩
    · rw [if_neg c, if_neg c]
      obtain ⟨a1, a2⟩ := h k (by omega)
      obtain ⟨b1, b2⟩ := h (k - 1) (by omega)
      have d1 : (420 : Int32) / nI (k + 1) = nI (420 / (k + 1)) := pk_div (a := 420) (by decide) (by omega) (by omega)
      have d2 : (420 : Int32) / nI k = nI (420 / k) := pk_div (a := 420) (by decide) (by omega) (by omega)
      have e1 : w (g k) * (420 / (k + 1)) ≤ 9 * 420 := Nat.mul_le_mul a2 (Nat.div_le_self _ _)
      have e2 : w (g (k - 1)) * (420 / k) ≤ 9 * 420 := Nat.mul_le_mul b2 (Nat.div_le_self _ _)
      rw [a1, b1, d1, d2, nI_mul, nI_mul, jabs_dst (by omega) (by omega), h1, nI_add]
      refine ⟨rfl, ?_⟩
      unfold dst
      omega
/-- how uneven a row is, as a number -/
def kN (w : Nat → Nat) (p : List Nat) : Nat := unN w (fun i => p.getD i 0) p.length
theorem kN_mono (w : Nat → Nat) (p : List Nat) (v : Nat) : kN w p ≤ kN w (p ++ [v]) := by
  unfold kN
  rw [len1]
  conv => rhs; unfold unN
  by_cases c : p.length = 0
  · rw [c]
    exact Nat.zero_le _
  · rw [if_neg c, unN_congr (g := fun i => (p ++ [v]).getD i 0) (g' := fun i => p.getD i 0) p.length (fun i hi => gD_l hi)]
    omega
def upB (w : Nat → Nat) (a : Option (List Nat)) (p : List Nat) : Option (List Nat) := match a with
  | none => some p
  | some q => if kN w p < kN w q then some p else some q
def lsB (w : Nat → Nat) (a : Option (List Nat)) (p : List Nat) : Bool := match a with
  | none => true
  | some q => decide (kN w p < kN w q)
def okX (inH : Nat → Bool) (w : Nat → Nat) (a : Option (List Nat)) (pre : List Nat) (v : Nat) : Bool := inH v && !pre.contains v && lsB w a (pre ++ [v])
def okS (inH : Nat → Bool) (_ : Option (List Nat)) (pre : List Nat) (v : Nat) : Bool := inH v && !pre.contains v
def okM (_ : Option (List Nat)) (pre : List Nat) (v : Nat) : Bool := !pre.contains v
theorem upB_ls {w : Nat → Nat} {a : Option (List Nat)} {p : List Nat} (h : lsB w a p = true) : upB w a p = some p := by
  cases a with
  | none => rfl
  | some q => exact if_pos (of_decide_eq_true h)
theorem upB_nl {w : Nat → Nat} {a : Option (List Nat)} {p : List Nat} (h : lsB w a p = false) : upB w a p = a := by
  cases a with
  | none => cases h
  | some q => exact if_neg (of_decide_eq_false h)
theorem lsB_mono {w : Nat → Nat} {a : Option (List Nat)} {p : List Nat} (v : Nat) (h : lsB w a p = false) : lsB w a (p ++ [v]) = false := by
  cases a with
  | none => cases h
  | some q =>
    have h1 := of_decide_eq_false h
    have h2 := kN_mono w p v
    exact decide_eq_false (by omega)
theorem foldl_id {α β : Type} {f : α → β → α} {a : α} : ∀ {l : List β}, (∀ x ∈ l, f a x = a) → l.foldl f a = a
  | [], _ => rfl
  | x :: l, h => by rw [List.foldl_cons, h x List.mem_cons_self]; exact foldl_id (fun y hy => h y (List.mem_cons_of_mem _ hy))
theorem foldl_ext {α β : Type} {f g : α → β → α} : ∀ {l : List β} {a : α}, (∀ a x, x ∈ l → f a x = g a x) → l.foldl f a = l.foldl g a
  | [], _, _ => rfl
  | x :: l, a, h => by rw [List.foldl_cons, List.foldl_cons, h a x List.mem_cons_self]; exact foldl_ext (fun b y hy => h b y (List.mem_cons_of_mem _ hy))
theorem foldl_flt {α β : Type} {f : α → β → α} {p : β → Bool} : ∀ {l : List β} {a : α}, (∀ a x, p x = false → f a x = a) → l.foldl f a = (l.filter p).foldl f a
  | [], _, _ => rfl
  | x :: l, a, h => by
    rw [List.foldl_cons]
    cases c : p x with
    | true => rw [List.filter_cons_of_pos c, List.foldl_cons]; exact foldl_flt h
    | false => rw [List.filter_cons_of_neg (by rw [c]; decide), h a x c]; exact foldl_flt h
theorem foldl_some {α β : Type} {f : Option α → β → Option α} (hs : ∀ a x, a ≠ none → f a x ≠ none) : ∀ {l : List β} {a : Option α}, (a ≠ none ∨ ∃ x ∈ l, ∀ a, f a x ≠ none) → l.foldl f a ≠ none
  | [], a, h => by
    rcases h with h | ⟨x, hx, -⟩
    · exact h
    · cases hx
  | y :: l, a, h => by
    rw [List.foldl_cons]
    apply foldl_some hs
    rcases h with h | ⟨x, hx, h⟩
    · exact Or.inl (hs a y h)
    · rcases List.mem_cons.mp hx with rfl | hx
      · exact Or.inl (h a)
      · exact Or.inr ⟨x, hx, h⟩
section SUBS
variable {inH : Nat → Bool} {w : Nat → Nat} {top : Nat}
theorem sub_stay : ∀ k pre a v, lsB w a (pre ++ [v]) = false → sub (okS inH) (upB w) top 0 k pre a v = a
  | 0, pre, a, v, h => by
    unfold sub
    split
    · exact upB_nl h
    · rfl
  | k + 1, pre, a, v, h => by
    unfold sub
    split
    · exact foldl_id (fun x _ => sub_stay k (pre ++ [v]) a x (lsB_mono x h))
    · rfl
theorem subX_S : ∀ k pre a v, sub (okX inH w) (upB w) top 0 k pre a v = sub (okS inH) (upB w) top 0 k pre a v := by
  intro k
  induction k with
  | zero =>
    intro pre a v
    cases hl : lsB w a (pre ++ [v]) with
    | false =>
      rw [sub_stay 0 pre a v hl]
      unfold sub okX
      rw [hl, Bool.and_false, if_neg (by decide)]
    | true =>
      unfold sub okX okS
      rw [hl, Bool.and_true]
  | succ k ih =>
    intro pre a v
    cases hl : lsB w a (pre ++ [v]) with
    | false =>
      rw [sub_stay (k + 1) pre a v hl]
      unfold sub okX
      rw [hl, Bool.and_false, if_neg (by decide)]
    | true =>
      unfold sub
      have e : okX inH w a pre v = okS inH a pre v := by
        unfold okX okS
        rw [hl, Bool.and_true]
      rw [e, show sub (okX inH w) (upB w) top 0 k (pre ++ [v]) = sub (okS inH) (upB w) top 0 k (pre ++ [v]) from funext fun a => funext fun x => ih _ a x]
theorem sub_some {ok : Option (List Nat) → List Nat → Nat → Bool} {leaf : Option (List Nat) → List Nat → Option (List Nat)} (hl : ∀ a p, leaf a p ≠ none) : ∀ k pre a v, a ≠ none → sub ok leaf top 0 k pre a v ≠ none
  | 0, pre, a, v, h => by
    unfold sub
    split
    · exact hl _ _
    · exact h
  | k + 1, pre, a, v, h => by
    unfold sub
    split
    · exact foldl_some (fun a x => sub_some hl k _ a x) (Or.inl h)
    · exact h
theorem subM_some {m : Nat} {leaf : Option (List Nat) → List Nat → Option (List Nat)} (hl : ∀ a p, leaf a p ≠ none) : ∀ k p a, p + 1 + k = m → sub okM leaf m 0 k (List.range p) a p ≠ none
  | 0, p, a, h => by
    unfold sub
    rw [if_pos (by unfold okM; simp)]
    exact hl _ _
  | k + 1, p, a, h => by
    unfold sub
    rw [if_pos (by unfold okM; simp)]
    rw [← List.range_succ]
    exact foldl_some (fun a x => sub_some hl k _ a x) (Or.inr ⟨p + 1, by rw [List.mem_range'_1]; omega, fun a => subM_some hl k (p + 1) a (by omega)⟩)
theorem upB_some (w : Nat → Nat) (a : Option (List Nat)) (p : List Nat) : upB w a p ≠ none := by
  unfold upB
  split
  · exact fun h => by cases h
  · split <;> exact fun h => by cases h
theorem subM_S {m nt : Nat} {r : Nat → Nat} (hC : (List.range' 0 nt).filter inH = (List.range' 0 m).map r) (hr : ∀ i, i < m → inH (r i) = true) (hj : ∀ i j, i < m → j < m → r i = r j → i = j) : ∀ k ip a i, i < m → (∀ j ∈ ip, j < m) → sub okM (fun a p => upB w a (p.map r)) m 0 k ip a i = sub (okS inH) (upB w) nt 0 k (ip.map r) a (r i) := by
  have ok : ∀ a ip i, i < m → (∀ j ∈ ip, j < m) → okM a ip i = okS inH a (ip.map r) (r i) := by
    intro a ip i hi hp
    unfold okM okS
    rw [hr i hi, Bool.true_and]
    congr 1
    rw [Bool.eq_iff_iff, List.contains_iff_mem, List.contains_iff_mem, List.mem_map]
    constructor
    · exact fun h => ⟨i, h, rfl⟩
    · rintro ⟨j, h, e⟩
      rw [← hj j i (hp j h) hi e]
      exact h
  intro k
  induction k with
  | zero =>
    intro ip a i hi hp
    unfold sub
    rw [ok a ip i hi hp, List.map_append]
    rfl
  | succ k ih =>
    intro ip a i hi hp
    unfold sub
    rw [ok a ip i hi hp, Nat.sub_zero, Nat.sub_zero]
    have e : (List.range' 0 nt).foldl (sub (okS inH) (upB w) nt 0 k (ip.map r ++ [r i])) a = (List.range' 0 m).foldl (sub okM (fun a p => upB w a (p.map r)) m 0 k (ip ++ [i])) a := by
      rw [foldl_flt (p := inH), hC, List.foldl_map]
      · refine foldl_ext fun b x hx => ?_
        have hx : x < m := by rw [List.mem_range'_1] at hx; omega
        rw [ih (ip ++ [i]) b x hx (fun j hj => by
          rcases List.mem_append.mp hj with h | h
          · exact hp j h
          · rw [List.mem_singleton.mp h]; exact hi), List.map_append]
        rfl
      · intro b x hx
        cases k with
        | zero => unfold sub okS; rw [hx, Bool.false_and, if_neg (by decide)]
        | succ k => unfold sub okS; rw [hx, Bool.false_and, if_neg (by decide)]
    rw [e]
/-- both go through the same rows -/
theorem subs_eq {m nt : Nat} {r : Nat → Nat} (hC : (List.range' 0 nt).filter inH = (List.range' 0 m).map r) (hr : ∀ i, i < m → inH (r i) = true) (hj : ∀ i j, i < m → j < m → r i = r j → i = j) (k : Nat) (a : Option (List Nat)) : (List.range' 0 nt).foldl (sub (okX inH w) (upB w) nt 0 k []) a = (List.range' 0 m).foldl (sub okM (fun a p => upB w a (p.map r)) m 0 k []) a := by
  rw [show sub (okX inH w) (upB w) nt 0 k [] = sub (okS inH) (upB w) nt 0 k [] from funext fun a => funext fun x => subX_S k [] a x, foldl_flt (p := inH), hC, List.foldl_map]
  · refine foldl_ext fun b x hx => ?_
    have hx : x < m := by rw [List.mem_range'_1] at hx; omega
    exact (subM_S hC hr hj k [] b x hx (fun j hj => by cases hj)).symm
  · intro b x hx
    cases k with
    | zero => unfold sub okS; rw [hx, Bool.false_and, if_neg (by decide)]
    | succ k => unfold sub okS; rw [hx, Bool.false_and, if_neg (by decide)]
end SUBS
theorem asc_eq : ∀ {l l' : List Nat}, l.Pairwise (· < ·) → l'.Pairwise (· < ·) → (∀ x, x ∈ l ↔ x ∈ l') → l = l'
  | [], [], _, _, _ => rfl
  | [], y :: l', _, _, h => absurd ((h y).mpr List.mem_cons_self) List.not_mem_nil
  | x :: l, [], _, _, h => absurd ((h x).mp List.mem_cons_self) List.not_mem_nil
  | x :: l, y :: l', h1, h2, h => by
    obtain ⟨a1, a2⟩ := List.pairwise_cons.mp h1
    obtain ⟨b1, b2⟩ := List.pairwise_cons.mp h2
    have e : x = y := by
      have c1 := (h x).mp List.mem_cons_self
      have c2 := (h y).mpr List.mem_cons_self
      rcases List.mem_cons.mp c1 with c1 | c1
      · exact c1
      · rcases List.mem_cons.mp c2 with c2 | c2
        · exact c2.symm
        · have := a1 y c2
          have := b1 x c1
          omega
    subst e
    rw [asc_eq a2 b2 fun u => ?_]
    constructor
    · intro hu
      rcases List.mem_cons.mp ((h u).mp (List.mem_cons_of_mem _ hu)) with c | c
      · have := a1 u hu
        omega
      · exact c
    · intro hu
      rcases List.mem_cons.mp ((h u).mpr (List.mem_cons_of_mem _ hu)) with c | c
      · have := b1 u hu
        omega
      · exact c
theorem hand_C {m nt : Nat} {f r : Nat → Nat} (hf : ∀ k, k < m → f k < nt) (hs : ∀ v, (∃ k, k < m ∧ r k = v) ↔ ∃ k, k < m ∧ f k = v) (ha : ∀ i j, i < j → j < m → r i < r j) : (List.range' 0 nt).filter (fun v => (List.range m).any fun k => f k == v) = (List.range' 0 m).map r := by
  refine asc_eq ((List.pairwise_lt_range' (s := 0) (n := nt)).filter _) ?_ fun x => ?_
  · rw [List.pairwise_map]
    refine List.Pairwise.imp_of_mem (fun {a b} ha' hb' hab => ?_) (List.pairwise_lt_range' (s := 0) (n := m))
    rw [List.mem_range'_1] at hb'
    exact ha a b hab (by omega)
  · rw [List.mem_filter, List.mem_range'_1, List.any_eq_true, List.mem_map]
    constructor
    · rintro ⟨-, k, hk, e⟩
      obtain ⟨j, j1, j2⟩ := (hs x).mpr ⟨k, List.mem_range.mp hk, eq_of_beq e⟩
      exact ⟨j, by rw [List.mem_range'_1]; omega, j2⟩
    · rintro ⟨j, hj, e⟩
      rw [List.mem_range'_1] at hj
      obtain ⟨k, k1, k2⟩ := (hs x).mp ⟨j, by omega, e⟩
      refine ⟨⟨Nat.zero_le _, ?_⟩, k, List.mem_range.mpr k1, by rw [k2]; exact beq_self_eq_true x⟩
      have := hf k k1
      omega
