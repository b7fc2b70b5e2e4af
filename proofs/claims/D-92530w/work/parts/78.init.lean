set_option maxRecDepth 100000
/-! the two constructors -/
def lkR (R : List (Nat × Nat × Nat)) (i j : Nat) : Option Nat := match R with
  | [] => none
  | q :: R => if q.1 = i ∧ q.2.1 = j then some q.2.2 else lkR R i j
def lkV (V : List (Nat × Nat × Int32)) (i j : Nat) : Int32 := match V with
  | [] => 0
  | q :: V => if q.1 = i ∧ q.2.1 = j then q.2.2 else lkV V i j
theorem lkR_no {i j : Nat} : ∀ {R : List (Nat × Nat × Nat)}, (R.all fun q => q.1 != i) = true → lkR R i j = none
  | [], _ => rfl
  | q :: R, h => by
    simp only [List.all_cons, Bool.and_eq_true, bne_iff_ne] at h
    unfold lkR
    rw [if_neg (fun c => h.1 c.1)]
    exact lkR_no h.2
theorem lkV_no {i j : Nat} : ∀ {V : List (Nat × Nat × Int32)}, (V.all fun q => q.1 != i) = true → lkV V i j = 0
  | [], _ => rfl
  | q :: V, h => by
    simp only [List.all_cons, Bool.and_eq_true, bne_iff_ne] at h
    unfold lkV
    rw [if_neg (fun c => h.1 c.1)]
    exact lkV_no h.2
/-- a heap in the making: N cells from z on -/
def Desc (σ : St) (z N : Nat) (R : List (Nat × Nat × Nat)) (V : List (Nat × Nat × Int32)) : Prop :=
  s_z σ = z + N ∧ (∀ i, i < N → s_k σ (z + i) = kT i) ∧ (∀ a, s_k σ a ≠ none → a < z + N) ∧ (∀ i, i < N → i ≠ 39 → ∀ j, s_r σ (z + i) j = (lkR R i j).map (z + ·)) ∧ (∀ i, i < N → ∀ j, s_i σ (z + i) j = lkV V i j) ∧ (39 < N → ∀ k, k < 1024 → s_r σ (z + 39) k = some (z + 40 + k))
section DESC
variable {σ : St} {z N : Nat} {R : List (Nat × Nat × Nat)} {V : List (Nat × Nat × Int32)}
def frs (N : Nat) (R : List (Nat × Nat × Nat)) (V : List (Nat × Nat × Int32)) : Bool := (R.all fun q => q.1 != N) && (V.all fun q => q.1 != N) && (N != 39)
theorem Desc.new {k : Nat ⊕ Nat × Nat} (h : Desc σ z N R V) (hk : kT N = some k) (hf : frs N R V = true) : Desc (born σ k) z (N + 1) R V := by
  obtain ⟨h1, h2, h3, h4, h5, h6⟩ := h
  simp only [frs, Bool.and_eq_true, bne_iff_ne] at hf
  obtain ⟨⟨f1, f2⟩, f3⟩ := hf
  refine ⟨by rw [z_born, h1, Nat.add_assoc], fun i hi => ?_, fun a ha => ?_, fun i hi h39 j => ?_, fun i hi j => ?_, fun hN k hk => ?_⟩
  · rw [k_born, h1]
    by_cases c : i = N
    · rw [if_pos (by omega), c, hk]
    · rw [if_neg (by omega)]
      exact h2 i (by omega)
  · rw [k_born, h1] at ha
    by_cases c : a = z + N
    · omega
    · rw [if_neg c] at ha
      have := h3 a ha
      omega
  · rw [r_born, h1]
    by_cases c : i = N
    · rw [if_pos (by omega), c, lkR_no f1]
      rfl
    · rw [if_neg (by omega)]
      exact h4 i (by omega) h39 j
  · rw [i_born, h1]
    by_cases c : i = N
    · rw [if_pos (by omega), c, lkV_no f2]
    · rw [if_neg (by omega)]
      exact h5 i (by omega) j
  · rw [r_born, h1, if_neg (by omega)]
    exact h6 (by omega) k hk
theorem Desc.sR {o j u : Nat} (h : Desc σ z N R V) (ho : o < N) (h9 : o ≠ 39) : Desc (setR σ (z + o) j (some (z + u))) z N ((o, j, u) :: R) V := by
  obtain ⟨h1, h2, h3, h4, h5, h6⟩ := h
  refine ⟨h1, h2, h3, fun i hi h39 k => ?_, h5, fun hN k hk => ?_⟩
  · rw [r_setR]
    unfold lkR
    by_cases c : o = i ∧ j = k
    · rw [if_pos c, c.1, c.2, up2_same]
      rfl
    · rw [if_neg c, up2_ne (fun q => c ⟨by omega, q.2.symm⟩)]
      exact h4 i hi h39 k
  · rw [r_setR, up2_ne (fun q => by omega)]
    exact h6 hN k hk
theorem Desc.sI {o j : Nat} {v : Int32} (h : Desc σ z N R V) (ho : o < N) : Desc (setI σ (z + o) j v) z N R ((o, j, v) :: V) := by
  obtain ⟨h1, h2, h3, h4, h5, h6⟩ := h
  refine ⟨h1, h2, h3, h4, fun i hi k => ?_, h6⟩
  rw [i_setI]
  unfold lkV
  by_cases c : o = i ∧ j = k
  · rw [if_pos c, c.1, c.2, up2_same]
  · rw [if_neg c, up2_ne (fun q => c ⟨by omega, q.2.symm⟩)]
    exact h5 i hi k
variable {P : St → Prop}
theorem B_new {c : Nat} {K : Nat → St → Option St} (h : Desc σ z N R V) (hk : kT N = some (.inl c)) (hf : frs N R V = true) (kk : ∀ σ', Desc σ' z (N + 1) R V → ∃ τ, K (z + N) σ' = some τ ∧ P τ) : ∃ τ, o_new σ c K = some τ ∧ P τ := by
  unfold o_new
  rw [h.1]
  exact kk _ (h.new hk hf)
theorem B_newa {q n : Nat} {K : Nat → St → Option St} (h : Desc σ z N R V) (hk : kT N = some (.inr (q, n))) (hf : frs N R V = true) (kk : ∀ σ', Desc σ' z (N + 1) R V → ∃ τ, K (z + N) σ' = some τ ∧ P τ) : ∃ τ, o_newa σ q n K = some τ ∧ P τ := by
  unfold o_newa
  rw [h.1]
  exact kk _ (h.new hk hf)
theorem B_pR {a c j : Nat} {v : Option Nat} {K : St → Option St} (h : Desc σ z N R V) (o u : Nat) (ha : a = z + o) (hv : v = some (z + u)) (hk : kT o = some (.inl c)) (ho : o < N) (h9 : o ≠ 39) (kk : ∀ σ', Desc σ' z N ((o, j, u) :: R) V → ∃ τ, K σ' = some τ ∧ P τ) : ∃ τ, o_pR σ a c j v K = some τ ∧ P τ := by
  rw [ha, hv, o_pR_eq (show s_k σ (z + o) = some (.inl c) by rw [h.2.1 o ho, hk])]
  exact kk _ (h.sR ho h9)
theorem B_pI {a c j : Nat} {v : Int32} {K : St → Option St} (h : Desc σ z N R V) (o : Nat) (ha : a = z + o) (hk : kT o = some (.inl c)) (ho : o < N) (kk : ∀ σ', Desc σ' z N R ((o, j, v) :: V) → ∃ τ, K σ' = some τ ∧ P τ) : ∃ τ, o_pI σ a c j v K = some τ ∧ P τ := by
  rw [ha, o_pI_eq (show s_k σ (z + o) = some (.inl c) by rw [h.2.1 o ho, hk])]
  exact kk _ (h.sI ho)
theorem B_sI {a q n : Nat} {i v : Int32} {K : St → Option St} (h : Desc σ z N R V) (o j : Nat) (ha : a = z + o) (hi : i = nI j) (hk : kT o = some (.inr (q, n))) (hj : j < n) (hn : n < 2 ^ 31) (ho : o < N) (kk : ∀ σ', Desc σ' z N R ((o, j, v) :: V) → ∃ τ, K σ' = some τ ∧ P τ) : ∃ τ, o_sI σ a q i v K = some τ ∧ P τ := by
  rw [ha, hi, o_sI_eq (show s_k σ (z + o) = some (.inr (q, n)) by rw [h.2.1 o ho, hk]) hj hn]
  exact kk _ (h.sI ho)
theorem B_unit {f : Option Unit} {K : Unit → Option St} (hf : f = some ()) (kk : ∃ τ, K () = some τ ∧ P τ) : ∃ τ, f.bind K = some τ ∧ P τ := by
  rw [hf, sb]
  exact kk
theorem B_sub {f : Option St} {K : St → Option St} {Q : St → Prop} (hf : ∃ τ, f = some τ ∧ Q τ) (kk : ∀ τ, Q τ → ∃ ρ, K τ = some ρ ∧ P ρ) : ∃ ρ, f.bind K = some ρ ∧ P ρ := by
  obtain ⟨τ, h1, h2⟩ := hf
  rw [h1, sb]
  exact kk τ h2
theorem B_grid {K : Nat → St → Option St} (h : Desc σ z 39 R V) (hf : ((R.all fun q => decide (q.1 < 39)) && (V.all fun q => decide (q.1 < 39))) = true) (kk : ∀ σ', Desc σ' z 1064 R V → ∃ τ, K (z + 39) σ' = some τ ∧ P τ) : ∃ τ, o_grid σ 11 0 1024 10 K = some τ ∧ P τ := by
  obtain ⟨h1, h2, h3, h4, h5, -⟩ := h
  simp only [Bool.and_eq_true] at hf
  have noR : ∀ i j, 39 ≤ i → lkR R i j = none := fun i j hi => lkR_no (List.all_eq_true.mpr fun q hq => by
    have := of_decide_eq_true (List.all_eq_true.mp hf.1 q hq)
    rw [bne_iff_ne]
    omega)
  have noV : ∀ i j, 39 ≤ i → lkV V i j = 0 := fun i j hi => lkV_no (List.all_eq_true.mpr fun q hq => by
    have := of_decide_eq_true (List.all_eq_true.mp hf.2 q hq)
    rw [bne_iff_ne]
    omega)
  unfold o_grid
  rw [h1]
  refine kk _ ⟨?_, fun i hi => ?_, fun a ha => ?_, fun i hi h39 j => ?_, fun i hi j => ?_, fun _ k hk => ?_⟩
  · show s_z σ + 1 + 1024 = _
    rw [h1]
  · show (if z + i = s_z σ then some (.inr (11, 1024)) else if s_z σ < z + i ∧ z + i < s_z σ + 1 + 1024 then some (.inr (0, 10)) else s_k σ (z + i)) = _
    rw [h1]
    by_cases c : i = 39
    · rw [if_pos (by omega), c]
      rfl
    · rw [if_neg (by omega)]
      by_cases c2 : 39 < i
      · rw [if_pos (by omega)]
        unfold kT
        rw [if_pos (by omega)]
      · rw [if_neg (by omega)]
        exact h2 i (by omega)
  · have ha : (if a = s_z σ then some (.inr (11, 1024)) else if s_z σ < a ∧ a < s_z σ + 1 + 1024 then some (.inr (0, 10)) else s_k σ a) ≠ none := ha
    rw [h1] at ha
    by_cases c : a = z + 39
    · omega
    · by_cases c2 : z + 39 < a ∧ a < z + 39 + 1 + 1024
      · omega
      · rw [if_neg c, if_neg c2] at ha
        have := h3 a ha
        omega
  · show (if z + i = s_z σ then _ else if s_z σ < z + i ∧ z + i < s_z σ + 1 + 1024 then none else s_r σ (z + i) j) = _
    rw [h1, if_neg (by omega)]
    by_cases c2 : 39 < i
    · rw [if_pos (by omega), noR i j (by omega)]
      rfl
    · rw [if_neg (by omega)]
      exact h4 i (by omega) h39 j
  · show (if s_z σ ≤ z + i ∧ z + i < s_z σ + 1 + 1024 then 0 else s_i σ (z + i) j) = _
    rw [h1]
    by_cases c2 : 39 ≤ i
    · rw [if_pos (by omega), noV i j c2]
    · rw [if_neg (by omega)]
      exact h5 i (by omega) j
  · show (if z + 39 = s_z σ then (if k < 1024 then some (s_z σ + 1 + k) else none) else _) = _
    rw [h1, if_pos rfl, if_pos hk]
end DESC
def RX : List (Nat × Nat × Nat) := [(0, 32, 39), (0, 30, 38), (0, 28, 37), (0, 26, 36), (0, 25, 35), (0, 24, 34), (0, 22, 33), (0, 21, 32), (0, 20, 31), (0, 18, 30), (0, 17, 29), (0, 16, 28), (0, 15, 27), (0, 14, 26), (0, 13, 25), (25, 3, 0), (0, 11, 24), (0, 10, 23), (0, 9, 22), (0, 8, 14), (14, 7, 21), (14, 6, 20), (14, 5, 19), (14, 4, 18), (14, 3, 17), (14, 2, 16), (14, 1, 15), (14, 8, 0), (0, 7, 6), (6, 7, 13), (6, 6, 12), (6, 5, 11), (6, 4, 10), (6, 3, 9), (6, 2, 8), (6, 1, 7), (6, 8, 0), (0, 6, 5), (0, 4, 4), (0, 2, 3), (0, 1, 2), (0, 0, 1)]
def VX : List (Nat × Nat × Int32) := [(19, 5, (-1)), (19, 4, (-1)), (19, 3, (-1)), (19, 2, (-1)), (19, 1, (-1)), (19, 0, (-1)), (11, 5, (-1)), (11, 4, (-1)), (11, 3, (-1)), (11, 2, (-1)), (11, 1, (-1)), (11, 0, (-1)), (5, 4, 0), (5, 3, 8), (5, 2, 15), (5, 1, 10), (5, 0, 20)]
theorem initX {σ : St} {z : Nat} (h : Desc σ z 1 [] []) : ∃ τ, fX0_init σ z = some τ ∧ Desc τ z 1064 RX VX := by
  unfold fX0_init
  refine B_new h rfl (by decide) fun _ h => ?_
  refine B_unit rfl ?_
  refine B_pR h 0 1 rfl rfl rfl (by decide) (by decide) fun _ h => ?_
  refine B_new h rfl (by decide) fun _ h => ?_
  refine B_unit rfl ?_
  refine B_pR h 0 2 rfl rfl rfl (by decide) (by decide) fun _ h => ?_
  refine B_newa h rfl (by decide) fun _ h => ?_
  refine B_pR h 0 3 rfl rfl rfl (by decide) (by decide) fun _ h => ?_
  refine B_newa h rfl (by decide) fun _ h => ?_
  refine B_pR h 0 4 rfl rfl rfl (by decide) (by decide) fun _ h => ?_
  refine B_newa h rfl (by decide) fun _ h => ?_
  refine B_sI h 5 0 rfl rfl rfl (by decide) (by decide) (by decide) fun _ h => ?_
  refine B_sI h 5 1 rfl rfl rfl (by decide) (by decide) (by decide) fun _ h => ?_
  refine B_sI h 5 2 rfl rfl rfl (by decide) (by decide) (by decide) fun _ h => ?_
  refine B_sI h 5 3 rfl rfl rfl (by decide) (by decide) (by decide) fun _ h => ?_
  refine B_sI h 5 4 rfl rfl rfl (by decide) (by decide) (by decide) fun _ h => ?_
  refine B_pR h 0 5 rfl rfl rfl (by decide) (by decide) fun _ h => ?_
  refine B_new h rfl (by decide) fun _ h => ?_
  refine B_sub (Q := fun τ => Desc τ z 14 [(6, 7, 13), (6, 6, 12), (6, 5, 11), (6, 4, 10), (6, 3, 9), (6, 2, 8), (6, 1, 7), (6, 8, 0), (0, 6, 5), (0, 4, 4), (0, 2, 3), (0, 1, 2), (0, 0, 1)] [(11, 5, (-1)), (11, 4, (-1)), (11, 3, (-1)), (11, 2, (-1)), (11, 1, (-1)), (11, 0, (-1)), (5, 4, 0), (5, 3, 8), (5, 2, 15), (5, 1, 10), (5, 0, 20)]) ?_ fun _ h => ?_
  · unfold fX5_init
    refine B_pR h 6 0 rfl rfl rfl (by decide) (by decide) fun _ h => ?_
    refine B_newa h rfl (by decide) fun _ h => ?_
    refine B_pR h 6 7 rfl rfl rfl (by decide) (by decide) fun _ h => ?_
    refine B_newa h rfl (by decide) fun _ h => ?_
    refine B_pR h 6 8 rfl rfl rfl (by decide) (by decide) fun _ h => ?_
    refine B_newa h rfl (by decide) fun _ h => ?_
    refine B_pR h 6 9 rfl rfl rfl (by decide) (by decide) fun _ h => ?_
    refine B_newa h rfl (by decide) fun _ h => ?_
    refine B_pR h 6 10 rfl rfl rfl (by decide) (by decide) fun _ h => ?_
    refine B_newa h rfl (by decide) fun _ h => ?_
    refine B_sI h 11 0 rfl rfl rfl (by decide) (by decide) (by decide) fun _ h => ?_
    refine B_sI h 11 1 rfl rfl rfl (by decide) (by decide) (by decide) fun _ h => ?_
    refine B_sI h 11 2 rfl rfl rfl (by decide) (by decide) (by decide) fun _ h => ?_
    refine B_sI h 11 3 rfl rfl rfl (by decide) (by decide) (by decide) fun _ h => ?_
    refine B_sI h 11 4 rfl rfl rfl (by decide) (by decide) (by decide) fun _ h => ?_
    refine B_sI h 11 5 rfl rfl rfl (by decide) (by decide) (by decide) fun _ h => ?_
    refine B_pR h 6 11 rfl rfl rfl (by decide) (by decide) fun _ h => ?_
    refine B_newa h rfl (by decide) fun _ h => ?_
    refine B_pR h 6 12 rfl rfl rfl (by decide) (by decide) fun _ h => ?_
    refine B_newa h rfl (by decide) fun _ h => ?_
    refine B_pR h 6 13 rfl rfl rfl (by decide) (by decide) fun _ h => ?_
    exact ⟨_, rfl, h⟩
  refine B_pR h 0 6 rfl rfl rfl (by decide) (by decide) fun _ h => ?_
  refine B_new h rfl (by decide) fun _ h => ?_
  refine B_sub (Q := fun τ => Desc τ z 22 [(14, 7, 21), (14, 6, 20), (14, 5, 19), (14, 4, 18), (14, 3, 17), (14, 2, 16), (14, 1, 15), (14, 8, 0), (0, 7, 6), (6, 7, 13), (6, 6, 12), (6, 5, 11), (6, 4, 10), (6, 3, 9), (6, 2, 8), (6, 1, 7), (6, 8, 0), (0, 6, 5), (0, 4, 4), (0, 2, 3), (0, 1, 2), (0, 0, 1)] [(19, 5, (-1)), (19, 4, (-1)), (19, 3, (-1)), (19, 2, (-1)), (19, 1, (-1)), (19, 0, (-1)), (11, 5, (-1)), (11, 4, (-1)), (11, 3, (-1)), (11, 2, (-1)), (11, 1, (-1)), (11, 0, (-1)), (5, 4, 0), (5, 3, 8), (5, 2, 15), (5, 1, 10), (5, 0, 20)]) ?_ fun _ h => ?_
  · unfold fX5_init
    refine B_pR h 14 0 rfl rfl rfl (by decide) (by decide) fun _ h => ?_
    refine B_newa h rfl (by decide) fun _ h => ?_
    refine B_pR h 14 15 rfl rfl rfl (by decide) (by decide) fun _ h => ?_
    refine B_newa h rfl (by decide) fun _ h => ?_
    refine B_pR h 14 16 rfl rfl rfl (by decide) (by decide) fun _ h => ?_
    refine B_newa h rfl (by decide) fun _ h => ?_
    refine B_pR h 14 17 rfl rfl rfl (by decide) (by decide) fun _ h => ?_
    refine B_newa h rfl (by decide) fun _ h => ?_
    refine B_pR h 14 18 rfl rfl rfl (by decide) (by decide) fun _ h => ?_
    refine B_newa h rfl (by decide) fun _ h => ?_
    refine B_sI h 19 0 rfl rfl rfl (by decide) (by decide) (by decide) fun _ h => ?_
    refine B_sI h 19 1 rfl rfl rfl (by decide) (by decide) (by decide) fun _ h => ?_
    refine B_sI h 19 2 rfl rfl rfl (by decide) (by decide) (by decide) fun _ h => ?_
    refine B_sI h 19 3 rfl rfl rfl (by decide) (by decide) (by decide) fun _ h => ?_
    refine B_sI h 19 4 rfl rfl rfl (by decide) (by decide) (by decide) fun _ h => ?_
    refine B_sI h 19 5 rfl rfl rfl (by decide) (by decide) (by decide) fun _ h => ?_
    refine B_pR h 14 19 rfl rfl rfl (by decide) (by decide) fun _ h => ?_
    refine B_newa h rfl (by decide) fun _ h => ?_
    refine B_pR h 14 20 rfl rfl rfl (by decide) (by decide) fun _ h => ?_
    refine B_newa h rfl (by decide) fun _ h => ?_
    refine B_pR h 14 21 rfl rfl rfl (by decide) (by decide) fun _ h => ?_
    exact ⟨_, rfl, h⟩
  refine B_pR h 0 14 rfl rfl rfl (by decide) (by decide) fun _ h => ?_
  refine B_newa h rfl (by decide) fun _ h => ?_
  refine B_pR h 0 22 rfl rfl rfl (by decide) (by decide) fun _ h => ?_
  refine B_newa h rfl (by decide) fun _ h => ?_
  refine B_pR h 0 23 rfl rfl rfl (by decide) (by decide) fun _ h => ?_
  refine B_newa h rfl (by decide) fun _ h => ?_
  refine B_pR h 0 24 rfl rfl rfl (by decide) (by decide) fun _ h => ?_
  refine B_new h rfl (by decide) fun _ h => ?_
  refine B_sub (Q := fun τ => Desc τ z 26 [(25, 3, 0), (0, 11, 24), (0, 10, 23), (0, 9, 22), (0, 8, 14), (14, 7, 21), (14, 6, 20), (14, 5, 19), (14, 4, 18), (14, 3, 17), (14, 2, 16), (14, 1, 15), (14, 8, 0), (0, 7, 6), (6, 7, 13), (6, 6, 12), (6, 5, 11), (6, 4, 10), (6, 3, 9), (6, 2, 8), (6, 1, 7), (6, 8, 0), (0, 6, 5), (0, 4, 4), (0, 2, 3), (0, 1, 2), (0, 0, 1)] [(19, 5, (-1)), (19, 4, (-1)), (19, 3, (-1)), (19, 2, (-1)), (19, 1, (-1)), (19, 0, (-1)), (11, 5, (-1)), (11, 4, (-1)), (11, 3, (-1)), (11, 2, (-1)), (11, 1, (-1)), (11, 0, (-1)), (5, 4, 0), (5, 3, 8), (5, 2, 15), (5, 1, 10), (5, 0, 20)]) ?_ fun _ h => ?_
  · unfold fX6_init
    refine B_pR h 25 0 rfl rfl rfl (by decide) (by decide) fun _ h => ?_
    exact ⟨_, rfl, h⟩
  refine B_pR h 0 25 rfl rfl rfl (by decide) (by decide) fun _ h => ?_
  refine B_newa h rfl (by decide) fun _ h => ?_
  refine B_pR h 0 26 rfl rfl rfl (by decide) (by decide) fun _ h => ?_
  refine B_newa h rfl (by decide) fun _ h => ?_
  refine B_pR h 0 27 rfl rfl rfl (by decide) (by decide) fun _ h => ?_
  refine B_newa h rfl (by decide) fun _ h => ?_
  refine B_pR h 0 28 rfl rfl rfl (by decide) (by decide) fun _ h => ?_
  refine B_newa h rfl (by decide) fun _ h => ?_
  refine B_pR h 0 29 rfl rfl rfl (by decide) (by decide) fun _ h => ?_
  refine B_newa h rfl (by decide) fun _ h => ?_
  refine B_pR h 0 30 rfl rfl rfl (by decide) (by decide) fun _ h => ?_
  refine B_newa h rfl (by decide) fun _ h => ?_
  refine B_pR h 0 31 rfl rfl rfl (by decide) (by decide) fun _ h => ?_
  refine B_newa h rfl (by decide) fun _ h => ?_
  refine B_pR h 0 32 rfl rfl rfl (by decide) (by decide) fun _ h => ?_
  refine B_newa h rfl (by decide) fun _ h => ?_
  refine B_pR h 0 33 rfl rfl rfl (by decide) (by decide) fun _ h => ?_
  refine B_newa h rfl (by decide) fun _ h => ?_
  refine B_pR h 0 34 rfl rfl rfl (by decide) (by decide) fun _ h => ?_
  refine B_newa h rfl (by decide) fun _ h => ?_
  refine B_pR h 0 35 rfl rfl rfl (by decide) (by decide) fun _ h => ?_
  refine B_newa h rfl (by decide) fun _ h => ?_
  refine B_pR h 0 36 rfl rfl rfl (by decide) (by decide) fun _ h => ?_
  refine B_newa h rfl (by decide) fun _ h => ?_
  refine B_pR h 0 37 rfl rfl rfl (by decide) (by decide) fun _ h => ?_
  refine B_newa h rfl (by decide) fun _ h => ?_
  refine B_pR h 0 38 rfl rfl rfl (by decide) (by decide) fun _ h => ?_
  refine B_grid h (by decide) fun _ h => ?_
  refine B_pR h 0 39 rfl rfl rfl (by decide) (by decide) fun _ h => ?_
  exact ⟨_, rfl, h⟩
theorem initM {σ : St} {z : Nat} (h : Desc σ z 1065 RX VX) : ∃ τ, fX7_init σ (z + 1064) = some τ ∧ Desc τ z 1094 ([(1064, 49, 1093), (1064, 48, 1092), (1064, 46, 1091), (1064, 44, 1090), (1064, 42, 1089), (1064, 41, 1088), (1064, 40, 1087), (1064, 39, 1086), (1064, 37, 1085), (1064, 36, 1084), (1064, 34, 1083), (1064, 33, 1082), (1064, 32, 1081), (1064, 31, 1080), (1064, 30, 1079), (1064, 29, 1078), (1064, 28, 1077), (1064, 27, 1076), (1064, 19, 1075), (1064, 12, 1074), (1064, 11, 1073), (1064, 10, 1072), (1064, 9, 1071), (1064, 8, 1070), (1064, 6, 1069), (1064, 5, 1068), (1064, 4, 1067), (1064, 3, 1066), (1064, 2, 1065)] ++ RX) ([(1064, 16, 8), (1064, 15, 15), (1064, 14, 10), (1064, 13, 20)] ++ VX) := by
  unfold fX7_init
  refine B_newa h rfl (by decide) fun _ h => ?_
  refine B_pR h 1064 1065 rfl rfl rfl (by decide) (by decide) fun _ h => ?_
  refine B_newa h rfl (by decide) fun _ h => ?_
  refine B_pR h 1064 1066 rfl rfl rfl (by decide) (by decide) fun _ h => ?_
  refine B_newa h rfl (by decide) fun _ h => ?_
  refine B_pR h 1064 1067 rfl rfl rfl (by decide) (by decide) fun _ h => ?_
  refine B_newa h rfl (by decide) fun _ h => ?_
  refine B_pR h 1064 1068 rfl rfl rfl (by decide) (by decide) fun _ h => ?_
  refine B_newa h rfl (by decide) fun _ h => ?_
  refine B_pR h 1064 1069 rfl rfl rfl (by decide) (by decide) fun _ h => ?_
  refine B_newa h rfl (by decide) fun _ h => ?_
  refine B_pR h 1064 1070 rfl rfl rfl (by decide) (by decide) fun _ h => ?_
  refine B_newa h rfl (by decide) fun _ h => ?_
  refine B_pR h 1064 1071 rfl rfl rfl (by decide) (by decide) fun _ h => ?_
  refine B_newa h rfl (by decide) fun _ h => ?_
  refine B_pR h 1064 1072 rfl rfl rfl (by decide) (by decide) fun _ h => ?_
  refine B_newa h rfl (by decide) fun _ h => ?_
  refine B_pR h 1064 1073 rfl rfl rfl (by decide) (by decide) fun _ h => ?_
  refine B_newa h rfl (by decide) fun _ h => ?_
  refine B_pR h 1064 1074 rfl rfl rfl (by decide) (by decide) fun _ h => ?_
  refine B_pI h 1064 rfl rfl (by decide) fun _ h => ?_
  refine B_pI h 1064 rfl rfl (by decide) fun _ h => ?_
  refine B_pI h 1064 rfl rfl (by decide) fun _ h => ?_
  refine B_pI h 1064 rfl rfl (by decide) fun _ h => ?_
  refine B_newa h rfl (by decide) fun _ h => ?_
  refine B_pR h 1064 1075 rfl rfl rfl (by decide) (by decide) fun _ h => ?_
  refine B_newa h rfl (by decide) fun _ h => ?_
  refine B_pR h 1064 1076 rfl rfl rfl (by decide) (by decide) fun _ h => ?_
  refine B_newa h rfl (by decide) fun _ h => ?_
  refine B_pR h 1064 1077 rfl rfl rfl (by decide) (by decide) fun _ h => ?_
  refine B_newa h rfl (by decide) fun _ h => ?_
  refine B_pR h 1064 1078 rfl rfl rfl (by decide) (by decide) fun _ h => ?_
  refine B_newa h rfl (by decide) fun _ h => ?_
  refine B_pR h 1064 1079 rfl rfl rfl (by decide) (by decide) fun _ h => ?_
  refine B_newa h rfl (by decide) fun _ h => ?_
  refine B_pR h 1064 1080 rfl rfl rfl (by decide) (by decide) fun _ h => ?_
  refine B_newa h rfl (by decide) fun _ h => ?_
  refine B_pR h 1064 1081 rfl rfl rfl (by decide) (by decide) fun _ h => ?_
  refine B_newa h rfl (by decide) fun _ h => ?_
  refine B_pR h 1064 1082 rfl rfl rfl (by decide) (by decide) fun _ h => ?_
  refine B_newa h rfl (by decide) fun _ h => ?_
  refine B_pR h 1064 1083 rfl rfl rfl (by decide) (by decide) fun _ h => ?_
  refine B_newa h rfl (by decide) fun _ h => ?_
  refine B_pR h 1064 1084 rfl rfl rfl (by decide) (by decide) fun _ h => ?_
  refine B_newa h rfl (by decide) fun _ h => ?_
  refine B_pR h 1064 1085 rfl rfl rfl (by decide) (by decide) fun _ h => ?_
  refine B_newa h rfl (by decide) fun _ h => ?_
  refine B_pR h 1064 1086 rfl rfl rfl (by decide) (by decide) fun _ h => ?_
  refine B_newa h rfl (by decide) fun _ h => ?_
  refine B_pR h 1064 1087 rfl rfl rfl (by decide) (by decide) fun _ h => ?_
  refine B_newa h rfl (by decide) fun _ h => ?_
  refine B_pR h 1064 1088 rfl rfl rfl (by decide) (by decide) fun _ h => ?_
  refine B_newa h rfl (by decide) fun _ h => ?_
  refine B_pR h 1064 1089 rfl rfl rfl (by decide) (by decide) fun _ h => ?_
  refine B_newa h rfl (by decide) fun _ h => ?_
  refine B_pR h 1064 1090 rfl rfl rfl (by decide) (by decide) fun _ h => ?_
  refine B_newa h rfl (by decide) fun _ h => ?_
  refine B_pR h 1064 1091 rfl rfl rfl (by decide) (by decide) fun _ h => ?_
  refine B_newa h rfl (by decide) fun _ h => ?_
  refine B_pR h 1064 1092 rfl rfl rfl (by decide) (by decide) fun _ h => ?_
  refine B_newa h rfl (by decide) fun _ h => ?_
  refine B_pR h 1064 1093 rfl rfl rfl (by decide) (by decide) fun _ h => ?_
  exact ⟨_, rfl, h⟩
def RA : List (Nat × Nat × Nat) := [(1064, 49, 1093), (1064, 48, 1092), (1064, 46, 1091), (1064, 44, 1090), (1064, 42, 1089), (1064, 41, 1088), (1064, 40, 1087), (1064, 39, 1086), (1064, 37, 1085), (1064, 36, 1084), (1064, 34, 1083), (1064, 33, 1082), (1064, 32, 1081), (1064, 31, 1080), (1064, 30, 1079), (1064, 29, 1078), (1064, 28, 1077), (1064, 27, 1076), (1064, 19, 1075), (1064, 12, 1074), (1064, 11, 1073), (1064, 10, 1072), (1064, 9, 1071), (1064, 8, 1070), (1064, 6, 1069), (1064, 5, 1068), (1064, 4, 1067), (1064, 3, 1066), (1064, 2, 1065)] ++ RX
def VA : List (Nat × Nat × Int32) := [(1064, 16, 8), (1064, 15, 15), (1064, 14, 10), (1064, 13, 20)] ++ VX
theorem ra_ok : (rTL.all fun q => decide (lkR RA q.1 q.2.1 = some q.2.2)) = true := by decide +kernel
theorem init_inv {σ : St} {z : Nat} (hz : s_z σ = z) (hk : ∀ a, s_k σ a = none) : ∃ σ1 σ2, fX0_init (born σ (.inl 0)) z = some σ1 ∧ s_z σ1 = z + 1064 ∧ fX7_init (born σ1 (.inl 5)) (z + 1064) = some σ2 ∧ Inv σ2 z := by
  have d1 : Desc (born σ (.inl 0)) z 1 [] [] := by
    refine ⟨by rw [z_born, hz], fun i hi => ?_, fun a ha => ?_, fun i hi h39 j => ?_, fun i hi j => ?_, fun h => by omega⟩
    · have : i = 0 := by omega
      subst this
      rw [k_born, hz, if_pos (Nat.add_zero z)]
      rfl
    · rw [k_born, hz] at ha
      by_cases c : a = z
      · omega
      · rw [if_neg c, hk] at ha
        exact absurd rfl ha
    · have : i = 0 := by omega
      subst this
      rw [r_born, hz, if_pos (Nat.add_zero z)]
      rfl
    · have : i = 0 := by omega
      subst this
      rw [i_born, hz, if_pos (Nat.add_zero z)]
      rfl
  obtain ⟨σ1, x1, x2⟩ := initX d1
  obtain ⟨σ2, y1, y2⟩ := initM (x2.new (k := .inl 5) rfl (by decide))
  refine ⟨σ1, σ2, x1, x2.1, y1, 0, 0, 0, ?_⟩
  have y2 : Desc σ2 z 1094 RA VA := y2
  obtain ⟨h1, h2, h3, h4, h5, h6⟩ := y2
  have vi : ∀ i j v, i < 1094 → lkV VA i j = v → s_i σ2 (z + i) j = v := fun i j v hi hv => by rw [h5 i hi j, hv]
  have v0 : ∀ i, i < 1094 → (VA.all fun q => q.1 != i) = true → ∀ j, s_i σ2 (z + i) j = 0 := fun i hi hv j => by rw [h5 i hi j, lkV_no hv]
  have rn : ∀ i, i < 1094 → i ≠ 39 → (RA.all fun q => q.1 != i) = true → ∀ j, s_r σ2 (z + i) j = none := fun i hi h39 hr j => by
    rw [h4 i hi h39 j, lkR_no hr]
    rfl
  have hS : Sh σ2 z := by
    refine ⟨h2, fun q hq => ?_, h6 (by decide), by omega, fun a ha => by have := h3 a ha; omega⟩
    have e := of_decide_eq_true (List.all_eq_true.mp ra_ok q hq)
    have lt : q.1 < 1094 ∧ q.1 ≠ 39 := by
      have : (rTL.all fun q => decide (q.1 < 1094 ∧ q.1 ≠ 39)) = true := by decide +kernel
      exact of_decide_eq_true (List.all_eq_true.mp this q hq)
    rw [h4 q.1 lt.1 lt.2, e]
    rfl
  have z0 : ∀ j v, lkV VA 0 j = v → s_i σ2 z j = v := fun j v hv => vi 0 j v (by decide) hv
  refine ⟨hS, ⟨⟨by decide, z0 3 0 rfl, vi 1064 1 0 (by decide) rfl⟩, fun h hh => absurd hh (Nat.not_lt_zero h)⟩, ⟨by decide, z0 5 0 rfl, vi 1064 7 0 (by decide) rfl, fun t ht => absurd ht (Nat.not_lt_zero t)⟩, ⟨?_, ⟨fun h hh => absurd hh (Nat.not_lt_zero h), fun t ht => absurd ht (Nat.not_lt_zero t)⟩, fun h hh => absurd hh (Nat.not_lt_zero h), fun h _ hh => ⟨v0 8 (by decide) (by decide) h, v0 9 (by decide) (by decide) h, ?_⟩⟩, ⟨fun h hh => absurd hh (Nat.not_lt_zero h), fun h _ _ => rn 22 (by decide) (by decide) (by decide) h⟩, fun v _ => Or.inl ⟨rn 23 (by decide) (by decide) (by decide) v, v0 1079 (by decide) (by decide) v⟩, ?_, ⟨0, by decide, z0 12 0 rfl, vi 1064 18 0 (by decide) rfl, fun i hi => absurd hi (Nat.not_lt_zero i)⟩, ⟨0, by decide, z0 27 0 rfl, vi 1064 43 0 (by decide) rfl, fun i hi => absurd hi (Nat.not_lt_zero i)⟩, ⟨0, by decide, z0 29 0 rfl, vi 1064 45 0 (by decide) rfl, fun i hi => absurd hi (Nat.not_lt_zero i)⟩, ⟨by decide, z0 31 0 rfl, vi 1064 47 0 (by decide) rfl, fun i hi => absurd hi (Nat.not_lt_zero i)⟩, ⟨0, fun _ => 0, fun _ => 0, by decide, z0 19 0 rfl, vi 1064 35 0 (by decide) rfl, fun i hi => absurd hi (Nat.not_lt_zero i)⟩, ⟨0, by decide, z0 23 0 rfl, vi 1064 38 0 (by decide) rfl, fun g => ?_, fun g => ?_, fun g => ?_⟩⟩
  · rw [vi 6 0 0 (by decide) rfl, vi 1064 0 0 (by decide) rfl]
  · have h6 : h = 0 ∨ h = 1 ∨ h = 2 ∨ h = 3 ∨ h = 4 ∨ h = 5 := by omega
    rcases h6 with rfl | rfl | rfl | rfl | rfl | rfl <;> exact vi 11 _ (-1) (by decide) rfl
  · refine ⟨?_, ?_, ?_, ?_, ?_⟩
    · rw [vi 5 0 20 (by decide) rfl, vi 1064 13 20 (by decide) rfl]
    · rw [vi 5 1 10 (by decide) rfl, vi 1064 14 10 (by decide) rfl]
    · rw [vi 5 2 15 (by decide) rfl, vi 1064 15 15 (by decide) rfl]
    · rw [vi 5 3 8 (by decide) rfl, vi 1064 16 8 (by decide) rfl]
    · rw [vi 5 4 0 (by decide) rfl, vi 1064 17 0 (by decide) rfl]
  · rw [v0 31 (by decide) (by decide), v0 1086 (by decide) (by decide)]
  · rw [v0 32 (by decide) (by decide), v0 1087 (by decide) (by decide)]
  · rw [v0 33 (by decide) (by decide), v0 1088 (by decide) (by decide)]
