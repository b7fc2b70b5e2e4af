set_option maxRecDepth 100000
/-! the evenest row -/
def EvA (w : Nat → Nat) (z e m nt : Nat) (non : Int32) (a : Option (List Nat)) (x : Int32) (σ : St) : Prop := match a with
  | none => x = non
  | some q => x = nI (kN w q) ∧ q.length = m ∧ (∀ u ∈ q, u < nt) ∧ OrP z e q σ
theorem EvA.set {w : Nat → Nat} {z e m nt : Nat} {non : Int32} {a : Option (List Nat)} {x : Int32} {σ : St} (h : EvA w z e m nt non a x σ) {o j : Nat} (ho : o ≠ e) (v : Int32) : EvA w z e m nt non a x (setI σ (z + o) j v) := by
  cases a with
  | none => exact h
  | some q =>
    obtain ⟨h1, h2, h3, h4⟩ := h
    refine ⟨h1, h2, h3, fun i hi => ?_⟩
    rw [gi_ne (by omega)]
    exact h4 i hi
def Wt (σ : St) (z nt : Nat) (w : Nat → Nat) : Prop := ∀ t, t < nt → s_i σ (z + 1073) t = nI (w t) ∧ w t ≤ 9
theorem wt_ex {σ : St} {z nt : Nat} (hT : Th σ z nt) : ∃ w, Wt σ z nt w := by
  refine ⟨fun t => (s_i σ (z + 1073) t).toNatClampNeg, fun t ht => ?_⟩
  obtain ⟨p, -, -, -, -, -, -, s, s1, s2⟩ := hT.2.2.2 t ht
  show s_i σ (z + 1073) t = nI ((s_i σ (z + 1073) t).toNatClampNeg) ∧ (s_i σ (z + 1073) t).toNatClampNeg ≤ 9
  rw [s2, nI_clamp (by omega)]
  exact ⟨rfl, s1⟩
section EVEN
variable {σ τ : St} {z nt m : Nat} {w f : Nat → Nat}
theorem unev_kN (hw : Wt τ z nt w) {p : List Nat} (hp : p.length ≤ 7) (hu : ∀ u ∈ p, u < nt) : unS (s_i τ (z + 1073)) (fun i => p.getD i 0) p.length = nI (kN w p) ∧ kN w p ≤ 28000 := by
  obtain ⟨h1, h2⟩ := unS_unN (s := s_i τ (z + 1073)) (w := w) (g := fun i => p.getD i 0) p.length hp (fun i hi => hw _ (hu _ (mem_getD.mpr ⟨i, hi, rfl⟩)))
  refine ⟨h1, ?_⟩
  unfold kN
  omega
theorem isInHand_eq (hT : Sh τ z) (h7 : m ≤ 7) (h40 : nt ≤ 40) (hf : ∀ k, k < m → s_i τ (z + 26) k = nI (f k) ∧ f k < nt) {v : Nat} (hv : v ≤ nt) : fX0_isInHand τ z (nI v) (nI m) = some (if ((List.range m).any fun k => f k == v) = true then 1 else 0) := by
  obtain ⟨N, hN, hlo, hhi⟩ := first_ex (fun k => f k = v) m
  have stp : ∀ k, k < N → lX0_isInHand_2 (nI m) τ z (nI v) (nI k) = some (.inl (nI (k + 1))) := by
    intro k hk
    have h1 := hf k (by omega)
    unfold lX0_isInHand_2
    rw [if_neg (nI_ge (by omega) (by omega)), e_0_14 hT, a_26 hT (by omega), h1.1, if_neg (fun q => hlo k hk ((nI_eq (by omega) (by omega)).mp q)), nI_1]
  unfold fX0_isInHand
  by_cases c : N < m
  · have h1 := hf N c
    have : loopF fuel (fun y => lX0_isInHand_2 (nI m) τ z (nI v) y) 0 = some (.inl ()) := by
      refine loopF_seq (st := fun k => nI k) N stp ?_ fuel (fuel_lt (by omega))
      show lX0_isInHand_2 (nI m) τ z (nI v) (nI N) = _
      unfold lX0_isInHand_2
      rw [if_neg (nI_ge (by omega) (by omega)), e_0_14 hT, a_26 hT (by omega), h1.1, hhi c, if_pos rfl]
    rw [this, sb, if_pos (List.any_eq_true.mpr ⟨N, List.mem_range.mpr c, by rw [hhi c]; exact beq_self_eq_true v⟩)]
    rfl
  · have : loopF fuel (fun y => lX0_isInHand_2 (nI m) τ z (nI v) y) 0 = some (.inr ()) := by
      refine loopF_seq (st := fun k => nI k) N stp ?_ fuel (fuel_lt (by omega))
      show lX0_isInHand_2 (nI m) τ z (nI v) (nI N) = _
      unfold lX0_isInHand_2
      rw [if_pos (nI_le (by omega) (by omega))]
    rw [this, sb, if_neg (fun q => by
      obtain ⟨k, k1, k2⟩ := List.any_eq_true.mp q
      exact hlo k (by have := List.mem_range.mp k1; omega) (eq_of_beq k2))]
    rfl
theorem hasAhead_eq (hT : Sh τ z) {pre : List Nat} {v : Nat} (hl : pre.length < 7) (hu : ∀ u ∈ pre, u < 40) (hv : v ≤ 40) (ho : OrP z 27 (pre ++ [v]) τ) : fX0_hasAhead τ (z + 27) (nI pre.length) = some (if pre.contains v = true then 1 else 0) := by
  have r1 : ∀ i, i < pre.length → s_i τ (z + 27) i = nI (pre.getD i 0) := fun i hi => by rw [ho i (by rw [len1]; omega), gD_l hi]
  have r2 : s_i τ (z + 27) pre.length = nI v := by rw [ho pre.length (by rw [len1]; omega), gD_r]
  have r3 : ∀ i, i < pre.length → pre.getD i 0 < 40 := fun i hi => hu _ (mem_getD.mpr ⟨i, hi, rfl⟩)
  obtain ⟨N, hN, hlo, hhi⟩ := first_ex (fun k => pre.getD k 0 = v) pre.length
  have stp : ∀ k, k < N → lX0_hasAhead_2 (nI pre.length) τ (z + 27) (nI k) = some (.inl (nI (k + 1))) := by
    intro k hk
    have h1 := r3 k (by omega)
    unfold lX0_hasAhead_2
    rw [if_neg (nI_ge (by omega) (by omega)), a_27 hT (by omega), a_27 hT (by omega), r1 k (by omega), r2, if_neg (fun q => hlo k hk ((nI_eq (by omega) (by omega)).mp q)), nI_1]
  unfold fX0_hasAhead
  by_cases c : N < pre.length
  · have : loopF fuel (fun y => lX0_hasAhead_2 (nI pre.length) τ (z + 27) y) 0 = some (.inl ()) := by
      refine loopF_seq (st := fun k => nI k) N stp ?_ fuel (fuel_lt (by omega))
      show lX0_hasAhead_2 (nI pre.length) τ (z + 27) (nI N) = _
      unfold lX0_hasAhead_2
      rw [if_neg (nI_ge (by omega) (by omega)), a_27 hT (by omega), a_27 hT (by omega), r1 N c, r2, hhi c, if_pos rfl]
    rw [this, sb, if_pos (by rw [List.contains_iff_mem]; exact mem_getD.mpr ⟨N, c, hhi c⟩)]
    rfl
  · have : loopF fuel (fun y => lX0_hasAhead_2 (nI pre.length) τ (z + 27) y) 0 = some (.inr ()) := by
      refine loopF_seq (st := fun k => nI k) N stp ?_ fuel (fuel_lt (by omega))
      show lX0_hasAhead_2 (nI pre.length) τ (z + 27) (nI N) = _
      unfold lX0_hasAhead_2
      rw [if_pos (nI_le (by omega) (by omega))]
    rw [this, sb, if_neg (fun q => by
      rw [List.contains_iff_mem] at q
      obtain ⟨k, k1, k2⟩ := mem_getD.mp q
      exact hlo k (by omega) k2)]
    rfl
def EXI (σ0 : St) (z nt m : Nat) (w : Nat → Nat) (pre : List Nat) (v : Nat) (a : Option (List Nat)) (s : St × Int32 × Int32) : Prop :=
  s.2.2 = nI pre.length ∧ Fr (PL z [(27, none), (28, none)]) σ0 s.1 ∧ OrI z 27 pre v s.1 ∧ (∀ u ∈ pre, u < nt) ∧ EvA w z 28 m nt 268435456 a s.2.1 s.1
def EXP (σ0 : St) (z nt m : Nat) (w : Nat → Nat) (pre : List Nat) (a : Option (List Nat)) (s : St × Int32 × Int32) : Prop :=
  s.2.2 = nI pre.length - 1 ∧ Fr (PL z [(27, none), (28, none)]) σ0 s.1 ∧ OrP z 27 pre s.1 ∧ (∀ u ∈ pre, u < nt) ∧ EvA w z 28 m nt 268435456 a s.2.1 s.1
theorem ev_ls {e : Nat} {a : Option (List Nat)} {x : Int32} {p : List Nat} (hw : Wt τ z nt w) (hE : EvA w z e m nt 268435456 a x τ) (h7 : m ≤ 7) (hp : p.length ≤ 7) (hu : ∀ u ∈ p, u < nt) : nI (kN w p) < x ↔ lsB w a p = true := by
  have hk := (unev_kN hw hp hu).2
  cases a with
  | none =>
    have hE : x = 268435456 := hE
    rw [hE]
    exact ⟨fun _ => rfl, fun _ => nI_lt (b := 268435456) (by omega) (by decide)⟩
  | some q =>
    obtain ⟨h1, h2, h3, h4⟩ := hE
    have hq := (unev_kN hw (by omega) h3).2
    rw [h1, nI_ltI (by omega) (by omega)]
    unfold lsB
    exact ⟨fun h => decide_eq_true h, fun h => of_decide_eq_true h⟩
theorem evX_eq (hS : Sh σ z) (hT : Th σ z nt) (hw : Wt σ z nt w) (h1 : 1 ≤ m) (h7 : m ≤ 7) (hf : ∀ k, k < m → s_i σ (z + 26) k = nI (f k) ∧ f k < nt) (h0 : s_i σ (z + 27) 0 = -1) : ∃ σ1 x, loopF fuel (fun y => lX0_evenest_46 z (nI m) y.1 y.2.1 y.2.2) (σ, 268435456, 0) = some σ1 ∧ Fr (PL z [(27, none), (28, none)]) σ σ1 ∧ EvA w z 28 m nt 268435456 ((List.range' 0 nt).foldl (sub (okX (fun v => (List.range m).any fun k => f k == v) w) (upB w) nt 0 (m - 1) []) none) x σ1 := by
  have h40 := hT.1
  obtain ⟨inH, hin⟩ : ∃ inH : Nat → Bool, inH = fun v => (List.range m).any fun k => f k == v := ⟨_, rfl⟩
  rw [← hin]
  -- what holds at every turn
  have base : ∀ pre v a s, pre.length < m → v ≤ nt → EXI σ z nt m w pre v a s → ∃ τ, τ = setI s.1 (z + 27) pre.length (nI v) ∧ Sh τ z ∧ Th τ z nt ∧ Wt τ z nt w ∧ (∀ k, k < m → s_i τ (z + 26) k = nI (f k) ∧ f k < nt) ∧ Fr (PL z [(27, none), (28, none)]) σ τ ∧ OrP z 27 (pre ++ [v]) τ ∧ OrI z 27 pre (v + 1) τ ∧ EvA w z 28 m nt 268435456 a s.2.1 τ ∧ lX0_evenest_46 z (nI m) s.1 s.2.1 s.2.2 = (if v = nt then some (.inl (τ, s.2.1, nI pre.length - 1)) else if inH v = true then (if pre.contains v = true then some (.inl (τ, s.2.1, nI pre.length)) else (o_k τ z 0 <| (fX0_unevenOf τ z (z + 27) (nI (pre.length + 1))).bind fun x20 => if x20 < s.2.1 then (if nI m - 1 ≤ nI pre.length then (o_k τ z 0 <| (fX0_unevenOf τ z (z + 27) (nI m)).bind fun x22 => o_gR τ z 0 16 fun r24 => o_cpy τ (z + 27) 0 r24 0 (nI m) fun σ25 => some (.inl (σ25, x22, nI pre.length))) else (o_sI τ (z + 27) 0 (nI (pre.length + 1)) (-1) fun σ27 => some (.inl (σ27, s.2.1, nI (pre.length + 1))))) else some (.inl (τ, s.2.1, nI pre.length)))) else some (.inl (τ, s.2.1, nI pre.length))) := by
    rintro pre v a ⟨τ0, x, p⟩ hl hv ⟨i1, i2, i3, i4, i5⟩
    simp only at i1 i2 i3 i4 i5 ⊢
    subst i1
    have hS0 : Sh τ0 z := i2.sh hS (by decide)
    have fr : Fr (PL z [(27, none), (28, none)]) σ (setI τ0 (z + 27) pre.length (nI v)) := i2.aS (o := 27) rfl
    have hS1 : Sh (setI τ0 (z + 27) pre.length (nI v)) z := hS0
    have hT1 : Th (setI τ0 (z + 27) pre.length (nI v)) z nt := hT.keep hS fr (by decide)
    have hw1 : Wt (setI τ0 (z + 27) pre.length (nI v)) z nt w := fun t ht => by
      rw [fr.kia hS 1073 (by decide) rfl]
      exact hw t ht
    have hf1 : ∀ k, k < m → s_i (setI τ0 (z + 27) pre.length (nI v)) (z + 26) k = nI (f k) ∧ f k < nt := fun k hk => by
      rw [fr.kia hS 26 (by decide) rfl]
      exact hf k hk
    refine ⟨_, rfl, hS1, hT1, hw1, hf1, fr, i3.full, i3.inc, i5.set (by decide) _, ?_⟩
    generalize hτ : setI τ0 (z + 27) pre.length (nI v) = τ at hS1 hT1 hw1 hf1 fr ⊢
    have rd : ∀ {α : Type} (K : Int32 → Option α), o_aI τ (z + 27) 0 (nI pre.length) K = K (nI v) := fun K => by rw [a_27 hS1 (by omega), ← hτ, gi_eq]
    have hah := hasAhead_eq hS1 (pre := pre) (v := v) (by omega) (fun u hu => by have := i4 u hu; omega) (by omega) (by rw [← hτ]; exact i3.full)
    have hih : fX0_isInHand τ z (nI v) (nI m) = some (if inH v = true then 1 else 0) := by
      rw [hin]
      exact isInHand_eq hS1 h7 h40 hf1 hv
    unfold lX0_evenest_46
    rw [if_neg (nI_pos (by omega)), e_0_15 hS0, a_27 hS0 (by omega), i3.2, Int32.sub_add_cancel, s_27 hS0 (by omega), hτ, e_0_15 hS1, rd, e_0_i hS1, hT1.2.1, e_0_15 hS1, rd, e_0_k hS1, hih, sb, e_0_15 hS1, hah, sb]
    by_cases c1 : v = nt
    · rw [if_pos (by rw [c1]), if_pos c1, Int32.sub_eq_add_neg]
    · rw [if_neg (fun q => c1 ((nI_eq (by omega) (by omega)).mp q)), if_neg c1]
      cases c2 : inH v with
      | false =>
        simp only [if_true, Bool.false_eq_true, if_false]
      | true =>
        simp only [if_true, i10, if_false]
        cases c3 : pre.contains v with
        | true => simp only [if_true, i10, if_false]
        | false =>
          simp only [if_true, Bool.false_eq_true, if_false, nI_1, e_0_15 hS1]
  have pl : ∀ pre v, (∀ u ∈ pre, u < nt) → v < nt → ∀ u ∈ pre ++ [v], u < nt := by
    intro pre v hp hv u hu
    rcases List.mem_append.mp hu with h | h
    · exact hp u h
    · rw [List.mem_singleton.mp h]; exact hv
  have unv : ∀ τ pre v, Sh τ z → Th τ z nt → Wt τ z nt w → pre.length < m → (∀ u ∈ pre ++ [v], u < nt) → OrP z 27 (pre ++ [v]) τ → fX0_unevenOf τ z (z + 27) (nI (pre.length + 1)) = some (nI (kN w (pre ++ [v]))) := by
    intro τ pre v hS1 hT1 hw1 hl hu ho
    have hp : (pre ++ [v]).length = pre.length + 1 := len1
    rw [unevenOf_eq hS1 hT1 (Or.inr rfl) (by omega) (by omega) (g := fun i => (pre ++ [v]).getD i 0) (fun k hk => ⟨ho k (by omega), hu _ (mem_getD.mpr ⟨k, by omega, rfl⟩)⟩)]
    have := (unev_kN hw1 (p := pre ++ [v]) (by omega) hu).1
    rw [hp] at this
    rw [this]
  have ek : nI m - 1 = nI (m - 1) := by
    have := nI_pred (m - 1)
    rw [show m - 1 + 1 = m by omega] at this
    exact this
  obtain ⟨t, t1, t2⟩ := tree (b := fun y : St × Int32 × Int32 => lX0_evenest_46 z (nI m) y.1 y.2.1 y.2.2) (okX inH w) (upB w) (EXI σ z nt m w) (EXP σ z nt m w) m nt 0 (Nat.zero_le _)
    (by
      intro pre v a s hl hv hI hok
      obtain ⟨τ, -, hS1, hT1, hw1, hf1, fr, oP, oI, hE, ev⟩ := base pre v a s hl (by omega) hI
      have hp := hI.2.2.2.1
      show ∃ t, lX0_evenest_46 z (nI m) s.1 s.2.1 s.2.2 = _ ∧ _
      rw [ev, if_neg (by omega)]
      have fin : EXI σ z nt m w pre (v + 1) a (τ, s.2.1, nI pre.length) := ⟨rfl, fr, oI, hp, hE⟩
      cases c2 : inH v with
      | false =>
        rw [if_neg (by decide)]
        exact ⟨_, rfl, fin⟩
      | true =>
        rw [if_pos rfl]
        cases c3 : pre.contains v with
        | true =>
          rw [if_pos rfl]
          exact ⟨_, rfl, fin⟩
        | false =>
          have hls : ¬ nI (kN w (pre ++ [v])) < s.2.1 := by
            rw [ev_ls hw1 hE h7 (by rw [len1]; omega) (pl pre v hp hv)]
            unfold okX at hok
            rw [c2, c3] at hok
            intro q
            rw [q] at hok
            cases hok
          rw [if_neg (by decide), e_0_k hS1, unv τ pre v hS1 hT1 hw1 hl (pl pre v hp hv) oP, sb, if_neg hls]
          exact ⟨_, rfl, fin⟩)
    (by
      intro pre v a s hl hv hI hok
      obtain ⟨τ, -, hS1, hT1, hw1, hf1, fr, oP, oI, hE, ev⟩ := base pre v a s (by omega) (by omega) hI
      have hp := hI.2.2.2.1
      unfold okX at hok
      rw [Bool.and_eq_true, Bool.and_eq_true, Bool.not_eq_true'] at hok
      have hls := (ev_ls hw1 hE h7 (by rw [len1]; omega) (pl pre v hp hv)).mpr hok.2
      show ∃ t, lX0_evenest_46 z (nI m) s.1 s.2.1 s.2.2 = _ ∧ _
      rw [ev, if_neg (by omega), if_pos hok.1.1, hok.1.2, if_neg (by decide), e_0_k hS1, unv τ pre v hS1 hT1 hw1 (by omega) (pl pre v hp hv) oP, sb, if_pos hls, ek, if_pos (nI_le (by omega) (by omega)), e_0_k hS1, ← hl, unv τ pre v hS1 hT1 hw1 (by omega) (pl pre v hp hv) oP, sb, e_0_16 hS1, o_cpy_eq (hS1.k 27 _ (by decide) rfl) (hS1.k 28 _ (by decide) rfl) (by omega) (by omega) (by omega)]
      refine ⟨_, rfl, rfl, (fr.transL (Fr.cpy (o := 28))).inL (by decide), ⟨fun i hi => ?_, ?_⟩, hp, ?_⟩
      · show (if z + 27 = z + 28 then _ else s_i τ (z + 27) i) = _
        rw [if_neg (by omega)]
        exact oI.1 i hi
      · show (if z + 27 = z + 28 then _ else s_i τ (z + 27) pre.length) = _
        rw [if_neg (by omega)]
        exact oI.2
      · rw [upB_ls hok.2]
        refine ⟨rfl, len1, pl pre v hp hv, fun i hi => ?_⟩
        show (if z + 28 = z + 28 then va_cpy (s_i τ (z + 27)) (s_i τ (z + 28)) 0 0 (pre.length + 1) i else _) = _
        rw [len1] at hi
        rw [if_pos rfl, pk_cpy_in (Nat.zero_le _) (by omega), Nat.zero_add, Nat.sub_zero]
        exact oP i (by rw [len1]; omega))
    (by
      intro pre v a s hl hv hI hok
      obtain ⟨τ, hτ, hS1, hT1, hw1, hf1, fr, oP, oI, hE, ev⟩ := base pre v a s (by omega) (by omega) hI
      have hp := hI.2.2.2.1
      unfold okX at hok
      rw [Bool.and_eq_true, Bool.and_eq_true, Bool.not_eq_true'] at hok
      have hls := (ev_ls hw1 hE h7 (by rw [len1]; omega) (pl pre v hp hv)).mpr hok.2
      show ∃ t, lX0_evenest_46 z (nI m) s.1 s.2.1 s.2.2 = _ ∧ _
      rw [ev, if_neg (by omega), if_pos hok.1.1, hok.1.2, if_neg (by decide), e_0_k hS1, unv τ pre v hS1 hT1 hw1 (by omega) (pl pre v hp hv) oP, sb, if_pos hls, ek, if_neg (nI_ge (by omega) (by omega)), s_27 hS1 (by omega)]
      refine ⟨_, rfl, by rw [len1], fr.aS (o := 27) rfl, ?_, pl pre v hp hv, hE.set (by decide) _⟩
      rw [hτ]
      exact hI.2.2.1.dn rfl)
    (by
      intro pre a s hl hI
      obtain ⟨τ, hτ, hS1, hT1, hw1, hf1, fr, oP, oI, hE, ev⟩ := base pre nt a s hl (Nat.le_refl _) hI
      have hp := hI.2.2.2.1
      show ∃ t, lX0_evenest_46 z (nI m) s.1 s.2.1 s.2.2 = _ ∧ _
      rw [ev, if_pos rfl]
      exact ⟨_, rfl, rfl, fr, fun i hi => oI.1 i hi, hp, hE⟩)
    (by
      rintro pre c a s ⟨i1, i2, i3, i4, i5⟩
      refine ⟨by rw [i1, len1, nI_pred], i2, i3.out, fun u hu => i4 u (List.mem_append_left _ hu), i5⟩)
    (m - 1) [] none (σ, 268435456, 0) 0 (by simp only [List.length_nil]; omega) (Nat.zero_le _) ⟨rfl, Fr.refl, ⟨fun i hi => absurd hi (Nat.not_lt_zero i), h0⟩, fun u hu => absurd hu List.not_mem_nil, rfl⟩
  obtain ⟨σ1, x, p⟩ := t
  obtain ⟨i1, i2, -, -, i5⟩ := t2
  simp only [Nat.sub_zero] at i1 i2 i5
  refine ⟨σ1, x, t1.loop' ?_ ?_, i2, i5⟩
  · show lX0_evenest_46 z (nI m) σ1 x p = _
    rw [i1]
    unfold lX0_evenest_46
    rw [if_pos (by decide)]
  · have q1 := Bd_le h40 (m - 1)
    have q2 : 50 ^ (m - 1 + 1) ≤ 50 ^ 7 := Nat.pow_le_pow_right (by decide) (by omega)
    have q3 : 50 ^ 7 < fuel := by decide
    omega
end EVEN
