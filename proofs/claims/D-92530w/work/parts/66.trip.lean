set_option maxRecDepth 100000
/-! the trip: the model's rows -/
theorem pc_len (S : Nat) : ∀ k, pcN S k = (bl S k).length
  | 0 => rfl
  | k + 1 => by
    rw [bl_succ]
    show pcN S k + (S >>> k) % 2 = _
    rw [pc_len S k]
    have e : S.testBit k = decide (S / 2 ^ k % 2 = 1) := Nat.testBit_eq_decide_div_mod_eq
    rw [Nat.shiftRight_eq_div_pow]
    by_cases c : S / 2 ^ k % 2 = 1
    · rw [if_pos (by rw [e]; exact decide_eq_true c), len1, c]
    · rw [if_neg (by rw [e]; exact fun q => c (of_decide_eq_true q))]
      omega
theorem pc_up {S n : Nat} (h : S < 2 ^ n) : ∀ j, pcN S (n + j) = pcN S n
  | 0 => rfl
  | j + 1 => by
    show pcN S (n + j) + (S >>> (n + j)) % 2 = _
    rw [pc_up h j, Nat.shiftRight_eq_div_pow, Nat.div_eq_of_lt (Nat.lt_of_lt_of_le h (Nat.pow_le_pow_right (by decide) (by omega)))]
    omega
section TRIPM
variable {σ τ : St} {z n S m : Nat} {d : Nat → Nat → Nat}
theorem rowB_eq (hS : Sh σ z) (hP : Sp σ z n) (hS1 : S < 1024) (h7 : (bl S n).length ≤ 7) : ∃ σ1, loopF fuel (fun y => lX7_trip_32 (z + 1064) (nI S) y.1 y.2.1 y.2.2) (σ, 0, 0) = some (σ1, nI (bl S n).length) ∧ Fr (PL z [(1081, none)]) σ σ1 ∧ OrP z 1081 (bl S n) σ1 := by
  have h10 := hP.1
  have sp1 : (plno [(1081, none)] 0 (some 31) && plno [(1081, none)] 1064 (some 47) && plno [(1081, none)] 38 none && plno [(1081, none)] 1092 none && plno [(1081, none)] 1093 none && plnw [(1081, none)]) = true := by decide
  have le : ∀ k, k ≤ n → (bl S k).length ≤ (bl S n).length := by
    intro k hk
    refine nod_le (bl_nd S k) fun x hx => ?_
    rw [bl_mem] at hx ⊢
    exact ⟨by omega, hx.2⟩
  obtain ⟨⟨σ1, x⟩, l1, l2, l3, l4⟩ := loopF_inv (b := fun y : St × Int32 × Int32 => lX7_trip_32 (z + 1064) (nI S) y.1 y.2.1 y.2.2) (fun k s => s.2.2 = nI k ∧ s.2.1 = nI (bl S k).length ∧ Fr (PL z [(1081, none)]) σ s.1 ∧ OrP z 1081 (bl S k) s.1) n (Q := fun s => s.2 = nI (bl S n).length ∧ Fr (PL z [(1081, none)]) σ s.1 ∧ OrP z 1081 (bl S n) s.1) (by
    rintro k ⟨ρ, x, y⟩ hk ⟨i1, i2, i3, i4⟩
    simp only at i1 i2 i3 i4
    subst i1 i2
    have hR : Sh ρ z := i3.sh hS (by decide)
    have hPR := hP.keep hS i3 sp1
    have hl := le (k + 1) (by omega)
    have hb := bl_succ S k
    show ∃ t, lX7_trip_32 (z + 1064) (nI S) ρ (nI (bl S k).length) (nI k) = _ ∧ _
    unfold lX7_trip_32
    rw [e_1064_i hR, hPR.2.2.1, if_neg (nI_ge hk (by omega))]
    simp only [jn]
    by_cases c : S.testBit k = true
    · rw [if_pos c] at hb
      rw [hb, len1] at hl
      rw [if_pos ((tb_iff hS1 (by omega)).mpr c), e_1064_32 hR, s_1081 hR (by omega), nI_1, nI_1]
      refine ⟨_, rfl, rfl, by rw [hb, len1], i3.aS (o := 1081) rfl, ?_⟩
      rw [hb]
      intro i hi
      rw [len1] at hi
      simp only
      by_cases e : i = (bl S k).length
      · subst e
        rw [gi_eq, gD_r]
      · rw [gi_nj e, gD_l (by omega)]
        exact i4 i (by omega)
    · rw [if_neg c] at hb
      rw [if_neg (fun q => c ((tb_iff hS1 (by omega)).mp q)), nI_1]
      refine ⟨_, rfl, rfl, by rw [hb], i3, by rw [hb]; exact i4⟩) (by
    rintro ⟨ρ, x, y⟩ ⟨i1, i2, i3, i4⟩
    simp only at i1 i2 i3 i4
    subst i1
    have hR : Sh ρ z := i3.sh hS (by decide)
    have hPR := hP.keep hS i3 sp1
    show ∃ t, lX7_trip_32 (z + 1064) (nI S) ρ x (nI n) = _ ∧ _
    unfold lX7_trip_32
    rw [e_1064_i hR, hPR.2.2.1, if_pos (nI_le (Nat.le_refl n) (by omega))]
    exact ⟨_, rfl, i2, i3, i4⟩) (s := (σ, 0, 0)) ⟨rfl, rfl, Fr.refl, fun i hi => absurd hi (Nat.not_lt_zero i)⟩ fuel (fuel_lt (by omega))
  simp only at l2
  subst l2
  exact ⟨σ1, l1, l3, l4⟩
theorem dupT_eq (hT : Sh τ z) {pre : List Nat} {v : Nat} (hl : pre.length < 7) (hu : ∀ u ∈ pre, u < 40) (hv : v ≤ 40) (ho : OrP z 1082 (pre ++ [v]) τ) : loopF fuel (fun y => lX7_trip_113 (nI pre.length) τ (z + 1064) y.1 y.2) (1, 0) = some (if pre.contains v = true then 0 else 1) := by
  have r1 : ∀ i, i < pre.length → s_i τ (z + 1082) i = nI (pre.getD i 0) := fun i hi => by rw [ho i (by rw [len1]; omega), gD_l hi]
  have r2 : s_i τ (z + 1082) pre.length = nI v := by rw [ho pre.length (by rw [len1]; omega), gD_r]
  have r3 : ∀ i, i < pre.length → pre.getD i 0 < 40 := fun i hi => hu _ (mem_getD.mpr ⟨i, hi, rfl⟩)
  rw [← duS_eq]
  refine loopF_seq (st := fun i => (duS pre v i, nI i)) pre.length (fun i hi => ?_) ?_ fuel (fuel_lt (by omega))
  · show lX7_trip_113 (nI pre.length) τ (z + 1064) (duS pre v i) (nI i) = _
    have h1 := r3 i hi
    unfold lX7_trip_113
    rw [if_neg (nI_ge hi (by omega))]
    simp only [jn, e_1064_33 hT, a_1082 hT (show i < 7 by omega), a_1082 hT hl, r1 i hi, r2, nI_1]
    show _ = some (Sum.inl (duS pre v (i + 1), nI (i + 1)))
    conv => rhs; unfold duS
    by_cases c1 : duS pre v i = 0
    · rw [if_pos c1, if_pos c1]
    · rw [if_neg c1, if_neg c1]
      by_cases c2 : pre.getD i 0 = v
      · rw [if_pos (by rw [c2]), if_pos c2]
      · rw [if_neg (fun q => c2 ((nI_eq (by omega) (by omega)).mp q)), if_neg c2]
  · show lX7_trip_113 (nI pre.length) τ (z + 1064) (duS pre v pre.length) (nI pre.length) = _
    unfold lX7_trip_113
    rw [if_pos (nI_le (Nat.le_refl _) (by omega))]
/-- the length of a row's beginning -/
theorem rlen_take {p : List Nat} : ∀ k, k < p.length → 1 ≤ k → rlen d (p.take (k + 1)).reverse = rlen d (p.take k).reverse + d (p.getD (k - 1) 0) (p.getD k 0) := by
  intro k hk h1
  have e1 : (p.take (k + 1)).reverse = p.getD k 0 :: (p.take k).reverse := by
    rw [List.take_add_one, List.getElem?_eq_getElem hk, List.reverse_append, List.getD_eq_getElem?_getD, List.getElem?_eq_getElem hk]
    rfl
  have e2 : ∃ l, (p.take k).reverse = p.getD (k - 1) 0 :: l := by
    obtain ⟨j, rfl⟩ : ∃ j, k = j + 1 := ⟨k - 1, by omega⟩
    have hj : j < p.length := by omega
    refine ⟨(p.take j).reverse, ?_⟩
    rw [List.take_add_one, List.getElem?_eq_getElem hj, List.reverse_append, List.getD_eq_getElem?_getD, Nat.add_sub_cancel, List.getElem?_eq_getElem hj]
    rfl
  obtain ⟨l, e2⟩ := e2
  rw [e1, e2]
  show d _ _ + rlen d (_ :: l) = _
  omega
theorem rlen_tk_le {p : List Nat} (hd : ∀ i, i < p.length → 1 ≤ i → d (p.getD (i - 1) 0) (p.getD i 0) ≤ 200) : ∀ k, 1 ≤ k → k ≤ p.length → rlen d (p.take k).reverse ≤ 200 * k := by
  intro k
  induction k with
  | zero => intro h; omega
  | succ k ih =>
    intro _ hk
    by_cases c : k = 0
    · subst c
      have e : (p.take 1).reverse = [p.getD 0 0] := by
        cases p with
        | nil => simp at hk
        | cons x l => rfl
      rw [Nat.zero_add, e]
      exact Nat.zero_le _
    · rw [rlen_take k (by omega) (by omega)]
      have := ih (by omega) (by omega)
      have := hd k (by omega) (by omega)
      omega
theorem lenM_eq (hT : Sh τ z) (hD : Ds τ z n d) (h7 : m ≤ 7) (h1 : 1 ≤ m) (h10 : n ≤ 10) {r : Nat → Nat} (hr : ∀ k, k < m → s_i τ (z + 1081) k = nI (r k) ∧ r k < n) {p : List Nat} (hp : p.length = m) (hu : ∀ u ∈ p, u < m) (ho : OrP z 1082 p τ) : loopF fuel (fun y => lX7_trip_191 (nI m) τ (z + 1064) y.1 y.2) (0, 1) = some (nI (rlen d (p.map r).reverse)) ∧ rlen d (p.map r).reverse ≤ 1400 := by
  have lm : (p.map r).length = m := by rw [List.length_map, hp]
  have g : ∀ i, i < m → s_i τ (z + 1082) i = nI (p.getD i 0) ∧ p.getD i 0 < m ∧ (p.map r).getD i 0 = r (p.getD i 0) := fun i hi => ⟨ho i (by omega), hu _ (mem_getD.mpr ⟨i, by omega, rfl⟩), getD_map (by omega)⟩
  have hdd : ∀ i, i < (p.map r).length → 1 ≤ i → d ((p.map r).getD (i - 1) 0) ((p.map r).getD i 0) ≤ 200 := by
    intro i hi h
    rw [(g (i - 1) (by omega)).2.2, (g i (by omega)).2.2]
    exact (hD _ _ (hr _ (g (i - 1) (by omega)).2.1).2 (hr _ (g i (by omega)).2.1).2).2
  have full : (p.map r).take m = p.map r := List.take_of_length_le (by omega)
  have bd := rlen_tk_le (d := d) hdd m h1 (by omega)
  rw [full] at bd
  refine ⟨?_, by omega⟩
  have e0 : rlen d ((p.map r).take 1).reverse = 0 := by
    cases hq : p.map r with
    | nil => rw [hq] at lm; simp at lm; omega
    | cons x l => rfl
  have e : nI (rlen d (p.map r).reverse) = nI (rlen d ((p.map r).take (m - 1 + 1)).reverse) := by rw [show m - 1 + 1 = m by omega, full]
  rw [e]
  have st0 : ((0, 1) : Int32 × Int32) = (nI (rlen d ((p.map r).take (0 + 1)).reverse), nI (0 + 1)) := by rw [Nat.zero_add, e0]; rfl
  rw [st0]
  refine loopF_seq (st := fun j => (nI (rlen d ((p.map r).take (j + 1)).reverse), nI (j + 1))) (m - 1) (fun j hj => ?_) ?_ fuel (fuel_lt (by omega))
  · show lX7_trip_191 (nI m) τ (z + 1064) (nI (rlen d ((p.map r).take (j + 1)).reverse)) (nI (j + 1)) = _
    obtain ⟨a1, a2, a3⟩ := g j (by omega)
    obtain ⟨b1, b2, b3⟩ := g (j + 1) (by omega)
    have ra := hr _ a2
    have rb := hr _ b2
    unfold lX7_trip_191
    rw [if_neg (nI_ge (by omega) (by omega)), e_1064_32 hT, e_1064_33 hT, nI_pred, a_1082 hT (by omega), a1, a_1081 hT (by omega), ra.1, e_1064_32 hT, e_1064_33 hT, a_1082 hT (by omega), b1, a_1081 hT (by omega), rb.1, e_1064_k hT, apart_eq hT (by omega) (by omega), sb, (hD _ _ ra.2 rb.2).1, nI_add, nI_1]
    show _ = some (Sum.inl (nI (rlen d ((p.map r).take (j + 1 + 1)).reverse), nI (j + 1 + 1)))
    rw [rlen_take (j + 1) (by omega) (by omega), Nat.add_sub_cancel, a3, b3]
  · show lX7_trip_191 (nI m) τ (z + 1064) (nI (rlen d ((p.map r).take (m - 1 + 1)).reverse)) (nI (m - 1 + 1)) = _
    unfold lX7_trip_191
    rw [if_pos (nI_le (by omega) (by omega))]
def TmA (a : Option Nat) (x : Int32) : Prop := match a with
  | none => x = -1
  | some v => x = nI v ∧ v ≤ 1400
def TmI (σ0 : St) (z m : Nat) (pre : List Nat) (v : Nat) (a : Option Nat) (s : St × Int32 × Int32) : Prop :=
  s.2.2 = nI pre.length ∧ Fr (PL z [(1082, none)]) σ0 s.1 ∧ OrI z 1082 pre v s.1 ∧ (∀ u ∈ pre, u < m) ∧ TmA a s.2.1
def TmP (σ0 : St) (z m : Nat) (pre : List Nat) (a : Option Nat) (s : St × Int32 × Int32) : Prop :=
  s.2.2 = nI pre.length - 1 ∧ Fr (PL z [(1082, none)]) σ0 s.1 ∧ OrP z 1082 pre s.1 ∧ (∀ u ∈ pre, u < m) ∧ TmA a s.2.1
theorem tripM_eq (hS : Sh σ z) (hD : Ds σ z n d) (h2 : 2 ≤ m) (h7 : m ≤ 7) (h10 : n ≤ 10) {r : Nat → Nat} (hr : ∀ k, k < m → s_i σ (z + 1081) k = nI (r k) ∧ r k < n) (h0 : s_i σ (z + 1082) 0 = 0) (h1 : s_i σ (z + 1082) 1 = 0) : ∃ σ1 x, loopF fuel (fun y => lX7_trip_91 (z + 1064) (nI m) y.1 y.2.1 y.2.2) (σ, (-1), 1) = some (σ1, x) ∧ Fr (PL z [(1082, none)]) σ σ1 ∧ TmA ((List.range' 1 (m - 1)).foldl (sub okT (mnB fun p => rlen d (p.map r).reverse) m 1 (m - 2) [0]) none) x := by
  have base : ∀ pre v a s, 1 ≤ pre.length → pre.length < m → v ≤ m → TmI σ z m pre v a s → ∃ τ, τ = setI s.1 (z + 1082) pre.length (nI v) ∧ Sh τ z ∧ Ds τ z n d ∧ (∀ k, k < m → s_i τ (z + 1081) k = nI (r k) ∧ r k < n) ∧ Fr (PL z [(1082, none)]) σ τ ∧ OrP z 1082 (pre ++ [v]) τ ∧ OrI z 1082 pre (v + 1) τ ∧ lX7_trip_91 (z + 1064) (nI m) s.1 s.2.1 s.2.2 = (if v = m then some (.inl (τ, s.2.1, nI pre.length - 1)) else if pre.contains v = true then some (.inl (τ, s.2.1, nI pre.length)) else if pre.length + 1 = m then ((loopF fuel (fun y => lX7_trip_191 (nI m) τ (z + 1064) y.1 y.2) (0, 1)).bind fun x45 => if s.2.1 = -1 then some (.inl (τ, x45, nI pre.length)) else if s.2.1 ≤ x45 then some (.inl (τ, s.2.1, nI pre.length)) else some (.inl (τ, x45, nI pre.length))) else some (.inl (setI τ (z + 1082) (pre.length + 1) 0, s.2.1, nI (pre.length + 1)))) := by
    rintro pre v a ⟨τ0, x, p⟩ hl1 hl hv ⟨i1, i2, i3, i4, i5⟩
    simp only at i1 i2 i3 i4 i5 ⊢
    subst i1
    have hS0 : Sh τ0 z := i2.sh hS (by decide)
    have fr : Fr (PL z [(1082, none)]) σ (setI τ0 (z + 1082) pre.length (nI v)) := i2.aS (o := 1082) rfl
    have hS1 : Sh (setI τ0 (z + 1082) pre.length (nI v)) z := hS0
    have hD1 : Ds (setI τ0 (z + 1082) pre.length (nI v)) z n d := ds_keep hS hD fr (by decide)
    have hf1 : ∀ k, k < m → s_i (setI τ0 (z + 1082) pre.length (nI v)) (z + 1081) k = nI (r k) ∧ r k < n := fun k hk => by
      rw [fr.kia hS 1081 (by decide) rfl]
      exact hr k hk
    refine ⟨_, rfl, hS1, hD1, hf1, fr, i3.full, i3.inc, ?_⟩
    generalize hτ : setI τ0 (z + 1082) pre.length (nI v) = τ at hS1 hD1 hf1 fr ⊢
    have rd : ∀ {α : Type} (K : Int32 → Option α), o_aI τ (z + 1082) 0 (nI pre.length) K = K (nI v) := fun K => by rw [a_1082 hS1 (by omega), ← hτ, gi_eq]
    have hdu := dupT_eq hS1 (pre := pre) (v := v) (by omega) (fun u hu => by have := i4 u hu; omega) (by omega) (by rw [← hτ]; exact i3.full)
    have ek : nI m - 1 = nI (m - 1) := by
      have := nI_pred (m - 1)
      rw [show m - 1 + 1 = m by omega] at this
      exact this
    unfold lX7_trip_91
    rw [if_neg (nI_nle (by omega) (by omega)), e_1064_33 hS0, a_1082 hS0 (by omega), i3.2, Int32.sub_add_cancel, s_1082 hS0 (by omega), hτ, hdu, sb, e_1064_33 hS1, rd]
    simp only [jn]
    by_cases c1 : v = m
    · rw [if_pos (by rw [c1]), if_pos c1, Int32.sub_eq_add_neg]
    · rw [if_neg (fun q => c1 ((nI_eq (by omega) (by omega)).mp q)), if_neg c1]
      cases c3 : pre.contains v with
      | true => simp only [if_true]
      | false =>
        simp only [Bool.false_eq_true, if_false, i10, ek]
        by_cases c4 : pre.length + 1 = m
        · rw [if_pos c4, if_pos (by rw [show m - 1 = pre.length by omega])]
        · rw [if_neg c4, if_neg (fun q => c4 (by have := (nI_eq (by omega) (by omega)).mp q; omega)), e_1064_33 hS1, nI_1, s_1082 hS1 (by omega)]
  have pl : ∀ pre v, (∀ u ∈ pre, u < m) → v < m → ∀ u ∈ pre ++ [v], u < m := by
    intro pre v hp hv u hu
    rcases List.mem_append.mp hu with h | h
    · exact hp u h
    · rw [List.mem_singleton.mp h]; exact hv
  obtain ⟨t, t1, t2⟩ := treeL (b := fun y : St × Int32 × Int32 => lX7_trip_91 (z + 1064) (nI m) y.1 y.2.1 y.2.2) 1 okT (mnB fun p => rlen d (p.map r).reverse) (TmI σ z m) (TmP σ z m) m m 1 (by omega)
    (by
      intro pre v a s hl1 hl hv hI hok
      obtain ⟨τ, -, hS1, hD1, hf1, fr, oP, oI, ev⟩ := base pre v a s hl1 hl (by omega) hI
      obtain ⟨-, -, -, hp, hE⟩ := hI
      show ∃ t, lX7_trip_91 (z + 1064) (nI m) s.1 s.2.1 s.2.2 = _ ∧ _
      unfold okT at hok
      rw [Bool.not_eq_false'] at hok
      rw [ev, if_neg (by omega), if_pos hok]
      exact ⟨_, rfl, rfl, fr, oI, hp, hE⟩)
    (by
      intro pre v a s hl1 hl hv hI hok
      obtain ⟨τ, -, hS1, hD1, hf1, fr, oP, oI, ev⟩ := base pre v a s hl1 (by omega) (by omega) hI
      obtain ⟨-, -, -, hp, hE⟩ := hI
      unfold okT at hok
      rw [Bool.not_eq_true'] at hok
      have hpv := pl pre v hp hv
      obtain ⟨un, hk⟩ := lenM_eq hS1 hD1 h7 (by omega) h10 hf1 (p := pre ++ [v]) (by rw [len1]; omega) hpv oP
      show ∃ t, lX7_trip_91 (z + 1064) (nI m) s.1 s.2.1 s.2.2 = _ ∧ _
      rw [ev, if_neg (by omega), hok, if_neg (by decide), if_pos hl, un, sb]
      cases a with
      | none =>
        have hx : s.2.1 = -1 := hE
        rw [if_pos hx]
        exact ⟨_, rfl, rfl, fr, oI, hp, rfl, hk⟩
      | some q =>
        obtain ⟨e1, e2⟩ := hE
        rw [e1, if_neg (neg1_ne (by omega))]
        by_cases c : rlen d ((pre ++ [v]).map r).reverse < q
        · rw [if_neg (nI_ge c (by omega))]
          refine ⟨_, rfl, rfl, fr, oI, hp, ?_⟩
          unfold mnB
          simp only [if_pos c]
          exact ⟨rfl, hk⟩
        · rw [if_pos (nI_le (by omega) (by omega))]
          refine ⟨_, rfl, rfl, fr, oI, hp, ?_⟩
          unfold mnB
          simp only [if_neg c]
          exact ⟨rfl, e2⟩)
    (by
      intro pre v a s hl1 hl hv hI hok
      obtain ⟨τ, hτ, hS1, hD1, hf1, fr, oP, oI, ev⟩ := base pre v a s hl1 (by omega) (by omega) hI
      have oI0 := hI.2.2.1
      obtain ⟨-, -, -, hp, hE⟩ := hI
      unfold okT at hok
      rw [Bool.not_eq_true'] at hok
      show ∃ t, lX7_trip_91 (z + 1064) (nI m) s.1 s.2.1 s.2.2 = _ ∧ _
      rw [ev, if_neg (by omega), hok, if_neg (by decide), if_neg (by omega)]
      refine ⟨_, rfl, by rw [len1], fr.aS (o := 1082) rfl, ?_, pl pre v hp hv, hE⟩
      rw [hτ]
      exact oI0.dn rfl)
    (by
      intro pre a s hl1 hl hI
      obtain ⟨τ, hτ, hS1, hD1, hf1, fr, oP, oI, ev⟩ := base pre m a s hl1 hl (Nat.le_refl _) hI
      obtain ⟨-, -, -, hp, hE⟩ := hI
      show ∃ t, lX7_trip_91 (z + 1064) (nI m) s.1 s.2.1 s.2.2 = _ ∧ _
      rw [ev, if_pos rfl]
      exact ⟨_, rfl, rfl, fr, fun i hi => oI.1 i hi, hp, hE⟩)
    (by
      rintro pre c a s - ⟨i1, i2, i3, i4, i5⟩
      exact ⟨by rw [i1, len1, nI_pred], i2, i3.out, fun u hu => i4 u (List.mem_append_left _ hu), i5⟩)
    (m - 2) [0] none (σ, (-1), 1) 1 (by simp) (by simp; omega) (by omega) ⟨rfl, Fr.refl, ⟨fun i hi => by
      have : i = 0 := by simp at hi; omega
      subst this
      exact h0, h1⟩, fun u hu => by rw [List.mem_singleton.mp hu]; omega, rfl⟩
  obtain ⟨σ1, x, p⟩ := t
  obtain ⟨i1, i2, -, -, i5⟩ := t2
  simp only at i1 i2 i5
  refine ⟨σ1, x, t1.loop' ?_ ?_, i2, i5⟩
  · show lX7_trip_91 (z + 1064) (nI m) σ1 x p = _
    rw [i1]
    unfold lX7_trip_91
    rw [if_pos (by decide)]
  · have q1 := Bd_le (show m ≤ 40 by omega) (m - 2)
    have q2 : 50 ^ (m - 2 + 1) ≤ 50 ^ 7 := Nat.pow_le_pow_right (by decide) (by omega)
    have q3 : 50 ^ 7 < fuel := by decide
    omega
theorem trip_sim (hS : Sh σ z) (hP : Sp σ z n) (a : Int32) : ∃ v σ1 σ2, fX0_trip σ z a = some (v, σ1) ∧ fX7_trip σ1 (z + 1064) a = some (v, σ2) ∧ Fr (PL z (wayL ++ [(1081, none), (1082, none)])) σ σ2 := by
  have h10 := hP.1
  have hp : 2 ^ n ≤ 2 ^ 10 := Nat.pow_le_pow_right (by decide) h10
  have sub : ((1 : Int32) <<< (nI n &&& 31)) - 1 = nI (2 ^ n) - 1 := by rw [shl_pow n h10]
  by_cases c1 : 0 ≤ a ∧ a ≤ nI (2 ^ n) - 1
  · obtain ⟨S, hn, rfl⟩ := in_nat (n := 2 ^ n) (by omega) c1
    have hS1 : S < 1024 := by omega
    have pl := pcN_le S 10
    have bcE : bcS (nI S) 10 = nI (bl S n).length := by
      rw [pcN_eq hS1 10 (Nat.le_refl 10), ← pc_len S n]
      have := pc_up hn (10 - n)
      rw [show n + (10 - n) = 10 by omega] at this
      rw [this]
    have lb : (bl S n).length ≤ 10 := by
      rw [← pc_len S n]
      have := pc_up hn (10 - n)
      rw [show n + (10 - n) = 10 by omega] at this
      omega
    -- the model, from any later heap
    have M0 : ∀ ρ, Sh ρ z → Sp ρ z n → fX7_trip ρ (z + 1064) (nI S) = (if nI (bl S n).length ≤ 7 then ((loopF fuel (fun y => lX7_trip_32 (z + 1064) (nI S) y.1 y.2.1 y.2.2) (ρ, 0, 0)).bind <| un2 fun σ12 x13 => if 2 ≤ x13 then o_gR σ12 (z + 1064) 5 33 fun r14 => o_sI σ12 r14 0 0 0 fun σ15 => o_gR σ15 (z + 1064) 5 33 fun r16 => o_sI σ15 r16 0 1 0 fun σ17 => (loopF fuel (fun y => lX7_trip_91 (z + 1064) x13 y.1 y.2.1 y.2.2) (σ17, (-1), 1)).bind <| un2 fun σ52 x53 => some (x53, σ52) else some (0, σ12)) else some ((-3), ρ)) := by
      intro ρ hR hPR
      unfold fX7_trip
      rw [e_1064_i hR, hPR.2.2.1, sub, in_eq, sb, if01, if_pos c1, bits_eq, sb, bcE]
    by_cases c7 : (bl S n).length ≤ 7
    · have c7' : nI (bl S n).length ≤ 7 := nI_le (b := 7) c7 (by decide)
      obtain ⟨d, hD⟩ := ds_ex hP
      by_cases h0 : S = 0
      · subst h0
        have X : fX0_trip σ z (nI 0) = some (0, σ) := by
          unfold fX0_trip
          rw [e_0_i hS, hP.2.1, sub, isIn_lit σ σ (nI 0) 0 (nI (2 ^ n) - 1) (lo' := 0) (hi' := (nI (2 ^ n) - 1).toInt64) rfl rfl, in_eq, sb, if01, if_pos c1, bitCount_eq σ hS1, sb, bcE, if_pos c7', if_pos (show nI 0 = 0 by decide)]
        have M := M0 σ hS hP
        obtain ⟨σ1, r1, r2, r3⟩ := rowB_eq hS hP hS1 c7
        have e : (bl 0 n).length = 0 := by
          rw [List.length_eq_zero_iff, List.eq_nil_iff_forall_not_mem]
          intro x hx
          have := (bl_mem.mp hx).2
          rw [Nat.zero_testBit] at this
          cases this
        rw [if_pos c7', r1, sb, e] at M
        exact ⟨0, σ, σ1, X, M, r2.mono fun a j q => by
          obtain ⟨q, q1, q2⟩ := q
          exact ⟨q, List.mem_append_right _ (by rw [List.mem_singleton.mp q1]; exact List.mem_cons_self), q2⟩⟩
      · obtain ⟨f1, f2, f3⟩ := ctz_all S hS1 h0
        obtain ⟨σ1, v, X, x2, x3, x4⟩ := tripX_eq hS hP hD hn h0 (by rw [bcE]; exact c7')
        have hR : Sh σ1 z := x2.sh hS way_sh
        have hPR := hP.keep hS x2 way_sp
        have hDR := ds_keep hS hD x2 way_ds
        have M := M0 σ1 hR hPR
        obtain ⟨ρ, r1, r2, r3⟩ := rowB_eq hR hPR hS1 c7
        rw [if_pos c7', r1, sb] at M
        have hRρ : Sh ρ z := r2.sh hR (by decide)
        -- the first spot
        have fin : ctz 10 S < n := by
          apply Classical.byContradiction
          intro hc
          have h1 := Nat.testBit_lt_two_pow (x := S) (i := ctz 10 S) (Nat.lt_of_lt_of_le hn (Nat.pow_le_pow_right (by decide) (by omega)))
          rw [f2] at h1
          cases h1
        have fm : ctz 10 S ∈ bl S n := bl_mem.mpr ⟨fin, f2⟩
        have f0 : (bl S n).getD 0 0 = ctz 10 S := by
          cases hb : bl S n with
          | nil => rw [hb] at fm; cases fm
          | cons x l =>
            have asc := bl_asc S n
            rw [hb] at fm asc
            have hx : S.testBit x = true := (bl_mem.mp (show x ∈ bl S n by rw [hb]; exact List.mem_cons_self)).2
            show x = _
            rcases List.mem_cons.mp fm with h | h
            · exact h.symm
            · have h1 := (List.pairwise_cons.mp asc).1 _ h
              rw [f3 x h1] at hx
              cases hx
        by_cases c2 : 2 ≤ (bl S n).length
        · have k0 : ∀ K : St → Option (Int32 × St), o_sI ρ (z + 1082) 0 0 0 K = K (setI ρ (z + 1082) 0 0) := fun K => s_1082 (k := 0) hRρ (by decide)
          have k1 : ∀ K : St → Option (Int32 × St), o_sI (setI ρ (z + 1082) 0 0) (z + 1082) 0 1 0 K = K (setI (setI ρ (z + 1082) 0 0) (z + 1082) 1 0) := fun K => s_1082 (k := 1) (Sh_setI.mpr hRρ) (by decide)
          obtain ⟨ρ3, hρ3⟩ : ∃ ρ3, ρ3 = setI (setI ρ (z + 1082) 0 0) (z + 1082) 1 0 := ⟨_, rfl⟩
          have fr3 : Fr (PL z [(1081, none), (1082, none)]) σ1 ρ3 := by
            rw [hρ3]
            exact ((r2.inL (by decide)).aS (o := 1082) rfl).aS (o := 1082) rfl
          have hR3 : Sh ρ3 z := fr3.sh hR (by decide)
          have hD3 := ds_keep hR hDR fr3 (by decide)
          obtain ⟨ρ4, x, t1, t2, t3⟩ := tripM_eq hR3 hD3 c2 c7 h10 (r := fun i => (bl S n).getD i 0) (fun k hk => ⟨by rw [hρ3, gi_ne (by omega), gi_ne (by omega)]; exact r3 k hk, (bl_mem.mp (mem_getD.mpr ⟨k, hk, rfl⟩)).1⟩) (by rw [hρ3, gi_nj (by decide), gi_eq]) (by rw [hρ3, gi_eq])
          show ∃ v σ1 σ2, _
          have M2 : fX7_trip σ1 (z + 1064) (nI S) = some (x, ρ4) := by
            rw [M]
            show (if 2 ≤ nI (bl S n).length then _ else _) = _
            rw [if_pos (lit_le 2 2 _ rfl c2 (by omega)), e_1064_33 hRρ, k0, e_1064_33 (Sh_setI.mpr hRρ), k1, ← hρ3, t1, sb]
            rfl
          obtain ⟨y, y1, y2, y3⟩ := mn_fin (len := fun p => rlen d (p.map fun i => (bl S n).getD i 0).reverse) c2
          rw [y1] at t3
          obtain ⟨e1, e2⟩ := t3
          have hv1 : ∃ q, Way S (ctz 10 S) q ∧ msk q = S ∧ v = rlen d q := by
            rcases x4 with x4 | x4
            · exfalso
              have hw : Way S (ctz 10 S) (bl S n).reverse := ⟨nd_rev.mpr (bl_nd S n), fun x hx => (bl_mem.mp (List.mem_reverse.mp hx)).2, by
                rw [List.getLast?_reverse]
                cases hb : bl S n with
                | nil => rw [hb] at fm; cases fm
                | cons x l =>
                  rw [hb] at f0
                  have f0 : x = ctz 10 S := f0
                  rw [← f0]
                  rfl⟩
              have hms : msk (bl S n).reverse = S := by
                apply Nat.eq_of_testBit_eq
                intro i
                rw [Bool.eq_iff_iff, msk_bit, List.mem_reverse, bl_mem]
                constructor
                · exact fun h => h.2
                · intro h
                  refine ⟨?_, h⟩
                  apply Classical.byContradiction
                  intro hc
                  have h1 := Nat.testBit_lt_two_pow (x := S) (i := i) (Nat.lt_of_lt_of_le hn (Nat.pow_le_pow_right (by decide) (by omega)))
                  rw [h] at h1
                  cases h1
              have h1 := x3 _ hw hms
              have h2 := rlen_le (d := d) (S := S) (f := ctz 10 S) (fun a b ha hb => (hD a b (hw.lt hn (by rw [← msk_bit, hms]; exact ha)) (hw.lt hn (by rw [← msk_bit, hms]; exact hb))).2) hw
              rw [hms] at h2
              omega
            · exact x4
          have := ways_eq hn (r := fun i => (bl S n).getD i 0) (fun _ => rfl) rfl c2 f0 y2 y3 hv1 x3
          rw [this] at X
          rw [e1] at M2
          exact ⟨_, _, _, X, M2, ((x2.transL fr3).transL t2).mono fun a j q => by
            obtain ⟨q, q1, q2⟩ := q
            refine ⟨q, ?_, q2⟩
            rw [List.mem_append, List.mem_append] at q1
            rw [List.mem_append]
            rcases q1 with (q1 | q1) | q1
            · exact Or.inl q1
            · exact Or.inr q1
            · exact Or.inr (by rw [List.mem_singleton.mp q1]; exact List.mem_cons_of_mem _ List.mem_cons_self)⟩
        · have M2 : fX7_trip σ1 (z + 1064) (nI S) = some (0, ρ) := by
            rw [M]
            show (if 2 ≤ nI (bl S n).length then _ else _) = _
            rw [if_neg (lit_nle 2 2 _ rfl (by omega) (by decide))]
          have hb1 : bl S n = [ctz 10 S] := by
            cases hb : bl S n with
            | nil => rw [hb] at fm; cases fm
            | cons x l =>
              rw [hb] at c2 f0
              have f0' : x = ctz 10 S := f0
              cases l with
              | nil => rw [f0']
              | cons y l => simp at c2
          have hms : msk [ctz 10 S] = S := by
            apply Nat.eq_of_testBit_eq
            intro i
            rw [Bool.eq_iff_iff, msk_bit]
            constructor
            · intro h
              rw [List.mem_singleton.mp h]
              exact f2
            · intro h
              rw [← hb1, bl_mem]
              refine ⟨?_, h⟩
              apply Classical.byContradiction
              intro hc
              have h1 := Nat.testBit_lt_two_pow (x := S) (i := i) (Nat.lt_of_lt_of_le hn (Nat.pow_le_pow_right (by decide) (by omega)))
              rw [h] at h1
              cases h1
          have := x3 [ctz 10 S] ⟨by simp, fun x hx => by rw [List.mem_singleton.mp hx]; exact f2, rfl⟩ hms
          have v0 : v = 0 := Nat.le_zero.mp this
          rw [v0] at X
          exact ⟨_, _, _, X, M2, (x2.transL r2).mono fun a j q => by
            obtain ⟨q, q1, q2⟩ := q
            refine ⟨q, ?_, q2⟩
            rw [List.mem_append] at q1 ⊢
            rcases q1 with q1 | q1
            · exact Or.inl q1
            · exact Or.inr (by rw [List.mem_singleton.mp q1]; exact List.mem_cons_self)⟩
    · have c7' : ¬ nI (bl S n).length ≤ 7 := nI_ge (a := 7) (by omega) (by omega)
      have X : fX0_trip σ z (nI S) = some (-3, σ) := by
        unfold fX0_trip
        rw [e_0_i hS, hP.2.1, sub, isIn_lit σ σ (nI S) 0 (nI (2 ^ n) - 1) (lo' := 0) (hi' := (nI (2 ^ n) - 1).toInt64) rfl rfl, in_eq, sb, if01, if_pos c1, bitCount_eq σ hS1, sb, bcE, if_neg c7']
      have M := M0 σ hS hP
      rw [if_neg c7'] at M
      exact ⟨_, _, _, X, M, Fr.refl⟩
  · refine ⟨-3, σ, σ, ?_, ?_, Fr.refl⟩
    · unfold fX0_trip
      rw [e_0_i hS, hP.2.1, sub, isIn_lit σ σ a 0 (nI (2 ^ n) - 1) (lo' := 0) (hi' := (nI (2 ^ n) - 1).toInt64) rfl rfl, in_eq, sb, if01, if_neg c1]
    · unfold fX7_trip
      rw [e_1064_i hS, hP.2.2.1, sub, in_eq, sb, if01, if_neg c1]
end TRIPM
