set_option maxRecDepth 100000
/-! the evenest row: the model's way -/
def pij (i j k : Nat) : Nat := if k = i then j else if k = j then i else k
theorem pij_inv (i j k : Nat) : pij i j (pij i j k) = k := by
  unfold pij
  (repeat' split) <;> omega
theorem pij_lt {i j k m : Nat} (hi : i < m) (hj : j < m) (hk : k < m) : pij i j k < m := by
  unfold pij
  (repeat' split) <;> omega
def Sm (f g : Nat → Nat) (m : Nat) : Prop := (∀ a b, a < m → b < m → g a = g b → a = b) ∧ ∀ v, (∃ k, k < m ∧ g k = v) ↔ ∃ k, k < m ∧ f k = v
theorem Sm.swap {f g : Nat → Nat} {m i j : Nat} (h : Sm f g m) (hi : i < m) (hj : j < m) : Sm f (fun k => g (pij i j k)) m := by
  refine ⟨fun a b ha hb e => ?_, fun v => Iff.trans ?_ (h.2 v)⟩
  · have := h.1 _ _ (pij_lt hi hj ha) (pij_lt hi hj hb) e
    rw [← pij_inv i j a, this, pij_inv]
  · constructor
    · rintro ⟨k, k1, k2⟩
      exact ⟨_, pij_lt hi hj k1, k2⟩
    · rintro ⟨k, k1, k2⟩
      exact ⟨pij i j k, pij_lt hi hj k1, by simp only [pij_inv]; exact k2⟩
theorem Sm.of {f : Nat → Nat} {m : Nat} (h : Unl f m) : Sm f f m := by
  refine ⟨fun a b ha hb e => ?_, fun _ => Iff.rfl⟩
  rcases Nat.lt_trichotomy a b with c | c | c
  · exact absurd e (h a b c hb)
  · exact c
  · exact absurd e.symm (h b a c ha)
section EVM
variable {σ τ : St} {z nt m : Nat} {w f : Nat → Nat}
def RwI (z nt m : Nat) (f g : Nat → Nat) (τ : St) : Prop := (∀ k, k < m → s_i τ (z + 1081) k = nI (g k) ∧ g k < nt) ∧ Sm f g m
theorem sort_in (hS : Sh σ z) (h7 : m ≤ 7) (h40 : nt ≤ 40) {i : Nat} (hi : i < m) {g0 : Nat → Nat} (hg : RwI z nt m f g0 σ) (ha : ∀ a k, a < i → a < k → k < m → g0 a < g0 k) : ∃ σ1, loopF fuel (fun y => lX7_evenest_53 (nI m) (z + 1064) (nI i) y.1 y.2) (σ, nI (i + 1)) = some σ1 ∧ Fr (PL z [(1081, none)]) σ σ1 ∧ ∃ g, RwI z nt m f g σ1 ∧ ∀ a k, a < i + 1 → a < k → k < m → g a < g k := by
  obtain ⟨σ1, l1, l2⟩ := loopF_inv (b := fun y : St × Int32 => lX7_evenest_53 (nI m) (z + 1064) (nI i) y.1 y.2) (fun n s => s.2 = nI (i + 1 + n) ∧ Fr (PL z [(1081, none)]) σ s.1 ∧ ∃ g, RwI z nt m f g s.1 ∧ (∀ a k, a < i → a < k → k < m → g a < g k) ∧ ∀ k, i < k → k < i + 1 + n → g i < g k) (m - (i + 1)) (Q := fun s => Fr (PL z [(1081, none)]) σ s ∧ ∃ g, RwI z nt m f g s ∧ ∀ a k, a < i + 1 → a < k → k < m → g a < g k) (by
    rintro n ⟨τ, y⟩ hn ⟨i1, i2, g, ⟨i3, i4⟩, i5, i6⟩
    simp only at i1 i2 i3
    obtain ⟨j, hj⟩ : ∃ j, j = i + 1 + n := ⟨_, rfl⟩
    rw [← hj] at i1 i6
    have hjm : j < m := by omega
    subst i1
    have hT : Sh τ z := i2.sh hS (by decide)
    obtain ⟨p1, p2⟩ := i3 i hi
    obtain ⟨q1, q2⟩ := i3 j hjm
    show ∃ t, lX7_evenest_53 (nI m) (z + 1064) (nI i) τ (nI j) = _ ∧ _
    have ev := Eq.refl (lX7_evenest_53 (nI m) (z + 1064) (nI i) τ (nI j))
    conv at ev => rhs; unfold lX7_evenest_53
    rw [if_neg (nI_ge hjm (by omega)), e_1064_32 hT, a_1081 hT (by omega), e_1064_32 hT, a_1081 hT (by omega), p1, q1] at ev
    simp only [jn, e_1064_32 hT, a_1081 hT (show i < 7 by omega), a_1081 hT (show j < 7 by omega), s_1081 hT (show j < 7 by omega), e_1064_32 (Sh_setI.mpr hT), s_1081 (Sh_setI.mpr hT) (show i < 7 by omega), p1, q1, nI_1] at ev
    rw [ev]
    have ne : j ≠ i := by omega
    by_cases c : nI (g j) ≤ nI (g i)
    · rw [if_pos c]
      have hne : g j < g i := by
        have h1 := (nI_leI (by omega) (by omega)).mp c
        have h2 : g j ≠ g i := fun q => ne (i4.1 j i hjm hi q)
        omega
      refine ⟨_, rfl, by simp only; rw [hj]; rfl, (i2.aS (o := 1081) rfl).aS (o := 1081) rfl, fun k => g (pij i j k), ⟨fun k hk => ?_, i4.swap hi hjm⟩, fun a k h1 h2 h3 => ?_, fun k h1 h2 => ?_⟩
      · have hb := (i3 _ (pij_lt hi hjm hk)).2
        refine ⟨?_, hb⟩
        simp only
        by_cases e1 : k = i
        · subst e1
          rw [gi_eq]
          unfold pij
          rw [if_pos rfl]
        · rw [gi_nj e1]
          by_cases e2 : k = j
          · subst e2
            rw [gi_eq, Int32.add_sub_cancel]
            unfold pij
            rw [if_neg e1, if_pos rfl]
          · rw [gi_nj e2, (i3 k hk).1]
            unfold pij
            rw [if_neg e1, if_neg e2]
      · have e : pij i j a = a := by unfold pij; rw [if_neg (by omega), if_neg (by omega)]
        simp only [e]
        refine i5 a _ h1 ?_ (pij_lt hi hjm h3)
        unfold pij
        (repeat' split) <;> omega
      · have e : pij i j i = j := by unfold pij; rw [if_pos rfl]
        simp only [e]
        by_cases e2 : k = j
        · subst e2
          have : pij i k k = i := by unfold pij; rw [if_neg ne, if_pos rfl]
          rw [this]
          exact hne
        · have : pij i j k = k := by unfold pij; rw [if_neg (by omega), if_neg e2]
          rw [this]
          have := i6 k h1 (by omega)
          omega
    · rw [if_neg c]
      have hlt : g i < g j := by
        have h1 := fun q => c ((nI_leI (a := g j) (b := g i) (by omega) (by omega)).mpr q)
        exact Nat.lt_of_not_le h1
      refine ⟨_, rfl, by simp only; rw [hj]; rfl, (i2.aS (o := 1081) rfl).aS (o := 1081) rfl, g, ⟨fun k hk => ?_, i4⟩, i5, fun k h1 h2 => ?_⟩
      · refine ⟨?_, (i3 k hk).2⟩
        simp only
        by_cases e1 : k = i
        · subst e1
          rw [gi_eq]
        · rw [gi_nj e1]
          by_cases e2 : k = j
          · subst e2
            rw [gi_eq, Int32.add_comm, Int32.add_sub_cancel]
          · rw [gi_nj e2]
            exact (i3 k hk).1
      · by_cases e2 : k = j
        · subst e2; exact hlt
        · exact i6 k h1 (by omega)) (by
    rintro ⟨τ, y⟩ ⟨i1, i2, g, i3, i5, i6⟩
    simp only at i1 i2 i3
    subst i1
    show ∃ t, lX7_evenest_53 (nI m) (z + 1064) (nI i) τ (nI (i + 1 + (m - (i + 1)))) = _ ∧ _
    unfold lX7_evenest_53
    rw [if_pos (nI_le (by omega) (by omega))]
    refine ⟨_, rfl, i2, g, i3, fun a k h1 h2 h3 => ?_⟩
    by_cases e : a = i
    · subst e
      exact i6 k h2 (by omega)
    · exact i5 a k (by omega) h2 h3) (s := (σ, nI (i + 1))) ⟨rfl, Fr.refl, g0, hg, ha, fun k h1 h2 => by omega⟩ fuel (fuel_lt (by omega))
  exact ⟨σ1, l1, l2⟩
theorem sort_eq (hS : Sh σ z) (h7 : m ≤ 7) (h40 : nt ≤ 40) (hg : RwI z nt m f f σ) : ∃ σ1, loopF fuel (fun y => lX7_evenest_41 (nI m) (z + 1064) y.1 y.2) (σ, 0) = some σ1 ∧ Fr (PL z [(1081, none)]) σ σ1 ∧ ∃ g, RwI z nt m f g σ1 ∧ ∀ a k, a < k → k < m → g a < g k := by
  obtain ⟨σ1, l1, l2⟩ := loopF_inv (b := fun y : St × Int32 => lX7_evenest_41 (nI m) (z + 1064) y.1 y.2) (fun i s => s.2 = nI i ∧ Fr (PL z [(1081, none)]) σ s.1 ∧ ∃ g, RwI z nt m f g s.1 ∧ ∀ a k, a < i → a < k → k < m → g a < g k) m (Q := fun s => Fr (PL z [(1081, none)]) σ s ∧ ∃ g, RwI z nt m f g s ∧ ∀ a k, a < k → k < m → g a < g k) (by
    rintro i ⟨τ, y⟩ hi ⟨i1, i2, g, i3, i4⟩
    simp only at i1 i2 i3
    subst i1
    have hT : Sh τ z := i2.sh hS (by decide)
    obtain ⟨τ1, t1, t2, t3⟩ := sort_in hT h7 h40 hi i3 i4
    show ∃ t, lX7_evenest_41 (nI m) (z + 1064) τ (nI i) = _ ∧ _
    unfold lX7_evenest_41
    rw [if_neg (nI_ge hi (by omega)), nI_1, t1, sb]
    exact ⟨_, rfl, rfl, (i2.transL t2).inL (by decide), t3⟩) (by
    rintro ⟨τ, y⟩ ⟨i1, i2, g, i3, i4⟩
    simp only at i1 i2 i3
    subst i1
    show ∃ t, lX7_evenest_41 (nI m) (z + 1064) τ (nI m) = _ ∧ _
    unfold lX7_evenest_41
    rw [if_pos (nI_le (Nat.le_refl m) (by omega))]
    exact ⟨_, rfl, i2, g, i3, fun a k h1 h2 => i4 a k (by omega) h1 h2⟩) (s := (σ, 0)) ⟨rfl, Fr.refl, f, hg, fun a k h => absurd h (Nat.not_lt_zero a)⟩ fuel (fuel_lt (by omega))
  exact ⟨σ1, l1, l2⟩
def duS (pre : List Nat) (v : Nat) : Nat → Int32
  | 0 => 1
  | i + 1 => if duS pre v i = 0 then 0 else if pre.getD i 0 = v then 0 else 1
theorem duS_iff (pre : List Nat) (v : Nat) : ∀ i, (duS pre v i = 0 ∧ ∃ k, k < i ∧ pre.getD k 0 = v) ∨ (duS pre v i = 1 ∧ ¬ ∃ k, k < i ∧ pre.getD k 0 = v)
  | 0 => Or.inr ⟨rfl, fun ⟨k, h, _⟩ => Nat.not_lt_zero k h⟩
  | i + 1 => by
    unfold duS
    rcases duS_iff pre v i with ⟨h1, k, k1, k2⟩ | ⟨h1, h2⟩
    · rw [if_pos h1]
      exact Or.inl ⟨rfl, k, by omega, k2⟩
    · rw [if_neg (by rw [h1]; decide)]
      by_cases c : pre.getD i 0 = v
      · rw [if_pos c]
        exact Or.inl ⟨rfl, i, by omega, c⟩
      · rw [if_neg c]
        refine Or.inr ⟨rfl, fun ⟨k, k1, k2⟩ => ?_⟩
        by_cases e : k = i
        · subst e; exact c k2
        · exact h2 ⟨k, by omega, k2⟩
theorem duS_eq (pre : List Nat) (v : Nat) : duS pre v pre.length = if pre.contains v = true then 0 else 1 := by
  rcases duS_iff pre v pre.length with ⟨h1, h2⟩ | ⟨h1, h2⟩
  · rw [h1, if_pos (by rw [List.contains_iff_mem]; exact mem_getD.mpr h2)]
  · rw [h1, if_neg (by rw [List.contains_iff_mem]; exact fun q => h2 (mem_getD.mp q))]
theorem dup_eq (hT : Sh τ z) {pre : List Nat} {v : Nat} (hl : pre.length < 7) (hu : ∀ u ∈ pre, u < 40) (hv : v ≤ 40) (ho : OrP z 1082 (pre ++ [v]) τ) : loopF fuel (fun y => lX7_evenest_176 (nI pre.length) τ (z + 1064) y.1 y.2) (1, 0) = some (if pre.contains v = true then 0 else 1) := by
  have r1 : ∀ i, i < pre.length → s_i τ (z + 1082) i = nI (pre.getD i 0) := fun i hi => by rw [ho i (by rw [len1]; omega), gD_l hi]
  have r2 : s_i τ (z + 1082) pre.length = nI v := by rw [ho pre.length (by rw [len1]; omega), gD_r]
  have r3 : ∀ i, i < pre.length → pre.getD i 0 < 40 := fun i hi => hu _ (mem_getD.mpr ⟨i, hi, rfl⟩)
  rw [← duS_eq]
  refine loopF_seq (st := fun i => (duS pre v i, nI i)) pre.length (fun i hi => ?_) ?_ fuel (fuel_lt (by omega))
  · show lX7_evenest_176 (nI pre.length) τ (z + 1064) (duS pre v i) (nI i) = _
    have h1 := r3 i hi
    unfold lX7_evenest_176
    rw [if_neg (nI_ge hi (by omega))]
    simp only [jn, e_1064_33 hT, a_1082 hT (show i < 7 by omega), a_1082 hT hl, r1 i hi, r2, nI_1]
    show _ = some (Sum.inl (duS pre v (i + 1), nI (i + 1)))
    conv => rhs; unfold duS
    by_cases c1 : duS pre v i = 0
    · rw [if_pos c1, if_pos c1]
    · rw [if_neg c1, if_neg c1]
      by_cases c2 : pre.getD i 0 = v
      · rw [if_pos (by rw [c2]), if_pos c2]
      · rw [if_neg (fun q => c2 ((nI_eq (by omega) (by omega)).mp q)), if_neg c2]
  · show lX7_evenest_176 (nI pre.length) τ (z + 1064) (duS pre v pre.length) (nI pre.length) = _
    unfold lX7_evenest_176
    rw [if_pos (nI_le (Nat.le_refl _) (by omega))]
def EMI (σ0 : St) (z nt m : Nat) (w : Nat → Nat) (pre : List Nat) (v : Nat) (a : Option (List Nat)) (s : St × Int32 × Int32) : Prop :=
  s.2.2 = nI pre.length ∧ Fr (PL z [(1082, none), (1083, none)]) σ0 s.1 ∧ OrI z 1082 pre v s.1 ∧ (∀ u ∈ pre, u < m) ∧ EvA w z 1083 m nt (-1) a s.2.1 s.1
def EMP (σ0 : St) (z nt m : Nat) (w : Nat → Nat) (pre : List Nat) (a : Option (List Nat)) (s : St × Int32 × Int32) : Prop :=
  s.2.2 = nI pre.length - 1 ∧ Fr (PL z [(1082, none), (1083, none)]) σ0 s.1 ∧ OrP z 1082 pre s.1 ∧ (∀ u ∈ pre, u < m) ∧ EvA w z 1083 m nt (-1) a s.2.1 s.1
theorem getD_map {r : Nat → Nat} {p : List Nat} {i : Nat} (h : i < p.length) : (p.map r).getD i 0 = r (p.getD i 0) := by
  simp only [List.getD_eq_getElem?_getD, List.getElem?_map, List.getElem?_eq_getElem h, Option.map_some, Option.getD_some]
/-- the row at hand is copied -/
theorem cpyR_eq (hS : Sh τ z) (h7 : m ≤ 7) {r : Nat → Nat} (hr : ∀ k, k < m → s_i τ (z + 1081) k = nI (r k)) {p : List Nat} (hp : p.length = m) (hu : ∀ u ∈ p, u < m) (ho : OrP z 1082 p τ) : ∃ σ1, loopF fuel (fun y => lX7_evenest_275 (nI m) (z + 1064) y.1 y.2) (τ, 0) = some σ1 ∧ Fr (PL z [(1083, none)]) τ σ1 ∧ OrP z 1083 (p.map r) σ1 := by
  obtain ⟨σ1, l1, l2, l3⟩ := loopF_inv (b := fun y : St × Int32 => lX7_evenest_275 (nI m) (z + 1064) y.1 y.2) (fun i s => s.2 = nI i ∧ Fr (PL z [(1083, none)]) τ s.1 ∧ ∀ k, k < i → s_i s.1 (z + 1083) k = nI ((p.map r).getD k 0)) m (Q := fun s => Fr (PL z [(1083, none)]) τ s ∧ ∀ k, k < m → s_i s (z + 1083) k = nI ((p.map r).getD k 0)) (by
    rintro i ⟨ρ, y⟩ hi ⟨i1, i2, i3⟩
    simp only at i1 i2 i3
    subst i1
    have hT : Sh ρ z := i2.sh hS (by decide)
    have hx := hu _ (mem_getD.mpr ⟨i, by omega, rfl⟩)
    show ∃ t, lX7_evenest_275 (nI m) (z + 1064) ρ (nI i) = _ ∧ _
    unfold lX7_evenest_275
    rw [if_neg (nI_ge hi (by omega)), e_1064_34 hT, e_1064_32 hT, e_1064_33 hT, a_1082 hT (by omega), i2.kia hS 1082 (by decide) rfl, ho i (by omega), a_1081 hT (by omega), i2.kia hS 1081 (by decide) rfl, hr _ hx, s_1083 hT (by omega), nI_1]
    refine ⟨_, rfl, rfl, i2.aS (o := 1083) rfl, fun k hk => ?_⟩
    simp only
    by_cases e : k = i
    · subst e
      rw [gi_eq, getD_map (by omega)]
    · rw [gi_nj e]
      exact i3 k (by omega)) (by
    rintro ⟨ρ, y⟩ ⟨i1, i2, i3⟩
    simp only at i1 i2 i3
    subst i1
    show ∃ t, lX7_evenest_275 (nI m) (z + 1064) ρ (nI m) = _ ∧ _
    unfold lX7_evenest_275
    rw [if_pos (nI_le (Nat.le_refl m) (by omega))]
    exact ⟨_, rfl, i2, i3⟩) (s := (τ, 0)) ⟨rfl, Fr.refl, fun k hk => absurd hk (Nat.not_lt_zero k)⟩ fuel (fuel_lt (by omega))
  exact ⟨σ1, l1, l2, fun i hi => l3 i (by rw [List.length_map] at hi; omega)⟩
theorem evM_eq (hS : Sh σ z) (hT : Th σ z nt) (hw : Wt σ z nt w) (h1 : 1 ≤ m) (h7 : m ≤ 7) {r : Nat → Nat} (hr : ∀ k, k < m → s_i σ (z + 1081) k = nI (r k) ∧ r k < nt) (h0 : s_i σ (z + 1082) 0 = -1) : ∃ σ1 x, loopF fuel (fun y => lX7_evenest_154 (z + 1064) (nI m) y.1 y.2.1 y.2.2) (σ, (-1), 0) = some σ1 ∧ Fr (PL z [(1082, none), (1083, none)]) σ σ1 ∧ EvA w z 1083 m nt (-1) ((List.range' 0 m).foldl (sub okM (fun a p => upB w a (p.map r)) m 0 (m - 1) []) none) x σ1 := by
  have h40 := hT.1
  have base : ∀ pre v a s, pre.length < m → v ≤ m → EMI σ z nt m w pre v a s → ∃ τ, τ = setI s.1 (z + 1082) pre.length (nI v) ∧ Sh τ z ∧ Th τ z nt ∧ Wt τ z nt w ∧ (∀ k, k < m → s_i τ (z + 1081) k = nI (r k)) ∧ Fr (PL z [(1082, none), (1083, none)]) σ τ ∧ OrP z 1082 (pre ++ [v]) τ ∧ OrI z 1082 pre (v + 1) τ ∧ EvA w z 1083 m nt (-1) a s.2.1 τ ∧ lX7_evenest_154 (z + 1064) (nI m) s.1 s.2.1 s.2.2 = (if v = m then some (.inl (τ, s.2.1, nI pre.length - 1)) else if pre.contains v = true then some (.inl (τ, s.2.1, nI pre.length)) else if pre.length + 1 = m then ((fX7_unevenOf τ (z + 1064) (nI m)).bind fun x45 => if s.2.1 = -1 then ((loopF fuel (fun y => lX7_evenest_275 (nI m) (z + 1064) y.1 y.2) (τ, 0)).bind fun σ54 => some (.inl (σ54, x45, nI pre.length))) else if s.2.1 ≤ x45 then some (.inl (τ, s.2.1, nI pre.length)) else ((loopF fuel (fun y => lX7_evenest_275 (nI m) (z + 1064) y.1 y.2) (τ, 0)).bind fun σ54 => some (.inl (σ54, x45, nI pre.length)))) else some (.inl (setI τ (z + 1082) (pre.length + 1) (-1), s.2.1, nI (pre.length + 1)))) := by
    rintro pre v a ⟨τ0, x, p⟩ hl hv ⟨i1, i2, i3, i4, i5⟩
    simp only at i1 i2 i3 i4 i5 ⊢
    subst i1
    have hS0 : Sh τ0 z := i2.sh hS (by decide)
    have fr : Fr (PL z [(1082, none), (1083, none)]) σ (setI τ0 (z + 1082) pre.length (nI v)) := i2.aS (o := 1082) rfl
    have hS1 : Sh (setI τ0 (z + 1082) pre.length (nI v)) z := hS0
    have hT1 : Th (setI τ0 (z + 1082) pre.length (nI v)) z nt := hT.keep hS fr (by decide)
    have hw1 : Wt (setI τ0 (z + 1082) pre.length (nI v)) z nt w := fun t ht => by
      rw [fr.kia hS 1073 (by decide) rfl]
      exact hw t ht
    have hf1 : ∀ k, k < m → s_i (setI τ0 (z + 1082) pre.length (nI v)) (z + 1081) k = nI (r k) := fun k hk => by
      rw [fr.kia hS 1081 (by decide) rfl]
      exact (hr k hk).1
    refine ⟨_, rfl, hS1, hT1, hw1, hf1, fr, i3.full, i3.inc, i5.set (by decide) _, ?_⟩
    generalize hτ : setI τ0 (z + 1082) pre.length (nI v) = τ at hS1 hT1 hw1 hf1 fr ⊢
    have rd : ∀ {α : Type} (K : Int32 → Option α), o_aI τ (z + 1082) 0 (nI pre.length) K = K (nI v) := fun K => by rw [a_1082 hS1 (by omega), ← hτ, gi_eq]
    have hdu := dup_eq hS1 (pre := pre) (v := v) (by omega) (fun u hu => by have := i4 u hu; omega) (by omega) (by rw [← hτ]; exact i3.full)
    have ek : nI m - 1 = nI (m - 1) := by
      have := nI_pred (m - 1)
      rw [show m - 1 + 1 = m by omega] at this
      exact this
    unfold lX7_evenest_154
    rw [if_neg (nI_pos (by omega)), e_1064_33 hS0, a_1082 hS0 (by omega), i3.2, Int32.sub_add_cancel, s_1082 hS0 (by omega), hτ, hdu, sb, e_1064_33 hS1, rd]
    simp only [jn]
    by_cases c1 : v = m
    · rw [if_pos (by rw [c1]), if_pos c1, Int32.sub_eq_add_neg]
    · rw [if_neg (fun q => c1 ((nI_eq (by omega) (by omega)).mp q)), if_neg c1]
      cases c3 : pre.contains v with
      | true => simp only [if_true]
      | false =>
        simp only [Bool.false_eq_true, if_false, i10, ek]
        by_cases c4 : pre.length + 1 = m
        · rw [if_pos c4, if_pos (by rw [show m - 1 = pre.length by omega]), e_1064_k hS1]
        · rw [if_neg c4, if_neg (fun q => c4 (by have := (nI_eq (by omega) (by omega)).mp q; omega)), e_1064_33 hS1, nI_1, s_1082 hS1 (by omega)]
  have pl : ∀ pre v, (∀ u ∈ pre, u < m) → v < m → ∀ u ∈ pre ++ [v], u < m := by
    intro pre v hp hv u hu
    rcases List.mem_append.mp hu with h | h
    · exact hp u h
    · rw [List.mem_singleton.mp h]; exact hv
  have plr : ∀ p : List Nat, (∀ u ∈ p, u < m) → ∀ u ∈ p.map r, u < nt := by
    intro p hp u hu
    obtain ⟨x, x1, x2⟩ := List.mem_map.mp hu
    rw [← x2]
    exact (hr x (hp x x1)).2
  obtain ⟨t, t1, t2⟩ := tree (b := fun y : St × Int32 × Int32 => lX7_evenest_154 (z + 1064) (nI m) y.1 y.2.1 y.2.2) okM (fun a p => upB w a (p.map r)) (EMI σ z nt m w) (EMP σ z nt m w) m m 0 (Nat.zero_le _)
    (by
      intro pre v a s hl hv hI hok
      obtain ⟨τ, -, hS1, hT1, hw1, hf1, fr, oP, oI, hE, ev⟩ := base pre v a s hl (by omega) hI
      have hp := hI.2.2.2.1
      show ∃ t, lX7_evenest_154 (z + 1064) (nI m) s.1 s.2.1 s.2.2 = _ ∧ _
      unfold okM at hok
      rw [Bool.not_eq_false'] at hok
      rw [ev, if_neg (by omega), if_pos hok]
      exact ⟨_, rfl, rfl, fr, oI, hp, hE⟩)
    (by
      intro pre v a s hl hv hI hok
      obtain ⟨τ, -, hS1, hT1, hw1, hf1, fr, oP, oI, hE, ev⟩ := base pre v a s (by omega) (by omega) hI
      have hp := hI.2.2.2.1
      unfold okM at hok
      rw [Bool.not_eq_true'] at hok
      have hpv := pl pre v hp hv
      have hlen : ((pre ++ [v]).map r).length = m := by rw [List.length_map, len1]; omega
      have un : fX7_unevenOf τ (z + 1064) (nI m) = some (nI (kN w ((pre ++ [v]).map r))) := by
        rw [unevenOfM_eq hS1 hT1 h1 h7 (o := fun i => (pre ++ [v]).getD i 0) (g := fun i => ((pre ++ [v]).map r).getD i 0) (fun k hk => by
          have hk2 : k < (pre ++ [v]).length := by rw [len1]; omega
          have hx := hpv _ (mem_getD.mpr ⟨k, hk2, rfl⟩)
          refine ⟨oP k hk2, by omega, ?_, ?_⟩
          · rw [getD_map hk2]
            exact hf1 _ hx
          · rw [getD_map hk2]
            exact (hr _ hx).2)]
        have := (unev_kN hw1 (p := (pre ++ [v]).map r) (by omega) (plr _ hpv)).1
        rw [hlen] at this
        rw [this]
      have hk := (unev_kN hw1 (p := (pre ++ [v]).map r) (by omega) (plr _ hpv)).2
      obtain ⟨σ2, d1, d2, d3⟩ := cpyR_eq hS1 h7 hf1 (p := pre ++ [v]) (by rw [len1]; omega) hpv oP
      have take : lsB w a ((pre ++ [v]).map r) = true → EMI σ z nt m w pre (v + 1) (upB w a ((pre ++ [v]).map r)) (σ2, nI (kN w ((pre ++ [v]).map r)), nI pre.length) := by
        intro hl2
        refine ⟨rfl, (fr.transL d2).inL (by decide), ⟨fun i hi => ?_, ?_⟩, hp, ?_⟩
        · rw [d2.kia hS1 1082 (by decide) rfl]
          exact oI.1 i hi
        · rw [d2.kia hS1 1082 (by decide) rfl]
          exact oI.2
        · rw [upB_ls hl2]
          exact ⟨rfl, hlen, plr _ hpv, d3⟩
      show ∃ t, lX7_evenest_154 (z + 1064) (nI m) s.1 s.2.1 s.2.2 = _ ∧ _
      rw [ev, if_neg (by omega), hok, if_neg (by decide), if_pos hl, un, sb, d1, sb]
      cases a with
      | none =>
        have hx : s.2.1 = -1 := hE
        rw [if_pos hx]
        exact ⟨_, rfl, take rfl⟩
      | some q =>
        obtain ⟨e1, e2, e3, e4⟩ := hE
        have hq := (unev_kN hw1 (by omega) e3).2
        rw [e1, if_neg (neg1_ne (by omega))]
        by_cases c : kN w ((pre ++ [v]).map r) < kN w q
        · rw [if_neg (nI_ge c (by omega))]
          exact ⟨_, rfl, take (decide_eq_true c)⟩
        · rw [if_pos (nI_le (by omega) (by omega))]
          refine ⟨_, rfl, rfl, fr, oI, hp, ?_⟩
          rw [show upB w (some q) ((pre ++ [v]).map r) = some q from upB_nl (decide_eq_false c)]
          exact ⟨rfl, e2, e3, e4⟩)
    (by
      intro pre v a s hl hv hI hok
      obtain ⟨τ, hτ, hS1, hT1, hw1, hf1, fr, oP, oI, hE, ev⟩ := base pre v a s (by omega) (by omega) hI
      have hp := hI.2.2.2.1
      unfold okM at hok
      rw [Bool.not_eq_true'] at hok
      show ∃ t, lX7_evenest_154 (z + 1064) (nI m) s.1 s.2.1 s.2.2 = _ ∧ _
      rw [ev, if_neg (by omega), hok, if_neg (by decide), if_neg (by omega)]
      refine ⟨_, rfl, by rw [len1], fr.aS (o := 1082) rfl, ?_, pl pre v hp hv, hE.set (by decide) _⟩
      rw [hτ]
      exact hI.2.2.1.dn rfl)
    (by
      intro pre a s hl hI
      obtain ⟨τ, hτ, hS1, hT1, hw1, hf1, fr, oP, oI, hE, ev⟩ := base pre m a s hl (Nat.le_refl _) hI
      have hp := hI.2.2.2.1
      show ∃ t, lX7_evenest_154 (z + 1064) (nI m) s.1 s.2.1 s.2.2 = _ ∧ _
      rw [ev, if_pos rfl]
      exact ⟨_, rfl, rfl, fr, fun i hi => oI.1 i hi, hp, hE⟩)
    (by
      rintro pre c a s ⟨i1, i2, i3, i4, i5⟩
      refine ⟨by rw [i1, len1, nI_pred], i2, i3.out, fun u hu => i4 u (List.mem_append_left _ hu), i5⟩)
    (m - 1) [] none (σ, (-1), 0) 0 (by simp only [List.length_nil]; omega) (Nat.zero_le _) ⟨rfl, Fr.refl, ⟨fun i hi => absurd hi (Nat.not_lt_zero i), h0⟩, fun u hu => absurd hu List.not_mem_nil, rfl⟩
  obtain ⟨σ1, x, p⟩ := t
  obtain ⟨i1, i2, -, -, i5⟩ := t2
  simp only [Nat.sub_zero] at i1 i2 i5
  refine ⟨σ1, x, t1.loop' ?_ ?_, i2, i5⟩
  · show lX7_evenest_154 (z + 1064) (nI m) σ1 x p = _
    rw [i1]
    unfold lX7_evenest_154
    rw [if_pos (by decide)]
  · have q1 := Bd_le (show m ≤ 40 by omega) (m - 1)
    have q2 : 50 ^ (m - 1 + 1) ≤ 50 ^ 7 := Nat.pow_le_pow_right (by decide) (by omega)
    have q3 : 50 ^ 7 < fuel := by decide
    omega
theorem evenest_sim (hS : Sh σ z) (hT : Th σ z nt) (a : Int64) (c d : Int32) : ∃ v σ1 σ2, fX0_evenest σ z a c d = some (v, σ1) ∧ fX7_evenest σ1 (z + 1064) a c d = some (v, σ2) ∧ Fr (PL z [(26, none), (27, none), (28, none), (1081, none), (1082, none), (1083, none)]) σ σ2 := by
  by_cases c1 : 1 ≤ c ∧ c ≤ 7
  · obtain ⟨m, hm, rfl⟩ : ∃ m, m ≤ 7 ∧ c = nI m := in_lit (hi := 7) (n := 7) rfl ⟨Int32.le_trans (by decide) c1.1, c1.2⟩
    have h1 : 1 ≤ m := (nI_leI (a := 1) (by decide) (by omega)).mp c1.1
    have h40 := hT.1
    obtain ⟨f, hf⟩ := told_ex a
    obtain ⟨v, σ1, x1, x2, x3, x4⟩ := layHand_eq hS hT.2.1 hT.1 hf h1 hm
    have hS1 : Sh σ1 z := x2.sh hS (by decide)
    have hT1 := hT.keep hS x2 (by decide)
    -- the model's first step, from any later heap
    have M : ∀ ρ, Sh ρ z → Th ρ z nt → ∃ v' ρ1, fX7_evenest ρ (z + 1064) a (nI m) d = (if v' = 1 then (if 0 ≤ d then ((loopF fuel (fun y => lX7_evenest_41 (nI m) (z + 1064) y.1 y.2) (ρ1, 0)).bind <| fun σ26 => o_gR σ26 (z + 1064) 5 33 fun r27 => o_sI σ26 r27 0 0 (-1) fun σ28 => (loopF fuel (fun y => lX7_evenest_154 (z + 1064) (nI m) y.1 y.2.1 y.2.2) (σ28, (-1), 0)).bind <| fun σ62 => if nI m ≤ d then some ((-1), σ62) else o_gR σ62 (z + 1064) 5 34 fun r63 => o_aI σ62 r63 0 d fun x64 => some (x64, σ62)) else some ((-3), ρ1)) else some (v', ρ1)) ∧ Fr (PL z [(1081, none)]) ρ ρ1 ∧ ((v' = -2 ∧ ¬ ∀ k, k < m → f k < nt) ∨ (v' = -3 ∧ (∀ k, k < m → f k < nt) ∧ ¬ Unl f m) ∨ (v' = 1 ∧ (∀ k, k < m → f k < nt) ∧ Unl f m ∧ ∀ k, k < m → s_i ρ1 (z + 1081) k = nI (f k))) := by
      intro ρ hR hTR
      obtain ⟨v', ρ1, y1, y2, y3⟩ := take_eq hR hTR.2.2.1 hTR.1 hf hm
      refine ⟨v', ρ1, ?_, y2, y3⟩
      unfold fX7_evenest
      rw [in_eq, sb, if01, if_pos c1, e_1064_k hR, y1, sb]
      rfl
    have X : fX0_evenest σ z a (nI m) d = if v = 0 then (if 0 ≤ d then (o_gR σ1 z 0 15 fun r3 => o_sI σ1 r3 0 0 (-1) fun σ4 => (loopF fuel (fun y => lX0_evenest_46 z (nI m) y.1 y.2.1 y.2.2) (σ4, 268435456, 0)).bind <| fun σ28 => if nI m ≤ d then some ((-1), σ28) else o_gR σ28 z 0 16 fun r29 => o_aI σ28 r29 0 d fun x30 => some (x30, σ28)) else some ((-3), σ1)) else some (v, σ1) := by
      unfold fX0_evenest
      rw [e_0_k hS, x1, sb]
      simp only [un2, jn]
      by_cases c2 : v = 0
      · rw [if_pos c2, if_pos c2, if_pos c2]
      · rw [if_neg c2, if_neg c2, if_neg c2]
    rcases x4 with ⟨rfl, n1⟩ | ⟨rfl, n1, n2⟩ | ⟨rfl, n1, n2⟩
    · obtain ⟨v', ρ1, y1, y2, y3⟩ := M σ1 hS1 hT1
      rcases y3 with ⟨rfl, m1⟩ | ⟨rfl, m1, -⟩ | ⟨rfl, m1, -⟩
      · exact ⟨_, _, _, X, y1, (x2.transL y2).inL (by decide)⟩
      · exact absurd m1 n1
      · exact absurd m1 n1
    · obtain ⟨v', ρ1, y1, y2, y3⟩ := M σ1 hS1 hT1
      rcases y3 with ⟨rfl, m1⟩ | ⟨rfl, m1, m2⟩ | ⟨rfl, m1, m2, -⟩
      · exact absurd n1 m1
      · exact ⟨_, _, _, X, y1, (x2.transL y2).inL (by decide)⟩
      · exact absurd m2 n2
    · by_cases c3 : 0 ≤ d
      · rw [if_pos rfl, if_pos c3, e_0_15 hS1] at X
        have s0 : ∀ K : St → Option (Int32 × St), o_sI σ1 (z + 27) 0 0 (-1) K = K (setI σ1 (z + 27) 0 (-1)) := fun K => s_27 (k := 0) hS1 (by decide)
        rw [s0] at X
        obtain ⟨w, hw⟩ := wt_ex hT1
        have fr2 : Fr (PL z [(27, none)]) σ1 (setI σ1 (z + 27) 0 (-1)) := Fr.sIa
        have hS2 : Sh (setI σ1 (z + 27) 0 (-1)) z := hS1
        have hT2 := hT1.keep hS1 fr2 (by decide)
        have hw2 : Wt (setI σ1 (z + 27) 0 (-1)) z nt w := fun t ht => by
          rw [fr2.kia hS1 1073 (by decide) rfl]
          exact hw t ht
        obtain ⟨σ3, xl, p1, p2, p3⟩ := evX_eq hS2 hT2 hw2 h1 hm (f := f) (fun k hk => ⟨by rw [fr2.kia hS1 26 (by decide) rfl]; exact x3 k hk, n1 k hk⟩) gi_eq
        have hS3 : Sh σ3 z := p2.sh hS2 (by decide)
        have hT3 := hT2.keep hS2 p2 (by decide)
        have frX : Fr (PL z [(26, none), (27, none), (28, none)]) σ σ3 := ((x2.transL fr2).transL p2).inL (by decide)
        rw [p1, sb] at X
        obtain ⟨v', ρ1, y1, y2, y3⟩ := M σ3 hS3 hT3
        have hR1 : Sh ρ1 z := y2.sh hS3 (by decide)
        rcases y3 with ⟨rfl, m1⟩ | ⟨rfl, m1, m2⟩ | ⟨rfl, m1, m2, m3⟩
        · exact absurd n1 m1
        · exact absurd n2 m2
        · obtain ⟨ρ2, q1, q2, r, q3, q4⟩ := sort_eq hR1 hm h40 (f := f) ⟨fun k hk => ⟨m3 k hk, m1 k hk⟩, Sm.of m2⟩
          have hR2 : Sh ρ2 z := q2.sh hR1 (by decide)
          have s0' : ∀ K : St → Option (Int32 × St), o_sI ρ2 (z + 1082) 0 0 (-1) K = K (setI ρ2 (z + 1082) 0 (-1)) := fun K => s_1082 (k := 0) hR2 (by decide)
          rw [if_pos rfl, if_pos c3, q1, sb, e_1064_33 hR2, s0'] at y1
          have frM : Fr (PL z [(1081, none), (1082, none)]) σ3 (setI ρ2 (z + 1082) 0 (-1)) := ((y2.transL q2).transL (Fr.sIa (o := 1082))).inL (by decide)
          have hR3 : Sh (setI ρ2 (z + 1082) 0 (-1)) z := hR2
          have hTR := hT3.keep hS3 frM (by decide)
          have hwR : Wt (setI ρ2 (z + 1082) 0 (-1)) z nt w := fun t ht => by
            rw [frM.kia hS3 1073 (by decide) rfl, p2.kia hS2 1073 (by decide) rfl]
            exact hw2 t ht
          obtain ⟨ρ4, xm, u1, u2, u3⟩ := evM_eq hR3 hTR hwR h1 hm (r := r) (fun k hk => ⟨by rw [gi_ne (by omega)]; exact (q3.1 k hk).1, (q3.1 k hk).2⟩) gi_eq
          have hR4 : Sh ρ4 z := u2.sh hR3 (by decide)
          rw [u1, sb] at y1
          have frA : Fr (PL z [(26, none), (27, none), (28, none), (1081, none), (1082, none), (1083, none)]) σ ρ4 := ((frX.transL frM).transL u2).inL (by decide)
          rw [subs_eq (w := w) (hand_C n1 q3.2.2 (fun i j hij hj => q4 i j hij hj)) (fun i hi => List.any_eq_true.mpr (by
            obtain ⟨k, k1, k2⟩ := (q3.2.2 (r i)).mp ⟨i, hi, rfl⟩
            exact ⟨k, List.mem_range.mpr k1, by rw [k2]; exact beq_self_eq_true _⟩)) q3.2.1] at p3
          have hne : (List.range' 0 m).foldl (sub okM (fun a p => upB w a (p.map r)) m 0 (m - 1) []) none ≠ none := foldl_some (fun a x => sub_some (fun a p => upB_some w a _) (m - 1) [] a x) (Or.inr ⟨0, by rw [List.mem_range'_1]; omega, fun a => subM_some (fun a p => upB_some w a _) (m - 1) 0 a (by omega)⟩)
          cases hA : (List.range' 0 m).foldl (sub okM (fun a p => upB w a (p.map r)) m 0 (m - 1) []) none with
          | none => exact absurd hA hne
          | some q =>
            rw [hA] at p3 u3
            obtain ⟨-, e2, -, e4⟩ := p3
            obtain ⟨-, -, -, g4⟩ := u3
            rcases pk_ix d (n := m) (by omega) with h | h | ⟨j, hj, rfl⟩
            · exact absurd c3 (by rw [i32_le]; have := i32_lt.mp h; omega)
            · rw [if_pos h] at X y1
              exact ⟨_, _, _, X, y1, frA⟩
            · rw [if_neg (nI_ge hj (by omega)), e_0_16 hS3, a_28 hS3 (by omega), e4 j (by omega)] at X
              rw [if_neg (nI_ge hj (by omega)), e_1064_34 hR4, a_1083 hR4 (by omega), g4 j (by omega)] at y1
              exact ⟨_, _, _, X, y1, frA⟩
      · rw [if_pos rfl, if_neg c3] at X
        obtain ⟨v', ρ1, y1, y2, y3⟩ := M σ1 hS1 hT1
        rcases y3 with ⟨rfl, m1⟩ | ⟨rfl, m1, m2⟩ | ⟨rfl, m1, m2, m3⟩
        · exact absurd n1 m1
        · exact absurd n2 m2
        · rw [if_pos rfl, if_neg c3] at y1
          exact ⟨_, _, _, X, y1, (x2.transL y2).inL (by decide)⟩
  · refine ⟨-3, σ, σ, ?_, ?_, Fr.refl⟩
    · unfold fX0_evenest fX0_layHand
      rw [e_0_k hS, isIn_lit σ σ c 1 7 (lo' := 1) (hi' := 7) rfl rfl, in_eq, sb, if01, if_neg c1]
      rfl
    · unfold fX7_evenest
      rw [in_eq, sb, if01, if_neg c1]
end EVM
