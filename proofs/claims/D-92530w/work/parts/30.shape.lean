set_option maxRecDepth 100000
/-! the plain law: loops, steps, the shape of the heap -/
/-- a loop by the list of its states -/
theorem loopF_seq {S R : Type} {b : S → Option (S ⊕ R)} (st : Nat → S) (N : Nat) {r : R} (hstep : ∀ k, k < N → b (st k) = some (.inl (st (k + 1)))) (hend : b (st N) = some (.inr r)) : ∀ fuel, N < fuel → loopF fuel b (st 0) = some r := by
  have key : ∀ j k, k + j = N → ∀ fuel, j < fuel → loopF fuel b (st k) = some r := by
    intro j
    induction j with
    | zero =>
      intro k hk fuel hf
      obtain ⟨f, rfl⟩ : ∃ f, fuel = f + 1 := ⟨fuel - 1, by omega⟩
      have : k = N := by omega
      subst this
      simp only [loopF, hend]
    | succ j ih =>
      intro k hk fuel hf
      obtain ⟨f, rfl⟩ : ∃ f, fuel = f + 1 := ⟨fuel - 1, by omega⟩
      simp only [loopF, hstep k (by omega)]
      exact ih (k + 1) (by omega) f (by omega)
  intro fuel hf
  exact key N 0 (by omega) fuel hf
/-- .. by an invariant over the turns -/
theorem loopF_inv {S R : Type} {b : S → Option (S ⊕ R)} (I : Nat → S → Prop) (N : Nat) {Q : R → Prop} (hstep : ∀ k s, k < N → I k s → ∃ t, b s = some (.inl t) ∧ I (k + 1) t) (hend : ∀ s, I N s → ∃ r, b s = some (.inr r) ∧ Q r) {s : S} (h0 : I 0 s) : ∀ fuel, N < fuel → ∃ r, loopF fuel b s = some r ∧ Q r := by
  have key : ∀ j k, k + j = N → ∀ fuel, j < fuel → ∀ s, I k s → ∃ r, loopF fuel b s = some r ∧ Q r := by
    intro j
    induction j with
    | zero =>
      intro k hk fuel hf s hs
      obtain ⟨f, rfl⟩ : ∃ f, fuel = f + 1 := ⟨fuel - 1, by omega⟩
      have : k = N := by omega
      subst this
      obtain ⟨r, h1, h2⟩ := hend s hs
      exact ⟨r, by simp only [loopF, h1], h2⟩
    | succ j ih =>
      intro k hk fuel hf s hs
      obtain ⟨f, rfl⟩ : ∃ f, fuel = f + 1 := ⟨fuel - 1, by omega⟩
      obtain ⟨t, h1, h2⟩ := hstep k s (by omega) hs
      obtain ⟨r, h3, h4⟩ := ih (k + 1) (by omega) f (by omega) t h2
      exact ⟨r, by simp only [loopF, h1]; exact h3, h4⟩
  intro fuel hf
  exact key N 0 (by omega) fuel hf s h0
/-- .. by a measure -/
theorem loopF_mu {S R : Type} {b : S → Option (S ⊕ R)} (I : S → Prop) (μ : S → Nat) {Q : R → Prop} (hstep : ∀ s, I s → (∃ t, b s = some (.inl t) ∧ I t ∧ μ t < μ s) ∨ ∃ r, b s = some (.inr r) ∧ Q r) : ∀ fuel s, I s → μ s < fuel → ∃ r, loopF fuel b s = some r ∧ Q r := by
  intro fuel
  induction fuel with
  | zero => intro s _ h; exact absurd h (Nat.not_lt_zero _)
  | succ f ih =>
    intro s hs hm
    rcases hstep s hs with ⟨t, h1, h2, h3⟩ | ⟨r, h1, h2⟩
    · obtain ⟨r, h4, h5⟩ := ih t h2 (by omega)
      exact ⟨r, by simp only [loopF, h1]; exact h4, h5⟩
    · exact ⟨r, by simp only [loopF, h1], h2⟩
theorem fuel_lt {n : Nat} (h : n < 1000000000) : n < fuel := by unfold fuel; omega
theorem o_gI_eq {α : Type} {σ : St} {a ci j : Nat} {K : Int32 → Option α} (hk : s_k σ a = some (.inl ci)) : o_gI σ a ci j K = K (s_i σ a j) := if_pos hk
theorem o_gL_eq {α : Type} {σ : St} {a ci j : Nat} {K : Int64 → Option α} (hk : s_k σ a = some (.inl ci)) : o_gL σ a ci j K = K (s_l σ a j) := if_pos hk
theorem o_gR_eq {α : Type} {σ : St} {a ci j b : Nat} {K : Nat → Option α} (hk : s_k σ a = some (.inl ci)) (hr : s_r σ a j = some b) : o_gR σ a ci j K = K b := by unfold o_gR; rw [if_pos hk, hr]
theorem o_pI_eq {α : Type} {σ : St} {a ci j : Nat} {v : Int32} {K : St → Option α} (hk : s_k σ a = some (.inl ci)) : o_pI σ a ci j v K = K (setI σ a j v) := if_pos hk
theorem o_pL_eq {α : Type} {σ : St} {a ci j : Nat} {v : Int64} {K : St → Option α} (hk : s_k σ a = some (.inl ci)) : o_pL σ a ci j v K = K (setL σ a j v) := if_pos hk
theorem o_pR_eq {α : Type} {σ : St} {a ci j : Nat} {v : Option Nat} {K : St → Option α} (hk : s_k σ a = some (.inl ci)) : o_pR σ a ci j v K = K (setR σ a j v) := if_pos hk
theorem o_k_eq {α : Type} {σ : St} {a ci : Nat} {K : Option α} (hk : s_k σ a = some (.inl ci)) : o_k σ a ci K = K := if_pos hk
theorem o_at_nI {α : Type} {σ : St} {a q n k : Nat} {K : Nat → Option α} (hk : s_k σ a = some (.inr (q, n))) (h : k < n) (hn : n < 2 ^ 31) : o_at σ a q (nI k) K = K k := by
  rw [o_at_eq hk (nI_in h hn), nI_clamp (by omega)]
theorem o_aI_eq {α : Type} {σ : St} {a q n k : Nat} {K : Int32 → Option α} (hk : s_k σ a = some (.inr (q, n))) (h : k < n) (hn : n < 2 ^ 31) : o_aI σ a q (nI k) K = K (s_i σ a k) := o_at_nI hk h hn
theorem o_aQ_eq {α : Type} {σ : St} {a q n k : Nat} {K : Option Nat → Option α} (hk : s_k σ a = some (.inr (q, n))) (h : k < n) (hn : n < 2 ^ 31) : o_aQ σ a q (nI k) K = K (s_r σ a k) := o_at_nI hk h hn
theorem o_aR_eq {α : Type} {σ : St} {a q n k p : Nat} {K : Nat → Option α} (hk : s_k σ a = some (.inr (q, n))) (h : k < n) (hn : n < 2 ^ 31) (hr : s_r σ a k = some p) : o_aR σ a q (nI k) K = K p := by
  unfold o_aR; rw [o_at_nI hk h hn, hr]
theorem o_sI_eq {α : Type} {σ : St} {a q n k : Nat} {v : Int32} {K : St → Option α} (hk : s_k σ a = some (.inr (q, n))) (h : k < n) (hn : n < 2 ^ 31) : o_sI σ a q (nI k) v K = K (setI σ a k v) := o_at_nI hk h hn
theorem o_sR_eq {α : Type} {σ : St} {a q n k v ci : Nat} {K : St → Option α} (hk : s_k σ a = some (.inr (q, n))) (h : k < n) (hn : n < 2 ^ 31) (hv : s_k σ v = some (.inl ci)) (hc : okA q ci = true) : o_sR σ a q (nI k) v K = K (setR σ a k (some v)) := by
  unfold o_sR; rw [o_at_nI hk h hn]; exact if_pos (by rw [hv]; exact hc)

def kTL : List Kd := [some (.inl 0), some (.inl 1), some (.inl 2), some (.inr (3, 6)), some (.inr (4, 40)), some (.inr (0, 5)), some (.inl 3), some (.inr (0, 6)), some (.inr (0, 6)), some (.inr (0, 6)), some (.inr (0, 6)), some (.inr (0, 6)), some (.inr (5, 6)), some (.inr (0, 40)), some (.inl 3), some (.inr (0, 6)), some (.inr (0, 6)), some (.inr (0, 6)), some (.inr (0, 6)), some (.inr (0, 6)), some (.inr (5, 6)), some (.inr (0, 40)), some (.inr (6, 6)), some (.inr (7, 4)), some (.inr (1, 160)), some (.inl 4), some (.inr (0, 7)), some (.inr (0, 7)), some (.inr (0, 7)), some (.inr (0, 20)), some (.inr (0, 20)), some (.inr (0, 24)), some (.inr (0, 24)), some (.inr (0, 24)), some (.inr (0, 64)), some (.inr (8, 16)), some (.inr (2, 16)), some (.inr (8, 8)), some (.inr (3, 10)), some (.inr (11, 1024)), some (.inl 5), some (.inr (0, 6)), some (.inr (0, 6)), some (.inr (0, 24)), some (.inr (0, 24)), some (.inr (0, 6)), some (.inr (0, 40)), some (.inr (0, 40)), some (.inr (0, 40)), some (.inr (0, 40)), some (.inr (0, 40)), some (.inr (0, 160)), some (.inr (0, 72)), some (.inr (0, 6)), some (.inr (0, 432)), some (.inr (0, 4)), some (.inr (0, 96)), some (.inr (0, 7)), some (.inr (0, 7)), some (.inr (0, 7)), some (.inr (0, 20)), some (.inr (0, 20)), some (.inr (0, 24)), some (.inr (0, 24)), some (.inr (0, 24)), some (.inr (0, 64)), some (.inr (0, 80)), some (.inr (0, 32)), some (.inr (0, 10)), some (.inr (0, 10))]
def kT (i : Nat) : Kd := if 40 ≤ i ∧ i < 1064 then some (.inr (0, 10)) else kTL.getD (if i < 40 then i else i - 1024) none
def rTL : List (Nat × Nat × Nat) := [(0, 0, 1), (0, 1, 2), (0, 2, 3), (0, 4, 4), (0, 6, 5), (0, 7, 6), (0, 8, 14), (0, 9, 22), (0, 10, 23), (0, 11, 24), (0, 13, 25), (0, 14, 26), (0, 15, 27), (0, 16, 28), (0, 17, 29), (0, 18, 30), (0, 20, 31), (0, 21, 32), (0, 22, 33), (0, 24, 34), (0, 25, 35), (0, 26, 36), (0, 28, 37), (0, 30, 38), (0, 32, 39), (6, 1, 7), (6, 2, 8), (6, 3, 9), (6, 4, 10), (6, 5, 11), (6, 6, 12), (6, 7, 13), (6, 8, 0), (14, 1, 15), (14, 2, 16), (14, 3, 17), (14, 4, 18), (14, 5, 19), (14, 6, 20), (14, 7, 21), (14, 8, 0), (25, 3, 0), (1064, 2, 1065), (1064, 3, 1066), (1064, 4, 1067), (1064, 5, 1068), (1064, 6, 1069), (1064, 8, 1070), (1064, 9, 1071), (1064, 10, 1072), (1064, 11, 1073), (1064, 12, 1074), (1064, 19, 1075), (1064, 27, 1076), (1064, 28, 1077), (1064, 29, 1078), (1064, 30, 1079), (1064, 31, 1080), (1064, 32, 1081), (1064, 33, 1082), (1064, 34, 1083), (1064, 36, 1084), (1064, 37, 1085), (1064, 39, 1086), (1064, 40, 1087), (1064, 41, 1088), (1064, 42, 1089), (1064, 44, 1090), (1064, 46, 1091), (1064, 48, 1092), (1064, 49, 1093)]
/-- the cells that the two constructors have made, from z on; all cells lie below the size -/
def Sh (σ : St) (z : Nat) : Prop := (∀ i, i < 1094 → s_k σ (z + i) = kT i) ∧ (∀ q ∈ rTL, s_r σ (z + q.1) q.2.1 = some (z + q.2.2)) ∧ (∀ k, k < 1024 → s_r σ (z + 39) k = some (z + 40 + k)) ∧ z + 1094 ≤ s_z σ ∧ ∀ a, s_k σ a ≠ none → a < s_z σ
theorem Sh.k {σ : St} {z : Nat} (h : Sh σ z) (i : Nat) (k : Kd) (hi : i < 1094) (hk : kT i = k) : s_k σ (z + i) = k := by rw [h.1 i hi, hk]
theorem Sh.r {σ : St} {z : Nat} (h : Sh σ z) (o j t : Nat) (hm : (o, j, t) ∈ rTL) : s_r σ (z + o) j = some (z + t) := h.2.1 _ hm
/-- what is kept between two heaps but for some places -/
def Fr (P : Nat → Nat → Prop) (σ σ' : St) : Prop := (∀ a, a < s_z σ → s_k σ' a = s_k σ a) ∧ s_z σ ≤ s_z σ' ∧ (∀ a j, a < s_z σ → ¬ P a j → s_i σ' a j = s_i σ a j ∧ s_r σ' a j = s_r σ a j ∧ s_l σ' a j = s_l σ a j) ∧ ((∀ a, s_k σ a ≠ none → a < s_z σ) → ∀ a, s_k σ' a ≠ none → a < s_z σ')
/-- places by offsets from z: a whole cell, or one slot of it -/
abbrev PlL : Type := List (Nat × Option Nat)
def PL (z : Nat) (L : PlL) : Nat → Nat → Prop := fun a j => ∃ q ∈ L, a = z + q.1 ∧ (q.2 = none ∨ q.2 = some j)
theorem Fr.refl {P : Nat → Nat → Prop} {σ : St} : Fr P σ σ := ⟨fun _ _ => rfl, Nat.le_refl _, fun _ _ _ _ => ⟨rfl, rfl, rfl⟩, fun h => h⟩
theorem Fr.trans {P Q : Nat → Nat → Prop} {σ σ1 σ2 : St} (h : Fr P σ σ1) (h2 : Fr Q σ1 σ2) : Fr (fun a j => P a j ∨ Q a j) σ σ2 := by
  refine ⟨fun a ha => ?_, Nat.le_trans h.2.1 h2.2.1, fun a j ha hn => ?_, fun hw => h2.2.2.2 (h.2.2.2 hw)⟩
  · rw [h2.1 a (Nat.lt_of_lt_of_le ha h.2.1), h.1 a ha]
  · have e1 := h.2.2.1 a j ha (fun q => hn (Or.inl q))
    have e2 := h2.2.2.1 a j (Nat.lt_of_lt_of_le ha h.2.1) (fun q => hn (Or.inr q))
    exact ⟨e2.1.trans e1.1, e2.2.1.trans e1.2.1, e2.2.2.trans e1.2.2⟩
theorem Fr.mono {P Q : Nat → Nat → Prop} {σ σ1 : St} (h : Fr P σ σ1) (hPQ : ∀ a j, P a j → Q a j) : Fr Q σ σ1 := ⟨h.1, h.2.1, fun a j ha hn => h.2.2.1 a j ha (fun q => hn (hPQ a j q)), h.2.2.2⟩
theorem Fr.transL {z : Nat} {L M : PlL} {σ σ1 σ2 : St} (h : Fr (PL z L) σ σ1) (h2 : Fr (PL z M) σ1 σ2) : Fr (PL z (L ++ M)) σ σ2 :=
  (h.trans h2).mono fun a j q => by
    rcases q with ⟨q, hq, h⟩ | ⟨q, hq, h⟩
    · exact ⟨q, List.mem_append_left _ hq, h⟩
    · exact ⟨q, List.mem_append_right _ hq, h⟩
/-- the places of one list lie in another -/
def plin (L M : PlL) : Bool := L.all fun q => M.any fun r => r.1 == q.1 && (r.2 == none || r.2 == q.2)
theorem Fr.inL {z : Nat} {L M : PlL} {σ σ1 : St} (h : Fr (PL z L) σ σ1) (hLM : plin L M = true) : Fr (PL z M) σ σ1 := h.mono fun a j q => by
  obtain ⟨q, hq, ha, hj⟩ := q
  have h1 := List.all_eq_true.mp hLM q hq
  obtain ⟨r, hr, h2⟩ := List.any_eq_true.mp h1
  simp only [Bool.and_eq_true, beq_iff_eq, Bool.or_eq_true] at h2
  refine ⟨r, hr, by rw [ha, h2.1], ?_⟩
  rcases h2.2 with h3 | h3
  · exact Or.inl h3
  · rw [h3]; exact hj
theorem Fr.sI {σ : St} {z o j : Nat} {v : Int32} : Fr (PL z [(o, some j)]) σ (setI σ (z + o) j v) := by
  refine ⟨fun _ _ => rfl, Nat.le_refl _, fun a k _ hn => ⟨?_, rfl, rfl⟩, fun h => h⟩
  rw [i_setI, up2_ne (fun q => hn ⟨(o, some j), List.mem_cons_self, q.1, Or.inr (by rw [q.2])⟩)]
theorem Fr.sIa {σ : St} {z o j : Nat} {v : Int32} : Fr (PL z [(o, none)]) σ (setI σ (z + o) j v) := by
  refine ⟨fun _ _ => rfl, Nat.le_refl _, fun a k _ hn => ⟨?_, rfl, rfl⟩, fun h => h⟩
  rw [i_setI, up2_ne (fun q => hn ⟨(o, none), List.mem_cons_self, q.1, Or.inl rfl⟩)]
theorem Fr.sRa {σ : St} {z o j : Nat} {v : Option Nat} : Fr (PL z [(o, none)]) σ (setR σ (z + o) j v) := by
  refine ⟨fun _ _ => rfl, Nat.le_refl _, fun a k _ hn => ⟨rfl, ?_, rfl⟩, fun h => h⟩
  rw [r_setR, up2_ne (fun q => hn ⟨(o, none), List.mem_cons_self, q.1, Or.inl rfl⟩)]
theorem Fr.sL {σ : St} {z o j : Nat} {v : Int64} : Fr (PL z [(o, some j)]) σ (setL σ (z + o) j v) := by
  refine ⟨fun _ _ => rfl, Nat.le_refl _, fun a k _ hn => ⟨rfl, rfl, ?_⟩, fun h => h⟩
  rw [l_setL, up2_ne (fun q => hn ⟨(o, some j), List.mem_cons_self, q.1, Or.inr (by rw [q.2])⟩)]
theorem Fr.cpy {σ : St} {z o a0 sp dp n : Nat} : Fr (PL z [(o, none)]) σ (cpyI σ a0 sp (z + o) dp n) := by
  refine ⟨fun _ _ => rfl, Nat.le_refl _, fun a k _ hn => ⟨?_, rfl, rfl⟩, fun h => h⟩
  show (if a = z + o then _ else _) = _
  rw [if_neg (fun q => hn ⟨(o, none), List.mem_cons_self, q, Or.inl rfl⟩)]
theorem Fr.brn {P : Nat → Nat → Prop} {σ σ1 : St} {k : Nat ⊕ Nat × Nat} (h : Fr P σ σ1) : Fr P σ (born σ1 k) := by
  refine ⟨fun a ha => ?_, by rw [z_born]; have := h.2.1; omega, fun a j ha hn => ?_, fun hw a ha => ?_⟩
  · rw [k_born, if_neg (by have := h.2.1; omega)]; exact h.1 a ha
  · rw [i_born, r_born, l_born, if_neg (by have := h.2.1; omega), if_neg (by have := h.2.1; omega), if_neg (by have := h.2.1; omega)]; exact h.2.2.1 a j ha hn
  · rw [k_born] at ha
    rw [z_born]
    by_cases h9 : a = s_z σ1
    · omega
    · rw [if_neg h9] at ha
      have := h.2.2.2 hw a ha
      omega
theorem Fr.newI {P : Nat → Nat → Prop} {σ σ1 : St} {a j : Nat} {v : Int32} (h : Fr P σ σ1) (ha : s_z σ ≤ a) : Fr P σ (setI σ1 a j v) := by
  refine ⟨h.1, h.2.1, fun b k hb hn => ?_, h.2.2.2⟩
  rw [i_setI, up2_ne (fun q => by omega)]
  exact h.2.2.1 b k hb hn
theorem Fr.newR {P : Nat → Nat → Prop} {σ σ1 : St} {a j : Nat} {v : Option Nat} (h : Fr P σ σ1) (ha : s_z σ ≤ a) : Fr P σ (setR σ1 a j v) := by
  refine ⟨h.1, h.2.1, fun b k hb hn => ?_, h.2.2.2⟩
  rw [r_setR, up2_ne (fun q => by omega)]
  exact h.2.2.1 b k hb hn
/-- no place of the list is this one -/
def plno (L : PlL) (o : Nat) (s : Option Nat) : Bool := L.all fun q => !(q.1 == o && (q.2 == none || s == none || q.2 == s))
theorem plno_ne {z : Nat} {L : PlL} {o j : Nat} (h : plno L o (some j) = true) : ¬ PL z L (z + o) j := by
  rintro ⟨q, hq, ha, hj⟩
  have h1 := List.all_eq_true.mp h q hq
  have e1 : q.1 = o := by omega
  rcases hj with hj | hj <;> simp [e1, hj] at h1
theorem plno_nea {z : Nat} {L : PlL} {o j : Nat} (h : plno L o none = true) : ¬ PL z L (z + o) j := by
  rintro ⟨q, hq, ha, hj⟩
  have h1 := List.all_eq_true.mp h q hq
  have e1 : q.1 = o := by omega
  simp [e1] at h1
/-- all places lie in fixed cells of other kinds than this -/
def plk (L : PlL) (k : Kd) : Bool := L.all fun q => decide (q.1 < 1094) && decide (kT q.1 ≠ k)
theorem plk_ne {σ : St} {z a j : Nat} {L : PlL} {k : Kd} (hS : Sh σ z) (hk : s_k σ a = k) (h : plk L k = true) : ¬ PL z L a j := by
  rintro ⟨q, hq, ha, -⟩
  have h1 := List.all_eq_true.mp h q hq
  simp only [Bool.and_eq_true, decide_eq_true_eq] at h1
  exact h1.2 (by rw [← hS.1 q.1 h1.1, ← ha]; exact hk)
theorem Sh.lt {σ : St} {z : Nat} (h : Sh σ z) {o : Nat} (ho : o < 1094) : z + o < s_z σ := by have := h.2.2.2.1; omega
theorem Sh.dyn {σ : St} {z a : Nat} {k : Nat ⊕ Nat × Nat} (h : Sh σ z) (hk : s_k σ a = some k) : a < s_z σ := h.2.2.2.2 a (by rw [hk]; exact fun h => by cases h)
section KEEP
variable {σ σ' : St} {z : Nat} {L : PlL}
theorem Fr.ki (h : Fr (PL z L) σ σ') (hS : Sh σ z) (o j : Nat) (ho : o < 1094) (hL : plno L o (some j) = true) : s_i σ' (z + o) j = s_i σ (z + o) j := (h.2.2.1 _ j (hS.lt ho) (plno_ne hL)).1
theorem Fr.kia (h : Fr (PL z L) σ σ') (hS : Sh σ z) (o : Nat) (ho : o < 1094) (hL : plno L o none = true) (j : Nat) : s_i σ' (z + o) j = s_i σ (z + o) j := (h.2.2.1 _ j (hS.lt ho) (plno_nea hL)).1
theorem Fr.kra (h : Fr (PL z L) σ σ') (hS : Sh σ z) (o : Nat) (ho : o < 1094) (hL : plno L o none = true) (j : Nat) : s_r σ' (z + o) j = s_r σ (z + o) j := (h.2.2.1 _ j (hS.lt ho) (plno_nea hL)).2.1
theorem Fr.kd (h : Fr (PL z L) σ σ') (hS : Sh σ z) {a : Nat} {k : Nat ⊕ Nat × Nat} (hk : s_k σ a = some k) (hL : plk L (some k) = true) : s_k σ' a = some k ∧ ∀ j, s_i σ' a j = s_i σ a j ∧ s_r σ' a j = s_r σ a j :=
  ⟨by rw [h.1 a (hS.dyn hk)]; exact hk, fun j => ⟨(h.2.2.1 a j (hS.dyn hk) (plk_ne hS hk hL)).1, (h.2.2.1 a j (hS.dyn hk) (plk_ne hS hk hL)).2.1⟩⟩
/-- the shape is kept where no reference of it is touched -/
def plsh (L : PlL) : Bool := rTL.all (fun q => plno L q.1 (some q.2.1)) && plno L 39 none
theorem Fr.sh (h : Fr (PL z L) σ σ') (hS : Sh σ z) (hL : plsh L = true) : Sh σ' z := by
  simp only [plsh, Bool.and_eq_true] at hL
  refine ⟨fun i hi => ?_, fun q hq => ?_, fun k hk => ?_, Nat.le_trans hS.2.2.2.1 h.2.1, h.2.2.2 hS.2.2.2.2⟩
  · rw [h.1 _ (hS.lt hi)]; exact hS.1 i hi
  · have hlt : q.1 < 1094 := by
      have : rTL.all (fun q => decide (q.1 < 1094)) = true := by decide +kernel
      exact of_decide_eq_true (List.all_eq_true.mp this q hq)
    rw [(h.2.2.1 _ _ (hS.lt hlt) (plno_ne (List.all_eq_true.mp hL.1 q hq))).2.1]
    exact hS.2.1 q hq
  · rw [h.kra hS 39 (by decide) hL.2]; exact hS.2.2.1 k hk
end KEEP
theorem Sh_setI {σ : St} {z a j : Nat} {v : Int32} : Sh (setI σ a j v) z ↔ Sh σ z := Iff.rfl
theorem Sh_setL {σ : St} {z a j : Nat} {v : Int64} : Sh (setL σ a j v) z ↔ Sh σ z := Iff.rfl

theorem e_0_0 {α : Type} {σ : St} {z : Nat} {K : Nat → Option α} (h : Sh σ z) : o_gR σ z 0 0 K = K (z + 1) := o_gR_eq (h.k 0 _ (by decide) rfl) (h.r 0 0 1 (by decide))
theorem e_0_1 {α : Type} {σ : St} {z : Nat} {K : Nat → Option α} (h : Sh σ z) : o_gR σ z 0 1 K = K (z + 2) := o_gR_eq (h.k 0 _ (by decide) rfl) (h.r 0 1 2 (by decide))
theorem e_0_2 {α : Type} {σ : St} {z : Nat} {K : Nat → Option α} (h : Sh σ z) : o_gR σ z 0 2 K = K (z + 3) := o_gR_eq (h.k 0 _ (by decide) rfl) (h.r 0 2 3 (by decide))
theorem e_0_4 {α : Type} {σ : St} {z : Nat} {K : Nat → Option α} (h : Sh σ z) : o_gR σ z 0 4 K = K (z + 4) := o_gR_eq (h.k 0 _ (by decide) rfl) (h.r 0 4 4 (by decide))
theorem e_0_6 {α : Type} {σ : St} {z : Nat} {K : Nat → Option α} (h : Sh σ z) : o_gR σ z 0 6 K = K (z + 5) := o_gR_eq (h.k 0 _ (by decide) rfl) (h.r 0 6 5 (by decide))
theorem e_0_7 {α : Type} {σ : St} {z : Nat} {K : Nat → Option α} (h : Sh σ z) : o_gR σ z 0 7 K = K (z + 6) := o_gR_eq (h.k 0 _ (by decide) rfl) (h.r 0 7 6 (by decide))
theorem e_0_8 {α : Type} {σ : St} {z : Nat} {K : Nat → Option α} (h : Sh σ z) : o_gR σ z 0 8 K = K (z + 14) := o_gR_eq (h.k 0 _ (by decide) rfl) (h.r 0 8 14 (by decide))
theorem e_0_9 {α : Type} {σ : St} {z : Nat} {K : Nat → Option α} (h : Sh σ z) : o_gR σ z 0 9 K = K (z + 22) := o_gR_eq (h.k 0 _ (by decide) rfl) (h.r 0 9 22 (by decide))
theorem e_0_10 {α : Type} {σ : St} {z : Nat} {K : Nat → Option α} (h : Sh σ z) : o_gR σ z 0 10 K = K (z + 23) := o_gR_eq (h.k 0 _ (by decide) rfl) (h.r 0 10 23 (by decide))
theorem e_0_11 {α : Type} {σ : St} {z : Nat} {K : Nat → Option α} (h : Sh σ z) : o_gR σ z 0 11 K = K (z + 24) := o_gR_eq (h.k 0 _ (by decide) rfl) (h.r 0 11 24 (by decide))
theorem e_0_13 {α : Type} {σ : St} {z : Nat} {K : Nat → Option α} (h : Sh σ z) : o_gR σ z 0 13 K = K (z + 25) := o_gR_eq (h.k 0 _ (by decide) rfl) (h.r 0 13 25 (by decide))
theorem e_0_14 {α : Type} {σ : St} {z : Nat} {K : Nat → Option α} (h : Sh σ z) : o_gR σ z 0 14 K = K (z + 26) := o_gR_eq (h.k 0 _ (by decide) rfl) (h.r 0 14 26 (by decide))
theorem e_0_15 {α : Type} {σ : St} {z : Nat} {K : Nat → Option α} (h : Sh σ z) : o_gR σ z 0 15 K = K (z + 27) := o_gR_eq (h.k 0 _ (by decide) rfl) (h.r 0 15 27 (by decide))
theorem e_0_16 {α : Type} {σ : St} {z : Nat} {K : Nat → Option α} (h : Sh σ z) : o_gR σ z 0 16 K = K (z + 28) := o_gR_eq (h.k 0 _ (by decide) rfl) (h.r 0 16 28 (by decide))
theorem e_0_17 {α : Type} {σ : St} {z : Nat} {K : Nat → Option α} (h : Sh σ z) : o_gR σ z 0 17 K = K (z + 29) := o_gR_eq (h.k 0 _ (by decide) rfl) (h.r 0 17 29 (by decide))
theorem e_0_18 {α : Type} {σ : St} {z : Nat} {K : Nat → Option α} (h : Sh σ z) : o_gR σ z 0 18 K = K (z + 30) := o_gR_eq (h.k 0 _ (by decide) rfl) (h.r 0 18 30 (by decide))
theorem e_0_20 {α : Type} {σ : St} {z : Nat} {K : Nat → Option α} (h : Sh σ z) : o_gR σ z 0 20 K = K (z + 31) := o_gR_eq (h.k 0 _ (by decide) rfl) (h.r 0 20 31 (by decide))
theorem e_0_21 {α : Type} {σ : St} {z : Nat} {K : Nat → Option α} (h : Sh σ z) : o_gR σ z 0 21 K = K (z + 32) := o_gR_eq (h.k 0 _ (by decide) rfl) (h.r 0 21 32 (by decide))
theorem e_0_22 {α : Type} {σ : St} {z : Nat} {K : Nat → Option α} (h : Sh σ z) : o_gR σ z 0 22 K = K (z + 33) := o_gR_eq (h.k 0 _ (by decide) rfl) (h.r 0 22 33 (by decide))
theorem e_0_24 {α : Type} {σ : St} {z : Nat} {K : Nat → Option α} (h : Sh σ z) : o_gR σ z 0 24 K = K (z + 34) := o_gR_eq (h.k 0 _ (by decide) rfl) (h.r 0 24 34 (by decide))
theorem e_0_25 {α : Type} {σ : St} {z : Nat} {K : Nat → Option α} (h : Sh σ z) : o_gR σ z 0 25 K = K (z + 35) := o_gR_eq (h.k 0 _ (by decide) rfl) (h.r 0 25 35 (by decide))
theorem e_0_26 {α : Type} {σ : St} {z : Nat} {K : Nat → Option α} (h : Sh σ z) : o_gR σ z 0 26 K = K (z + 36) := o_gR_eq (h.k 0 _ (by decide) rfl) (h.r 0 26 36 (by decide))
theorem e_0_28 {α : Type} {σ : St} {z : Nat} {K : Nat → Option α} (h : Sh σ z) : o_gR σ z 0 28 K = K (z + 37) := o_gR_eq (h.k 0 _ (by decide) rfl) (h.r 0 28 37 (by decide))
theorem e_0_30 {α : Type} {σ : St} {z : Nat} {K : Nat → Option α} (h : Sh σ z) : o_gR σ z 0 30 K = K (z + 38) := o_gR_eq (h.k 0 _ (by decide) rfl) (h.r 0 30 38 (by decide))
theorem e_0_32 {α : Type} {σ : St} {z : Nat} {K : Nat → Option α} (h : Sh σ z) : o_gR σ z 0 32 K = K (z + 39) := o_gR_eq (h.k 0 _ (by decide) rfl) (h.r 0 32 39 (by decide))
theorem e_0_i {α : Type} {σ : St} {z j : Nat} {K : Int32 → Option α} (h : Sh σ z) : o_gI σ z 0 j K = K (s_i σ z j) := o_gI_eq (h.k 0 _ (by decide) rfl)
theorem e_0_p {α : Type} {σ : St} {z j : Nat} {v : Int32} {K : St → Option α} (h : Sh σ z) : o_pI σ z 0 j v K = K (setI σ z j v) := o_pI_eq (h.k 0 _ (by decide) rfl)
theorem e_0_k {α : Type} {σ : St} {z : Nat} {K : Option α} (h : Sh σ z) : o_k σ z 0 K = K := o_k_eq (h.k 0 _ (by decide) rfl)
theorem e_6_1 {α : Type} {σ : St} {z : Nat} {K : Nat → Option α} (h : Sh σ z) : o_gR σ (z + 6) 3 1 K = K (z + 7) := o_gR_eq (h.k 6 _ (by decide) rfl) (h.r 6 1 7 (by decide))
theorem e_6_2 {α : Type} {σ : St} {z : Nat} {K : Nat → Option α} (h : Sh σ z) : o_gR σ (z + 6) 3 2 K = K (z + 8) := o_gR_eq (h.k 6 _ (by decide) rfl) (h.r 6 2 8 (by decide))
theorem e_6_3 {α : Type} {σ : St} {z : Nat} {K : Nat → Option α} (h : Sh σ z) : o_gR σ (z + 6) 3 3 K = K (z + 9) := o_gR_eq (h.k 6 _ (by decide) rfl) (h.r 6 3 9 (by decide))
theorem e_6_4 {α : Type} {σ : St} {z : Nat} {K : Nat → Option α} (h : Sh σ z) : o_gR σ (z + 6) 3 4 K = K (z + 10) := o_gR_eq (h.k 6 _ (by decide) rfl) (h.r 6 4 10 (by decide))
theorem e_6_5 {α : Type} {σ : St} {z : Nat} {K : Nat → Option α} (h : Sh σ z) : o_gR σ (z + 6) 3 5 K = K (z + 11) := o_gR_eq (h.k 6 _ (by decide) rfl) (h.r 6 5 11 (by decide))
theorem e_6_6 {α : Type} {σ : St} {z : Nat} {K : Nat → Option α} (h : Sh σ z) : o_gR σ (z + 6) 3 6 K = K (z + 12) := o_gR_eq (h.k 6 _ (by decide) rfl) (h.r 6 6 12 (by decide))
theorem e_6_7 {α : Type} {σ : St} {z : Nat} {K : Nat → Option α} (h : Sh σ z) : o_gR σ (z + 6) 3 7 K = K (z + 13) := o_gR_eq (h.k 6 _ (by decide) rfl) (h.r 6 7 13 (by decide))
theorem e_6_8 {α : Type} {σ : St} {z : Nat} {K : Nat → Option α} (h : Sh σ z) : o_gR σ (z + 6) 3 8 K = K z := o_gR_eq (h.k 6 _ (by decide) rfl) (h.r 6 8 0 (by decide))
theorem e_6_i {α : Type} {σ : St} {z j : Nat} {K : Int32 → Option α} (h : Sh σ z) : o_gI σ (z + 6) 3 j K = K (s_i σ (z + 6) j) := o_gI_eq (h.k 6 _ (by decide) rfl)
theorem e_6_p {α : Type} {σ : St} {z j : Nat} {v : Int32} {K : St → Option α} (h : Sh σ z) : o_pI σ (z + 6) 3 j v K = K (setI σ (z + 6) j v) := o_pI_eq (h.k 6 _ (by decide) rfl)
theorem e_6_k {α : Type} {σ : St} {z : Nat} {K : Option α} (h : Sh σ z) : o_k σ (z + 6) 3 K = K := o_k_eq (h.k 6 _ (by decide) rfl)
theorem e_14_1 {α : Type} {σ : St} {z : Nat} {K : Nat → Option α} (h : Sh σ z) : o_gR σ (z + 14) 3 1 K = K (z + 15) := o_gR_eq (h.k 14 _ (by decide) rfl) (h.r 14 1 15 (by decide))
theorem e_14_2 {α : Type} {σ : St} {z : Nat} {K : Nat → Option α} (h : Sh σ z) : o_gR σ (z + 14) 3 2 K = K (z + 16) := o_gR_eq (h.k 14 _ (by decide) rfl) (h.r 14 2 16 (by decide))
theorem e_14_3 {α : Type} {σ : St} {z : Nat} {K : Nat → Option α} (h : Sh σ z) : o_gR σ (z + 14) 3 3 K = K (z + 17) := o_gR_eq (h.k 14 _ (by decide) rfl) (h.r 14 3 17 (by decide))
theorem e_14_4 {α : Type} {σ : St} {z : Nat} {K : Nat → Option α} (h : Sh σ z) : o_gR σ (z + 14) 3 4 K = K (z + 18) := o_gR_eq (h.k 14 _ (by decide) rfl) (h.r 14 4 18 (by decide))
theorem e_14_5 {α : Type} {σ : St} {z : Nat} {K : Nat → Option α} (h : Sh σ z) : o_gR σ (z + 14) 3 5 K = K (z + 19) := o_gR_eq (h.k 14 _ (by decide) rfl) (h.r 14 5 19 (by decide))
theorem e_14_6 {α : Type} {σ : St} {z : Nat} {K : Nat → Option α} (h : Sh σ z) : o_gR σ (z + 14) 3 6 K = K (z + 20) := o_gR_eq (h.k 14 _ (by decide) rfl) (h.r 14 6 20 (by decide))
theorem e_14_7 {α : Type} {σ : St} {z : Nat} {K : Nat → Option α} (h : Sh σ z) : o_gR σ (z + 14) 3 7 K = K (z + 21) := o_gR_eq (h.k 14 _ (by decide) rfl) (h.r 14 7 21 (by decide))
theorem e_14_8 {α : Type} {σ : St} {z : Nat} {K : Nat → Option α} (h : Sh σ z) : o_gR σ (z + 14) 3 8 K = K z := o_gR_eq (h.k 14 _ (by decide) rfl) (h.r 14 8 0 (by decide))
theorem e_14_i {α : Type} {σ : St} {z j : Nat} {K : Int32 → Option α} (h : Sh σ z) : o_gI σ (z + 14) 3 j K = K (s_i σ (z + 14) j) := o_gI_eq (h.k 14 _ (by decide) rfl)
theorem e_14_p {α : Type} {σ : St} {z j : Nat} {v : Int32} {K : St → Option α} (h : Sh σ z) : o_pI σ (z + 14) 3 j v K = K (setI σ (z + 14) j v) := o_pI_eq (h.k 14 _ (by decide) rfl)
theorem e_14_k {α : Type} {σ : St} {z : Nat} {K : Option α} (h : Sh σ z) : o_k σ (z + 14) 3 K = K := o_k_eq (h.k 14 _ (by decide) rfl)
theorem e_25_3 {α : Type} {σ : St} {z : Nat} {K : Nat → Option α} (h : Sh σ z) : o_gR σ (z + 25) 4 3 K = K z := o_gR_eq (h.k 25 _ (by decide) rfl) (h.r 25 3 0 (by decide))
theorem e_25_i {α : Type} {σ : St} {z j : Nat} {K : Int32 → Option α} (h : Sh σ z) : o_gI σ (z + 25) 4 j K = K (s_i σ (z + 25) j) := o_gI_eq (h.k 25 _ (by decide) rfl)
theorem e_25_p {α : Type} {σ : St} {z j : Nat} {v : Int32} {K : St → Option α} (h : Sh σ z) : o_pI σ (z + 25) 4 j v K = K (setI σ (z + 25) j v) := o_pI_eq (h.k 25 _ (by decide) rfl)
theorem e_25_k {α : Type} {σ : St} {z : Nat} {K : Option α} (h : Sh σ z) : o_k σ (z + 25) 4 K = K := o_k_eq (h.k 25 _ (by decide) rfl)
theorem e_1064_2 {α : Type} {σ : St} {z : Nat} {K : Nat → Option α} (h : Sh σ z) : o_gR σ (z + 1064) 5 2 K = K (z + 1065) := o_gR_eq (h.k 1064 _ (by decide) rfl) (h.r 1064 2 1065 (by decide))
theorem e_1064_3 {α : Type} {σ : St} {z : Nat} {K : Nat → Option α} (h : Sh σ z) : o_gR σ (z + 1064) 5 3 K = K (z + 1066) := o_gR_eq (h.k 1064 _ (by decide) rfl) (h.r 1064 3 1066 (by decide))
theorem e_1064_4 {α : Type} {σ : St} {z : Nat} {K : Nat → Option α} (h : Sh σ z) : o_gR σ (z + 1064) 5 4 K = K (z + 1067) := o_gR_eq (h.k 1064 _ (by decide) rfl) (h.r 1064 4 1067 (by decide))
theorem e_1064_5 {α : Type} {σ : St} {z : Nat} {K : Nat → Option α} (h : Sh σ z) : o_gR σ (z + 1064) 5 5 K = K (z + 1068) := o_gR_eq (h.k 1064 _ (by decide) rfl) (h.r 1064 5 1068 (by decide))
theorem e_1064_6 {α : Type} {σ : St} {z : Nat} {K : Nat → Option α} (h : Sh σ z) : o_gR σ (z + 1064) 5 6 K = K (z + 1069) := o_gR_eq (h.k 1064 _ (by decide) rfl) (h.r 1064 6 1069 (by decide))
theorem e_1064_8 {α : Type} {σ : St} {z : Nat} {K : Nat → Option α} (h : Sh σ z) : o_gR σ (z + 1064) 5 8 K = K (z + 1070) := o_gR_eq (h.k 1064 _ (by decide) rfl) (h.r 1064 8 1070 (by decide))
theorem e_1064_9 {α : Type} {σ : St} {z : Nat} {K : Nat → Option α} (h : Sh σ z) : o_gR σ (z + 1064) 5 9 K = K (z + 1071) := o_gR_eq (h.k 1064 _ (by decide) rfl) (h.r 1064 9 1071 (by decide))
theorem e_1064_10 {α : Type} {σ : St} {z : Nat} {K : Nat → Option α} (h : Sh σ z) : o_gR σ (z + 1064) 5 10 K = K (z + 1072) := o_gR_eq (h.k 1064 _ (by decide) rfl) (h.r 1064 10 1072 (by decide))
theorem e_1064_11 {α : Type} {σ : St} {z : Nat} {K : Nat → Option α} (h : Sh σ z) : o_gR σ (z + 1064) 5 11 K = K (z + 1073) := o_gR_eq (h.k 1064 _ (by decide) rfl) (h.r 1064 11 1073 (by decide))
theorem e_1064_12 {α : Type} {σ : St} {z : Nat} {K : Nat → Option α} (h : Sh σ z) : o_gR σ (z + 1064) 5 12 K = K (z + 1074) := o_gR_eq (h.k 1064 _ (by decide) rfl) (h.r 1064 12 1074 (by decide))
theorem e_1064_19 {α : Type} {σ : St} {z : Nat} {K : Nat → Option α} (h : Sh σ z) : o_gR σ (z + 1064) 5 19 K = K (z + 1075) := o_gR_eq (h.k 1064 _ (by decide) rfl) (h.r 1064 19 1075 (by decide))
theorem e_1064_27 {α : Type} {σ : St} {z : Nat} {K : Nat → Option α} (h : Sh σ z) : o_gR σ (z + 1064) 5 27 K = K (z + 1076) := o_gR_eq (h.k 1064 _ (by decide) rfl) (h.r 1064 27 1076 (by decide))
theorem e_1064_28 {α : Type} {σ : St} {z : Nat} {K : Nat → Option α} (h : Sh σ z) : o_gR σ (z + 1064) 5 28 K = K (z + 1077) := o_gR_eq (h.k 1064 _ (by decide) rfl) (h.r 1064 28 1077 (by decide))
theorem e_1064_29 {α : Type} {σ : St} {z : Nat} {K : Nat → Option α} (h : Sh σ z) : o_gR σ (z + 1064) 5 29 K = K (z + 1078) := o_gR_eq (h.k 1064 _ (by decide) rfl) (h.r 1064 29 1078 (by decide))
theorem e_1064_30 {α : Type} {σ : St} {z : Nat} {K : Nat → Option α} (h : Sh σ z) : o_gR σ (z + 1064) 5 30 K = K (z + 1079) := o_gR_eq (h.k 1064 _ (by decide) rfl) (h.r 1064 30 1079 (by decide))
theorem e_1064_31 {α : Type} {σ : St} {z : Nat} {K : Nat → Option α} (h : Sh σ z) : o_gR σ (z + 1064) 5 31 K = K (z + 1080) := o_gR_eq (h.k 1064 _ (by decide) rfl) (h.r 1064 31 1080 (by decide))
theorem e_1064_32 {α : Type} {σ : St} {z : Nat} {K : Nat → Option α} (h : Sh σ z) : o_gR σ (z + 1064) 5 32 K = K (z + 1081) := o_gR_eq (h.k 1064 _ (by decide) rfl) (h.r 1064 32 1081 (by decide))
theorem e_1064_33 {α : Type} {σ : St} {z : Nat} {K : Nat → Option α} (h : Sh σ z) : o_gR σ (z + 1064) 5 33 K = K (z + 1082) := o_gR_eq (h.k 1064 _ (by decide) rfl) (h.r 1064 33 1082 (by decide))
theorem e_1064_34 {α : Type} {σ : St} {z : Nat} {K : Nat → Option α} (h : Sh σ z) : o_gR σ (z + 1064) 5 34 K = K (z + 1083) := o_gR_eq (h.k 1064 _ (by decide) rfl) (h.r 1064 34 1083 (by decide))
theorem e_1064_36 {α : Type} {σ : St} {z : Nat} {K : Nat → Option α} (h : Sh σ z) : o_gR σ (z + 1064) 5 36 K = K (z + 1084) := o_gR_eq (h.k 1064 _ (by decide) rfl) (h.r 1064 36 1084 (by decide))
theorem e_1064_37 {α : Type} {σ : St} {z : Nat} {K : Nat → Option α} (h : Sh σ z) : o_gR σ (z + 1064) 5 37 K = K (z + 1085) := o_gR_eq (h.k 1064 _ (by decide) rfl) (h.r 1064 37 1085 (by decide))
theorem e_1064_39 {α : Type} {σ : St} {z : Nat} {K : Nat → Option α} (h : Sh σ z) : o_gR σ (z + 1064) 5 39 K = K (z + 1086) := o_gR_eq (h.k 1064 _ (by decide) rfl) (h.r 1064 39 1086 (by decide))
theorem e_1064_40 {α : Type} {σ : St} {z : Nat} {K : Nat → Option α} (h : Sh σ z) : o_gR σ (z + 1064) 5 40 K = K (z + 1087) := o_gR_eq (h.k 1064 _ (by decide) rfl) (h.r 1064 40 1087 (by decide))
theorem e_1064_41 {α : Type} {σ : St} {z : Nat} {K : Nat → Option α} (h : Sh σ z) : o_gR σ (z + 1064) 5 41 K = K (z + 1088) := o_gR_eq (h.k 1064 _ (by decide) rfl) (h.r 1064 41 1088 (by decide))
theorem e_1064_42 {α : Type} {σ : St} {z : Nat} {K : Nat → Option α} (h : Sh σ z) : o_gR σ (z + 1064) 5 42 K = K (z + 1089) := o_gR_eq (h.k 1064 _ (by decide) rfl) (h.r 1064 42 1089 (by decide))
theorem e_1064_44 {α : Type} {σ : St} {z : Nat} {K : Nat → Option α} (h : Sh σ z) : o_gR σ (z + 1064) 5 44 K = K (z + 1090) := o_gR_eq (h.k 1064 _ (by decide) rfl) (h.r 1064 44 1090 (by decide))
theorem e_1064_46 {α : Type} {σ : St} {z : Nat} {K : Nat → Option α} (h : Sh σ z) : o_gR σ (z + 1064) 5 46 K = K (z + 1091) := o_gR_eq (h.k 1064 _ (by decide) rfl) (h.r 1064 46 1091 (by decide))
theorem e_1064_48 {α : Type} {σ : St} {z : Nat} {K : Nat → Option α} (h : Sh σ z) : o_gR σ (z + 1064) 5 48 K = K (z + 1092) := o_gR_eq (h.k 1064 _ (by decide) rfl) (h.r 1064 48 1092 (by decide))
theorem e_1064_49 {α : Type} {σ : St} {z : Nat} {K : Nat → Option α} (h : Sh σ z) : o_gR σ (z + 1064) 5 49 K = K (z + 1093) := o_gR_eq (h.k 1064 _ (by decide) rfl) (h.r 1064 49 1093 (by decide))
theorem e_1064_i {α : Type} {σ : St} {z j : Nat} {K : Int32 → Option α} (h : Sh σ z) : o_gI σ (z + 1064) 5 j K = K (s_i σ (z + 1064) j) := o_gI_eq (h.k 1064 _ (by decide) rfl)
theorem e_1064_p {α : Type} {σ : St} {z j : Nat} {v : Int32} {K : St → Option α} (h : Sh σ z) : o_pI σ (z + 1064) 5 j v K = K (setI σ (z + 1064) j v) := o_pI_eq (h.k 1064 _ (by decide) rfl)
theorem e_1064_k {α : Type} {σ : St} {z : Nat} {K : Option α} (h : Sh σ z) : o_k σ (z + 1064) 5 K = K := o_k_eq (h.k 1064 _ (by decide) rfl)
theorem e_1064_l {α : Type} {σ : St} {z j : Nat} {K : Int64 → Option α} (h : Sh σ z) : o_gL σ (z + 1064) 5 j K = K (s_l σ (z + 1064) j) := o_gL_eq (h.k 1064 _ (by decide) rfl)
theorem e_1064_pl {α : Type} {σ : St} {z j : Nat} {v : Int64} {K : St → Option α} (h : Sh σ z) : o_pL σ (z + 1064) 5 j v K = K (setL σ (z + 1064) j v) := o_pL_eq (h.k 1064 _ (by decide) rfl)
theorem a_5 {α : Type} {σ : St} {z k : Nat} {K : Int32 → Option α} (h : Sh σ z) (hk : k < 5) : o_aI σ (z + 5) 0 (nI k) K = K (s_i σ (z + 5) k) := o_aI_eq (h.k 5 _ (by decide) rfl) hk (by decide)
theorem s_5 {α : Type} {σ : St} {z k : Nat} {v : Int32} {K : St → Option α} (h : Sh σ z) (hk : k < 5) : o_sI σ (z + 5) 0 (nI k) v K = K (setI σ (z + 5) k v) := o_sI_eq (h.k 5 _ (by decide) rfl) hk (by decide)
theorem a_7 {α : Type} {σ : St} {z k : Nat} {K : Int32 → Option α} (h : Sh σ z) (hk : k < 6) : o_aI σ (z + 7) 0 (nI k) K = K (s_i σ (z + 7) k) := o_aI_eq (h.k 7 _ (by decide) rfl) hk (by decide)
theorem s_7 {α : Type} {σ : St} {z k : Nat} {v : Int32} {K : St → Option α} (h : Sh σ z) (hk : k < 6) : o_sI σ (z + 7) 0 (nI k) v K = K (setI σ (z + 7) k v) := o_sI_eq (h.k 7 _ (by decide) rfl) hk (by decide)
theorem a_8 {α : Type} {σ : St} {z k : Nat} {K : Int32 → Option α} (h : Sh σ z) (hk : k < 6) : o_aI σ (z + 8) 0 (nI k) K = K (s_i σ (z + 8) k) := o_aI_eq (h.k 8 _ (by decide) rfl) hk (by decide)
theorem s_8 {α : Type} {σ : St} {z k : Nat} {v : Int32} {K : St → Option α} (h : Sh σ z) (hk : k < 6) : o_sI σ (z + 8) 0 (nI k) v K = K (setI σ (z + 8) k v) := o_sI_eq (h.k 8 _ (by decide) rfl) hk (by decide)
theorem a_9 {α : Type} {σ : St} {z k : Nat} {K : Int32 → Option α} (h : Sh σ z) (hk : k < 6) : o_aI σ (z + 9) 0 (nI k) K = K (s_i σ (z + 9) k) := o_aI_eq (h.k 9 _ (by decide) rfl) hk (by decide)
theorem s_9 {α : Type} {σ : St} {z k : Nat} {v : Int32} {K : St → Option α} (h : Sh σ z) (hk : k < 6) : o_sI σ (z + 9) 0 (nI k) v K = K (setI σ (z + 9) k v) := o_sI_eq (h.k 9 _ (by decide) rfl) hk (by decide)
theorem a_10 {α : Type} {σ : St} {z k : Nat} {K : Int32 → Option α} (h : Sh σ z) (hk : k < 6) : o_aI σ (z + 10) 0 (nI k) K = K (s_i σ (z + 10) k) := o_aI_eq (h.k 10 _ (by decide) rfl) hk (by decide)
theorem s_10 {α : Type} {σ : St} {z k : Nat} {v : Int32} {K : St → Option α} (h : Sh σ z) (hk : k < 6) : o_sI σ (z + 10) 0 (nI k) v K = K (setI σ (z + 10) k v) := o_sI_eq (h.k 10 _ (by decide) rfl) hk (by decide)
theorem a_11 {α : Type} {σ : St} {z k : Nat} {K : Int32 → Option α} (h : Sh σ z) (hk : k < 6) : o_aI σ (z + 11) 0 (nI k) K = K (s_i σ (z + 11) k) := o_aI_eq (h.k 11 _ (by decide) rfl) hk (by decide)
theorem s_11 {α : Type} {σ : St} {z k : Nat} {v : Int32} {K : St → Option α} (h : Sh σ z) (hk : k < 6) : o_sI σ (z + 11) 0 (nI k) v K = K (setI σ (z + 11) k v) := o_sI_eq (h.k 11 _ (by decide) rfl) hk (by decide)
theorem a_13 {α : Type} {σ : St} {z k : Nat} {K : Int32 → Option α} (h : Sh σ z) (hk : k < 40) : o_aI σ (z + 13) 0 (nI k) K = K (s_i σ (z + 13) k) := o_aI_eq (h.k 13 _ (by decide) rfl) hk (by decide)
theorem s_13 {α : Type} {σ : St} {z k : Nat} {v : Int32} {K : St → Option α} (h : Sh σ z) (hk : k < 40) : o_sI σ (z + 13) 0 (nI k) v K = K (setI σ (z + 13) k v) := o_sI_eq (h.k 13 _ (by decide) rfl) hk (by decide)
theorem a_15 {α : Type} {σ : St} {z k : Nat} {K : Int32 → Option α} (h : Sh σ z) (hk : k < 6) : o_aI σ (z + 15) 0 (nI k) K = K (s_i σ (z + 15) k) := o_aI_eq (h.k 15 _ (by decide) rfl) hk (by decide)
theorem s_15 {α : Type} {σ : St} {z k : Nat} {v : Int32} {K : St → Option α} (h : Sh σ z) (hk : k < 6) : o_sI σ (z + 15) 0 (nI k) v K = K (setI σ (z + 15) k v) := o_sI_eq (h.k 15 _ (by decide) rfl) hk (by decide)
theorem a_16 {α : Type} {σ : St} {z k : Nat} {K : Int32 → Option α} (h : Sh σ z) (hk : k < 6) : o_aI σ (z + 16) 0 (nI k) K = K (s_i σ (z + 16) k) := o_aI_eq (h.k 16 _ (by decide) rfl) hk (by decide)
theorem s_16 {α : Type} {σ : St} {z k : Nat} {v : Int32} {K : St → Option α} (h : Sh σ z) (hk : k < 6) : o_sI σ (z + 16) 0 (nI k) v K = K (setI σ (z + 16) k v) := o_sI_eq (h.k 16 _ (by decide) rfl) hk (by decide)
theorem a_17 {α : Type} {σ : St} {z k : Nat} {K : Int32 → Option α} (h : Sh σ z) (hk : k < 6) : o_aI σ (z + 17) 0 (nI k) K = K (s_i σ (z + 17) k) := o_aI_eq (h.k 17 _ (by decide) rfl) hk (by decide)
theorem s_17 {α : Type} {σ : St} {z k : Nat} {v : Int32} {K : St → Option α} (h : Sh σ z) (hk : k < 6) : o_sI σ (z + 17) 0 (nI k) v K = K (setI σ (z + 17) k v) := o_sI_eq (h.k 17 _ (by decide) rfl) hk (by decide)
theorem a_18 {α : Type} {σ : St} {z k : Nat} {K : Int32 → Option α} (h : Sh σ z) (hk : k < 6) : o_aI σ (z + 18) 0 (nI k) K = K (s_i σ (z + 18) k) := o_aI_eq (h.k 18 _ (by decide) rfl) hk (by decide)
theorem s_18 {α : Type} {σ : St} {z k : Nat} {v : Int32} {K : St → Option α} (h : Sh σ z) (hk : k < 6) : o_sI σ (z + 18) 0 (nI k) v K = K (setI σ (z + 18) k v) := o_sI_eq (h.k 18 _ (by decide) rfl) hk (by decide)
theorem a_19 {α : Type} {σ : St} {z k : Nat} {K : Int32 → Option α} (h : Sh σ z) (hk : k < 6) : o_aI σ (z + 19) 0 (nI k) K = K (s_i σ (z + 19) k) := o_aI_eq (h.k 19 _ (by decide) rfl) hk (by decide)
theorem s_19 {α : Type} {σ : St} {z k : Nat} {v : Int32} {K : St → Option α} (h : Sh σ z) (hk : k < 6) : o_sI σ (z + 19) 0 (nI k) v K = K (setI σ (z + 19) k v) := o_sI_eq (h.k 19 _ (by decide) rfl) hk (by decide)
theorem a_21 {α : Type} {σ : St} {z k : Nat} {K : Int32 → Option α} (h : Sh σ z) (hk : k < 40) : o_aI σ (z + 21) 0 (nI k) K = K (s_i σ (z + 21) k) := o_aI_eq (h.k 21 _ (by decide) rfl) hk (by decide)
theorem s_21 {α : Type} {σ : St} {z k : Nat} {v : Int32} {K : St → Option α} (h : Sh σ z) (hk : k < 40) : o_sI σ (z + 21) 0 (nI k) v K = K (setI σ (z + 21) k v) := o_sI_eq (h.k 21 _ (by decide) rfl) hk (by decide)
theorem a_24 {α : Type} {σ : St} {z k : Nat} {K : Int32 → Option α} (h : Sh σ z) (hk : k < 160) : o_aI σ (z + 24) 1 (nI k) K = K (s_i σ (z + 24) k) := o_aI_eq (h.k 24 _ (by decide) rfl) hk (by decide)
theorem s_24 {α : Type} {σ : St} {z k : Nat} {v : Int32} {K : St → Option α} (h : Sh σ z) (hk : k < 160) : o_sI σ (z + 24) 1 (nI k) v K = K (setI σ (z + 24) k v) := o_sI_eq (h.k 24 _ (by decide) rfl) hk (by decide)
theorem a_26 {α : Type} {σ : St} {z k : Nat} {K : Int32 → Option α} (h : Sh σ z) (hk : k < 7) : o_aI σ (z + 26) 0 (nI k) K = K (s_i σ (z + 26) k) := o_aI_eq (h.k 26 _ (by decide) rfl) hk (by decide)
theorem s_26 {α : Type} {σ : St} {z k : Nat} {v : Int32} {K : St → Option α} (h : Sh σ z) (hk : k < 7) : o_sI σ (z + 26) 0 (nI k) v K = K (setI σ (z + 26) k v) := o_sI_eq (h.k 26 _ (by decide) rfl) hk (by decide)
theorem a_27 {α : Type} {σ : St} {z k : Nat} {K : Int32 → Option α} (h : Sh σ z) (hk : k < 7) : o_aI σ (z + 27) 0 (nI k) K = K (s_i σ (z + 27) k) := o_aI_eq (h.k 27 _ (by decide) rfl) hk (by decide)
theorem s_27 {α : Type} {σ : St} {z k : Nat} {v : Int32} {K : St → Option α} (h : Sh σ z) (hk : k < 7) : o_sI σ (z + 27) 0 (nI k) v K = K (setI σ (z + 27) k v) := o_sI_eq (h.k 27 _ (by decide) rfl) hk (by decide)
theorem a_28 {α : Type} {σ : St} {z k : Nat} {K : Int32 → Option α} (h : Sh σ z) (hk : k < 7) : o_aI σ (z + 28) 0 (nI k) K = K (s_i σ (z + 28) k) := o_aI_eq (h.k 28 _ (by decide) rfl) hk (by decide)
theorem s_28 {α : Type} {σ : St} {z k : Nat} {v : Int32} {K : St → Option α} (h : Sh σ z) (hk : k < 7) : o_sI σ (z + 28) 0 (nI k) v K = K (setI σ (z + 28) k v) := o_sI_eq (h.k 28 _ (by decide) rfl) hk (by decide)
theorem a_29 {α : Type} {σ : St} {z k : Nat} {K : Int32 → Option α} (h : Sh σ z) (hk : k < 20) : o_aI σ (z + 29) 0 (nI k) K = K (s_i σ (z + 29) k) := o_aI_eq (h.k 29 _ (by decide) rfl) hk (by decide)
theorem s_29 {α : Type} {σ : St} {z k : Nat} {v : Int32} {K : St → Option α} (h : Sh σ z) (hk : k < 20) : o_sI σ (z + 29) 0 (nI k) v K = K (setI σ (z + 29) k v) := o_sI_eq (h.k 29 _ (by decide) rfl) hk (by decide)
theorem a_30 {α : Type} {σ : St} {z k : Nat} {K : Int32 → Option α} (h : Sh σ z) (hk : k < 20) : o_aI σ (z + 30) 0 (nI k) K = K (s_i σ (z + 30) k) := o_aI_eq (h.k 30 _ (by decide) rfl) hk (by decide)
theorem s_30 {α : Type} {σ : St} {z k : Nat} {v : Int32} {K : St → Option α} (h : Sh σ z) (hk : k < 20) : o_sI σ (z + 30) 0 (nI k) v K = K (setI σ (z + 30) k v) := o_sI_eq (h.k 30 _ (by decide) rfl) hk (by decide)
theorem a_31 {α : Type} {σ : St} {z k : Nat} {K : Int32 → Option α} (h : Sh σ z) (hk : k < 24) : o_aI σ (z + 31) 0 (nI k) K = K (s_i σ (z + 31) k) := o_aI_eq (h.k 31 _ (by decide) rfl) hk (by decide)
theorem s_31 {α : Type} {σ : St} {z k : Nat} {v : Int32} {K : St → Option α} (h : Sh σ z) (hk : k < 24) : o_sI σ (z + 31) 0 (nI k) v K = K (setI σ (z + 31) k v) := o_sI_eq (h.k 31 _ (by decide) rfl) hk (by decide)
theorem a_32 {α : Type} {σ : St} {z k : Nat} {K : Int32 → Option α} (h : Sh σ z) (hk : k < 24) : o_aI σ (z + 32) 0 (nI k) K = K (s_i σ (z + 32) k) := o_aI_eq (h.k 32 _ (by decide) rfl) hk (by decide)
theorem s_32 {α : Type} {σ : St} {z k : Nat} {v : Int32} {K : St → Option α} (h : Sh σ z) (hk : k < 24) : o_sI σ (z + 32) 0 (nI k) v K = K (setI σ (z + 32) k v) := o_sI_eq (h.k 32 _ (by decide) rfl) hk (by decide)
theorem a_33 {α : Type} {σ : St} {z k : Nat} {K : Int32 → Option α} (h : Sh σ z) (hk : k < 24) : o_aI σ (z + 33) 0 (nI k) K = K (s_i σ (z + 33) k) := o_aI_eq (h.k 33 _ (by decide) rfl) hk (by decide)
theorem s_33 {α : Type} {σ : St} {z k : Nat} {v : Int32} {K : St → Option α} (h : Sh σ z) (hk : k < 24) : o_sI σ (z + 33) 0 (nI k) v K = K (setI σ (z + 33) k v) := o_sI_eq (h.k 33 _ (by decide) rfl) hk (by decide)
theorem a_34 {α : Type} {σ : St} {z k : Nat} {K : Int32 → Option α} (h : Sh σ z) (hk : k < 64) : o_aI σ (z + 34) 0 (nI k) K = K (s_i σ (z + 34) k) := o_aI_eq (h.k 34 _ (by decide) rfl) hk (by decide)
theorem s_34 {α : Type} {σ : St} {z k : Nat} {v : Int32} {K : St → Option α} (h : Sh σ z) (hk : k < 64) : o_sI σ (z + 34) 0 (nI k) v K = K (setI σ (z + 34) k v) := o_sI_eq (h.k 34 _ (by decide) rfl) hk (by decide)
theorem a_36 {α : Type} {σ : St} {z k : Nat} {K : Int32 → Option α} (h : Sh σ z) (hk : k < 16) : o_aI σ (z + 36) 2 (nI k) K = K (s_i σ (z + 36) k) := o_aI_eq (h.k 36 _ (by decide) rfl) hk (by decide)
theorem s_36 {α : Type} {σ : St} {z k : Nat} {v : Int32} {K : St → Option α} (h : Sh σ z) (hk : k < 16) : o_sI σ (z + 36) 2 (nI k) v K = K (setI σ (z + 36) k v) := o_sI_eq (h.k 36 _ (by decide) rfl) hk (by decide)
theorem a_1065 {α : Type} {σ : St} {z k : Nat} {K : Int32 → Option α} (h : Sh σ z) (hk : k < 6) : o_aI σ (z + 1065) 0 (nI k) K = K (s_i σ (z + 1065) k) := o_aI_eq (h.k 1065 _ (by decide) rfl) hk (by decide)
theorem s_1065 {α : Type} {σ : St} {z k : Nat} {v : Int32} {K : St → Option α} (h : Sh σ z) (hk : k < 6) : o_sI σ (z + 1065) 0 (nI k) v K = K (setI σ (z + 1065) k v) := o_sI_eq (h.k 1065 _ (by decide) rfl) hk (by decide)
theorem a_1066 {α : Type} {σ : St} {z k : Nat} {K : Int32 → Option α} (h : Sh σ z) (hk : k < 6) : o_aI σ (z + 1066) 0 (nI k) K = K (s_i σ (z + 1066) k) := o_aI_eq (h.k 1066 _ (by decide) rfl) hk (by decide)
theorem s_1066 {α : Type} {σ : St} {z k : Nat} {v : Int32} {K : St → Option α} (h : Sh σ z) (hk : k < 6) : o_sI σ (z + 1066) 0 (nI k) v K = K (setI σ (z + 1066) k v) := o_sI_eq (h.k 1066 _ (by decide) rfl) hk (by decide)
theorem a_1067 {α : Type} {σ : St} {z k : Nat} {K : Int32 → Option α} (h : Sh σ z) (hk : k < 24) : o_aI σ (z + 1067) 0 (nI k) K = K (s_i σ (z + 1067) k) := o_aI_eq (h.k 1067 _ (by decide) rfl) hk (by decide)
theorem s_1067 {α : Type} {σ : St} {z k : Nat} {v : Int32} {K : St → Option α} (h : Sh σ z) (hk : k < 24) : o_sI σ (z + 1067) 0 (nI k) v K = K (setI σ (z + 1067) k v) := o_sI_eq (h.k 1067 _ (by decide) rfl) hk (by decide)
theorem a_1068 {α : Type} {σ : St} {z k : Nat} {K : Int32 → Option α} (h : Sh σ z) (hk : k < 24) : o_aI σ (z + 1068) 0 (nI k) K = K (s_i σ (z + 1068) k) := o_aI_eq (h.k 1068 _ (by decide) rfl) hk (by decide)
theorem s_1068 {α : Type} {σ : St} {z k : Nat} {v : Int32} {K : St → Option α} (h : Sh σ z) (hk : k < 24) : o_sI σ (z + 1068) 0 (nI k) v K = K (setI σ (z + 1068) k v) := o_sI_eq (h.k 1068 _ (by decide) rfl) hk (by decide)
theorem a_1069 {α : Type} {σ : St} {z k : Nat} {K : Int32 → Option α} (h : Sh σ z) (hk : k < 6) : o_aI σ (z + 1069) 0 (nI k) K = K (s_i σ (z + 1069) k) := o_aI_eq (h.k 1069 _ (by decide) rfl) hk (by decide)
theorem s_1069 {α : Type} {σ : St} {z k : Nat} {v : Int32} {K : St → Option α} (h : Sh σ z) (hk : k < 6) : o_sI σ (z + 1069) 0 (nI k) v K = K (setI σ (z + 1069) k v) := o_sI_eq (h.k 1069 _ (by decide) rfl) hk (by decide)
theorem a_1070 {α : Type} {σ : St} {z k : Nat} {K : Int32 → Option α} (h : Sh σ z) (hk : k < 40) : o_aI σ (z + 1070) 0 (nI k) K = K (s_i σ (z + 1070) k) := o_aI_eq (h.k 1070 _ (by decide) rfl) hk (by decide)
theorem s_1070 {α : Type} {σ : St} {z k : Nat} {v : Int32} {K : St → Option α} (h : Sh σ z) (hk : k < 40) : o_sI σ (z + 1070) 0 (nI k) v K = K (setI σ (z + 1070) k v) := o_sI_eq (h.k 1070 _ (by decide) rfl) hk (by decide)
theorem a_1071 {α : Type} {σ : St} {z k : Nat} {K : Int32 → Option α} (h : Sh σ z) (hk : k < 40) : o_aI σ (z + 1071) 0 (nI k) K = K (s_i σ (z + 1071) k) := o_aI_eq (h.k 1071 _ (by decide) rfl) hk (by decide)
theorem s_1071 {α : Type} {σ : St} {z k : Nat} {v : Int32} {K : St → Option α} (h : Sh σ z) (hk : k < 40) : o_sI σ (z + 1071) 0 (nI k) v K = K (setI σ (z + 1071) k v) := o_sI_eq (h.k 1071 _ (by decide) rfl) hk (by decide)
theorem a_1072 {α : Type} {σ : St} {z k : Nat} {K : Int32 → Option α} (h : Sh σ z) (hk : k < 40) : o_aI σ (z + 1072) 0 (nI k) K = K (s_i σ (z + 1072) k) := o_aI_eq (h.k 1072 _ (by decide) rfl) hk (by decide)
theorem s_1072 {α : Type} {σ : St} {z k : Nat} {v : Int32} {K : St → Option α} (h : Sh σ z) (hk : k < 40) : o_sI σ (z + 1072) 0 (nI k) v K = K (setI σ (z + 1072) k v) := o_sI_eq (h.k 1072 _ (by decide) rfl) hk (by decide)
theorem a_1073 {α : Type} {σ : St} {z k : Nat} {K : Int32 → Option α} (h : Sh σ z) (hk : k < 40) : o_aI σ (z + 1073) 0 (nI k) K = K (s_i σ (z + 1073) k) := o_aI_eq (h.k 1073 _ (by decide) rfl) hk (by decide)
theorem s_1073 {α : Type} {σ : St} {z k : Nat} {v : Int32} {K : St → Option α} (h : Sh σ z) (hk : k < 40) : o_sI σ (z + 1073) 0 (nI k) v K = K (setI σ (z + 1073) k v) := o_sI_eq (h.k 1073 _ (by decide) rfl) hk (by decide)
theorem a_1074 {α : Type} {σ : St} {z k : Nat} {K : Int32 → Option α} (h : Sh σ z) (hk : k < 40) : o_aI σ (z + 1074) 0 (nI k) K = K (s_i σ (z + 1074) k) := o_aI_eq (h.k 1074 _ (by decide) rfl) hk (by decide)
theorem s_1074 {α : Type} {σ : St} {z k : Nat} {v : Int32} {K : St → Option α} (h : Sh σ z) (hk : k < 40) : o_sI σ (z + 1074) 0 (nI k) v K = K (setI σ (z + 1074) k v) := o_sI_eq (h.k 1074 _ (by decide) rfl) hk (by decide)
theorem a_1075 {α : Type} {σ : St} {z k : Nat} {K : Int32 → Option α} (h : Sh σ z) (hk : k < 160) : o_aI σ (z + 1075) 0 (nI k) K = K (s_i σ (z + 1075) k) := o_aI_eq (h.k 1075 _ (by decide) rfl) hk (by decide)
theorem s_1075 {α : Type} {σ : St} {z k : Nat} {v : Int32} {K : St → Option α} (h : Sh σ z) (hk : k < 160) : o_sI σ (z + 1075) 0 (nI k) v K = K (setI σ (z + 1075) k v) := o_sI_eq (h.k 1075 _ (by decide) rfl) hk (by decide)
theorem a_1076 {α : Type} {σ : St} {z k : Nat} {K : Int32 → Option α} (h : Sh σ z) (hk : k < 72) : o_aI σ (z + 1076) 0 (nI k) K = K (s_i σ (z + 1076) k) := o_aI_eq (h.k 1076 _ (by decide) rfl) hk (by decide)
theorem s_1076 {α : Type} {σ : St} {z k : Nat} {v : Int32} {K : St → Option α} (h : Sh σ z) (hk : k < 72) : o_sI σ (z + 1076) 0 (nI k) v K = K (setI σ (z + 1076) k v) := o_sI_eq (h.k 1076 _ (by decide) rfl) hk (by decide)
theorem a_1077 {α : Type} {σ : St} {z k : Nat} {K : Int32 → Option α} (h : Sh σ z) (hk : k < 6) : o_aI σ (z + 1077) 0 (nI k) K = K (s_i σ (z + 1077) k) := o_aI_eq (h.k 1077 _ (by decide) rfl) hk (by decide)
theorem s_1077 {α : Type} {σ : St} {z k : Nat} {v : Int32} {K : St → Option α} (h : Sh σ z) (hk : k < 6) : o_sI σ (z + 1077) 0 (nI k) v K = K (setI σ (z + 1077) k v) := o_sI_eq (h.k 1077 _ (by decide) rfl) hk (by decide)
theorem a_1078 {α : Type} {σ : St} {z k : Nat} {K : Int32 → Option α} (h : Sh σ z) (hk : k < 432) : o_aI σ (z + 1078) 0 (nI k) K = K (s_i σ (z + 1078) k) := o_aI_eq (h.k 1078 _ (by decide) rfl) hk (by decide)
theorem s_1078 {α : Type} {σ : St} {z k : Nat} {v : Int32} {K : St → Option α} (h : Sh σ z) (hk : k < 432) : o_sI σ (z + 1078) 0 (nI k) v K = K (setI σ (z + 1078) k v) := o_sI_eq (h.k 1078 _ (by decide) rfl) hk (by decide)
theorem a_1079 {α : Type} {σ : St} {z k : Nat} {K : Int32 → Option α} (h : Sh σ z) (hk : k < 4) : o_aI σ (z + 1079) 0 (nI k) K = K (s_i σ (z + 1079) k) := o_aI_eq (h.k 1079 _ (by decide) rfl) hk (by decide)
theorem s_1079 {α : Type} {σ : St} {z k : Nat} {v : Int32} {K : St → Option α} (h : Sh σ z) (hk : k < 4) : o_sI σ (z + 1079) 0 (nI k) v K = K (setI σ (z + 1079) k v) := o_sI_eq (h.k 1079 _ (by decide) rfl) hk (by decide)
theorem a_1080 {α : Type} {σ : St} {z k : Nat} {K : Int32 → Option α} (h : Sh σ z) (hk : k < 96) : o_aI σ (z + 1080) 0 (nI k) K = K (s_i σ (z + 1080) k) := o_aI_eq (h.k 1080 _ (by decide) rfl) hk (by decide)
theorem s_1080 {α : Type} {σ : St} {z k : Nat} {v : Int32} {K : St → Option α} (h : Sh σ z) (hk : k < 96) : o_sI σ (z + 1080) 0 (nI k) v K = K (setI σ (z + 1080) k v) := o_sI_eq (h.k 1080 _ (by decide) rfl) hk (by decide)
theorem a_1081 {α : Type} {σ : St} {z k : Nat} {K : Int32 → Option α} (h : Sh σ z) (hk : k < 7) : o_aI σ (z + 1081) 0 (nI k) K = K (s_i σ (z + 1081) k) := o_aI_eq (h.k 1081 _ (by decide) rfl) hk (by decide)
theorem s_1081 {α : Type} {σ : St} {z k : Nat} {v : Int32} {K : St → Option α} (h : Sh σ z) (hk : k < 7) : o_sI σ (z + 1081) 0 (nI k) v K = K (setI σ (z + 1081) k v) := o_sI_eq (h.k 1081 _ (by decide) rfl) hk (by decide)
theorem a_1082 {α : Type} {σ : St} {z k : Nat} {K : Int32 → Option α} (h : Sh σ z) (hk : k < 7) : o_aI σ (z + 1082) 0 (nI k) K = K (s_i σ (z + 1082) k) := o_aI_eq (h.k 1082 _ (by decide) rfl) hk (by decide)
theorem s_1082 {α : Type} {σ : St} {z k : Nat} {v : Int32} {K : St → Option α} (h : Sh σ z) (hk : k < 7) : o_sI σ (z + 1082) 0 (nI k) v K = K (setI σ (z + 1082) k v) := o_sI_eq (h.k 1082 _ (by decide) rfl) hk (by decide)
theorem a_1083 {α : Type} {σ : St} {z k : Nat} {K : Int32 → Option α} (h : Sh σ z) (hk : k < 7) : o_aI σ (z + 1083) 0 (nI k) K = K (s_i σ (z + 1083) k) := o_aI_eq (h.k 1083 _ (by decide) rfl) hk (by decide)
theorem s_1083 {α : Type} {σ : St} {z k : Nat} {v : Int32} {K : St → Option α} (h : Sh σ z) (hk : k < 7) : o_sI σ (z + 1083) 0 (nI k) v K = K (setI σ (z + 1083) k v) := o_sI_eq (h.k 1083 _ (by decide) rfl) hk (by decide)
theorem a_1084 {α : Type} {σ : St} {z k : Nat} {K : Int32 → Option α} (h : Sh σ z) (hk : k < 20) : o_aI σ (z + 1084) 0 (nI k) K = K (s_i σ (z + 1084) k) := o_aI_eq (h.k 1084 _ (by decide) rfl) hk (by decide)
theorem s_1084 {α : Type} {σ : St} {z k : Nat} {v : Int32} {K : St → Option α} (h : Sh σ z) (hk : k < 20) : o_sI σ (z + 1084) 0 (nI k) v K = K (setI σ (z + 1084) k v) := o_sI_eq (h.k 1084 _ (by decide) rfl) hk (by decide)
theorem a_1085 {α : Type} {σ : St} {z k : Nat} {K : Int32 → Option α} (h : Sh σ z) (hk : k < 20) : o_aI σ (z + 1085) 0 (nI k) K = K (s_i σ (z + 1085) k) := o_aI_eq (h.k 1085 _ (by decide) rfl) hk (by decide)
theorem s_1085 {α : Type} {σ : St} {z k : Nat} {v : Int32} {K : St → Option α} (h : Sh σ z) (hk : k < 20) : o_sI σ (z + 1085) 0 (nI k) v K = K (setI σ (z + 1085) k v) := o_sI_eq (h.k 1085 _ (by decide) rfl) hk (by decide)
theorem a_1086 {α : Type} {σ : St} {z k : Nat} {K : Int32 → Option α} (h : Sh σ z) (hk : k < 24) : o_aI σ (z + 1086) 0 (nI k) K = K (s_i σ (z + 1086) k) := o_aI_eq (h.k 1086 _ (by decide) rfl) hk (by decide)
theorem s_1086 {α : Type} {σ : St} {z k : Nat} {v : Int32} {K : St → Option α} (h : Sh σ z) (hk : k < 24) : o_sI σ (z + 1086) 0 (nI k) v K = K (setI σ (z + 1086) k v) := o_sI_eq (h.k 1086 _ (by decide) rfl) hk (by decide)
theorem a_1087 {α : Type} {σ : St} {z k : Nat} {K : Int32 → Option α} (h : Sh σ z) (hk : k < 24) : o_aI σ (z + 1087) 0 (nI k) K = K (s_i σ (z + 1087) k) := o_aI_eq (h.k 1087 _ (by decide) rfl) hk (by decide)
theorem s_1087 {α : Type} {σ : St} {z k : Nat} {v : Int32} {K : St → Option α} (h : Sh σ z) (hk : k < 24) : o_sI σ (z + 1087) 0 (nI k) v K = K (setI σ (z + 1087) k v) := o_sI_eq (h.k 1087 _ (by decide) rfl) hk (by decide)
theorem a_1088 {α : Type} {σ : St} {z k : Nat} {K : Int32 → Option α} (h : Sh σ z) (hk : k < 24) : o_aI σ (z + 1088) 0 (nI k) K = K (s_i σ (z + 1088) k) := o_aI_eq (h.k 1088 _ (by decide) rfl) hk (by decide)
theorem s_1088 {α : Type} {σ : St} {z k : Nat} {v : Int32} {K : St → Option α} (h : Sh σ z) (hk : k < 24) : o_sI σ (z + 1088) 0 (nI k) v K = K (setI σ (z + 1088) k v) := o_sI_eq (h.k 1088 _ (by decide) rfl) hk (by decide)
theorem a_1089 {α : Type} {σ : St} {z k : Nat} {K : Int32 → Option α} (h : Sh σ z) (hk : k < 64) : o_aI σ (z + 1089) 0 (nI k) K = K (s_i σ (z + 1089) k) := o_aI_eq (h.k 1089 _ (by decide) rfl) hk (by decide)
theorem s_1089 {α : Type} {σ : St} {z k : Nat} {v : Int32} {K : St → Option α} (h : Sh σ z) (hk : k < 64) : o_sI σ (z + 1089) 0 (nI k) v K = K (setI σ (z + 1089) k v) := o_sI_eq (h.k 1089 _ (by decide) rfl) hk (by decide)
theorem a_1090 {α : Type} {σ : St} {z k : Nat} {K : Int32 → Option α} (h : Sh σ z) (hk : k < 80) : o_aI σ (z + 1090) 0 (nI k) K = K (s_i σ (z + 1090) k) := o_aI_eq (h.k 1090 _ (by decide) rfl) hk (by decide)
theorem s_1090 {α : Type} {σ : St} {z k : Nat} {v : Int32} {K : St → Option α} (h : Sh σ z) (hk : k < 80) : o_sI σ (z + 1090) 0 (nI k) v K = K (setI σ (z + 1090) k v) := o_sI_eq (h.k 1090 _ (by decide) rfl) hk (by decide)
theorem a_1091 {α : Type} {σ : St} {z k : Nat} {K : Int32 → Option α} (h : Sh σ z) (hk : k < 32) : o_aI σ (z + 1091) 0 (nI k) K = K (s_i σ (z + 1091) k) := o_aI_eq (h.k 1091 _ (by decide) rfl) hk (by decide)
theorem s_1091 {α : Type} {σ : St} {z k : Nat} {v : Int32} {K : St → Option α} (h : Sh σ z) (hk : k < 32) : o_sI σ (z + 1091) 0 (nI k) v K = K (setI σ (z + 1091) k v) := o_sI_eq (h.k 1091 _ (by decide) rfl) hk (by decide)
theorem a_1092 {α : Type} {σ : St} {z k : Nat} {K : Int32 → Option α} (h : Sh σ z) (hk : k < 10) : o_aI σ (z + 1092) 0 (nI k) K = K (s_i σ (z + 1092) k) := o_aI_eq (h.k 1092 _ (by decide) rfl) hk (by decide)
theorem s_1092 {α : Type} {σ : St} {z k : Nat} {v : Int32} {K : St → Option α} (h : Sh σ z) (hk : k < 10) : o_sI σ (z + 1092) 0 (nI k) v K = K (setI σ (z + 1092) k v) := o_sI_eq (h.k 1092 _ (by decide) rfl) hk (by decide)
theorem a_1093 {α : Type} {σ : St} {z k : Nat} {K : Int32 → Option α} (h : Sh σ z) (hk : k < 10) : o_aI σ (z + 1093) 0 (nI k) K = K (s_i σ (z + 1093) k) := o_aI_eq (h.k 1093 _ (by decide) rfl) hk (by decide)
theorem s_1093 {α : Type} {σ : St} {z k : Nat} {v : Int32} {K : St → Option α} (h : Sh σ z) (hk : k < 10) : o_sI σ (z + 1093) 0 (nI k) v K = K (setI σ (z + 1093) k v) := o_sI_eq (h.k 1093 _ (by decide) rfl) hk (by decide)
theorem a_3 {α : Type} {σ : St} {z k p : Nat} {K : Nat → Option α} (h : Sh σ z) (hk : k < 6) (hr : s_r σ (z + 3) k = some p) : o_aR σ (z + 3) 3 (nI k) K = K p := o_aR_eq (h.k 3 _ (by decide) rfl) hk (by decide) hr
theorem q_3 {α : Type} {σ : St} {z k : Nat} {K : Option Nat → Option α} (h : Sh σ z) (hk : k < 6) : o_aQ σ (z + 3) 3 (nI k) K = K (s_r σ (z + 3) k) := o_aQ_eq (h.k 3 _ (by decide) rfl) hk (by decide)
theorem s_3 {α : Type} {σ : St} {z k v ci : Nat} {K : St → Option α} (h : Sh σ z) (hk : k < 6) (hv : s_k σ v = some (.inl ci)) (hc : okA 3 ci = true) : o_sR σ (z + 3) 3 (nI k) v K = K (setR σ (z + 3) k (some v)) := o_sR_eq (h.k 3 _ (by decide) rfl) hk (by decide) hv hc
theorem a_4 {α : Type} {σ : St} {z k p : Nat} {K : Nat → Option α} (h : Sh σ z) (hk : k < 40) (hr : s_r σ (z + 4) k = some p) : o_aR σ (z + 4) 4 (nI k) K = K p := o_aR_eq (h.k 4 _ (by decide) rfl) hk (by decide) hr
theorem q_4 {α : Type} {σ : St} {z k : Nat} {K : Option Nat → Option α} (h : Sh σ z) (hk : k < 40) : o_aQ σ (z + 4) 4 (nI k) K = K (s_r σ (z + 4) k) := o_aQ_eq (h.k 4 _ (by decide) rfl) hk (by decide)
theorem s_4 {α : Type} {σ : St} {z k v ci : Nat} {K : St → Option α} (h : Sh σ z) (hk : k < 40) (hv : s_k σ v = some (.inl ci)) (hc : okA 4 ci = true) : o_sR σ (z + 4) 4 (nI k) v K = K (setR σ (z + 4) k (some v)) := o_sR_eq (h.k 4 _ (by decide) rfl) hk (by decide) hv hc
theorem a_12 {α : Type} {σ : St} {z k p : Nat} {K : Nat → Option α} (h : Sh σ z) (hk : k < 6) (hr : s_r σ (z + 12) k = some p) : o_aR σ (z + 12) 5 (nI k) K = K p := o_aR_eq (h.k 12 _ (by decide) rfl) hk (by decide) hr
theorem q_12 {α : Type} {σ : St} {z k : Nat} {K : Option Nat → Option α} (h : Sh σ z) (hk : k < 6) : o_aQ σ (z + 12) 5 (nI k) K = K (s_r σ (z + 12) k) := o_aQ_eq (h.k 12 _ (by decide) rfl) hk (by decide)
theorem s_12 {α : Type} {σ : St} {z k v ci : Nat} {K : St → Option α} (h : Sh σ z) (hk : k < 6) (hv : s_k σ v = some (.inl ci)) (hc : okA 5 ci = true) : o_sR σ (z + 12) 5 (nI k) v K = K (setR σ (z + 12) k (some v)) := o_sR_eq (h.k 12 _ (by decide) rfl) hk (by decide) hv hc
theorem a_20 {α : Type} {σ : St} {z k p : Nat} {K : Nat → Option α} (h : Sh σ z) (hk : k < 6) (hr : s_r σ (z + 20) k = some p) : o_aR σ (z + 20) 5 (nI k) K = K p := o_aR_eq (h.k 20 _ (by decide) rfl) hk (by decide) hr
theorem q_20 {α : Type} {σ : St} {z k : Nat} {K : Option Nat → Option α} (h : Sh σ z) (hk : k < 6) : o_aQ σ (z + 20) 5 (nI k) K = K (s_r σ (z + 20) k) := o_aQ_eq (h.k 20 _ (by decide) rfl) hk (by decide)
theorem s_20 {α : Type} {σ : St} {z k v ci : Nat} {K : St → Option α} (h : Sh σ z) (hk : k < 6) (hv : s_k σ v = some (.inl ci)) (hc : okA 5 ci = true) : o_sR σ (z + 20) 5 (nI k) v K = K (setR σ (z + 20) k (some v)) := o_sR_eq (h.k 20 _ (by decide) rfl) hk (by decide) hv hc
theorem a_22 {α : Type} {σ : St} {z k p : Nat} {K : Nat → Option α} (h : Sh σ z) (hk : k < 6) (hr : s_r σ (z + 22) k = some p) : o_aR σ (z + 22) 6 (nI k) K = K p := o_aR_eq (h.k 22 _ (by decide) rfl) hk (by decide) hr
theorem q_22 {α : Type} {σ : St} {z k : Nat} {K : Option Nat → Option α} (h : Sh σ z) (hk : k < 6) : o_aQ σ (z + 22) 6 (nI k) K = K (s_r σ (z + 22) k) := o_aQ_eq (h.k 22 _ (by decide) rfl) hk (by decide)
theorem s_22 {α : Type} {σ : St} {z k v ci : Nat} {K : St → Option α} (h : Sh σ z) (hk : k < 6) (hv : s_k σ v = some (.inl ci)) (hc : okA 6 ci = true) : o_sR σ (z + 22) 6 (nI k) v K = K (setR σ (z + 22) k (some v)) := o_sR_eq (h.k 22 _ (by decide) rfl) hk (by decide) hv hc
theorem a_23 {α : Type} {σ : St} {z k p : Nat} {K : Nat → Option α} (h : Sh σ z) (hk : k < 4) (hr : s_r σ (z + 23) k = some p) : o_aR σ (z + 23) 7 (nI k) K = K p := o_aR_eq (h.k 23 _ (by decide) rfl) hk (by decide) hr
theorem q_23 {α : Type} {σ : St} {z k : Nat} {K : Option Nat → Option α} (h : Sh σ z) (hk : k < 4) : o_aQ σ (z + 23) 7 (nI k) K = K (s_r σ (z + 23) k) := o_aQ_eq (h.k 23 _ (by decide) rfl) hk (by decide)
theorem s_23 {α : Type} {σ : St} {z k v ci : Nat} {K : St → Option α} (h : Sh σ z) (hk : k < 4) (hv : s_k σ v = some (.inl ci)) (hc : okA 7 ci = true) : o_sR σ (z + 23) 7 (nI k) v K = K (setR σ (z + 23) k (some v)) := o_sR_eq (h.k 23 _ (by decide) rfl) hk (by decide) hv hc
theorem a_35 {α : Type} {σ : St} {z k p : Nat} {K : Nat → Option α} (h : Sh σ z) (hk : k < 16) (hr : s_r σ (z + 35) k = some p) : o_aR σ (z + 35) 8 (nI k) K = K p := o_aR_eq (h.k 35 _ (by decide) rfl) hk (by decide) hr
theorem q_35 {α : Type} {σ : St} {z k : Nat} {K : Option Nat → Option α} (h : Sh σ z) (hk : k < 16) : o_aQ σ (z + 35) 8 (nI k) K = K (s_r σ (z + 35) k) := o_aQ_eq (h.k 35 _ (by decide) rfl) hk (by decide)
theorem s_35 {α : Type} {σ : St} {z k v ci : Nat} {K : St → Option α} (h : Sh σ z) (hk : k < 16) (hv : s_k σ v = some (.inl ci)) (hc : okA 8 ci = true) : o_sR σ (z + 35) 8 (nI k) v K = K (setR σ (z + 35) k (some v)) := o_sR_eq (h.k 35 _ (by decide) rfl) hk (by decide) hv hc
theorem a_37 {α : Type} {σ : St} {z k p : Nat} {K : Nat → Option α} (h : Sh σ z) (hk : k < 8) (hr : s_r σ (z + 37) k = some p) : o_aR σ (z + 37) 8 (nI k) K = K p := o_aR_eq (h.k 37 _ (by decide) rfl) hk (by decide) hr
theorem q_37 {α : Type} {σ : St} {z k : Nat} {K : Option Nat → Option α} (h : Sh σ z) (hk : k < 8) : o_aQ σ (z + 37) 8 (nI k) K = K (s_r σ (z + 37) k) := o_aQ_eq (h.k 37 _ (by decide) rfl) hk (by decide)
theorem s_37 {α : Type} {σ : St} {z k v ci : Nat} {K : St → Option α} (h : Sh σ z) (hk : k < 8) (hv : s_k σ v = some (.inl ci)) (hc : okA 8 ci = true) : o_sR σ (z + 37) 8 (nI k) v K = K (setR σ (z + 37) k (some v)) := o_sR_eq (h.k 37 _ (by decide) rfl) hk (by decide) hv hc
theorem a_38 {α : Type} {σ : St} {z k p : Nat} {K : Nat → Option α} (h : Sh σ z) (hk : k < 10) (hr : s_r σ (z + 38) k = some p) : o_aR σ (z + 38) 3 (nI k) K = K p := o_aR_eq (h.k 38 _ (by decide) rfl) hk (by decide) hr
theorem q_38 {α : Type} {σ : St} {z k : Nat} {K : Option Nat → Option α} (h : Sh σ z) (hk : k < 10) : o_aQ σ (z + 38) 3 (nI k) K = K (s_r σ (z + 38) k) := o_aQ_eq (h.k 38 _ (by decide) rfl) hk (by decide)
theorem s_38 {α : Type} {σ : St} {z k v ci : Nat} {K : St → Option α} (h : Sh σ z) (hk : k < 10) (hv : s_k σ v = some (.inl ci)) (hc : okA 3 ci = true) : o_sR σ (z + 38) 3 (nI k) v K = K (setR σ (z + 38) k (some v)) := o_sR_eq (h.k 38 _ (by decide) rfl) hk (by decide) hv hc
