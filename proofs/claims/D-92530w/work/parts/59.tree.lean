set_option maxRecDepth 100000
/-! going through a tree of rows -/
section TREE
variable {S R A : Type}
/-- what the rows that begin so make of a value -/
def sub (ok : A → List Nat → Nat → Bool) (leaf : A → List Nat → A) (top st : Nat) : Nat → List Nat → A → Nat → A
  | 0, pre, a, v => if ok a pre v then leaf a (pre ++ [v]) else a
  | k + 1, pre, a, v => if ok a pre v then (List.range' st (top - st)).foldl (sub ok leaf top st k (pre ++ [v])) a else a
def Bd (top : Nat) : Nat → Nat
  | 0 => top * 1 + 1
  | k + 1 => top * (1 + Bd top k) + 1
theorem Bd_le {top : Nat} (h : top ≤ 40) : ∀ k, Bd top k ≤ 50 ^ (k + 1)
  | 0 => by unfold Bd; omega
  | k + 1 => by
    have h1 := Bd_le h k
    unfold Bd
    have h2 : top * (1 + Bd top k) ≤ 40 * (1 + 50 ^ (k + 1)) := Nat.mul_le_mul h (by omega)
    have h3 : 50 ^ (k + 1 + 1) = 50 ^ (k + 1) * 50 := rfl
    have h4 : 50 ^ (0 + 1) ≤ 50 ^ (k + 1) := Nat.pow_le_pow_right (by decide) (by omega)
    omega
theorem treeL {b : S → Option (S ⊕ R)} (lo : Nat) (ok : A → List Nat → Nat → Bool) (leaf : A → List Nat → A) (I : List Nat → Nat → A → S → Prop) (P : List Nat → A → S → Prop) (m top st : Nat) (hst : st ≤ top)
    (hno : ∀ pre v a s, lo ≤ pre.length → pre.length < m → v < top → I pre v a s → ok a pre v = false → ∃ t, b s = some (.inl t) ∧ I pre (v + 1) a t)
    (hleaf : ∀ pre v a s, lo ≤ pre.length → pre.length + 1 = m → v < top → I pre v a s → ok a pre v = true → ∃ t, b s = some (.inl t) ∧ I pre (v + 1) (leaf a (pre ++ [v])) t)
    (hdn : ∀ pre v a s, lo ≤ pre.length → pre.length + 1 < m → v < top → I pre v a s → ok a pre v = true → ∃ t, b s = some (.inl t) ∧ I (pre ++ [v]) st a t)
    (hpop : ∀ pre a s, lo ≤ pre.length → pre.length < m → I pre top a s → ∃ t, b s = some (.inl t) ∧ P pre a t)
    (hP : ∀ pre c a s, lo ≤ pre.length → P (pre ++ [c]) a s → I pre (c + 1) a s) :
    ∀ k pre a s v, lo ≤ pre.length → pre.length + 1 + k = m → v ≤ top → I pre v a s → ∃ t, Rcl b (Bd top k) s t ∧ P pre ((List.range' v (top - v)).foldl (sub ok leaf top st k pre) a) t := by
  intro k
  have rg : ∀ v n, v ≤ n → List.range' v (n + 1 - v) = List.range' v (n - v) ++ [n] := by
    intro v n h
    rw [show n + 1 - v = (n - v) + 1 by omega, List.range'_concat, show v + 1 * (n - v) = n by omega]
  induction k with
  | zero =>
    intro pre a s v hlo hl hv hI
    obtain ⟨t, t1, t2⟩ := Rcl.count (b := b) (fun n s => I pre n ((List.range' v (n - v)).foldl (sub ok leaf top st 0 pre) a) s) 1 v top (by
      intro n s hvn hn hs
      rw [rg v n hvn, List.foldl_append]
      simp only [List.foldl_cons, List.foldl_nil]
      generalize hA : (List.range' v (n - v)).foldl (sub ok leaf top st 0 pre) a = a' at hs
      have e : sub ok leaf top st 0 pre a' n = if ok a' pre n then leaf a' (pre ++ [n]) else a' := rfl
      rw [e]
      cases hk : ok a' pre n with
      | false =>
        obtain ⟨t, t1, t2⟩ := hno pre n a' s hlo (by omega) hn hs hk
        exact ⟨t, Rcl.one t1, t2⟩
      | true =>
        obtain ⟨t, t1, t2⟩ := hleaf pre n a' s hlo (by omega) hn hs hk
        exact ⟨t, Rcl.one t1, t2⟩) hv (s := s) (by simp only [Nat.sub_self, List.range'_zero, List.foldl_nil]; exact hI)
    obtain ⟨u, u1, u2⟩ := hpop pre _ t hlo (by omega) t2
    refine ⟨u, (t1.trans (Rcl.one u1)).mono ?_, u2⟩
    unfold Bd
    have := Nat.mul_le_mul_right 1 (show top - v ≤ top by omega)
    omega
  | succ k ih =>
    intro pre a s v hlo hl hv hI
    obtain ⟨t, t1, t2⟩ := Rcl.count (b := b) (fun n s => I pre n ((List.range' v (n - v)).foldl (sub ok leaf top st (k + 1) pre) a) s) (1 + Bd top k) v top (by
      intro n s hvn hn hs
      rw [rg v n hvn, List.foldl_append]
      simp only [List.foldl_cons, List.foldl_nil]
      generalize hA : (List.range' v (n - v)).foldl (sub ok leaf top st (k + 1) pre) a = a' at hs
      have e : sub ok leaf top st (k + 1) pre a' n = if ok a' pre n then (List.range' st (top - st)).foldl (sub ok leaf top st k (pre ++ [n])) a' else a' := rfl
      rw [e]
      cases hk : ok a' pre n with
      | false =>
        obtain ⟨t, t1, t2⟩ := hno pre n a' s hlo (by omega) hn hs hk
        exact ⟨t, (Rcl.one t1).mono (by omega), t2⟩
      | true =>
        obtain ⟨t, t1, t2⟩ := hdn pre n a' s hlo (by omega) hn hs hk
        obtain ⟨u, u1, u2⟩ := ih (pre ++ [n]) a' t st (by rw [List.length_append]; omega) (by rw [List.length_append, List.length_singleton]; omega) hst t2
        exact ⟨u, (Rcl.one t1).trans u1, hP _ _ _ _ hlo u2⟩) hv (s := s) (by simp only [Nat.sub_self, List.range'_zero, List.foldl_nil]; exact hI)
    obtain ⟨u, u1, u2⟩ := hpop pre _ t hlo (by omega) t2
    refine ⟨u, (t1.trans (Rcl.one u1)).mono ?_, u2⟩
    have e : Bd top (k + 1) = top * (1 + Bd top k) + 1 := rfl
    rw [e]
    have := Nat.mul_le_mul_right (1 + Bd top k) (show top - v ≤ top by omega)
    omega
theorem tree {b : S → Option (S ⊕ R)} (ok : A → List Nat → Nat → Bool) (leaf : A → List Nat → A) (I : List Nat → Nat → A → S → Prop) (P : List Nat → A → S → Prop) (m top st : Nat) (hst : st ≤ top)
    (hno : ∀ pre v a s, pre.length < m → v < top → I pre v a s → ok a pre v = false → ∃ t, b s = some (.inl t) ∧ I pre (v + 1) a t)
    (hleaf : ∀ pre v a s, pre.length + 1 = m → v < top → I pre v a s → ok a pre v = true → ∃ t, b s = some (.inl t) ∧ I pre (v + 1) (leaf a (pre ++ [v])) t)
    (hdn : ∀ pre v a s, pre.length + 1 < m → v < top → I pre v a s → ok a pre v = true → ∃ t, b s = some (.inl t) ∧ I (pre ++ [v]) st a t)
    (hpop : ∀ pre a s, pre.length < m → I pre top a s → ∃ t, b s = some (.inl t) ∧ P pre a t)
    (hP : ∀ pre c a s, P (pre ++ [c]) a s → I pre (c + 1) a s) :
    ∀ k pre a s v, pre.length + 1 + k = m → v ≤ top → I pre v a s → ∃ t, Rcl b (Bd top k) s t ∧ P pre ((List.range' v (top - v)).foldl (sub ok leaf top st k pre) a) t :=
  fun k pre a s v => treeL (b := b) 0 ok leaf I P m top st hst (fun pre v a s _ => hno pre v a s) (fun pre v a s _ => hleaf pre v a s) (fun pre v a s _ => hdn pre v a s) (fun pre a s _ => hpop pre a s) (fun pre c a s _ => hP pre c a s) k pre a s v (Nat.zero_le _)
end TREE
/-- a row in the making lies in a cell of numbers -/
def OrI (z o : Nat) (pre : List Nat) (v : Nat) (σ : St) : Prop := (∀ i, i < pre.length → s_i σ (z + o) i = nI (pre.getD i 0)) ∧ s_i σ (z + o) pre.length = nI v - 1
def OrP (z o : Nat) (pre : List Nat) (σ : St) : Prop := ∀ i, i < pre.length → s_i σ (z + o) i = nI (pre.getD i 0)
theorem gD_l {pre : List Nat} {c i : Nat} (h : i < pre.length) : (pre ++ [c]).getD i 0 = pre.getD i 0 := by
  simp only [List.getD_eq_getElem?_getD, List.getElem?_append_left h]
theorem gD_r {pre : List Nat} {c : Nat} : (pre ++ [c]).getD pre.length 0 = c := by
  simp only [List.getD_eq_getElem?_getD, List.getElem?_concat_length, Option.getD_some]
theorem len1 {pre : List Nat} {c : Nat} : (pre ++ [c]).length = pre.length + 1 := by rw [List.length_append, List.length_singleton]
theorem OrP.out {z o c : Nat} {pre : List Nat} {σ : St} (h : OrP z o (pre ++ [c]) σ) : OrI z o pre (c + 1) σ := by
  refine ⟨fun i hi => ?_, ?_⟩
  · rw [h i (by rw [len1]; omega), gD_l hi]
  · rw [h pre.length (by rw [len1]; omega), gD_r, nI_pred]
theorem OrI.out {z o v : Nat} {pre : List Nat} {σ : St} (h : OrI z o pre v σ) (w : Int32) : OrP z o pre (setI σ (z + o) pre.length w) := fun i hi => by
  rw [gi_nj (by omega)]
  exact h.1 i hi
theorem OrI.inc {z o v : Nat} {pre : List Nat} {σ : St} (h : OrI z o pre v σ) : OrI z o pre (v + 1) (setI σ (z + o) pre.length (nI v)) := by
  refine ⟨fun i hi => ?_, ?_⟩
  · rw [gi_nj (by omega)]
    exact h.1 i hi
  · rw [gi_eq, nI_pred]
theorem OrI.full {z o v : Nat} {pre : List Nat} {σ : St} (h : OrI z o pre v σ) : OrP z o (pre ++ [v]) (setI σ (z + o) pre.length (nI v)) := by
  intro i hi
  rw [len1] at hi
  by_cases e : i = pre.length
  · subst e
    rw [gi_eq, gD_r]
  · rw [gi_nj e, gD_l (by omega)]
    exact h.1 i (by omega)
theorem OrI.dn {z o v st : Nat} {pre : List Nat} {σ : St} (h : OrI z o pre v σ) {w : Int32} (hw : w = nI st - 1) : OrI z o (pre ++ [v]) st (setI (setI σ (z + o) pre.length (nI v)) (z + o) (pre.length + 1) w) := by
  refine ⟨fun i hi => ?_, ?_⟩
  · have := h.full i hi
    rw [len1] at hi
    rw [gi_nj (by omega)]
    exact this
  · rw [len1, gi_eq, hw]
/-- the search for the same one earlier, as two programs do it -/
theorem mem_getD {l : List Nat} {v : Nat} : v ∈ l ↔ ∃ i, i < l.length ∧ l.getD i 0 = v := by
  constructor
  · intro h
    obtain ⟨i, hi, e⟩ := List.mem_iff_getElem.mp h
    exact ⟨i, hi, by rw [List.getD_eq_getElem?_getD, List.getElem?_eq_getElem hi, Option.getD_some, e]⟩
  · rintro ⟨i, hi, e⟩
    rw [List.getD_eq_getElem?_getD, List.getElem?_eq_getElem hi, Option.getD_some] at e
    rw [← e]
    exact List.getElem_mem hi
