set_option maxRecDepth 100000
/-! what the two objects hold: things, the wood, habits, tastes -/
/-- a cell that was made later -/
def Dy (σ : St) (z a : Nat) (k : Nat ⊕ Nat × Nat) : Prop := s_k σ a = some k ∧ z + 1094 ≤ a
/-- the later cells are as they were -/
def Nw (σ σ' : St) (z : Nat) : Prop := ∀ a, z + 1094 ≤ a → a < s_z σ → s_k σ' a = s_k σ a ∧ ∀ j, s_i σ' a j = s_i σ a j ∧ s_r σ' a j = s_r σ a j
def plnw (L : PlL) : Bool := L.all fun q => decide (q.1 < 1094)
theorem Fr.nw {σ σ' : St} {z : Nat} {L : PlL} (h : Fr (PL z L) σ σ') (hL : plnw L = true) : Nw σ σ' z := by
  intro a ha hz
  have hn : ∀ j, ¬ PL z L a j := by
    rintro j ⟨q, hq, e, -⟩
    have := of_decide_eq_true (List.all_eq_true.mp hL q hq)
    omega
  exact ⟨h.1 a hz, fun j => ⟨(h.2.2.1 a j hz (hn j)).1, (h.2.2.1 a j hz (hn j)).2.1⟩⟩
theorem Dy.lt {σ : St} {z a : Nat} {k : Nat ⊕ Nat × Nat} (h : Dy σ z a k) (hS : Sh σ z) : a < s_z σ := hS.dyn h.1
theorem Dy.nw {σ σ' : St} {z a : Nat} {k : Nat ⊕ Nat × Nat} (h : Dy σ z a k) (hS : Sh σ z) (hN : Nw σ σ' z) : Dy σ' z a k ∧ ∀ j, s_i σ' a j = s_i σ a j ∧ s_r σ' a j = s_r σ a j :=
  ⟨⟨(hN a h.2 (h.lt hS)).1.trans h.1, h.2⟩, (hN a h.2 (h.lt hS)).2⟩
theorem Sh.born {σ : St} {z : Nat} {k : Nat ⊕ Nat × Nat} (h : Sh σ z) : Sh (born σ k) z := (Fr.brn (P := PL z []) Fr.refl).sh h (by decide)
theorem Sh.sR {σ : St} {z o j : Nat} {v : Option Nat} (h : Sh σ z) (ho : plsh [(o, none)] = true) : Sh (setR σ (z + o) j v) z := (Fr.sRa (o := o)).sh h ho
/-- things -/
def Th (σ : St) (z nt : Nat) : Prop := nt ≤ 40 ∧ s_i σ z 5 = nI nt ∧ s_i σ (z + 1064) 7 = nI nt ∧ ∀ t, t < nt → ∃ p, s_r σ (z + 4) t = some p ∧ Dy σ z p (.inl 7) ∧ s_i σ p 0 = s_i σ (z + 1072) t ∧ s_i σ p 1 = s_i σ (z + 1073) t ∧ s_i σ p 2 = s_i σ (z + 1074) t ∧ (∃ c, c ≤ 3 ∧ s_i σ (z + 1072) t = nI c) ∧ ∃ s, s ≤ 9 ∧ s_i σ (z + 1073) t = nI s
theorem Th.keep {σ σ' : St} {z nt : Nat} {L : PlL} (h : Th σ z nt) (hS : Sh σ z) (hF : Fr (PL z L) σ σ') (hL : (plno L 0 (some 5) && plno L 1064 (some 7) && plno L 4 none && plno L 1072 none && plno L 1073 none && plno L 1074 none && plnw L) = true) : Th σ' z nt := by
  simp only [Bool.and_eq_true] at hL
  obtain ⟨⟨⟨⟨⟨⟨l1, l2⟩, l3⟩, l4⟩, l5⟩, l6⟩, l7⟩ := hL
  refine ⟨h.1, (hF.ki hS 0 5 (by decide) l1).trans h.2.1, (hF.ki hS 1064 7 (by decide) l2).trans h.2.2.1, fun t ht => ?_⟩
  obtain ⟨p, p1, p2, p3, p4, p5, p6, p7⟩ := h.2.2.2 t ht
  obtain ⟨q1, q2⟩ := p2.nw hS (hF.nw l7)
  rw [hF.kra hS 4 (by decide) l3, hF.kia hS 1072 (by decide) l4, hF.kia hS 1073 (by decide) l5, hF.kia hS 1074 (by decide) l6]
  exact ⟨p, p1, q1, (q2 0).1.trans p3, (q2 1).1.trans p4, (q2 2).1.trans p5, p6, p7⟩
/-- a wood against the rows of the model -/
def WR (z w n nt : Nat) (σa σb : St) : Prop := (∀ h, h < n → s_i σa (z + (w + 1)) h = s_i σb (z + 1067) h ∧ s_i σa (z + (w + 2)) h = s_i σb (z + 1067) (6 + h) ∧ s_i σa (z + (w + 3)) h = s_i σb (z + 1067) (12 + h) ∧ (∃ k, k ≤ 99 ∧ s_i σb (z + 1067) h = nI k) ∧ ∃ k, k ≤ 30 ∧ s_i σb (z + 1067) (6 + h) = nI k) ∧ ∀ t, t < nt → s_i σa (z + (w + 7)) t = s_i σb (z + 1070) t
def Wd (σ : St) (z n nt : Nat) : Prop := s_i σ (z + 6) 0 = s_i σ (z + 1064) 0 ∧ WR z 6 n nt σ σ ∧ (∀ h, h < n → s_i σ (z + 11) h = s_i σ (z + 1067) (18 + h)) ∧ ∀ h, n ≤ h → h < 6 → s_i σ (z + 8) h = 0 ∧ s_i σ (z + 9) h = 0 ∧ s_i σ (z + 11) h = -1
theorem Wd.keep {σ σ' : St} {z n nt : Nat} {L : PlL} (h : Wd σ z n nt) (hS : Sh σ z) (hF : Fr (PL z L) σ σ') (hL : (plno L 6 (some 0) && plno L 1064 (some 0) && plno L 7 none && plno L 8 none && plno L 9 none && plno L 11 none && plno L 13 none && plno L 1067 none && plno L 1070 none) = true) : Wd σ' z n nt := by
  simp only [Bool.and_eq_true] at hL
  obtain ⟨⟨⟨⟨⟨⟨⟨⟨l1, l2⟩, l3⟩, l4⟩, l5⟩, l6⟩, l7⟩, l8⟩, l9⟩ := hL
  have k1 := hF.ki hS 6 0 (by decide) l1
  have k2 := hF.ki hS 1064 0 (by decide) l2
  have k3 := hF.kia hS 7 (by decide) l3
  have k4 := hF.kia hS 8 (by decide) l4
  have k5 := hF.kia hS 9 (by decide) l5
  have k6 := hF.kia hS 11 (by decide) l6
  have k7 := hF.kia hS 13 (by decide) l7
  have k8 := hF.kia hS 1067 (by decide) l8
  have k9 := hF.kia hS 1070 (by decide) l9
  unfold Wd WR at h ⊢
  simp only [k1, k2, k3, k4, k5, k6, k7, k8, k9]
  exact h
/-- an act against its code -/
def ActR (σ : St) (z r : Nat) (code whom : Int32) : Prop := (code = 0 ∧ r = z + 1) ∨ (code = 1 ∧ Dy σ z r (.inl 9)) ∨ (code = 2 ∧ Dy σ z r (.inl 10)) ∨ (code = 3 ∧ r = z + 2) ∨ (code = 4 ∧ Dy σ z r (.inl 12) ∧ s_i σ r 0 = whom ∧ ∃ g, g ≤ 5 ∧ whom = nI g)
theorem ActR.nw {σ σ' : St} {z r : Nat} {c w : Int32} (h : ActR σ z r c w) (hS : Sh σ z) (hN : Nw σ σ' z) : ActR σ' z r c w := by
  rcases h with h | ⟨h, h1⟩ | ⟨h, h1⟩ | h | ⟨h, h1, h2, h3⟩
  · exact Or.inl h
  · exact Or.inr (Or.inl ⟨h, (h1.nw hS hN).1⟩)
  · exact Or.inr (Or.inr (Or.inl ⟨h, (h1.nw hS hN).1⟩))
  · exact Or.inr (Or.inr (Or.inr (Or.inl h)))
  · exact Or.inr (Or.inr (Or.inr (Or.inr ⟨h, (h1.nw hS hN).1, ((h1.nw hS hN).2 0).1.trans h2, h3⟩)))
def TestR (σ : St) (z q : Nat) (rd ab nn : Int32) : Prop := Dy σ z q (.inl 13) ∧ s_i σ q 0 = rd ∧ s_i σ q 1 = ab ∧ s_i σ q 2 = nn ∧ (∃ k, k ≤ 5 ∧ rd = nI k) ∧ (ab = 0 ∨ ab = 1)
theorem TestR.nw {σ σ' : St} {z q : Nat} {a b c : Int32} (h : TestR σ z q a b c) (hS : Sh σ z) (hN : Nw σ σ' z) : TestR σ' z q a b c := by
  obtain ⟨h1, h2, h3, h4, h5⟩ := h
  obtain ⟨g1, g2⟩ := h1.nw hS hN
  exact ⟨g1, (g2 0).1.trans h2, (g2 1).1.trans h3, (g2 2).1.trans h4, h5⟩
/-- a line of a habit -/
def LineR (σ : St) (z A G T i : Nat) (row : Nat → Int32) : Prop := (∃ r, s_r σ A i = some r ∧ ActR σ z r (row 0) (row 1)) ∧ ∃ Gi tm, s_r σ G i = some Gi ∧ Dy σ z Gi (.inr (9, 3)) ∧ tm ≤ 3 ∧ s_i σ T i = nI tm ∧ (∀ k, k < tm → ∃ q, s_r σ Gi k = some q ∧ TestR σ z q (row (3 + 3 * k)) (row (4 + 3 * k)) (row (5 + 3 * k))) ∧ ∀ k, tm ≤ k → k < 3 → row (3 + 3 * k) = -1
theorem LineR.nw {σ σ' : St} {z A G T i : Nat} {row : Nat → Int32} (h : LineR σ z A G T i row) (hS : Sh σ z) (hN : Nw σ σ' z) (hA : ∀ j, s_r σ' A j = s_r σ A j) (hG : ∀ j, s_r σ' G j = s_r σ G j) (hT : ∀ j, s_i σ' T j = s_i σ T j) : LineR σ' z A G T i row := by
  obtain ⟨⟨r, h1, h2⟩, Gi, tm, g1, g2, g3, g4, g5, g6⟩ := h
  obtain ⟨k1, k2⟩ := g2.nw hS hN
  refine ⟨⟨r, (hA i).trans h1, h2.nw hS hN⟩, Gi, tm, (hG i).trans g1, k1, g3, (hT i).trans g4, fun k hk => ?_, g6⟩
  obtain ⟨q, q1, q2⟩ := g5 k hk
  exact ⟨q, (k2 k).2.trans q1, q2.nw hS hN⟩
theorem LineR.congr {σ : St} {z A G T i : Nat} {row row' : Nat → Int32} (h : LineR σ z A G T i row) (hr : ∀ j, j < 12 → row' j = row j) : LineR σ z A G T i row' := by
  obtain ⟨⟨r, r1, r2⟩, Gi, tm, g1, g2, g3, g4, g5, g6⟩ := h
  refine ⟨⟨r, r1, by rw [hr 0 (by omega), hr 1 (by omega)]; exact r2⟩, Gi, tm, g1, g2, g3, g4, fun k hk => ?_, fun k hk hk3 => by rw [hr (3 + 3 * k) (by omega)]; exact g6 k hk hk3⟩
  obtain ⟨q, x1, x2⟩ := g5 k hk
  exact ⟨q, x1, by rw [hr (3 + 3 * k) (by omega), hr (4 + 3 * k) (by omega), hr (5 + 3 * k) (by omega)]; exact x2⟩
def HabR (σ : St) (z p m : Nat) (row : Nat → Int32) : Prop := Dy σ z p (.inl 8) ∧ s_i σ p 0 = nI m ∧ m ≤ 6 ∧ s_r σ p 4 = some z ∧ ∃ A G T, s_r σ p 1 = some A ∧ Dy σ z A (.inr (5, 6)) ∧ s_r σ p 2 = some G ∧ Dy σ z G (.inr (10, 6)) ∧ s_r σ p 3 = some T ∧ Dy σ z T (.inr (0, 6)) ∧ ∀ i, i < m → LineR σ z A G T i (fun j => row (12 * i + j))
theorem HabR.nw {σ σ' : St} {z p m : Nat} {row : Nat → Int32} (h : HabR σ z p m row) (hS : Sh σ z) (hN : Nw σ σ' z) : HabR σ' z p m row := by
  obtain ⟨h1, h2, h3, h4, A, G, T, a1, a2, g1, g2, t1, t2, hl⟩ := h
  obtain ⟨k1, k2⟩ := h1.nw hS hN
  obtain ⟨a3, a4⟩ := a2.nw hS hN
  obtain ⟨g3, g4⟩ := g2.nw hS hN
  obtain ⟨t3, t4⟩ := t2.nw hS hN
  exact ⟨k1, (k2 0).1.trans h2, h3, (k2 4).2.trans h4, A, G, T, (k2 1).2.trans a1, a3, (k2 2).2.trans g1, g3, (k2 3).2.trans t1, t3, fun i hi => (hl i hi).nw hS hN (fun j => (a4 j).2) (fun j => (g4 j).2) (fun j => (t4 j).1)⟩
def HaO (σ : St) (z h : Nat) : Prop := (s_r σ (z + 22) h = none ∧ s_i σ (z + 1077) h = 0) ∨ ∃ p m, s_r σ (z + 22) h = some p ∧ s_i σ (z + 1077) h = nI m ∧ HabR σ z p m (fun j => s_i σ (z + 1078) (72 * h + j))
def Ha (σ : St) (z n : Nat) : Prop := (∀ h, h < n → HaO σ z h) ∧ ∀ h, n ≤ h → h < 6 → s_r σ (z + 22) h = none
theorem HaO.nw {σ σ' : St} {z h : Nat} (hh : HaO σ z h) (hS : Sh σ z) (hN : Nw σ σ' z) (h1 : s_r σ' (z + 22) h = s_r σ (z + 22) h) (h2 : s_i σ' (z + 1077) h = s_i σ (z + 1077) h) (h3 : ∀ j, j < 72 → s_i σ' (z + 1078) (72 * h + j) = s_i σ (z + 1078) (72 * h + j)) : HaO σ' z h := by
  rcases hh with ⟨a, b⟩ | ⟨p, m, a, b, c⟩
  · exact Or.inl ⟨h1.trans a, h2.trans b⟩
  · refine Or.inr ⟨p, m, h1.trans a, h2.trans b, ?_⟩
    have c := c.nw hS hN
    obtain ⟨q1, q2, q3, q4, A, G, T, q5, q6, q7, q8, q9, q10, ql⟩ := c
    refine ⟨q1, q2, q3, q4, A, G, T, q5, q6, q7, q8, q9, q10, fun i hi => ?_⟩
    exact (ql i hi).congr (fun j hj => h3 (12 * i + j) (by omega))
theorem Ha.keep {σ σ' : St} {z n : Nat} {L : PlL} (h : Ha σ z n) (hS : Sh σ z) (hF : Fr (PL z L) σ σ') (hL : (plno L 22 none && plno L 1077 none && plno L 1078 none && plnw L) = true) : Ha σ' z n := by
  simp only [Bool.and_eq_true] at hL
  obtain ⟨⟨⟨l1, l2⟩, l3⟩, l4⟩ := hL
  exact ⟨fun k hk => (h.1 k hk).nw hS (hF.nw l4) (hF.kra hS 22 (by decide) l1 k) (hF.kia hS 1077 (by decide) l2 k) (fun j _ => hF.kia hS 1078 (by decide) l3 _), fun k hk h6 => (hF.kra hS 22 (by decide) l1 k).trans (h.2 k hk h6)⟩
/-- what a taste says of a sort -/
def tof (row : Nat → Int32) (sort c : Int32) : Nat → Int32
  | 0 => 0
  | k + 1 => if row (3 * k) = sort then (if row (3 * k + 1) = c then row (3 * k + 2) else tof row sort c k) else tof row sort c k
theorem tof_congr {f g : Nat → Int32} (s c : Int32) : ∀ k, (∀ j, j < 3 * k → f j = g j) → tof f s c k = tof g s c k
  | 0, _ => rfl
  | k + 1, h => by
    unfold tof
    rw [tof_congr s c k (fun j hj => h j (by omega)), h _ (by omega), h _ (by omega), h _ (by omega)]
def TasR (σ : St) (z p m : Nat) (row : Nat → Int32) : Prop := Dy σ z p (.inl 14) ∧ s_i σ p 0 = nI m ∧ m ≤ 8 ∧ s_r σ p 6 = some z ∧ (∃ C, s_r σ p 2 = some C ∧ Dy σ z C (.inr (0, 4)) ∧ ∀ c, c < 4 → s_i σ C c = tof row 1 (nI c) m) ∧ s_i σ p 1 = tof row 0 0 m ∧ s_i σ p 3 = tof row 2 0 m ∧ s_i σ p 4 = tof row 3 0 m ∧ s_i σ p 5 = tof row 4 0 m
theorem TasR.nw {σ σ' : St} {z p m : Nat} {row row' : Nat → Int32} (h : TasR σ z p m row) (hS : Sh σ z) (hN : Nw σ σ' z) (hr : ∀ j, j < 24 → row' j = row j) : TasR σ' z p m row' := by
  obtain ⟨h1, h2, h3, h4, ⟨C, c1, c2, c3⟩, h5, h6, h7, h8⟩ := h
  obtain ⟨k1, k2⟩ := h1.nw hS hN
  obtain ⟨d1, d2⟩ := c2.nw hS hN
  have e : ∀ s c, tof row' s c m = tof row s c m := fun s c => tof_congr s c m (fun j hj => hr j (by omega))
  simp only [TasR, e]
  exact ⟨k1, (k2 0).1.trans h2, h3, (k2 6).2.trans h4, ⟨C, (k2 2).2.trans c1, d1, fun c hc => (d2 c).1.trans (c3 c hc)⟩, (k2 1).1.trans h5, (k2 3).1.trans h6, (k2 4).1.trans h7, (k2 5).1.trans h8⟩
def TaO (σ : St) (z v : Nat) : Prop := (s_r σ (z + 23) v = none ∧ s_i σ (z + 1079) v = 0) ∨ ∃ p m, s_r σ (z + 23) v = some p ∧ s_i σ (z + 1079) v = nI m ∧ TasR σ z p m (fun j => s_i σ (z + 1080) (24 * v + j))
def Ta (σ : St) (z : Nat) : Prop := ∀ v, v < 4 → TaO σ z v
theorem TaO.nw {σ σ' : St} {z v : Nat} (hh : TaO σ z v) (hS : Sh σ z) (hN : Nw σ σ' z) (h1 : s_r σ' (z + 23) v = s_r σ (z + 23) v) (h2 : s_i σ' (z + 1079) v = s_i σ (z + 1079) v) (h3 : ∀ j, j < 24 → s_i σ' (z + 1080) (24 * v + j) = s_i σ (z + 1080) (24 * v + j)) : TaO σ' z v := by
  rcases hh with ⟨a, b⟩ | ⟨p, m, a, b, c⟩
  · exact Or.inl ⟨h1.trans a, h2.trans b⟩
  · exact Or.inr ⟨p, m, h1.trans a, h2.trans b, c.nw hS hN h3⟩
theorem Ta.keep {σ σ' : St} {z : Nat} {L : PlL} (h : Ta σ z) (hS : Sh σ z) (hF : Fr (PL z L) σ σ') (hL : (plno L 23 none && plno L 1079 none && plno L 1080 none && plnw L) = true) : Ta σ' z := by
  simp only [Bool.and_eq_true] at hL
  obtain ⟨⟨⟨l1, l2⟩, l3⟩, l4⟩ := hL
  exact fun k hk => (h k hk).nw hS (hF.nw l4) (hF.kra hS 23 (by decide) l1 k) (hF.kia hS 1079 (by decide) l2 k) (fun j _ => hF.kia hS 1080 (by decide) l3 _)
/-- the tape -/
def sx8 (b : Nat) : Int32 := if b < 128 then nI b else nI b - 256
def Tp (σ : St) (z : Nat) : Prop := ∃ n, n ≤ 160 ∧ s_i σ z 12 = nI n ∧ s_i σ (z + 1064) 18 = nI n ∧ ∀ i, i < n → ∃ b, b < 256 ∧ s_i σ (z + 1075) i = nI b ∧ s_i σ (z + 24) i = sx8 b
theorem Tp.keep {σ σ' : St} {z : Nat} {L : PlL} (h : Tp σ z) (hS : Sh σ z) (hF : Fr (PL z L) σ σ') (hL : (plno L 0 (some 12) && plno L 1064 (some 18) && plno L 24 none && plno L 1075 none) = true) : Tp σ' z := by
  simp only [Bool.and_eq_true] at hL
  obtain ⟨⟨⟨l1, l2⟩, l3⟩, l4⟩ := hL
  obtain ⟨n, h1, h2, h3, h4⟩ := h
  refine ⟨n, h1, (hF.ki hS 0 12 (by decide) l1).trans h2, (hF.ki hS 1064 18 (by decide) l2).trans h3, fun i hi => ?_⟩
  rw [hF.kia hS 24 (by decide) l3, hF.kia hS 1075 (by decide) l4]
  exact h4 i hi
/-- choices, pairs, spots -/
def Ch (σ : St) (z : Nat) : Prop := ∃ n, n ≤ 16 ∧ s_i σ z 27 = nI n ∧ s_i σ (z + 1064) 43 = nI n ∧ ∀ k, k < n → (∃ p, s_r σ (z + 35) k = some p ∧ Dy σ z p (.inl 15) ∧ s_i σ p 0 = s_i σ (z + 1090) (5 * k) - s_i σ (z + 1090) (5 * k + 2) ∧ s_i σ p 1 = s_i σ (z + 1090) (5 * k + 1) - s_i σ (z + 1090) (5 * k + 3)) ∧ (s_i σ (z + 1090) (5 * k + 4) = 0 ∨ s_i σ (z + 1090) (5 * k + 4) = 1) ∧ s_i σ (z + 36) k = s_i σ (z + 1090) (5 * k + 4)
theorem Ch.keep {σ σ' : St} {z : Nat} {L : PlL} (h : Ch σ z) (hS : Sh σ z) (hF : Fr (PL z L) σ σ') (hL : (plno L 0 (some 27) && plno L 1064 (some 43) && plno L 35 none && plno L 36 none && plno L 1090 none && plnw L) = true) : Ch σ' z := by
  simp only [Bool.and_eq_true] at hL
  obtain ⟨⟨⟨⟨⟨l1, l2⟩, l3⟩, l4⟩, l5⟩, l6⟩ := hL
  obtain ⟨n, h1, h2, h3, h4⟩ := h
  refine ⟨n, h1, (hF.ki hS 0 27 (by decide) l1).trans h2, (hF.ki hS 1064 43 (by decide) l2).trans h3, fun k hk => ?_⟩
  obtain ⟨⟨p, p1, p2, p3, p4⟩, p5⟩ := h4 k hk
  obtain ⟨q1, q2⟩ := p2.nw hS (hF.nw l6)
  simp only [hF.kra hS 35 (by decide) l3, hF.kia hS 36 (by decide) l4, hF.kia hS 1090 (by decide) l5]
  exact ⟨⟨p, p1, q1, (q2 0).1.trans p3, (q2 1).1.trans p4⟩, p5⟩
def Pa (σ : St) (z : Nat) : Prop := ∃ n, n ≤ 8 ∧ s_i σ z 29 = nI n ∧ s_i σ (z + 1064) 45 = nI n ∧ ∀ k, k < n → ∃ p, s_r σ (z + 37) k = some p ∧ Dy σ z p (.inl 15) ∧ s_i σ p 0 = s_i σ (z + 1091) (4 * k) - s_i σ (z + 1091) (4 * k + 2) ∧ s_i σ p 1 = s_i σ (z + 1091) (4 * k + 1) - s_i σ (z + 1091) (4 * k + 3)
theorem Pa.keep {σ σ' : St} {z : Nat} {L : PlL} (h : Pa σ z) (hS : Sh σ z) (hF : Fr (PL z L) σ σ') (hL : (plno L 0 (some 29) && plno L 1064 (some 45) && plno L 37 none && plno L 1091 none && plnw L) = true) : Pa σ' z := by
  simp only [Bool.and_eq_true] at hL
  obtain ⟨⟨⟨⟨l1, l2⟩, l3⟩, l5⟩, l6⟩ := hL
  obtain ⟨n, h1, h2, h3, h4⟩ := h
  refine ⟨n, h1, (hF.ki hS 0 29 (by decide) l1).trans h2, (hF.ki hS 1064 45 (by decide) l2).trans h3, fun k hk => ?_⟩
  obtain ⟨p, p1, p2, p3, p4⟩ := h4 k hk
  obtain ⟨q1, q2⟩ := p2.nw hS (hF.nw l6)
  simp only [hF.kra hS 37 (by decide) l3, hF.kia hS 1091 (by decide) l5]
  exact ⟨p, p1, q1, (q2 0).1.trans p3, (q2 1).1.trans p4⟩
def Sp (σ : St) (z n : Nat) : Prop := n ≤ 10 ∧ s_i σ z 31 = nI n ∧ s_i σ (z + 1064) 47 = nI n ∧ ∀ k, k < n → ∃ p, s_r σ (z + 38) k = some p ∧ Dy σ z p (.inl 6) ∧ s_i σ p 0 = s_i σ (z + 1092) k ∧ s_i σ p 1 = s_i σ (z + 1093) k ∧ (∃ x, x ≤ 30 ∧ s_i σ (z + 1092) k = nI x) ∧ ∃ y, y ≤ 30 ∧ s_i σ (z + 1093) k = nI y
theorem Sp.keep {σ σ' : St} {z n : Nat} {L : PlL} (h : Sp σ z n) (hS : Sh σ z) (hF : Fr (PL z L) σ σ') (hL : (plno L 0 (some 31) && plno L 1064 (some 47) && plno L 38 none && plno L 1092 none && plno L 1093 none && plnw L) = true) : Sp σ' z n := by
  simp only [Bool.and_eq_true] at hL
  obtain ⟨⟨⟨⟨⟨l1, l2⟩, l3⟩, l4⟩, l5⟩, l6⟩ := hL
  obtain ⟨h1, h2, h3, h4⟩ := h
  refine ⟨h1, (hF.ki hS 0 31 (by decide) l1).trans h2, (hF.ki hS 1064 47 (by decide) l2).trans h3, fun k hk => ?_⟩
  obtain ⟨p, p1, p2, p3, p4, p5⟩ := h4 k hk
  obtain ⟨q1, q2⟩ := p2.nw hS (hF.nw l6)
  simp only [hF.kra hS 38 (by decide) l3, hF.kia hS 1092 (by decide) l4, hF.kia hS 1093 (by decide) l5]
  exact ⟨p, p1, q1, (q2 0).1.trans p3, (q2 1).1.trans p4, p5⟩
