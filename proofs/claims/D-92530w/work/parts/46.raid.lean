set_option maxRecDepth 100000
/-! an hour: raids -/
def WQ (z w d n nt : Nat) (σa σb : St) : Prop := (∀ h, h < n → s_i σa (z + (w + 1)) h = s_i σb (z + 1067) h ∧ s_i σa (z + (w + 2)) h = s_i σb (z + 1067) (6 + h) ∧ s_i σa (z + (w + d)) h = s_i σb (z + 1067) (12 + h) ∧ (∃ k, k ≤ 99 ∧ s_i σb (z + 1067) h = nI k) ∧ ∃ k, k ≤ 30 ∧ s_i σb (z + 1067) (6 + h) = nI k) ∧ ∀ t, t < nt → s_i σa (z + (w + 7)) t = s_i σb (z + 1070) t
def LX (w : Nat) : PlL := [(w, some 0), (w + 1, none), (w + 2, none), (w + 3, none), (w + 4, none), (w + 5, none), (w + 6, none), (w + 7, none)]
def L1 (w : Nat) : PlL := [(w + 4, none), (w + 5, none), (w + 6, none)]
def L2 (w : Nat) : PlL := [(w + 1, none), (w + 2, none), (w + 4, none), (w + 7, none)]
def L3 (w : Nat) : PlL := [(w + 2, none), (w + 3, none)]
def LM : PlL := [(1067, none), (1069, none), (1070, none)]
def LM2 : PlL := [(1067, none), (1070, none)]
/-- how two things stand: the dearer one first -/
def dear (c s : Nat → Int32) (j t : Nat) : Prop := (c j).toInt < (c t).toInt ∨ ((c j).toInt = (c t).toInt ∧ ((s t).toInt < (s j).toInt ∨ ((s t).toInt = (s j).toInt ∧ j < t)))
theorem dear_anti {c s : Nat → Int32} {j t : Nat} (h : dear c s j t) (h2 : dear c s t j) : False := by
  unfold dear at h h2
  omega
theorem dear_trans {c s : Nat → Int32} {i j t : Nat} (h : dear c s i j) (h2 : dear c s j t) : dear c s i t := by
  unfold dear at *
  omega
/-- the dearest of those in a place among some -/
def Dst (P : Nat → Prop) (f c s : Nat → Int32) (g : Int32) (x : Int32) : Prop := (x = -1 ∧ ∀ t, P t → f t ≠ g) ∨ ∃ j, P j ∧ j < 40 ∧ x = nI j ∧ f j = g ∧ ∀ t, P t → f t = g → t ≠ j → dear c s j t
theorem Dst.uniq {P : Nat → Prop} {f c s : Nat → Int32} {g x y : Int32} (h : Dst P f c s g x) (h2 : Dst P f c s g y) : x = y := by
  rcases h with ⟨h, h1⟩ | ⟨j, j1, j2, j3, j4, j5⟩
  · rcases h2 with ⟨g1, g2⟩ | ⟨i, i1, i2, i3, i4, i5⟩
    · rw [h, g1]
    · exact absurd i4 (h1 i i1)
  · rcases h2 with ⟨g1, g2⟩ | ⟨i, i1, i2, i3, i4, i5⟩
    · exact absurd j4 (g2 j j1)
    · by_cases e : i = j
      · rw [j3, i3, e]
      · exact absurd (j5 i i1 i4 e) (fun q => dear_anti q (i5 j j1 j4 (fun q => e q.symm)))
section RAID
variable {σ : St} {z w n nt : Nat}
theorem bestX (hS : Sh σ z) (hw : Ws w) (hT : Th σ z nt) (g : Int32) : ∃ x, loopF fuel (fun y => lX5_raid_85 σ (z + w) g y.1 y.2) (-1, 0) = some x ∧ Dst (fun t => t < nt) (s_i σ (z + (w + 7))) (s_i σ (z + 1072)) (s_i σ (z + 1073)) g x := by
  have h1 := hT.1
  obtain ⟨r, e, hr⟩ := loopF_inv (b := fun y : Int32 × Int32 => lX5_raid_85 σ (z + w) g y.1 y.2) (fun k s => s.2 = nI k ∧ Dst (fun t => t < k) (s_i σ (z + (w + 7))) (s_i σ (z + 1072)) (s_i σ (z + 1073)) g s.1) nt (Q := fun r => Dst (fun t => t < nt) (s_i σ (z + (w + 7))) (s_i σ (z + 1072)) (s_i σ (z + 1073)) g r) (by
      rintro k ⟨x, y⟩ hk ⟨hy, hx⟩
      simp only at hy hx
      subst hy
      show ∃ t, lX5_raid_85 σ (z + w) g x (nI k) = _ ∧ _
      unfold lX5_raid_85
      have b : k < 40 := by omega
      obtain ⟨p, p1, p2, p3, p4, -⟩ := hT.2.2.2 k hk
      rw [w_8 hw hS, e_0_i hS, hT.2.1, if_neg (nI_ge hk (by omega)), w_7 hw hS, wa_7 hw hS b]
      simp only [jn, nI_1, w_8 hw hS, e_0_4 hS, a_4 hS b p1, o_k_eq p2.1]
      by_cases c1 : s_i σ (z + (w + 7)) k = g
      · rw [if_pos c1]
        rcases hx with ⟨x1, x2⟩ | ⟨j, j1, j2, j3, j4, j5⟩
        · rw [if_pos x1]
          refine ⟨_, rfl, rfl, Or.inr ⟨k, by omega, b, rfl, c1, fun t ht hg hne => ?_⟩⟩
          exact absurd hg (x2 t (by omega))
        · subst j3
          obtain ⟨q, q1, q2, q3, q4, -⟩ := hT.2.2.2 j (by omega)
          rw [if_neg (neg1_ne (by omega)), a_4 hS j2 q1]
          unfold fX9_isDearer
          simp only [jn, o_gI_eq p2.1, o_gI_eq q2.1, p3, p4, q3, q4]
          by_cases d1 : s_i σ (z + 1072) k < s_i σ (z + 1072) j
          · rw [if_pos d1, sb, if_neg (by decide)]
            have e1 := i32_lt.mp d1
            have hd : dear (s_i σ (z + 1072)) (s_i σ (z + 1073)) k j := Or.inl e1
            refine ⟨_, rfl, rfl, Or.inr ⟨k, by omega, b, rfl, c1, fun t ht hg hne => ?_⟩⟩
            by_cases e : t = j
            · rw [e]; exact hd
            · exact dear_trans hd (j5 t (by omega) hg e)
          · rw [if_neg d1]
            have e1 : ¬ (s_i σ (z + 1072) k).toInt < (s_i σ (z + 1072) j).toInt := fun q => d1 (i32_lt.mpr q)
            by_cases d2 : s_i σ (z + 1072) k = s_i σ (z + 1072) j
            · rw [if_pos d2]
              have e2 := i32_eq.mp d2
              by_cases d3 : s_i σ (z + 1073) k ≤ s_i σ (z + 1073) j
              · rw [if_pos d3, sb, if_pos rfl]
                have e3 := i32_le.mp d3
                refine ⟨_, rfl, rfl, Or.inr ⟨j, by omega, j2, rfl, j4, fun t ht hg hne => ?_⟩⟩
                by_cases e : t = k
                · rw [e]; unfold dear; omega
                · exact j5 t (by omega) hg hne
              · rw [if_neg d3, sb, if_neg (by decide)]
                have e3 : ¬ (s_i σ (z + 1073) k).toInt ≤ (s_i σ (z + 1073) j).toInt := fun q => d3 (i32_le.mpr q)
                have hd : dear (s_i σ (z + 1072)) (s_i σ (z + 1073)) k j := by unfold dear; omega
                refine ⟨_, rfl, rfl, Or.inr ⟨k, by omega, b, rfl, c1, fun t ht hg hne => ?_⟩⟩
                by_cases e : t = j
                · rw [e]; exact hd
                · exact dear_trans hd (j5 t (by omega) hg e)
            · rw [if_neg d2, sb, if_pos rfl]
              have e2 : ¬ (s_i σ (z + 1072) k).toInt = (s_i σ (z + 1072) j).toInt := fun q => d2 (i32_eq.mpr q)
              refine ⟨_, rfl, rfl, Or.inr ⟨j, by omega, j2, rfl, j4, fun t ht hg hne => ?_⟩⟩
              by_cases e : t = k
              · rw [e]; unfold dear; omega
              · exact j5 t (by omega) hg hne
      · rw [if_neg c1]
        refine ⟨_, rfl, rfl, ?_⟩
        rcases hx with ⟨x1, x2⟩ | ⟨j, j1, j2, j3, j4, j5⟩
        · refine Or.inl ⟨x1, fun t ht => ?_⟩
          by_cases e : t = k
          · rw [e]; exact c1
          · exact x2 t (by omega)
        · refine Or.inr ⟨j, by omega, j2, j3, j4, fun t ht hg hne => ?_⟩
          by_cases e : t = k
          · rw [e] at hg; exact absurd hg c1
          · exact j5 t (by omega) hg hne) (by
      rintro ⟨x, y⟩ ⟨hy, hx⟩
      simp only at hy hx
      subst hy
      show ∃ t, lX5_raid_85 σ (z + w) g x (nI nt) = _ ∧ _
      unfold lX5_raid_85
      rw [w_8 hw hS, e_0_i hS, hT.2.1, if_pos (nI_le (Nat.le_refl nt) (by omega))]
      exact ⟨_, rfl, hx⟩) (s := (-1, 0)) ⟨rfl, Or.inl ⟨rfl, fun t ht => absurd ht (Nat.not_lt_zero t)⟩⟩ fuel (fuel_lt (by omega))
  exact ⟨r, e, hr⟩
theorem bestM (hS : Sh σ z) (hT : Th σ z nt) (g : Int32) : ∃ x, loopF fuel (fun y => lX7_raid_84 σ (z + 1064) g y.1 y.2) (-1, nI nt - 1) = some x ∧ Dst (fun t => t < nt) (s_i σ (z + 1070)) (s_i σ (z + 1072)) (s_i σ (z + 1073)) g x := by
  have h1 := hT.1
  obtain ⟨r, e, hr⟩ := loopF_inv (b := fun y : Int32 × Int32 => lX7_raid_84 σ (z + 1064) g y.1 y.2) (fun i s => s.2 = nI (nt - i) - 1 ∧ Dst (fun t => nt - i ≤ t ∧ t < nt) (s_i σ (z + 1070)) (s_i σ (z + 1072)) (s_i σ (z + 1073)) g s.1) nt (Q := fun r => Dst (fun t => t < nt) (s_i σ (z + 1070)) (s_i σ (z + 1072)) (s_i σ (z + 1073)) g r) (by
      rintro i ⟨x, y⟩ hi ⟨hy, hx⟩
      simp only at hy hx
      subst hy
      obtain ⟨k, hk⟩ : ∃ k, nt - i = k + 1 := ⟨nt - i - 1, by omega⟩
      have hk2 : nt - (i + 1) = k := by omega
      show ∃ t, lX7_raid_84 σ (z + 1064) g x (nI (nt - i) - 1) = _ ∧ _
      rw [hk] at hx ⊢
      rw [hk2, nI_pred]
      have b : k < 40 := by omega
      have ek : nI k + (-1) = nI k - 1 := by rw [Int32.sub_eq_add_neg]
      unfold lX7_raid_84
      rw [if_neg (nI_pos (by omega)), e_1064_8 hS, a_1070 hS b]
      simp only [jn, ek, e_1064_10 hS, e_1064_11 hS, a_1072 hS b, a_1073 hS b, if_true, i10, if_false]
      by_cases c1 : s_i σ (z + 1070) k = g
      · rw [if_pos c1]
        rcases hx with ⟨x1, x2⟩ | ⟨j, j1, j2, j3, j4, j5⟩
        · rw [if_pos x1]
          refine ⟨_, rfl, rfl, Or.inr ⟨k, by omega, b, rfl, c1, fun t ht hg hne => ?_⟩⟩
          exact absurd hg (x2 t (by omega))
        · subst j3
          rw [if_neg (neg1_ne (by omega)), a_1072 hS j2, a_1072 hS j2, a_1073 hS j2]
          by_cases d1 : s_i σ (z + 1072) k < s_i σ (z + 1072) j
          · rw [if_pos d1]
            have e1 := i32_lt.mp d1
            have hd : dear (s_i σ (z + 1072)) (s_i σ (z + 1073)) k j := Or.inl e1
            refine ⟨_, rfl, rfl, Or.inr ⟨k, by omega, b, rfl, c1, fun t ht hg hne => ?_⟩⟩
            by_cases e : t = j
            · rw [e]; exact hd
            · exact dear_trans hd (j5 t (by omega) hg e)
          · rw [if_neg d1]
            have e1 : ¬ (s_i σ (z + 1072) k).toInt < (s_i σ (z + 1072) j).toInt := fun q => d1 (i32_lt.mpr q)
            by_cases d2 : s_i σ (z + 1072) k = s_i σ (z + 1072) j
            · rw [if_pos d2]
              have e2 := i32_eq.mp d2
              by_cases d3 : s_i σ (z + 1073) k < s_i σ (z + 1073) j
              · rw [if_pos d3]
                have e3 := i32_lt.mp d3
                refine ⟨_, rfl, rfl, Or.inr ⟨j, by omega, j2, rfl, j4, fun t ht hg hne => ?_⟩⟩
                by_cases e : t = k
                · rw [e]; unfold dear; omega
                · exact j5 t (by omega) hg hne
              · rw [if_neg d3]
                have e3 : ¬ (s_i σ (z + 1073) k).toInt < (s_i σ (z + 1073) j).toInt := fun q => d3 (i32_lt.mpr q)
                have hd : dear (s_i σ (z + 1072)) (s_i σ (z + 1073)) k j := by unfold dear; omega
                refine ⟨_, rfl, rfl, Or.inr ⟨k, by omega, b, rfl, c1, fun t ht hg hne => ?_⟩⟩
                by_cases e : t = j
                · rw [e]; exact hd
                · exact dear_trans hd (j5 t (by omega) hg e)
            · rw [if_neg d2]
              have e2 : ¬ (s_i σ (z + 1072) k).toInt = (s_i σ (z + 1072) j).toInt := fun q => d2 (i32_eq.mpr q)
              refine ⟨_, rfl, rfl, Or.inr ⟨j, by omega, j2, rfl, j4, fun t ht hg hne => ?_⟩⟩
              by_cases e : t = k
              · rw [e]; unfold dear; omega
              · exact j5 t (by omega) hg hne
      · rw [if_neg c1]
        refine ⟨_, rfl, rfl, ?_⟩
        rcases hx with ⟨x1, x2⟩ | ⟨j, j1, j2, j3, j4, j5⟩
        · refine Or.inl ⟨x1, fun t ht => ?_⟩
          by_cases e : t = k
          · rw [e]; exact c1
          · exact x2 t (by omega)
        · refine Or.inr ⟨j, by omega, j2, j3, j4, fun t ht hg hne => ?_⟩
          by_cases e : t = k
          · rw [e] at hg; exact absurd hg c1
          · exact j5 t (by omega) hg hne) (by
      rintro ⟨x, y⟩ ⟨hy, hx⟩
      simp only at hy hx
      subst hy
      show ∃ t, lX7_raid_84 σ (z + 1064) g x (nI (nt - nt) - 1) = _ ∧ _
      rw [Nat.sub_self] at hx ⊢
      unfold lX7_raid_84
      rw [if_pos (by decide)]
      refine ⟨_, rfl, ?_⟩
      rcases hx with ⟨x1, x2⟩ | ⟨j, j1, j2, j3, j4, j5⟩
      · exact Or.inl ⟨x1, fun t ht => x2 t ⟨Nat.zero_le t, ht⟩⟩
      · exact Or.inr ⟨j, j1.2, j2, j3, j4, fun t ht => j5 t ⟨Nat.zero_le t, ht⟩⟩) (s := (-1, nI nt - 1)) ⟨rfl, Or.inl ⟨rfl, fun t ht => by omega⟩⟩ fuel (fuel_lt (by omega))
  exact ⟨r, e, hr⟩
end RAID
/-- what does not change in an hour -/
def Stt (z n nt : Nat) (σ : St) : Prop := Sh σ z ∧ Hu σ z n ∧ Th σ z nt ∧ Ha σ z n ∧ Ta σ z ∧ Se σ z
def LW : PlL := [(6, some 0), (7, none), (8, none), (9, none), (10, none), (11, none), (12, none), (13, none), (14, some 0), (15, none), (16, none), (17, none), (18, none), (19, none), (20, none), (21, none), (1064, some 0), (1067, none), (1068, none), (1069, none), (1070, none), (1071, none)]
theorem Stt.keep {z n nt : Nat} {σ σ' : St} (h : Stt z n nt σ) (hF : Fr (PL z LW) σ σ') : Stt z n nt σ' := by
  obtain ⟨h1, h2, h3, h4, h5, h6⟩ := h
  exact ⟨hF.sh h1 (by decide), h2.keep h1 hF (by decide), h3.keep h1 hF (by decide), h4.keep h1 hF (by decide), h5.keep h1 hF (by decide), h6.keep h1 hF (by decide)⟩
/-- the numbers that do not change in an hour -/
def Alk (z : Nat) (σa σb : St) : Prop := (∀ j, s_i σb (z + 1065) j = s_i σa (z + 1065) j) ∧ (∀ j, s_i σb (z + 1066) j = s_i σa (z + 1066) j) ∧ (∀ j, s_i σb (z + 1072) j = s_i σa (z + 1072) j) ∧ (∀ j, s_i σb (z + 1073) j = s_i σa (z + 1073) j) ∧ (∀ j, s_i σb (z + 1077) j = s_i σa (z + 1077) j) ∧ (∀ j, s_i σb (z + 1078) j = s_i σa (z + 1078) j) ∧ (∀ j, s_i σb (z + 1079) j = s_i σa (z + 1079) j) ∧ (∀ j, s_i σb (z + 1080) j = s_i σa (z + 1080) j) ∧ s_i σb (z + 1064) 13 = s_i σa (z + 1064) 13
theorem Alk.refl {z : Nat} {σ : St} : Alk z σ σ := ⟨fun _ => rfl, fun _ => rfl, fun _ => rfl, fun _ => rfl, fun _ => rfl, fun _ => rfl, fun _ => rfl, fun _ => rfl, rfl⟩
theorem Alk.symm {z : Nat} {σ σ' : St} (h : Alk z σ σ') : Alk z σ' σ := by
  obtain ⟨h1, h2, h3, h4, h5, h6, h7, h8, h9⟩ := h
  exact ⟨fun j => (h1 j).symm, fun j => (h2 j).symm, fun j => (h3 j).symm, fun j => (h4 j).symm, fun j => (h5 j).symm, fun j => (h6 j).symm, fun j => (h7 j).symm, fun j => (h8 j).symm, h9.symm⟩
theorem Alk.trans {z : Nat} {σ σ' σ'' : St} (h : Alk z σ σ') (g : Alk z σ' σ'') : Alk z σ σ'' := by
  obtain ⟨h1, h2, h3, h4, h5, h6, h7, h8, h9⟩ := h
  obtain ⟨g1, g2, g3, g4, g5, g6, g7, g8, g9⟩ := g
  exact ⟨fun j => (g1 j).trans (h1 j), fun j => (g2 j).trans (h2 j), fun j => (g3 j).trans (h3 j), fun j => (g4 j).trans (h4 j), fun j => (g5 j).trans (h5 j), fun j => (g6 j).trans (h6 j), fun j => (g7 j).trans (h7 j), fun j => (g8 j).trans (h8 j), g9.trans h9⟩
theorem Alk.keep {z : Nat} {σ σ' : St} (hS : Sh σ z) (hF : Fr (PL z LW) σ σ') : Alk z σ σ' :=
  ⟨hF.kia hS 1065 (by decide) rfl, hF.kia hS 1066 (by decide) rfl, hF.kia hS 1072 (by decide) rfl, hF.kia hS 1073 (by decide) rfl, hF.kia hS 1077 (by decide) rfl, hF.kia hS 1078 (by decide) rfl, hF.kia hS 1079 (by decide) rfl, hF.kia hS 1080 (by decide) rfl, hF.ki hS 1064 13 (by decide) rfl⟩
theorem Alk.far {z : Nat} {σ σ' : St} (h : Alk z σ σ') (a b : Nat) : farS σ' z a b = farS σ z a b := by
  unfold farS
  rw [h.1, h.1, h.2.1, h.2.1]
theorem L1_W {w : Nat} (hw : Ws w) {z : Nat} {σ σ' : St} (h : Fr (PL z (L1 w)) σ σ') : Fr (PL z LW) σ σ' := by rcases hw with rfl | rfl <;> exact h.inL (by decide)
theorem L2_W {w : Nat} (hw : Ws w) {z : Nat} {σ σ' : St} (h : Fr (PL z (L2 w)) σ σ') : Fr (PL z LW) σ σ' := by rcases hw with rfl | rfl <;> exact h.inL (by decide)
theorem L3_W {w : Nat} (hw : Ws w) {z : Nat} {σ σ' : St} (h : Fr (PL z (L3 w)) σ σ') : Fr (PL z LW) σ σ' := by rcases hw with rfl | rfl <;> exact h.inL (by decide)
theorem LX_W {w : Nat} (hw : Ws w) {z : Nat} {σ σ' : St} (h : Fr (PL z (LX w)) σ σ') : Fr (PL z LW) σ σ' := by rcases hw with rfl | rfl <;> exact h.inL (by decide)
theorem LM_W {z : Nat} {σ σ' : St} (h : Fr (PL z LM) σ σ') : Fr (PL z LW) σ σ' := h.inL (by decide)
theorem LM2_W {z : Nat} {σ σ' : St} (h : Fr (PL z LM2) σ σ') : Fr (PL z LW) σ σ' := h.inL (by decide)
theorem jmax0_5 : ∀ k, k ≤ 99 → jmax 0 (nI k - 5) = (if 5 ≤ nI k then nI k - 5 else 0) ∧ ∃ j, j ≤ 99 ∧ jmax 0 (nI k - 5) = nI j := by decide +kernel
theorem jmax0_6 : ∀ k, k ≤ 30 → jmax 0 (nI k - 6) = (if 6 ≤ nI k then nI k - 6 else 0) ∧ ∃ j, j ≤ 30 ∧ jmax 0 (nI k - 6) = nI j := by decide +kernel
theorem jmin99 : ∀ k, k ≤ 99 → jmin 99 (nI k + 3) = (if nI k ≤ 96 then nI k + 3 else 99) ∧ ∃ j, j ≤ 99 ∧ jmin 99 (nI k + 3) = nI j := by decide +kernel
theorem jmin30 : ∀ k, k ≤ 30 → jmin 30 (nI k + 1) = (if nI k = 30 then 30 else nI k + 1) ∧ ∃ j, j ≤ 30 ∧ jmin 30 (nI k + 1) = nI j := by decide +kernel
/-- an act's places are kept -/
theorem ActC.nw {σ σ' : St} {z r : Nat} {c : Int32} (h : ActC σ z r c) (hS : Sh σ z) (hN : Nw σ σ' z) : ActC σ' z r c := by
  rcases h with h | ⟨h, h1⟩ | ⟨h, h1⟩ | h | ⟨g, g1, g2, g3, g4⟩
  · exact Or.inl h
  · exact Or.inr (Or.inl ⟨h, (h1.nw hS hN).1⟩)
  · exact Or.inr (Or.inr (Or.inl ⟨h, (h1.nw hS hN).1⟩))
  · exact Or.inr (Or.inr (Or.inr (Or.inl h)))
  · exact Or.inr (Or.inr (Or.inr (Or.inr ⟨g, g1, g2, (g3.nw hS hN).1, ((g3.nw hS hN).2 0).1.trans g4⟩)))
theorem away_eq {σ : St} {z r : Nat} {c : Int32} (hS : Sh σ z) (h : ActC σ z r c) : vAct_isAway σ r = some (if c = 0 ∨ c = 1 then 0 else 1) ∧ vAct_code σ r = some (if c < 10 then c else 4) := by
  have k1 : s_k σ (z + 1) = some (.inl 1) := hS.k 1 _ (by decide) rfl
  have k2 : s_k σ (z + 2) = some (.inl 2) := hS.k 2 _ (by decide) rfl
  rcases h with ⟨rfl, rfl⟩ | ⟨rfl, d⟩ | ⟨rfl, d⟩ | ⟨rfl, rfl⟩ | ⟨g, g1, rfl, d, -⟩
  · simp only [vAct_isAway, vAct_code, k1]; exact ⟨rfl, rfl⟩
  · simp only [vAct_isAway, vAct_code, d.1]; exact ⟨rfl, rfl⟩
  · simp only [vAct_isAway, vAct_code, d.1]; exact ⟨rfl, rfl⟩
  · simp only [vAct_isAway, vAct_code, k2]; exact ⟨rfl, rfl⟩
  · have e : ∀ g, g ≤ 5 → (¬ (nI (10 + g) = 0 ∨ nI (10 + g) = 1)) ∧ ¬ nI (10 + g) < 10 := by decide +kernel
    rw [if_neg (e g g1).1, if_neg (e g g1).2]
    simp only [vAct_isAway, vAct_code, d.1]; exact ⟨rfl, rfl⟩
