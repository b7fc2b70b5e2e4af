set_option maxRecDepth 100000
/-! what both objects keep between calls -/
def Inv (σ : St) (z : Nat) : Prop := ∃ n nt ns, Sh σ z ∧ Hu σ z n ∧ Th σ z nt ∧ Wd σ z n nt ∧ Ha σ z n ∧ Ta σ z ∧ Se σ z ∧ Tp σ z ∧ Ch σ z ∧ Pa σ z ∧ Sp σ z ns ∧ Gus σ z ∧ Sns σ z
theorem hut_inv {σ : St} {z : Nat} (h : Inv σ z) (a b c : Int32) : ∃ v σ1 σ2, fX0_hut σ z a b c = some (v, σ1) ∧ fX7_hut σ1 (z + 1064) a b c = some (v, σ2) ∧ Inv σ2 z := by
  obtain ⟨n, nt, ns, hS, hHu, hT, hW, hA, hTa, hSe, hP, hC, hPa, hSp, hG, hSn⟩ := h
  obtain ⟨v, σ1, σ2, x1, x2, x3, n', hHu', hW', hA'⟩ := hut_sim hS hHu hW hA a b c
  exact ⟨v, σ1, σ2, x1, x2, n', nt, ns, x3.sh hS (by decide), hHu', hT.keep hS x3 (by decide), hW', hA', hTa.keep hS x3 (by decide), hSe.keep hS x3 (by decide), hP.keep hS x3 (by decide), hC.keep hS x3 (by decide), hPa.keep hS x3 (by decide), hSp.keep hS x3 (by decide), hG.keep hS x3 (by decide), hSn.keep hS x3 (by decide)⟩
theorem far_inv {σ : St} {z : Nat} (h : Inv σ z) (a b : Int32) : ∃ v, fX0_far σ z a b = some v ∧ fX7_far σ (z + 1064) a b = some v := by
  obtain ⟨n, nt, ns, hS, hHu, hT, hW, hA, hTa, hSe, hP, hC, hPa, hSp, hG, hSn⟩ := h
  exact far_sim hS hHu a b
theorem thing_inv {σ : St} {z : Nat} (h : Inv σ z) (a c s k : Int32) : ∃ v σ1 σ2, fX0_thing σ z a c s k = some (v, σ1) ∧ fX7_thing σ1 (z + 1064) a c s k = some (v, σ2) ∧ Inv σ2 z := by
  obtain ⟨n, nt, ns, hS, hHu, hT, hW, hA, hTa, hSe, hP, hC, hPa, hSp, hG, hSn⟩ := h
  obtain ⟨v, σ1, σ2, x1, x2, x3, n', hT', hW'⟩ := thing_sim hS hHu.1 hT hW a c s k
  exact ⟨v, σ1, σ2, x1, x2, n, n', ns, x3.sh hS (by decide), hHu.keep hS x3 (by decide), hT', hW', hA.keep hS x3 (by decide), hTa.keep hS x3 (by decide), hSe.keep hS x3 (by decide), hP.keep hS x3 (by decide), hC.keep hS x3 (by decide), hPa.keep hS x3 (by decide), hSp.keep hS x3 (by decide), hG.keep hS x3 (by decide), hSn.keep hS x3 (by decide)⟩
theorem at_inv {σ : St} {z : Nat} (h : Inv σ z) (a b : Int32) : ∃ v, fX0_at σ z a b = some v ∧ fX7_at σ (z + 1064) a b = some v := by
  obtain ⟨n, nt, ns, hS, hHu, hT, hW, hA, hTa, hSe, hP, hC, hPa, hSp, hG, hSn⟩ := h
  exact at_sim hS hT hW a b
theorem of_inv {σ : St} {z : Nat} (h : Inv σ z) (a b : Int32) : ∃ v, fX0_of σ z a b = some v ∧ fX7_of σ (z + 1064) a b = some v := by
  obtain ⟨n, nt, ns, hS, hHu, hT, hW, hA, hTa, hSe, hP, hC, hPa, hSp, hG, hSn⟩ := h
  exact of_sim hS hHu.1 hT hW a b
theorem set_inv {σ : St} {z : Nat} (h : Inv σ z) (a b : Int32) : ∃ v σ1 σ2, fX0_set σ z a b = some (v, σ1) ∧ fX7_set σ1 (z + 1064) a b = some (v, σ2) ∧ Inv σ2 z := by
  obtain ⟨n, nt, ns, hS, hHu, hT, hW, hA, hTa, hSe, hP, hC, hPa, hSp, hG, hSn⟩ := h
  obtain ⟨v, σ1, σ2, x1, x2, x3, hSe'⟩ := set_sim hS hSe a b
  exact ⟨v, σ1, σ2, x1, x2, n, nt, ns, x3.sh hS (by decide), hHu.keep hS x3 (by decide), hT.keep hS x3 (by decide), hW.keep hS x3 (by decide), hA.keep hS x3 (by decide), hTa.keep hS x3 (by decide), hSe', hP.keep hS x3 (by decide), hC.keep hS x3 (by decide), hPa.keep hS x3 (by decide), hSp.keep hS x3 (by decide), hG.keep hS x3 (by decide), hSn.keep hS x3 (by decide)⟩
theorem hours_inv {σ : St} {z : Nat} (h : Inv σ z) (a : Int32) : ∃ v σ1 σ2, fX0_hours σ z a = some (v, σ1) ∧ fX7_hours σ1 (z + 1064) a = some (v, σ2) ∧ Inv σ2 z := by
  obtain ⟨n, nt, ns, hS, hHu, hT, hW, hA, hTa, hSe, hP, hC, hPa, hSp, hG, hSn⟩ := h
  obtain ⟨v, σ1, σ2, x1, x2, x3, hW'⟩ := hours_sim ⟨hS, hHu, hT, hA, hTa, hSe⟩ hW a
  exact ⟨v, σ1, σ2, x1, x2, n, nt, ns, x3.sh hS (by decide), hHu.keep hS x3 (by decide), hT.keep hS x3 (by decide), hW', hA.keep hS x3 (by decide), hTa.keep hS x3 (by decide), hSe.keep hS x3 (by decide), hP.keep hS x3 (by decide), hC.keep hS x3 (by decide), hPa.keep hS x3 (by decide), hSp.keep hS x3 (by decide), hG.keep hS x3 (by decide), hSn.keep hS x3 (by decide)⟩
theorem write_inv {σ : St} {z : Nat} (h : Inv σ z) (l : Int64) (a : Int32) : ∃ v σ1 σ2, fX0_write σ z l a = some (v, σ1) ∧ fX7_write σ1 (z + 1064) l a = some (v, σ2) ∧ Inv σ2 z := by
  obtain ⟨n, nt, ns, hS, hHu, hT, hW, hA, hTa, hSe, hP, hC, hPa, hSp, hG, hSn⟩ := h
  obtain ⟨v, σ1, σ2, x1, x2, x3, hP'⟩ := write_sim hS hP l a
  exact ⟨v, σ1, σ2, x1, x2, n, nt, ns, x3.sh hS (by decide), hHu.keep hS x3 (by decide), hT.keep hS x3 (by decide), hW.keep hS x3 (by decide), hA.keep hS x3 (by decide), hTa.keep hS x3 (by decide), hSe.keep hS x3 (by decide), hP', hC.keep hS x3 (by decide), hPa.keep hS x3 (by decide), hSp.keep hS x3 (by decide), hG.keep hS x3 (by decide), hSn.keep hS x3 (by decide)⟩
theorem erase_inv {σ : St} {z : Nat} (h : Inv σ z) : ∃ v σ1 σ2, fX0_erase σ z = some (v, σ1) ∧ fX7_erase σ1 (z + 1064) = some (v, σ2) ∧ Inv σ2 z := by
  obtain ⟨n, nt, ns, hS, hHu, hT, hW, hA, hTa, hSe, hP, hC, hPa, hSp, hG, hSn⟩ := h
  obtain ⟨v, σ1, σ2, x1, x2, x3, hP'⟩ := erase_sim hS hP
  exact ⟨v, σ1, σ2, x1, x2, n, nt, ns, x3.sh hS (by decide), hHu.keep hS x3 (by decide), hT.keep hS x3 (by decide), hW.keep hS x3 (by decide), hA.keep hS x3 (by decide), hTa.keep hS x3 (by decide), hSe.keep hS x3 (by decide), hP', hC.keep hS x3 (by decide), hPa.keep hS x3 (by decide), hSp.keep hS x3 (by decide), hG.keep hS x3 (by decide), hSn.keep hS x3 (by decide)⟩
theorem fault_inv {σ : St} {z : Nat} (h : Inv σ z) (a : Int32) : ∃ v σ1 σ2, fX0_fault σ z a = some (v, σ1) ∧ fX7_fault σ1 (z + 1064) a = some (v, σ2) ∧ Inv σ2 z := by
  obtain ⟨n, nt, ns, hS, hHu, hT, hW, hA, hTa, hSe, hP, hC, hPa, hSp, hG, hSn⟩ := h
  obtain ⟨v, σ1, σ2, x1, x2, x3⟩ := fault_sim hS hP a
  exact ⟨v, σ1, σ2, x1, x2, n, nt, ns, x3.sh hS (by decide), hHu.keep hS x3 (by decide), hT.keep hS x3 (by decide), hW.keep hS x3 (by decide), hA.keep hS x3 (by decide), hTa.keep hS x3 (by decide), hSe.keep hS x3 (by decide), hP.keep hS x3 (by decide), hC.keep hS x3 (by decide), hPa.keep hS x3 (by decide), hSp.keep hS x3 (by decide), hG.keep hS x3 (by decide), hSn.keep hS x3 (by decide)⟩
theorem habit_inv {σ : St} {z : Nat} (h : Inv σ z) (a : Int32) : ∃ v σ1 σ2, fX0_habit σ z a = some (v, σ1) ∧ fX7_habit σ1 (z + 1064) a = some (v, σ2) ∧ Inv σ2 z := by
  obtain ⟨n, nt, ns, hS, hHu, hT, hW, hA, hTa, hSe, hP, hC, hPa, hSp, hG, hSn⟩ := h
  obtain ⟨v, σ1, σ2, x1, x2, x3, hP', hA'⟩ := habit_sim hS hHu.1 hP hA a
  exact ⟨v, σ1, σ2, x1, x2, n, nt, ns, x3.sh hS (by decide), hHu.keep hS x3 (by decide), hT.keep hS x3 (by decide), hW.keep hS x3 (by decide), hA', hTa.keep hS x3 (by decide), hSe.keep hS x3 (by decide), hP', hC.keep hS x3 (by decide), hPa.keep hS x3 (by decide), hSp.keep hS x3 (by decide), hG.keep hS x3 (by decide), hSn.keep hS x3 (by decide)⟩
theorem taste_inv {σ : St} {z : Nat} (h : Inv σ z) (a : Int32) : ∃ v σ1 σ2, fX0_taste σ z a = some (v, σ1) ∧ fX7_taste σ1 (z + 1064) a = some (v, σ2) ∧ Inv σ2 z := by
  obtain ⟨n, nt, ns, hS, hHu, hT, hW, hA, hTa, hSe, hP, hC, hPa, hSp, hG, hSn⟩ := h
  obtain ⟨v, σ1, σ2, x1, x2, x3, hP', hTa'⟩ := taste_sim hS hP hTa a
  exact ⟨v, σ1, σ2, x1, x2, n, nt, ns, x3.sh hS (by decide), hHu.keep hS x3 (by decide), hT.keep hS x3 (by decide), hW.keep hS x3 (by decide), hA.keep hS x3 (by decide), hTa', hSe.keep hS x3 (by decide), hP', hC.keep hS x3 (by decide), hPa.keep hS x3 (by decide), hSp.keep hS x3 (by decide), hG.keep hS x3 (by decide), hSn.keep hS x3 (by decide)⟩
theorem act_inv {σ : St} {z : Nat} (h : Inv σ z) (a : Int32) : ∃ v, fX0_act σ z a = some v ∧ fX7_act σ (z + 1064) a = some v := by
  obtain ⟨n, nt, ns, hS, hHu, hT, hW, hA, hTa, hSe, hP, hC, hPa, hSp, hG, hSn⟩ := h
  exact act_sim hS hHu.1 hT hA hW a
theorem worth_inv {σ : St} {z : Nat} (h : Inv σ z) (a b : Int32) : ∃ v, fX0_worth σ z a b = some v ∧ fX7_worth σ (z + 1064) a b = some v := by
  obtain ⟨n, nt, ns, hS, hHu, hT, hW, hA, hTa, hSe, hP, hC, hPa, hSp, hG, hSn⟩ := h
  exact worth_sim hS hHu.1 hT hTa hW a b
theorem choose_inv {σ : St} {z : Nat} (h : Inv σ z) (a : Int32) : ∃ v, fX0_choose σ z a = some v ∧ fX7_choose σ (z + 1064) a = some v := by
  obtain ⟨n, nt, ns, hS, hHu, hT, hW, hA, hTa, hSe, hP, hC, hPa, hSp, hG, hSn⟩ := h
  exact choose_sim hS hHu.1 hT hTa hW a
theorem would_inv {σ : St} {z : Nat} (h : Inv σ z) (a b c : Int32) : ∃ v σ1 σ2, fX0_would σ z a b c = some (v, σ1) ∧ fX7_would σ1 (z + 1064) a b c = some (v, σ2) ∧ Inv σ2 z := by
  obtain ⟨n, nt, ns, hS, hHu, hT, hW, hA, hTa, hSe, hP, hC, hPa, hSp, hG, hSn⟩ := h
  obtain ⟨v, σ1, σ2, x1, x2, x3, hW'⟩ := would_sim ⟨hS, hHu, hT, hA, hTa, hSe⟩ hW a b c
  exact ⟨v, σ1, σ2, x1, x2, n, nt, ns, x3.sh hS (by decide), hHu.keep hS x3 (by decide), hT.keep hS x3 (by decide), hW', hA.keep hS x3 (by decide), hTa.keep hS x3 (by decide), hSe.keep hS x3 (by decide), hP.keep hS x3 (by decide), hC.keep hS x3 (by decide), hPa.keep hS x3 (by decide), hSp.keep hS x3 (by decide), hG.keep hS x3 (by decide), hSn.keep hS x3 (by decide)⟩
theorem lost_inv {σ : St} {z : Nat} (h : Inv σ z) (a : Int32) : ∃ v σ1 σ2, fX0_lost σ z a = some (v, σ1) ∧ fX7_lost σ1 (z + 1064) a = some (v, σ2) ∧ Inv σ2 z := by
  obtain ⟨n, nt, ns, hS, hHu, hT, hW, hA, hTa, hSe, hP, hC, hPa, hSp, hG, hSn⟩ := h
  obtain ⟨v, σ1, σ2, x1, x2, x3, hW'⟩ := lost_sim ⟨hS, hHu, hT, hA, hTa, hSe⟩ hW a
  exact ⟨v, σ1, σ2, x1, x2, n, nt, ns, x3.sh hS (by decide), hHu.keep hS x3 (by decide), hT.keep hS x3 (by decide), hW', hA.keep hS x3 (by decide), hTa.keep hS x3 (by decide), hSe.keep hS x3 (by decide), hP.keep hS x3 (by decide), hC.keep hS x3 (by decide), hPa.keep hS x3 (by decide), hSp.keep hS x3 (by decide), hG.keep hS x3 (by decide), hSn.keep hS x3 (by decide)⟩
theorem uneven_inv {σ : St} {z : Nat} (h : Inv σ z) (l : Int64) (a : Int32) : ∃ v σ1 σ2, fX0_uneven σ z l a = some (v, σ1) ∧ fX7_uneven σ1 (z + 1064) l a = some (v, σ2) ∧ Inv σ2 z := by
  obtain ⟨n, nt, ns, hS, hHu, hT, hW, hA, hTa, hSe, hP, hC, hPa, hSp, hG, hSn⟩ := h
  obtain ⟨v, σ1, σ2, x1, x2, x3⟩ := uneven_sim hS hT l a
  exact ⟨v, σ1, σ2, x1, x2, n, nt, ns, x3.sh hS (by decide), hHu.keep hS x3 (by decide), hT.keep hS x3 (by decide), hW.keep hS x3 (by decide), hA.keep hS x3 (by decide), hTa.keep hS x3 (by decide), hSe.keep hS x3 (by decide), hP.keep hS x3 (by decide), hC.keep hS x3 (by decide), hPa.keep hS x3 (by decide), hSp.keep hS x3 (by decide), hG.keep hS x3 (by decide), hSn.keep hS x3 (by decide)⟩
theorem evenest_inv {σ : St} {z : Nat} (h : Inv σ z) (l : Int64) (a b : Int32) : ∃ v σ1 σ2, fX0_evenest σ z l a b = some (v, σ1) ∧ fX7_evenest σ1 (z + 1064) l a b = some (v, σ2) ∧ Inv σ2 z := by
  obtain ⟨n, nt, ns, hS, hHu, hT, hW, hA, hTa, hSe, hP, hC, hPa, hSp, hG, hSn⟩ := h
  obtain ⟨v, σ1, σ2, x1, x2, x3⟩ := evenest_sim hS hT l a b
  exact ⟨v, σ1, σ2, x1, x2, n, nt, ns, x3.sh hS (by decide), hHu.keep hS x3 (by decide), hT.keep hS x3 (by decide), hW.keep hS x3 (by decide), hA.keep hS x3 (by decide), hTa.keep hS x3 (by decide), hSe.keep hS x3 (by decide), hP.keep hS x3 (by decide), hC.keep hS x3 (by decide), hPa.keep hS x3 (by decide), hSp.keep hS x3 (by decide), hG.keep hS x3 (by decide), hSn.keep hS x3 (by decide)⟩
theorem guest_inv {σ : St} {z : Nat} (h : Inv σ z) (a b : Int32) : ∃ v σ1 σ2, fX0_guest σ z a b = some (v, σ1) ∧ fX7_guest σ1 (z + 1064) a b = some (v, σ2) ∧ Inv σ2 z := by
  obtain ⟨n, nt, ns, hS, hHu, hT, hW, hA, hTa, hSe, hP, hC, hPa, hSp, hG, hSn⟩ := h
  obtain ⟨v, σ1, σ2, x1, x2, x3, hG'⟩ := guest_sim hS hG a b
  exact ⟨v, σ1, σ2, x1, x2, n, nt, ns, x3.sh hS (by decide), hHu.keep hS x3 (by decide), hT.keep hS x3 (by decide), hW.keep hS x3 (by decide), hA.keep hS x3 (by decide), hTa.keep hS x3 (by decide), hSe.keep hS x3 (by decide), hP.keep hS x3 (by decide), hC.keep hS x3 (by decide), hPa.keep hS x3 (by decide), hSp.keep hS x3 (by decide), hG', hSn.keep hS x3 (by decide)⟩
theorem held_inv {σ : St} {z : Nat} (h : Inv σ z) (a : Int32) : ∃ v, fX0_held σ z a = some v ∧ fX7_held σ (z + 1064) a = some v := by
  obtain ⟨n, nt, ns, hS, hHu, hT, hW, hA, hTa, hSe, hP, hC, hPa, hSp, hG, hSn⟩ := h
  exact held_sim hS hG a
theorem row_inv {σ : St} {z : Nat} (h : Inv σ z) (a b : Int32) : ∃ v σ2, fX0_row σ z a b = some v ∧ fX7_row σ (z + 1064) a b = some (v, σ2) ∧ Inv σ2 z := by
  obtain ⟨n, nt, ns, hS, hHu, hT, hW, hA, hTa, hSe, hP, hC, hPa, hSp, hG, hSn⟩ := h
  obtain ⟨v, σ2, x1, x2, x3⟩ := row_sim hS hG a b
  exact ⟨v, σ2, x1, x2, n, nt, ns, x3.sh hS (by decide), hHu.keep hS x3 (by decide), hT.keep hS x3 (by decide), hW.keep hS x3 (by decide), hA.keep hS x3 (by decide), hTa.keep hS x3 (by decide), hSe.keep hS x3 (by decide), hP.keep hS x3 (by decide), hC.keep hS x3 (by decide), hPa.keep hS x3 (by decide), hSp.keep hS x3 (by decide), hG.keep hS x3 (by decide), hSn.keep hS x3 (by decide)⟩
theorem seen_inv {σ : St} {z : Nat} (h : Inv σ z) (a b c : Int32) : ∃ v σ1 σ2, fX0_seen σ z a b c = some (v, σ1) ∧ fX7_seen σ1 (z + 1064) a b c = some (v, σ2) ∧ Inv σ2 z := by
  obtain ⟨n, nt, ns, hS, hHu, hT, hW, hA, hTa, hSe, hP, hC, hPa, hSp, hG, hSn⟩ := h
  obtain ⟨v, σ1, σ2, x1, x2, x3, hSn'⟩ := seen_sim hS hHu.1 hSn a b c
  exact ⟨v, σ1, σ2, x1, x2, n, nt, ns, x3.sh hS (by decide), hHu.keep hS x3 (by decide), hT.keep hS x3 (by decide), hW.keep hS x3 (by decide), hA.keep hS x3 (by decide), hTa.keep hS x3 (by decide), hSe.keep hS x3 (by decide), hP.keep hS x3 (by decide), hC.keep hS x3 (by decide), hPa.keep hS x3 (by decide), hSp.keep hS x3 (by decide), hG.keep hS x3 (by decide), hSn'⟩
theorem whose_inv {σ : St} {z : Nat} (h : Inv σ z) (a : Int32) : ∃ v, fX0_whose σ z a = some v ∧ fX7_whose σ (z + 1064) a = some v := by
  obtain ⟨n, nt, ns, hS, hHu, hT, hW, hA, hTa, hSe, hP, hC, hPa, hSp, hG, hSn⟩ := h
  exact whose_sim hS hSn a
theorem thieves_inv {σ : St} {z : Nat} (h : Inv σ z) (a : Int32) : ∃ v, fX0_thieves σ z a = some v ∧ fX7_thieves σ (z + 1064) a = some v := by
  obtain ⟨n, nt, ns, hS, hHu, hT, hW, hA, hTa, hSe, hP, hC, hPa, hSp, hG, hSn⟩ := h
  exact thieves_sim hS hHu.1 hSn a
theorem gains_inv {σ : St} {z : Nat} (h : Inv σ z) (a b : Int32) : ∃ v, fX0_gains σ z a b = some v ∧ fX7_gains σ (z + 1064) a b = some v := by
  obtain ⟨n, nt, ns, hS, hHu, hT, hW, hA, hTa, hSe, hP, hC, hPa, hSp, hG, hSn⟩ := h
  exact gains_sim hS hHu hSe a b
theorem even_inv {σ : St} {z : Nat} (h : Inv σ z) (a : Int32) : ∃ v, fX0_even σ z a = some v ∧ fX7_even σ (z + 1064) a = some v := by
  obtain ⟨n, nt, ns, hS, hHu, hT, hW, hA, hTa, hSe, hP, hC, hPa, hSp, hG, hSn⟩ := h
  exact even_sim hS hHu hSe a
theorem ring_inv {σ : St} {z : Nat} (h : Inv σ z) (a : Int32) : ∃ v σ1 σ2, fX0_ring σ z a = some (v, σ1) ∧ fX7_ring σ1 (z + 1064) a = some (v, σ2) ∧ Inv σ2 z := by
  obtain ⟨n, nt, ns, hS, hHu, hT, hW, hA, hTa, hSe, hP, hC, hPa, hSp, hG, hSn⟩ := h
  obtain ⟨v, σ1, σ2, x1, x2, x3⟩ := ring_sim hS hHu hSe a
  exact ⟨v, σ1, σ2, x1, x2, n, nt, ns, x3.sh hS (by decide), hHu.keep hS x3 (by decide), hT.keep hS x3 (by decide), hW.keep hS x3 (by decide), hA.keep hS x3 (by decide), hTa.keep hS x3 (by decide), hSe.keep hS x3 (by decide), hP.keep hS x3 (by decide), hC.keep hS x3 (by decide), hPa.keep hS x3 (by decide), hSp.keep hS x3 (by decide), hG.keep hS x3 (by decide), hSn.keep hS x3 (by decide)⟩
theorem chose_inv {σ : St} {z : Nat} (h : Inv σ z) (a b c d f : Int32) (hf : f = 0 ∨ f = 1) : ∃ v σ1 σ2, fX0_chose σ z a b c d f = some (v, σ1) ∧ fX7_chose σ1 (z + 1064) a b c d f = some (v, σ2) ∧ Inv σ2 z := by
  obtain ⟨n, nt, ns, hS, hHu, hT, hW, hA, hTa, hSe, hP, hC, hPa, hSp, hG, hSn⟩ := h
  obtain ⟨v, σ1, σ2, x1, x2, x3, hC'⟩ := chose_sim hS hC a b c d f hf
  exact ⟨v, σ1, σ2, x1, x2, n, nt, ns, x3.sh hS (by decide), hHu.keep hS x3 (by decide), hT.keep hS x3 (by decide), hW.keep hS x3 (by decide), hA.keep hS x3 (by decide), hTa.keep hS x3 (by decide), hSe.keep hS x3 (by decide), hP.keep hS x3 (by decide), hC', hPa.keep hS x3 (by decide), hSp.keep hS x3 (by decide), hG.keep hS x3 (by decide), hSn.keep hS x3 (by decide)⟩
theorem may_inv {σ : St} {z : Nat} (h : Inv σ z) (a : Int32) : ∃ v, fX0_may σ z a = some v ∧ fX7_may σ (z + 1064) a = some v := by
  obtain ⟨n, nt, ns, hS, hHu, hT, hW, hA, hTa, hSe, hP, hC, hPa, hSp, hG, hSn⟩ := h
  exact may_sim hS hC a
theorem pair_inv {σ : St} {z : Nat} (h : Inv σ z) (a b c d : Int32) : ∃ v σ1 σ2, fX0_pair σ z a b c d = some (v, σ1) ∧ fX7_pair σ1 (z + 1064) a b c d = some (v, σ2) ∧ Inv σ2 z := by
  obtain ⟨n, nt, ns, hS, hHu, hT, hW, hA, hTa, hSe, hP, hC, hPa, hSp, hG, hSn⟩ := h
  obtain ⟨v, σ1, σ2, x1, x2, x3, hPa'⟩ := pair_sim hS hPa a b c d
  exact ⟨v, σ1, σ2, x1, x2, n, nt, ns, x3.sh hS (by decide), hHu.keep hS x3 (by decide), hT.keep hS x3 (by decide), hW.keep hS x3 (by decide), hA.keep hS x3 (by decide), hTa.keep hS x3 (by decide), hSe.keep hS x3 (by decide), hP.keep hS x3 (by decide), hC.keep hS x3 (by decide), hPa', hSp.keep hS x3 (by decide), hG.keep hS x3 (by decide), hSn.keep hS x3 (by decide)⟩
theorem parting_inv {σ : St} {z : Nat} (h : Inv σ z) : ∃ v, fX0_parting σ z = some v ∧ fX7_parting σ (z + 1064) = some v := by
  obtain ⟨n, nt, ns, hS, hHu, hT, hW, hA, hTa, hSe, hP, hC, hPa, hSp, hG, hSn⟩ := h
  exact parting_sim hS hC hPa
theorem spot_inv {σ : St} {z : Nat} (h : Inv σ z) (a b : Int32) : ∃ v σ1 σ2, fX0_spot σ z a b = some (v, σ1) ∧ fX7_spot σ1 (z + 1064) a b = some (v, σ2) ∧ Inv σ2 z := by
  obtain ⟨n, nt, ns, hS, hHu, hT, hW, hA, hTa, hSe, hP, hC, hPa, hSp, hG, hSn⟩ := h
  obtain ⟨v, σ1, σ2, x1, x2, x3, n', hSp'⟩ := spot_sim hS hSp a b
  exact ⟨v, σ1, σ2, x1, x2, n, nt, n', x3.sh hS (by decide), hHu.keep hS x3 (by decide), hT.keep hS x3 (by decide), hW.keep hS x3 (by decide), hA.keep hS x3 (by decide), hTa.keep hS x3 (by decide), hSe.keep hS x3 (by decide), hP.keep hS x3 (by decide), hC.keep hS x3 (by decide), hPa.keep hS x3 (by decide), hSp', hG.keep hS x3 (by decide), hSn.keep hS x3 (by decide)⟩
theorem room_inv {σ : St} {z : Nat} (h : Inv σ z) : ∃ v, fX0_room σ z = some v ∧ fX7_room σ (z + 1064) = some v := by
  obtain ⟨n, nt, ns, hS, hHu, hT, hW, hA, hTa, hSe, hP, hC, hPa, hSp, hG, hSn⟩ := h
  exact room_sim hS hSp hSe
theorem trip_inv {σ : St} {z : Nat} (h : Inv σ z) (a : Int32) : ∃ v σ1 σ2, fX0_trip σ z a = some (v, σ1) ∧ fX7_trip σ1 (z + 1064) a = some (v, σ2) ∧ Inv σ2 z := by
  obtain ⟨n, nt, ns, hS, hHu, hT, hW, hA, hTa, hSe, hP, hC, hPa, hSp, hG, hSn⟩ := h
  obtain ⟨v, σ1, σ2, x1, x2, x3⟩ := trip_sim hS hSp a
  exact ⟨v, σ1, σ2, x1, x2, n, nt, ns, x3.sh hS (by decide +kernel), hHu.keep hS x3 (by decide +kernel), hT.keep hS x3 (by decide +kernel), hW.keep hS x3 (by decide +kernel), hA.keep hS x3 (by decide +kernel), hTa.keep hS x3 (by decide +kernel), hSe.keep hS x3 (by decide +kernel), hP.keep hS x3 (by decide +kernel), hC.keep hS x3 (by decide +kernel), hPa.keep hS x3 (by decide +kernel), hSp.keep hS x3 (by decide +kernel), hG.keep hS x3 (by decide +kernel), hSn.keep hS x3 (by decide +kernel)⟩
theorem count_inv {σ : St} {z : Nat} (h : Inv σ z) (a : Int32) : ∃ v, fX0_count σ z a = some v ∧ fX7_count σ (z + 1064) a = some v := by
  obtain ⟨n, nt, ns, hS, hHu, hT, hW, hA, hTa, hSe, hP, hC, hPa, hSp, hG, hSn⟩ := h
  exact count_sim hS hHu.1 hT hW hP hG hC hPa hSp hSn a
