set_option maxRecDepth 100000
/-! the trip: the component's table -/
def wayL : PlL := (List.range 1024).map fun k => (40 + k, none)
theorem way_sh : plsh wayL = true := by decide +kernel
theorem way_mem {k : Nat} (hk : k < 1024) : (40 + k, (none : Option Nat)) ∈ wayL := List.mem_map.mpr ⟨k, List.mem_range.mpr hk, rfl⟩
theorem Fr.way {σ τ : St} {z k j : Nat} {v : Int32} (h : Fr (PL z wayL) σ τ) (hk : k < 1024) : Fr (PL z wayL) σ (setI τ (z + (40 + k)) j v) :=
  (h.trans (Fr.sIa (o := 40 + k))).mono fun a b q => by
    rcases q with q | ⟨q, q1, q2, q3⟩
    · exact q
    · rw [List.mem_singleton.mp q1] at q2 q3
      exact ⟨_, way_mem hk, q2, q3⟩
theorem way_k {σ : St} {z k : Nat} (h : Sh σ z) (hk : k < 1024) : s_k σ (z + (40 + k)) = some (.inr (0, 10)) := by
  rw [h.1 (40 + k) (by omega)]
  unfold kT
  rw [if_pos (by omega)]
theorem way_aR {α : Type} {σ : St} {z k : Nat} {K : Nat → Option α} (h : Sh σ z) (hk : k < 1024) : o_aR σ (z + 39) 11 (nI k) K = K (z + (40 + k)) := o_aR_eq (h.k 39 _ (by decide) rfl) hk (by decide) (by rw [h.2.2.1 k hk, Nat.add_assoc])
theorem way_aI {α : Type} {σ : St} {z k s : Nat} {K : Int32 → Option α} (h : Sh σ z) (hk : k < 1024) (hs : s < 10) : o_aI σ (z + (40 + k)) 0 (nI s) K = K (s_i σ (z + (40 + k)) s) := o_aI_eq (way_k h hk) hs (by decide)
theorem way_sI {α : Type} {σ : St} {z k s : Nat} {v : Int32} {K : St → Option α} (h : Sh σ z) (hk : k < 1024) (hs : s < 10) : o_sI σ (z + (40 + k)) 0 (nI s) v K = K (setI σ (z + (40 + k)) s v) := o_sI_eq (way_k h hk) hs (by decide)
def ctz : Nat → Nat → Nat
  | 0, _ => 0
  | k + 1, S => if S % 2 = 1 then 0 else 1 + ctz k (S / 2)
def σN : St := (fun _ => none, fun _ _ => none, fun _ _ => 0, fun _ _ => 0, 0)
theorem ntz_all : ∀ S, S < 1024 → S ≠ 0 → fJ7_numberOfTrailingZeros σN (nI S) = some (nI (ctz 10 S)) := by decide +kernel
theorem ntz_eq (σ : St) {S : Nat} (h : S < 1024) (h0 : S ≠ 0) : fJ7_numberOfTrailingZeros σ (nI S) = some (nI (ctz 10 S)) := ntz_all S h h0
theorem ctz_all : ∀ S, S < 1024 → S ≠ 0 → ctz 10 S < 10 ∧ S.testBit (ctz 10 S) = true ∧ ∀ i, i < ctz 10 S → S.testBit i = false := by decide +kernel
theorem tb_iff {S i : Nat} (h : S < 1024) (hi : i < 10) : ((nI S >>> (nI i &&& 31)) &&& 1) = 1 ↔ S.testBit i = true := by
  rw [nI_bit S h i hi, Nat.testBit_eq_decide_div_mod_eq, decide_eq_true_eq, Nat.shiftRight_eq_div_pow]
  rw [show (1 : Int32) = nI 1 from rfl, nI_eq (by omega) (by omega)]
theorem sb_iff {M S : Nat} (hM : M < 1024) (hS : S < 1024) : (nI M &&& (nI S ^^^ (-1))) = 0 ↔ Sb M S := by
  have e : ∀ i, i < 32 → ((nI M &&& (nI S ^^^ (-1))).toBitVec).getLsbD i = (M.testBit i && !(S.testBit i)) := by
    intro i hi
    show (BitVec.ofNat 32 M &&& (BitVec.ofNat 32 S ^^^ BitVec.allOnes 32)).getLsbD i = _
    rw [BitVec.getLsbD_and, BitVec.getLsbD_xor, BitVec.getLsbD_ofNat, BitVec.getLsbD_ofNat, BitVec.getLsbD_allOnes]
    simp [hi]
  constructor
  · intro h i hi
    have h32 : i < 32 := by
      apply Classical.byContradiction
      intro hc
      have h1 := Nat.testBit_lt_two_pow (x := M) (i := i) (Nat.lt_of_lt_of_le (show M < 2 ^ 10 from hM) (Nat.pow_le_pow_right (by decide) (by omega)))
      rw [hi] at h1
      cases h1
    have h2 := e i h32
    rw [h, hi] at h2
    have h3 : (0 : Int32).toBitVec.getLsbD i = false := by
      show (BitVec.ofNat 32 0).getLsbD i = false
      rw [BitVec.getLsbD_ofNat]
      simp
    rw [h3] at h2
    cases hc : S.testBit i with
    | true => rfl
    | false => rw [hc] at h2; cases h2
  · intro h
    apply Int32.toBitVec_inj.mp
    apply BitVec.eq_of_getLsbD_eq
    intro i hi
    rw [e i hi]
    have h3 : (0 : Int32).toBitVec.getLsbD i = false := by
      show (BitVec.ofNat 32 0).getLsbD i = false
      rw [BitVec.getLsbD_ofNat]
      simp
    rw [h3]
    cases hm : M.testBit i with
    | false => rfl
    | true => rw [h i hm]; rfl
theorem jmin_nI {a b : Nat} (ha : a < 2 ^ 31) (hb : b < 2 ^ 31) : jmin (nI a) (nI b) = nI (min a b) := by
  unfold jmin
  by_cases c : b < a
  · rw [if_pos (nI_lt c ha), Nat.min_eq_right (by omega)]
  · rw [if_neg (nI_nlt (by omega) (by omega)), Nat.min_eq_left (by omega)]
section TRIP
variable {σ τ : St} {z n S f : Nat} {d : Nat → Nat → Nat}
def Ds (σ : St) (z n : Nat) (d : Nat → Nat → Nat) : Prop := ∀ a b, a < n → b < n → spS σ z a b = nI (d a b) ∧ d a b ≤ 200
theorem ds_ex (hP : Sp σ z n) : ∃ d, Ds σ z n d := by
  refine ⟨fun a b => (spS σ z a b).toNatClampNeg, fun a b ha hb => ?_⟩
  obtain ⟨-, -, -, -, -, ⟨x, x1, x2⟩, y, y1, y2⟩ := hP.2.2.2 a ha
  obtain ⟨-, -, -, -, -, ⟨u, u1, u2⟩, w, w1, w2⟩ := hP.2.2.2 b hb
  have e : spS σ z a b = nI (dst x u + dst y w) := by
    unfold spS
    rw [x2, u2, y2, w2, jabs_dst (by omega) (by omega), jabs_dst (by omega) (by omega), nI_add]
  have h1 : dst x u + dst y w ≤ 200 := by unfold dst; omega
  show spS σ z a b = nI ((spS σ z a b).toNatClampNeg) ∧ (spS σ z a b).toNatClampNeg ≤ 200
  rw [e, nI_clamp (by omega)]
  exact ⟨rfl, h1⟩
theorem ds_keep (hS : Sh σ z) (hD : Ds σ z n d) {L : PlL} (hF : Fr (PL z L) σ τ) (hL : (plno L 1092 none && plno L 1093 none) = true) : Ds τ z n d := by
  simp only [Bool.and_eq_true] at hL
  intro a b ha hb
  have e : spS τ z a b = spS σ z a b := by
    unfold spS
    rw [hF.kia hS 1092 (by decide) hL.1, hF.kia hS 1092 (by decide) hL.1, hF.kia hS 1093 (by decide) hL.2, hF.kia hS 1093 (by decide) hL.2]
  rw [e]
  exact hD a b ha hb
theorem way_sp : (plno wayL 0 (some 31) && plno wayL 1064 (some 47) && plno wayL 38 none && plno wayL 1092 none && plno wayL 1093 none && plnw wayL) = true := by decide +kernel
theorem way_ds : (plno wayL 1092 none && plno wayL 1093 none) = true := by decide +kernel
def T0 (f M s : Nat) : Nat := if M = 2 ^ f ∧ s = f then 0 else 268435456
def TI (τ : St) (z n S : Nat) (T : Nat → Nat → Nat) : Prop := ∀ M s, M ≤ S → s < n → s_i τ (z + (40 + M)) s = nI (T M s) ∧ T M s ≤ 268435456
theorem TI.set {T : Nat → Nat → Nat} {M t v : Nat} (h : TI τ z n S T) (hv : v ≤ 268435456) : TI (setI τ (z + (40 + M)) t (nI v)) z n S (updT T M t v) := by
  intro A b hA hb
  unfold updT
  by_cases c : A = M ∧ b = t
  · rw [if_pos c, c.1, c.2, gi_eq]
    exact ⟨rfl, hv⟩
  · rw [if_neg c]
    by_cases c1 : A = M
    · subst c1
      rw [gi_nj (fun q => c ⟨rfl, q⟩)]
      exact h A b hA hb
    · rw [gi_ne (by omega)]
      exact h A b hA hb
theorem trip_init (hS : Sh σ z) (hP : Sp σ z n) (hS1 : S < 1024) (hf : f < 10) : ∃ σ1, loopF fuel (fun y => lX0_trip_43 (nI S) z (nI f) y.1 y.2) (σ, 0) = some σ1 ∧ Fr (PL z wayL) σ σ1 ∧ TI σ1 z n S (T0 f) := by
  have h10 := hP.1
  have p10 : 2 ^ f < 1024 := Nat.pow_lt_pow_right (m := f) (n := 10) (by decide) hf
  obtain ⟨σ1, l1, l2, l3⟩ := loopF_inv (b := fun y : St × Int32 => lX0_trip_43 (nI S) z (nI f) y.1 y.2) (fun M s => s.2 = nI M ∧ Fr (PL z wayL) σ s.1 ∧ ∀ A b, A < M → b < n → s_i s.1 (z + (40 + A)) b = nI (T0 f A b)) (S + 1) (Q := fun s => Fr (PL z wayL) σ s ∧ ∀ A b, A < S + 1 → b < n → s_i s (z + (40 + A)) b = nI (T0 f A b)) (by
    rintro M ⟨τ0, y⟩ hM ⟨i1, i2, i3⟩
    simp only at i1 i2 i3
    subst i1
    obtain ⟨τ1, k1, k2, k3⟩ := loopF_inv (b := fun y : St × Int32 => lX0_trip_51 z (nI M) (nI f) y.1 y.2) (fun t s => s.2 = nI t ∧ Fr (PL z wayL) σ s.1 ∧ ∀ A b, (A < M ∨ (A = M ∧ b < t)) → b < n → s_i s.1 (z + (40 + A)) b = nI (T0 f A b)) n (Q := fun s => Fr (PL z wayL) σ s ∧ ∀ A b, (A < M ∨ (A = M ∧ b < n)) → b < n → s_i s (z + (40 + A)) b = nI (T0 f A b)) (by
      rintro t ⟨ρ, y⟩ ht ⟨j1, j2, j3⟩
      simp only at j1 j2 j3
      subst j1
      have hR : Sh ρ z := j2.sh hS way_sh
      have hPR := hP.keep hS j2 way_sp
      show ∃ u, lX0_trip_51 z (nI M) (nI f) ρ (nI t) = _ ∧ _
      have ev : lX0_trip_51 z (nI M) (nI f) ρ (nI t) = some (.inl (setI ρ (z + (40 + M)) t (nI (T0 f M t)), nI (t + 1))) := by
        unfold lX0_trip_51
        rw [e_0_i hR, hPR.2.1, if_neg (nI_ge ht (by omega)), e_0_32 hR, way_aR hR (by omega), shl_pow f (by omega)]
        simp only [jn, way_sI hR (show M < 1024 by omega) (show t < 10 by omega), nI_1]
        unfold T0
        by_cases c1 : M = 2 ^ f
        · rw [if_pos (by rw [c1])]
          by_cases c2 : t = f
          · rw [if_pos (by rw [c2]), if_pos ⟨c1, c2⟩]
            rfl
          · rw [if_neg (fun q => c2 ((nI_eq (by omega) (by omega)).mp q)), if_neg (fun q => c2 q.2)]
            rfl
        · rw [if_neg (fun q => c1 ((nI_eq (by omega) (by omega)).mp q)), if_neg (fun q => c1 q.1)]
          rfl
      rw [ev]
      refine ⟨_, rfl, rfl, j2.way (by omega), fun A b hc hb => ?_⟩
      simp only
      by_cases c1 : A = M
      · subst c1
        by_cases c2 : b = t
        · subst c2
          rw [gi_eq]
        · rw [gi_nj c2]
          exact j3 A b (by omega) hb
      · rw [gi_ne (by omega)]
        exact j3 A b (by omega) hb) (by
      rintro ⟨ρ, y⟩ ⟨j1, j2, j3⟩
      simp only at j1 j2 j3
      subst j1
      have hR : Sh ρ z := j2.sh hS way_sh
      have hPR := hP.keep hS j2 way_sp
      show ∃ u, lX0_trip_51 z (nI M) (nI f) ρ (nI n) = _ ∧ _
      unfold lX0_trip_51
      rw [e_0_i hR, hPR.2.1, if_pos (nI_le (Nat.le_refl n) (by omega))]
      exact ⟨_, rfl, j2, j3⟩) (s := (τ0, 0)) ⟨rfl, i2, fun A b hc hb => i3 A b (by omega) hb⟩ fuel (fuel_lt (by omega))
    show ∃ u, lX0_trip_43 (nI S) z (nI f) τ0 (nI M) = _ ∧ _
    unfold lX0_trip_43
    rw [if_neg (nI_nlt (by omega) (by omega)), k1, sb, nI_1]
    exact ⟨_, rfl, rfl, k2, fun A b hA hb => k3 A b (by omega) hb⟩) (by
    rintro ⟨τ0, y⟩ ⟨i1, i2, i3⟩
    simp only at i1 i2 i3
    subst i1
    show ∃ u, lX0_trip_43 (nI S) z (nI f) τ0 (nI (S + 1)) = _ ∧ _
    unfold lX0_trip_43
    rw [if_pos (nI_lt (by omega) (by omega))]
    exact ⟨_, rfl, i2, i3⟩) (s := (σ, 0)) ⟨rfl, Fr.refl, fun A b hA => absurd hA (Nat.not_lt_zero A)⟩ fuel (fuel_lt (by omega))
  refine ⟨σ1, l1, l2, fun M s hM hs => ⟨l3 M s (by omega) hs, ?_⟩⟩
  unfold T0
  split <;> omega
theorem trip_t (hS : Sh σ z) (hP : Sp σ z n) (hD : Ds σ z n d) (hS1 : S < 1024) (hn : S < 2 ^ n) {M s : Nat} (hM : Sb M S) (hs : s < n) {T : Nat → Nat → Nat} (hF : Fr (PL z wayL) σ τ) (hT : TI τ z n S T) (h1 : Snd d S f n T) (h2 : Cmp d S f M s 0 T) : ∃ τ', loopF fuel (fun y => lX0_trip_133 z (nI M) (nI s) (nI S) y.1 y.2) (τ, 0) = some τ' ∧ Fr (PL z wayL) σ τ' ∧ ∃ T', TI τ' z n S T' ∧ Snd d S f n T' ∧ Cmp d S f M (s + 1) 0 T' := by
  have h10 := hP.1
  have hML := hM.le
  have hd : ∀ a b, S.testBit a = true → S.testBit b = true → d a b ≤ 200 := by
    have lt : ∀ a, S.testBit a = true → a < n := by
      intro a ha
      apply Classical.byContradiction
      intro hc
      have h1 := Nat.testBit_lt_two_pow (x := S) (i := a) (Nat.lt_of_lt_of_le hn (Nat.pow_le_pow_right (by decide) (by omega)))
      rw [ha] at h1
      cases h1
    exact fun a b ha hb => (hD a b (lt a ha) (lt b hb)).2
  by_cases c : 268435456 ≤ T M s
  · refine ⟨τ, ?_, hF, T, hT, h1, h2.farS hd hS1 c⟩
    refine loopF_seq (st := fun _ => (τ, 0)) 0 (fun k hk => absurd hk (Nat.not_lt_zero k)) ?_ fuel (fuel_lt (by decide))
    have hR : Sh τ z := hF.sh hS way_sh
    have hPR := hP.keep hS hF way_sp
    have := hT M s hML hs
    show lX0_trip_133 z (nI M) (nI s) (nI S) τ (nI 0) = _
    unfold lX0_trip_133
    rw [e_0_i hR, hPR.2.1, if_neg (nI_ge (by omega) (by omega)), e_0_32 hR, way_aR hR (by omega), way_aI hR (by omega) (by omega), this.1, if_pos (show (268435456 : Int32) ≤ nI (T M s) from nI_le (a := 268435456) c (by omega))]
  · obtain ⟨τ', l1, l2, T', l3, l4, l5⟩ := loopF_inv (b := fun y : St × Int32 => lX0_trip_133 z (nI M) (nI s) (nI S) y.1 y.2) (fun t u => u.2 = nI t ∧ Fr (PL z wayL) σ u.1 ∧ ∃ T, TI u.1 z n S T ∧ Snd d S f n T ∧ Cmp d S f M s t T ∧ T M s < 268435456) n (Q := fun u => Fr (PL z wayL) σ u ∧ ∃ T, TI u z n S T ∧ Snd d S f n T ∧ Cmp d S f M (s + 1) 0 T) (by
      rintro t ⟨ρ, y⟩ ht ⟨j1, j2, T, j3, j4, j5, j6⟩
      simp only at j1 j2 j3
      subst j1
      have hR : Sh ρ z := j2.sh hS way_sh
      have hPR := hP.keep hS j2 way_sp
      have hDR := ds_keep hS hD j2 way_ds
      have v1 := (j3 M s hML hs).1
      show ∃ u, lX0_trip_133 z (nI M) (nI s) (nI S) ρ (nI t) = _ ∧ _
      have ev := Eq.refl (lX0_trip_133 z (nI M) (nI s) (nI S) ρ (nI t))
      conv at ev => rhs; unfold lX0_trip_133
      rw [e_0_i hR, hPR.2.1, if_neg (nI_ge ht (by omega)), e_0_32 hR, way_aR hR (by omega), way_aI hR (by omega) (by omega), v1, if_neg (show ¬ (268435456 : Int32) ≤ nI (T M s) from nI_ge (b := 268435456) j6 (by decide))] at ev
      simp only [jn, isSet_eq, nI_1] at ev
      rw [ev]
      by_cases c1 : S.testBit t = true
      · rw [if_pos ((tb_iff hS1 (by omega)).mpr c1)]
        by_cases c2 : M.testBit t = true
        · rw [if_pos ((tb_iff (by omega) (by omega)).mpr c2)]
          exact ⟨_, rfl, rfl, j2, T, j3, j4, j5.skip (Or.inr c2), j6⟩
        · rw [if_neg (fun q => c2 ((tb_iff (by omega) (by omega)).mp q))]
          have c2 : M.testBit t = false := by
            cases h : M.testBit t with
            | false => rfl
            | true => exact absurd h c2
          have p10 : 2 ^ t < 1024 := Nat.pow_lt_pow_right (m := t) (n := 10) (by decide) (by omega)
          have sb2 : Sb (M ||| 2 ^ t) S := fun i hi => by
            rw [Nat.testBit_or, Bool.or_eq_true, Nat.testBit_two_pow, decide_eq_true_eq] at hi
            rcases hi with hi | rfl
            · exact hM i hi
            · exact c1
          have l2 := sb2.le
          have v2 := j3 _ t l2 ht
          obtain ⟨p, p1, -⟩ := hPR.2.2.2 s hs
          obtain ⟨q, q1, -⟩ := hPR.2.2.2 t ht
          obtain ⟨f1, f2⟩ := sp8_eq hPR hs ht p1 q1
          have hst := hDR s t hs ht
          rw [o_let, shl_pow t (by omega), nI_or (by omega) p10, e_0_32 hR, way_aR hR (by omega), e_0_32 hR, way_aR hR (by omega), way_aI hR (by omega) (by omega), e_0_32 hR, way_aR hR (by omega), way_aI hR (by omega) (by omega), e_0_30 hR, a_38 hR (by omega) p1, e_0_30 hR, a_38 hR (by omega) q1, o_k_eq f1, f2, sb, o_let, v1, v2.1, hst.1, nI_add, jmin_nI (by omega) (by omega), way_sI hR (by omega) (by omega)]
          have hmin : min (T (M ||| 2 ^ t) t) (T M s + d s t) ≤ 268435456 := Nat.le_trans (Nat.min_le_left _ _) v2.2
          refine ⟨_, rfl, rfl, j2.way (by omega), _, j3.set hmin, j4.upd hML hs j6 c1 c2, j5.upd, ?_⟩
          unfold updT
          rw [if_neg (fun q => ?_)]
          · exact j6
          · have : M.testBit t = true := by
              rw [q.1, Nat.testBit_or, Nat.testBit_two_pow_self, Bool.or_true]
            rw [c2] at this
            cases this
      · rw [if_neg (fun q => c1 ((tb_iff hS1 (by omega)).mp q))]
        have c1 : S.testBit t = false := by
          cases h : S.testBit t with
          | false => rfl
          | true => exact absurd h c1
        exact ⟨_, rfl, rfl, j2, T, j3, j4, j5.skip (Or.inl c1), j6⟩) (by
      rintro ⟨ρ, y⟩ ⟨j1, j2, T, j3, j4, j5, j6⟩
      simp only at j1 j2 j3
      subst j1
      have hR : Sh ρ z := j2.sh hS way_sh
      have hPR := hP.keep hS j2 way_sp
      show ∃ u, lX0_trip_133 z (nI M) (nI s) (nI S) ρ (nI n) = _ ∧ _
      unfold lX0_trip_133
      rw [e_0_i hR, hPR.2.1, if_pos (nI_le (Nat.le_refl n) (by omega))]
      exact ⟨_, rfl, j2, T, j3, j4, j5.nextS hn⟩) (s := (τ, 0)) ⟨rfl, hF, T, hT, h1, h2, by omega⟩ fuel (fuel_lt (by omega))
    exact ⟨τ', l1, l2, T', l3, l4, l5⟩
theorem trip_s (hS : Sh σ z) (hP : Sp σ z n) (hD : Ds σ z n d) (hS1 : S < 1024) (hn : S < 2 ^ n) (hn0 : 0 < n) {M : Nat} (hM : M ≤ S) {T : Nat → Nat → Nat} (hF : Fr (PL z wayL) σ τ) (hT : TI τ z n S T) (h1 : Snd d S f n T) (h2 : Cmp d S f M 0 0 T) : ∃ τ', loopF fuel (fun y => lX0_trip_113 z (nI M) (nI S) y.1 y.2) (τ, 0) = some τ' ∧ Fr (PL z wayL) σ τ' ∧ ∃ T', TI τ' z n S T' ∧ Snd d S f n T' ∧ Cmp d S f (M + 1) 0 0 T' := by
  have h10 := hP.1
  by_cases c : Sb M S
  · obtain ⟨τ', l1, l2, T', l3, l4, l5⟩ := loopF_inv (b := fun y : St × Int32 => lX0_trip_113 z (nI M) (nI S) y.1 y.2) (fun s u => u.2 = nI s ∧ Fr (PL z wayL) σ u.1 ∧ ∃ T, TI u.1 z n S T ∧ Snd d S f n T ∧ Cmp d S f M s 0 T) n (Q := fun u => Fr (PL z wayL) σ u ∧ ∃ T, TI u z n S T ∧ Snd d S f n T ∧ Cmp d S f (M + 1) 0 0 T) (by
      rintro s ⟨ρ, y⟩ hs ⟨j1, j2, T, j3, j4, j5⟩
      simp only at j1 j2 j3
      subst j1
      have hR : Sh ρ z := j2.sh hS way_sh
      have hPR := hP.keep hS j2 way_sp
      obtain ⟨ρ', k1, k2, k3⟩ := trip_t hS hP hD hS1 hn c hs j2 j3 j4 j5
      show ∃ u, lX0_trip_113 z (nI M) (nI S) ρ (nI s) = _ ∧ _
      unfold lX0_trip_113
      rw [e_0_i hR, hPR.2.1, if_neg (nI_ge hs (by omega)), if_pos ((sb_iff (by omega) hS1).mpr c), k1, sb, nI_1]
      exact ⟨_, rfl, rfl, k2, k3⟩) (by
      rintro ⟨ρ, y⟩ ⟨j1, j2, T, j3, j4, j5⟩
      simp only at j1 j2 j3
      subst j1
      have hR : Sh ρ z := j2.sh hS way_sh
      have hPR := hP.keep hS j2 way_sp
      show ∃ u, lX0_trip_113 z (nI M) (nI S) ρ (nI n) = _ ∧ _
      unfold lX0_trip_113
      rw [e_0_i hR, hPR.2.1, if_pos (nI_le (Nat.le_refl n) (by omega))]
      exact ⟨_, rfl, j2, T, j3, j4, j5.nextM hn⟩) (s := (τ, 0)) ⟨rfl, hF, T, hT, h1, h2⟩ fuel (fuel_lt (by omega))
    exact ⟨τ', l1, l2, T', l3, l4, l5⟩
  · refine ⟨τ, ?_, hF, T, hT, h1, h2.outM c⟩
    refine loopF_seq (st := fun _ => (τ, 0)) 0 (fun k hk => absurd hk (Nat.not_lt_zero k)) ?_ fuel (fuel_lt (by decide))
    have hR : Sh τ z := hF.sh hS way_sh
    have hPR := hP.keep hS hF way_sp
    show lX0_trip_113 z (nI M) (nI S) τ (nI 0) = _
    unfold lX0_trip_113
    rw [e_0_i hR, hPR.2.1, if_neg (nI_ge (by omega) (by omega)), if_neg (fun q => c ((sb_iff (by omega) hS1).mp q))]
def mnT (g : Nat → Nat) : Nat → Nat
  | 0 => 268435456
  | k + 1 => min (mnT g k) (g k)
theorem mnT_le (g : Nat → Nat) : ∀ k, mnT g k ≤ 268435456 ∧ (∀ s, s < k → mnT g k ≤ g s) ∧ (mnT g k = 268435456 ∨ ∃ s, s < k ∧ mnT g k = g s)
  | 0 => ⟨Nat.le_refl _, fun s h => absurd h (Nat.not_lt_zero s), Or.inl rfl⟩
  | k + 1 => by
    obtain ⟨h1, h2, h3⟩ := mnT_le g k
    have a1 := Nat.min_le_left (mnT g k) (g k)
    have a2 := Nat.min_le_right (mnT g k) (g k)
    refine ⟨Nat.le_trans a1 h1, fun s hs => ?_, ?_⟩
    · by_cases e : s = k
      · subst e; exact a2
      · exact Nat.le_trans a1 (h2 s (by omega))
    · by_cases c : mnT g k ≤ g k
      · have e : mnT g (k + 1) = mnT g k := Nat.min_eq_left c
        rw [e]
        rcases h3 with h3 | ⟨s, s1, s2⟩
        · exact Or.inl h3
        · exact Or.inr ⟨s, by omega, s2⟩
      · have e : mnT g (k + 1) = g k := Nat.min_eq_right (by omega)
        exact Or.inr ⟨k, by omega, e⟩
/-- the component's way: the least of all ways -/
theorem tripX_eq (hS : Sh σ z) (hP : Sp σ z n) (hD : Ds σ z n d) (hn : S < 2 ^ n) (h0 : S ≠ 0) (h7 : bcS (nI S) 10 ≤ 7) : ∃ σ1 v, fX0_trip σ z (nI S) = some (nI v, σ1) ∧ Fr (PL z wayL) σ σ1 ∧ (∀ q, Way S (ctz 10 S) q → msk q = S → v ≤ rlen d q) ∧ (v = 268435456 ∨ ∃ q, Way S (ctz 10 S) q ∧ msk q = S ∧ v = rlen d q) := by
  have h10 := hP.1
  have hp : 2 ^ n ≤ 2 ^ 10 := Nat.pow_le_pow_right (by decide) h10
  have hS1 : S < 1024 := by omega
  have hn0 : 0 < n := by
    apply Classical.byContradiction
    intro hc
    have : n = 0 := by omega
    subst this
    omega
  obtain ⟨f1, f2, f3⟩ := ctz_all S hS1 h0
  obtain ⟨f, hf⟩ : ∃ f, f = ctz 10 S := ⟨_, rfl⟩
  rw [← hf] at f1 f2 f3 ⊢
  have pS : 2 ^ f ≤ S := Nat.ge_two_pow_of_testBit f2
  obtain ⟨σ1, a1, a2, a3⟩ := trip_init hS hP hS1 f1
  have s0 : Snd d S f n (T0 f) := by
    intro M s hM hs hl
    unfold T0 at hl ⊢
    by_cases c : M = 2 ^ f ∧ s = f
    · rw [if_pos c]
      obtain ⟨rfl, rfl⟩ := c
      exact ⟨[], ⟨by simp, fun x hx => by rw [List.mem_singleton.mp hx]; exact f2, rfl⟩, Nat.zero_or _, rfl⟩
    · rw [if_neg c] at hl
      omega
  have c0 : Cmp d S f (2 ^ f) 0 0 (T0 f) := by
    refine ⟨if_pos ⟨rfl, rfl⟩, fun x y l hw hc => ?_⟩
    have h1 : f ∈ y :: l := List.mem_of_getLast? hw.tl.1.2.2
    have h2 := Nat.ge_two_pow_of_testBit ((msk_bit _ _).mpr h1)
    omega
  obtain ⟨σ2, b1, b2, T, b3, b4, b5⟩ := loopF_inv (b := fun y : St × Int32 => lX0_trip_105 (nI S) z y.1 y.2) (fun k u => u.2 = nI (2 ^ f + k) ∧ Fr (PL z wayL) σ u.1 ∧ ∃ T, TI u.1 z n S T ∧ Snd d S f n T ∧ Cmp d S f (2 ^ f + k) 0 0 T) (S + 1 - 2 ^ f) (Q := fun u => Fr (PL z wayL) σ u ∧ ∃ T, TI u z n S T ∧ Snd d S f n T ∧ Cmp d S f (S + 1) 0 0 T) (by
    rintro k ⟨ρ, y⟩ hk ⟨j1, j2, T, j3, j4, j5⟩
    simp only at j1 j2 j3
    subst j1
    obtain ⟨ρ', k1, k2, k3⟩ := trip_s hS hP hD hS1 hn hn0 (M := 2 ^ f + k) (by omega) j2 j3 j4 j5
    show ∃ u, lX0_trip_105 (nI S) z ρ (nI (2 ^ f + k)) = _ ∧ _
    unfold lX0_trip_105
    rw [if_neg (nI_nlt (by omega) (by omega)), k1, sb, nI_1]
    exact ⟨_, rfl, rfl, k2, k3⟩) (by
    rintro ⟨ρ, y⟩ ⟨j1, j2, T, j3, j4, j5⟩
    simp only at j1 j2 j3
    rw [show 2 ^ f + (S + 1 - 2 ^ f) = S + 1 by omega] at j1 j5
    subst j1
    show ∃ u, lX0_trip_105 (nI S) z ρ (nI (S + 1)) = _ ∧ _
    unfold lX0_trip_105
    rw [if_pos (nI_lt (by omega) (by omega))]
    exact ⟨_, rfl, j2, T, j3, j4, j5⟩) (s := (σ1, nI (2 ^ f))) ⟨rfl, a2, T0 f, a3, s0, c0⟩ fuel (fuel_lt (Nat.lt_of_le_of_lt (Nat.sub_le _ _) (by omega)))
  have hR : Sh σ2 z := b2.sh hS way_sh
  have hPR := hP.keep hS b2 way_sp
  have d1 : loopF fuel (fun y => lX0_trip_258 σ2 z (nI S) y.1 y.2) (268435456, 0) = some (nI (mnT (T S) n)) := by
    refine loopF_seq (st := fun s => (nI (mnT (T S) s), nI s)) n (fun s hs => ?_) ?_ fuel (fuel_lt (by omega))
    · show lX0_trip_258 σ2 z (nI S) (nI (mnT (T S) s)) (nI s) = _
      have v := b3 S s (Nat.le_refl S) hs
      have w := (mnT_le (T S) s).1
      unfold lX0_trip_258
      rw [e_0_i hR, hPR.2.1, if_neg (nI_ge hs (by omega)), e_0_32 hR, way_aR hR hS1, way_aI hR hS1 (by omega), v.1, o_let, jmin_nI (by omega) (by omega), nI_1]
      rfl
    · show lX0_trip_258 σ2 z (nI S) (nI (mnT (T S) n)) (nI n) = _
      unfold lX0_trip_258
      rw [e_0_i hR, hPR.2.1, if_pos (nI_le (Nat.le_refl n) (by omega))]
  refine ⟨σ2, mnT (T S) n, ?_, b2, fun q q1 q2 => ?_, ?_⟩
  · have sub : ((1 : Int32) <<< (nI n &&& 31)) - 1 = nI (2 ^ n) - 1 := by rw [shl_pow n h10]
    unfold fX0_trip
    rw [e_0_i hS, hP.2.1, sub, isIn_lit σ σ (nI S) 0 (nI (2 ^ n) - 1) (lo' := 0) (hi' := (nI (2 ^ n) - 1).toInt64) rfl rfl, in_eq, sb, if01, if_pos (nat_in (by omega) hn), bitCount_eq σ hS1, sb, if_pos h7, if_neg (nI_ne0 (by omega) (by omega)), ntz_eq σ hS1 h0, ← hf, sb, a1, sb, shl_pow f (by omega), b1, sb, d1, sb]
  · cases q with
    | nil => cases q1.2.2
    | cons s l =>
      have hs := q1.lt hn List.mem_cons_self
      have h1 := (mnT_le (T S) n).2.1 s hs
      have h2 : T S s ≤ rlen d (s :: l) := by
        cases l with
        | nil =>
          have e : s = f := by
            have := q1.2.2
            simpa using this
          subst e
          have e2 : S = 2 ^ s := by
            rw [← q2]
            exact Nat.zero_or _
          have h3 := b5.1
          rw [← e2] at h3
          rw [h3]
          exact Nat.zero_le _
        | cons y l =>
          have h3 := b5.2 s y l q1 (Or.inl (by have h4 := msk_lt q1.tl.2.1; rw [q2] at h4; omega))
          rw [q2] at h3
          exact h3
      omega
  · rcases (mnT_le (T S) n).2.2 with h | ⟨s, s1, s2⟩
    · exact Or.inl h
    · by_cases c : T S s < 268435456
      · obtain ⟨l, l1, l2, l3⟩ := b4 S s (Nat.le_refl S) s1 c
        exact Or.inr ⟨_, l1, l2, by rw [s2, l3]⟩
      · exact Or.inl (by have := (mnT_le (T S) n).1; omega)
end TRIP
