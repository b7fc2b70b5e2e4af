set_option maxRecDepth 100000
/-! rows: Told's count, the row of words -/
def o_gM {α : Type} (σ : St) (a : Nat) (K : Int32 → Option α) : Option α := if s_k σ a = some (.inl 8) then o_gI σ a 8 0 K else o_gI σ a 14 0 K
def o_pM {α : Type} (σ : St) (a : Nat) (v : Int32) (K : St → Option α) : Option α := if s_k σ a = some (.inl 8) then o_pI σ a 8 0 v K else o_pI σ a 14 0 v K
def o_rd {α : Type} (i : Int32) (K : Nat → Option α) : Option α := if ¬ (i < 0 ∨ 6 ≤ i.toNatClampNeg) then K i.toNatClampNeg else none
section ROWS
variable {p : Program} {l : Launch} {e : Env} {R : Room} {s : State} {m : MethodId} {args : Array Value} {below : List Frame} {meth : Method} {c : Code} {H : Heap} {locs : List Loc} {cells slots : Nat} {Q : State → Prop}
variable {s0 : State} {A0 : Array Value} {D : va_G} {ac : Nat → ClassId} {σ : St} {cc : ByteArray} {nL : Nat} {own : String} {ret : Option FieldType} {pc : Nat} {ls : Array Slot} {rest : List Value} {a idx : Nat} {α : Type} {r : α}
theorem x_gM {K : Int32 → Option α} (G : Gl s0 A0 D ac) (C : Cx s0 p s m args meth c cc nL own ret) (h : Hs s0 D ac σ H locs) (hlk : Cond.fieldLink own idx "HutForShow$Told" "many" "I" ∈ lw_all) (hdg : decode cc pc = .ok (.getfield idx, 3)) (hf : o_gM σ a K = some r)
    (kk : ∀ x, K x = some r → W p l e R s m args below meth c H locs cells slots Q (F0 m (pc + 3) ls (.int x :: rest))) : W p l e R s m args below meth c H locs cells slots Q (F0 m pc ls (.ref a :: rest)) := by
  unfold o_gM at hf
  split at hf
  · exact x_gI (q := (RX11, TY11, 5)) (j := 0) G C h rfl (by decide) (fun _ _ _ => rfl) (lk C hlk) (fun _ z => z) hdg hf kk
  · exact x_gI (q := (RX17, TY17, 7)) (j := 0) G C h rfl (by decide) (fun _ _ _ => rfl) (lk C hlk) (fun _ z => z) hdg hf kk
theorem x_pM {v : Int32} {K : St → Option α} (G : Gl s0 A0 D ac) (C : Cx s0 p s m args meth c cc nL own ret) (h : Hs s0 D ac σ H locs) (hlk : Cond.fieldLink own idx "HutForShow$Told" "many" "I" ∈ lw_all) (hdg : decode cc pc = .ok (.putfield idx, 3)) (hf : o_pM σ a v K = some r)
    (kk : ∀ (σ : St) (H : Heap) (locs : List Loc), Hs s0 D ac σ H locs → K σ = some r → W p l e R s m args below meth c H locs cells slots Q (F0 m (pc + 3) ls rest)) : W p l e R s m args below meth c H locs cells slots Q (F0 m pc ls (.int v :: .ref a :: rest)) := by
  unfold o_pM at hf
  split at hf
  · exact x_pI (q := (RX11, TY11, 5)) (j := 0) G C h rfl (by decide) rfl (lk C hlk) (fun _ z => z) (Or.inl rfl) hdg hf kk
  · exact x_pI (q := (RX17, TY17, 7)) (j := 0) G C h rfl (by decide) rfl (lk C hlk) (fun _ z => z) (Or.inl rfl) hdg hf kk
theorem x_rd {K : Nat → Option α} {i : Int32} {t : Nat} (C : Cx s0 p s m args meth c cc nL own ret) (h : Hs s0 D ac σ H locs) (hT : va_T (.object "java/lang/String") t 6 (fun j => .ref (sA s0 j)) (fun q => s0.heap.size ≤ q) s0 s0.heap) (hdg : decode cc pc = .ok (.aaload, 1)) (hf : o_rd i K = some r)
    (kk : ∀ w, K w = some r → W p l e R s m args below meth c H locs cells slots Q (F0 m (pc + 1) ls (.ref (sA s0 w) :: rest))) : W p l e R s m args below meth c H locs cells slots Q (F0 m pc ls (.int i :: .ref t :: rest)) := by
  unfold o_rd at hf
  split at hf
  · next hin => exact x_aaldT C h hT hin hdg (kk _ hf)
  · cases hf
end ROWS
