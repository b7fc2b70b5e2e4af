set_option maxRecDepth 100000
/-! the classes whose objects are followed, their fields and the kinds of arrays -/
def TY11 : u_T := fun k => match k with
  | 0 => ("HutForShow$Told", "many", "I", false)
  | 1 => ("HutForShow$Habit", "acts", "[LHutForShow$Act;", true)
  | 2 => ("HutForShow$Habit", "tests", "[[LHutForShow$Test;", true)
  | 3 => ("HutForShow$Habit", "testMany", "[I", true)
  | _ => ("HutForShow$Habit", "this$0", "LHutForShow;", true)
def tyY11 : Nat → FieldType := fun k => match k with
  | 0 => .int
  | 1 => .array (.object "HutForShow$Act")
  | 2 => .array (.array (.object "HutForShow$Test"))
  | 3 => .array .int
  | _ => .object "HutForShow"
theorem nmY11 : ∀ a, a < 5 → ∀ b, b < 5 → a ≠ b → (TY11 a).2.1 ≠ (TY11 b).2.1 := by decide +kernel
theorem tyY11_ok : ∀ k, k < 5 → parseFieldDescriptor (TY11 k).2.2.1 = some (tyY11 k) := by decide +kernel
theorem in_Y11 : ∀ w ∈ u_ws RX11 TY11 5, w ∈ lw_all := lw_in (u_ws RX11 TY11 5) [547, 539, 541, 543, 545] (by decide +kernel) (by decide +kernel)
def TY17 : u_T := fun k => match k with
  | 0 => ("HutForShow$Told", "many", "I", false)
  | 1 => ("HutForShow$Taste", "stick", "I", false)
  | 2 => ("HutForShow$Taste", "colours", "[I", true)
  | 3 => ("HutForShow$Taste", "size", "I", false)
  | 4 => ("HutForShow$Taste", "row", "I", false)
  | 5 => ("HutForShow$Taste", "least", "I", false)
  | _ => ("HutForShow$Taste", "this$0", "LHutForShow;", true)
def tyY17 : Nat → FieldType := fun k => match k with
  | 0 => .int
  | 1 => .int
  | 2 => .array .int
  | 3 => .int
  | 4 => .int
  | 5 => .int
  | _ => .object "HutForShow"
theorem nmY17 : ∀ a, a < 7 → ∀ b, b < 7 → a ≠ b → (TY17 a).2.1 ≠ (TY17 b).2.1 := by decide +kernel
theorem tyY17_ok : ∀ k, k < 7 → parseFieldDescriptor (TY17 k).2.2.1 = some (tyY17 k) := by decide +kernel
theorem in_Y17 : ∀ w ∈ u_ws RX17 TY17 7, w ∈ lw_all := lw_in (u_ws RX17 TY17 7) [812, 800, 802, 804, 806, 808, 810] (by decide +kernel) (by decide +kernel)
def TY14 : u_T := fun k => match k with
  | _ => ("HutForShow$Fault", "place", "I", true)
def tyY14 : Nat → FieldType := fun k => match k with
  | _ => .int
theorem nmY14 : ∀ a, a < 1 → ∀ b, b < 1 → a ≠ b → (TY14 a).2.1 ≠ (TY14 b).2.1 := by decide +kernel
theorem tyY14_ok : ∀ k, k < 1 → parseFieldDescriptor (TY14 k).2.2.1 = some (tyY14 k) := by decide +kernel
theorem in_Y14 : ∀ w ∈ u_ws RX14 TY14 1, w ∈ lw_all := lw_in (u_ws RX14 TY14 1) [717] (by decide +kernel) (by decide +kernel)
def TZ0 : u_T := fun _ => ("", "", "", false)
def tyZ0 : Nat → FieldType := fun _ => .int
theorem in_Z0 (C : String) : ∀ w ∈ u_ws C TZ0 0, w ∈ lw_all := fun w h => by cases h
abbrev clA : List vw_C := [(RX0, TX0, 33), (RX2, TZ0, 0), (RX4, TZ0, 0), (RX5, TX5, 9), (RX6, TX6, 4), (RX7, TX7, 50), (RX8, TX8, 2), (RX9, TX9, 3), (RX11, TY11, 5), (RX12, TZ0, 0), (RX13, TZ0, 0), (RX14, TY14, 1), (RX15, TX15, 1), (RX16, TX16, 3), (RX17, TY17, 7), (RX18, TX18, 2)]
def tyF (c : Nat) : Nat → FieldType := match c with
  | 0 => tyX0
  | 1 => tyZ0
  | 2 => tyZ0
  | 3 => tyX5
  | 4 => tyX6
  | 5 => tyX7
  | 6 => tyX8
  | 7 => tyX9
  | 8 => tyY11
  | 9 => tyZ0
  | 10 => tyZ0
  | 11 => tyY14
  | 12 => tyX15
  | 13 => tyX16
  | 14 => tyY17
  | _ => tyX18
abbrev tyL : List FieldType := [.int, .byte, .boolean, .object "HutForShow$Place", .object "HutForShow$Thing", .object "HutForShow$Act", .object "HutForShow$Habit", .object "HutForShow$Taste", .object "HutForShow$Pair", .object "HutForShow$Test", .array (.object "HutForShow$Test"), .array .int]
def tyA (q : Nat) : FieldType := tyL.getD q .int
theorem in_cl : ∀ (c : Nat) (r : vw_C), clA[c]? = some r → ∀ w ∈ u_ws r.1 r.2.1 r.2.2, w ∈ lw_all := by
  intro c r h
  match c, h with
  | 0, h => cases h; exact in_X0
  | 1, h => cases h; exact in_Z0 _
  | 2, h => cases h; exact in_Z0 _
  | 3, h => cases h; exact in_X5
  | 4, h => cases h; exact in_X6
  | 5, h => cases h; exact in_X7
  | 6, h => cases h; exact in_X8
  | 7, h => cases h; exact in_X9
  | 8, h => cases h; exact in_Y11
  | 9, h => cases h; exact in_Z0 _
  | 10, h => cases h; exact in_Z0 _
  | 11, h => cases h; exact in_Y14
  | 12, h => cases h; exact in_X15
  | 13, h => cases h; exact in_X16
  | 14, h => cases h; exact in_Y17
  | 15, h => cases h; exact in_X18
  | c + 16, h => simp [clA] at h
theorem ty_cl : ∀ (c : Nat) (r : vw_C), clA[c]? = some r → ∀ k, k < r.2.2 → parseFieldDescriptor (r.2.1 k).2.2.1 = some (tyF c k) := by
  intro c r h
  match c, h with
  | 0, h => cases h; exact tyX0_ok
  | 1, h => cases h; exact fun k hk => absurd hk (Nat.not_lt_zero k)
  | 2, h => cases h; exact fun k hk => absurd hk (Nat.not_lt_zero k)
  | 3, h => cases h; exact tyX5_ok
  | 4, h => cases h; exact tyX6_ok
  | 5, h => cases h; exact tyX7_ok
  | 6, h => cases h; exact tyX8_ok
  | 7, h => cases h; exact tyX9_ok
  | 8, h => cases h; exact tyY11_ok
  | 9, h => cases h; exact fun k hk => absurd hk (Nat.not_lt_zero k)
  | 10, h => cases h; exact fun k hk => absurd hk (Nat.not_lt_zero k)
  | 11, h => cases h; exact tyY14_ok
  | 12, h => cases h; exact tyX15_ok
  | 13, h => cases h; exact tyX16_ok
  | 14, h => cases h; exact tyY17_ok
  | 15, h => cases h; exact tyX18_ok
  | c + 16, h => simp [clA] at h
theorem nm_cl : ∀ (c : Nat) (r : vw_C), clA[c]? = some r → ∀ a, a < r.2.2 → ∀ b, b < r.2.2 → a ≠ b → (r.2.1 a).2.1 ≠ (r.2.1 b).2.1 := by
  intro c r h
  match c, h with
  | 0, h => cases h; exact nmX0
  | 1, h => cases h; exact fun a ha => absurd ha (Nat.not_lt_zero a)
  | 2, h => cases h; exact fun a ha => absurd ha (Nat.not_lt_zero a)
  | 3, h => cases h; exact nmX5
  | 4, h => cases h; exact nmX6
  | 5, h => cases h; exact nmX7
  | 6, h => cases h; exact nmX8
  | 7, h => cases h; exact nmX9
  | 8, h => cases h; exact nmY11
  | 9, h => cases h; exact fun a ha => absurd ha (Nat.not_lt_zero a)
  | 10, h => cases h; exact fun a ha => absurd ha (Nat.not_lt_zero a)
  | 11, h => cases h; exact nmY14
  | 12, h => cases h; exact nmX15
  | 13, h => cases h; exact nmX16
  | 14, h => cases h; exact nmY17
  | 15, h => cases h; exact nmX18
  | c + 16, h => simp [clA] at h
