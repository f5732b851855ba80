/-! the classes that have objects, in one table -/
def TX21z : u_T := fun _ => ("JokePump$Silence", "", "I", false)
abbrev zcl : List vw_C := [(RX0, TX0, 8), (RX1, TX1, 16), (RX2, TX2, 23), (RX4, TX4, 6), (RX5, TX5, 6), (RX6, TX6, 8), (RX7, TX7, 6), (RX8, TX8, 2), (RX9, TX9, 2), (RX10, TX10, 3), (RX12, TX12, 3), (RX13, TX13, 3), (RX14, TX14, 3), (RX15, TX15, 3), (RX16, TX16, 3), (RX17, TX17, 4), (RX18, TX18, 3), (RX19, TX19, 3), (RX20, TX20, 1), (RX22, TX22, 3), (RX23, TX23, 7), (RX24, TX24, 5), (RX25, TX25, 3), (RJ2, TJ2, 3), (RJ3, TJ3, 3), (RJ4, TJ4, 4), (RJ8, TJ8, 6), (RJ12, TJ12, 4), (RJ18, TJ18, 6), (RJ21, TJ21, 4), (RX21, TX21z, 0)]
/-- class number ci of the table: its words hold, its fields' types and names -/
def zcls (ci : Nat) (C : String) (T : u_T) (N : Nat) (ty : Nat → FieldType) : Prop := zcl[ci]? = some (C, T, N) ∧ (∀ w ∈ u_ws C T N, w ∈ lw_all) ∧ (∀ k, k < N → parseFieldDescriptor (T k).2.2.1 = some (ty k)) ∧ (∀ a, a < N → ∀ b, b < N → a ≠ b → (T a).2.1 ≠ (T b).2.1 ∨ ((T a).1 ≠ (T b).1 ∧ (T a).2.2.2 = true ∧ (T b).2.2.2 = true))
set_option maxRecDepth 100000 in
theorem kX0 : zcls 0 RX0 TX0 8 tyX0 := ⟨rfl, in_X0, tyX0_ok, by decide +kernel⟩
set_option maxRecDepth 100000 in
theorem kX1 : zcls 1 RX1 TX1 16 tyX1 := ⟨rfl, in_X1, tyX1_ok, by decide +kernel⟩
set_option maxRecDepth 100000 in
theorem kX2 : zcls 2 RX2 TX2 23 tyX2 := ⟨rfl, in_X2, tyX2_ok, by decide +kernel⟩
set_option maxRecDepth 100000 in
theorem kX4 : zcls 3 RX4 TX4 6 tyX4 := ⟨rfl, in_X4, tyX4_ok, by decide +kernel⟩
set_option maxRecDepth 100000 in
theorem kX5 : zcls 4 RX5 TX5 6 tyX5 := ⟨rfl, in_X5, tyX5_ok, by decide +kernel⟩
set_option maxRecDepth 100000 in
theorem kX6 : zcls 5 RX6 TX6 8 tyX6 := ⟨rfl, in_X6, tyX6_ok, by decide +kernel⟩
set_option maxRecDepth 100000 in
theorem kX7 : zcls 6 RX7 TX7 6 tyX7 := ⟨rfl, in_X7, tyX7_ok, by decide +kernel⟩
set_option maxRecDepth 100000 in
theorem kX8 : zcls 7 RX8 TX8 2 tyX8 := ⟨rfl, in_X8, tyX8_ok, by decide +kernel⟩
set_option maxRecDepth 100000 in
theorem kX9 : zcls 8 RX9 TX9 2 tyX9 := ⟨rfl, in_X9, tyX9_ok, by decide +kernel⟩
set_option maxRecDepth 100000 in
theorem kX10 : zcls 9 RX10 TX10 3 tyX10 := ⟨rfl, in_X10, tyX10_ok, by decide +kernel⟩
set_option maxRecDepth 100000 in
theorem kX12 : zcls 10 RX12 TX12 3 tyX12 := ⟨rfl, in_X12, tyX12_ok, by decide +kernel⟩
set_option maxRecDepth 100000 in
theorem kX13 : zcls 11 RX13 TX13 3 tyX13 := ⟨rfl, in_X13, tyX13_ok, by decide +kernel⟩
set_option maxRecDepth 100000 in
theorem kX14 : zcls 12 RX14 TX14 3 tyX14 := ⟨rfl, in_X14, tyX14_ok, by decide +kernel⟩
set_option maxRecDepth 100000 in
theorem kX15 : zcls 13 RX15 TX15 3 tyX15 := ⟨rfl, in_X15, tyX15_ok, by decide +kernel⟩
set_option maxRecDepth 100000 in
theorem kX16 : zcls 14 RX16 TX16 3 tyX16 := ⟨rfl, in_X16, tyX16_ok, by decide +kernel⟩
set_option maxRecDepth 100000 in
theorem kX17 : zcls 15 RX17 TX17 4 tyX17 := ⟨rfl, in_X17, tyX17_ok, by decide +kernel⟩
set_option maxRecDepth 100000 in
theorem kX18 : zcls 16 RX18 TX18 3 tyX18 := ⟨rfl, in_X18, tyX18_ok, by decide +kernel⟩
set_option maxRecDepth 100000 in
theorem kX19 : zcls 17 RX19 TX19 3 tyX19 := ⟨rfl, in_X19, tyX19_ok, by decide +kernel⟩
set_option maxRecDepth 100000 in
theorem kX20 : zcls 18 RX20 TX20 1 tyX20 := ⟨rfl, in_X20, tyX20_ok, by decide +kernel⟩
set_option maxRecDepth 100000 in
theorem kX22 : zcls 19 RX22 TX22 3 tyX22 := ⟨rfl, in_X22, tyX22_ok, by decide +kernel⟩
set_option maxRecDepth 100000 in
theorem kX23 : zcls 20 RX23 TX23 7 tyX23 := ⟨rfl, in_X23, tyX23_ok, by decide +kernel⟩
set_option maxRecDepth 100000 in
theorem kX24 : zcls 21 RX24 TX24 5 tyX24 := ⟨rfl, in_X24, tyX24_ok, by decide +kernel⟩
set_option maxRecDepth 100000 in
theorem kX25 : zcls 22 RX25 TX25 3 tyX25 := ⟨rfl, in_X25, tyX25_ok, by decide +kernel⟩
set_option maxRecDepth 100000 in
theorem kJ2 : zcls 23 RJ2 TJ2 3 tyJ2 := ⟨rfl, in_J2, tyJ2_ok, by decide +kernel⟩
set_option maxRecDepth 100000 in
theorem kJ3 : zcls 24 RJ3 TJ3 3 tyJ3 := ⟨rfl, in_J3, tyJ3_ok, by decide +kernel⟩
set_option maxRecDepth 100000 in
theorem kJ4 : zcls 25 RJ4 TJ4 4 tyJ4 := ⟨rfl, in_J4, tyJ4_ok, by decide +kernel⟩
set_option maxRecDepth 100000 in
theorem kJ8 : zcls 26 RJ8 TJ8 6 tyJ8 := ⟨rfl, in_J8, tyJ8_ok, by decide +kernel⟩
set_option maxRecDepth 100000 in
theorem kJ12 : zcls 27 RJ12 TJ12 4 tyJ12 := ⟨rfl, in_J12, tyJ12_ok, by decide +kernel⟩
set_option maxRecDepth 100000 in
theorem kJ18 : zcls 28 RJ18 TJ18 6 tyJ18 := ⟨rfl, in_J18, tyJ18_ok, by decide +kernel⟩
set_option maxRecDepth 100000 in
theorem kJ21 : zcls 29 RJ21 TJ21 4 tyJ21 := ⟨rfl, in_J21, tyJ21_ok, by decide +kernel⟩
theorem kX21 : zcls 30 RX21 TX21z 0 (fun _ => .int) := ⟨rfl, fun w h => absurd h (by simp [u_ws]), fun k h => absurd h (Nat.not_lt_zero _), fun a h => absurd h (Nat.not_lt_zero _)⟩
