set_option maxRecDepth 100000
abbrev clW : List vw_C := [(RX0, TX0, 9), (RX1, TX1, 10), (RX3, TX3, 20), (RX4, TX4, 3), (RX5, TX5, 3), (RX6, TX6, 8), (RX8, TX8, 2), (RX9, TX9, 3), (RX10, TX10, 4), (RX11, TX11, 4), (RX12, TX12, 2), (RX13, TX13, 7), (RX14, TX14, 8), (RX15, TX15, 8), (RJ2, TJ2, 4), (RJ1, TJ1, 4)]
/-- the fields of a kind: 0 int, 1 long, 2 reference; and their numbers -/
def lay : Nat → List (Nat × Nat)
  | 0 => [(2, 0), (0, 1), (0, 2), (2, 3), (0, 4), (2, 5), (2, 6), (2, 7), (0, 8)]
  | 1 => [(2, 10), (0, 11), (2, 12), (2, 13), (2, 14), (0, 15), (0, 16), (0, 17), (0, 18), (0, 19)]
  | 2 => [(2, 20), (0, 21), (0, 22), (0, 23), (0, 24), (0, 25), (2, 26), (2, 27), (2, 28), (0, 29), (2, 30), (2, 31), (2, 32), (2, 33), (2, 34), (2, 35), (2, 36), (2, 37), (2, 38), (2, 39)]
  | 3 => [(2, 40), (2, 41), (0, 42)]
  | 4 => [(2, 43), (2, 44), (0, 45)]
  | 5 => [(2, 46), (2, 47), (2, 48), (2, 49), (2, 50), (0, 51), (0, 52), (0, 53)]
  | 6 => [(0, 54), (2, 55)]
  | 7 => [(0, 54), (0, 56), (1, 57)]
  | 8 => [(0, 54), (0, 58), (0, 59), (2, 60)]
  | 9 => [(0, 54), (0, 61), (0, 62), (0, 63)]
  | 10 => [(2, 64), (2, 65)]
  | 11 => [(2, 20), (0, 21), (0, 22), (0, 66), (2, 67), (2, 68), (2, 69)]
  | 12 => [(2, 20), (0, 21), (0, 22), (0, 66), (2, 67), (2, 68), (2, 69), (2, 70)]
  | 13 => [(2, 20), (0, 21), (0, 22), (0, 66), (2, 67), (2, 68), (2, 69), (1, 71)]
  | 14 => [(2, 72), (0, 73), (0, 74), (0, 75)]
  | 15 => [(2, 76), (0, 77), (0, 78), (0, 79)]
  | _ => []
def litByt : List (List Int32) := [[60, 99, 108, 105, 110, 105, 116, 62], [60, 105, 110, 105, 116, 62], [60, 105, 110, 105, 116, 62], [66], [67], [67, 111, 110, 115, 116, 97, 110, 116, 86, 97, 108, 117, 101], [68], [68, 101, 112, 114, 101, 99, 97, 116, 101, 100], [69, 120, 99, 101, 112, 116, 105, 111, 110, 115], [70], [73], [73, 110, 110, 101, 114, 67, 108, 97, 115, 115, 101, 115], [74], [76, 106, 97, 118, 97, 47, 108, 97, 110, 103, 47, 83, 116, 114, 105, 110, 103, 59], [78, 101, 115, 116, 72, 111, 115, 116], [78, 101, 115, 116, 77, 101, 109, 98, 101, 114, 115], [80, 101, 114, 109, 105, 116, 116, 101, 100, 83, 117, 98, 99, 108, 97, 115, 115, 101, 115], [82, 101, 99, 111, 114, 100], [83], [83, 105, 103, 110, 97, 116, 117, 114, 101], [90]]
/-- the String constants: class, entry, text -/
def litKey : List (String × Nat × String) := [("ClassFileReader", 316, "<clinit>"), ("ClassFileReader", 318, "<init>"), ("ClassFileReader$Pair", 46, "<init>"), ("ClassFileReader", 237, "B"), ("ClassFileReader", 235, "C"), ("ClassFileReader$Field", 17, "ConstantValue"), ("ClassFileReader", 244, "D"), ("ClassFileReader$Holder", 19, "Deprecated"), ("ClassFileReader$Method", 18, "Exceptions"), ("ClassFileReader", 240, "F"), ("ClassFileReader", 228, "I"), ("ClassFileReader$Mirror", 54, "InnerClasses"), ("ClassFileReader", 242, "J"), ("ClassFileReader", 246, "Ljava/lang/String;"), ("ClassFileReader$Mirror", 64, "NestHost"), ("ClassFileReader$Mirror", 60, "NestMembers"), ("ClassFileReader$Mirror", 62, "PermittedSubclasses"), ("ClassFileReader$Mirror", 66, "Record"), ("ClassFileReader", 233, "S"), ("ClassFileReader$Holder", 13, "Signature"), ("ClassFileReader", 239, "Z")]
abbrev litN : Nat := 21
theorem cw_ok (c : Nat) (C : String) (T : u_T) (N : Nat) (h : clW[c]? = some (C, T, N)) : (∀ w ∈ u_ws C T N, w ∈ lw_all) ∧ (∀ a, a < N → ∀ b, b < N → a ≠ b → (T a).2.1 ≠ (T b).2.1) ∧ (lay c).length = N ∧ ∃ ty : Nat → FieldType, ∀ k, k < N → parseFieldDescriptor (T k).2.2.1 = some (ty k) := by
  match c, h with
  | 0, h => cases h; exact ⟨in_X0, nmX0, rfl, tyX0, tyX0_ok⟩
  | 1, h => cases h; exact ⟨in_X1, nmX1, rfl, tyX1, tyX1_ok⟩
  | 2, h => cases h; exact ⟨in_X3, nmX3, rfl, tyX3, tyX3_ok⟩
  | 3, h => cases h; exact ⟨in_X4, nmX4, rfl, tyX4, tyX4_ok⟩
  | 4, h => cases h; exact ⟨in_X5, nmX5, rfl, tyX5, tyX5_ok⟩
  | 5, h => cases h; exact ⟨in_X6, nmX6, rfl, tyX6, tyX6_ok⟩
  | 6, h => cases h; exact ⟨in_X8, nmX8, rfl, tyX8, tyX8_ok⟩
  | 7, h => cases h; exact ⟨in_X9, nmX9, rfl, tyX9, tyX9_ok⟩
  | 8, h => cases h; exact ⟨in_X10, nmX10, rfl, tyX10, tyX10_ok⟩
  | 9, h => cases h; exact ⟨in_X11, nmX11, rfl, tyX11, tyX11_ok⟩
  | 10, h => cases h; exact ⟨in_X12, nmX12, rfl, tyX12, tyX12_ok⟩
  | 11, h => cases h; exact ⟨in_X13, nmX13, rfl, tyX13, tyX13_ok⟩
  | 12, h => cases h; exact ⟨in_X14, nmX14, rfl, tyX14, tyX14_ok⟩
  | 13, h => cases h; exact ⟨in_X15, nmX15, rfl, tyX15, tyX15_ok⟩
  | 14, h => cases h; exact ⟨in_J2, nmJ2, rfl, tyJ2, tyJ2_ok⟩
  | 15, h => cases h; exact ⟨in_J1, nmJ1, rfl, tyJ1, tyJ1_ok⟩
  | c + 16, h => simp [clW] at h
