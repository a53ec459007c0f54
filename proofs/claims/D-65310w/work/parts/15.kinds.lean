set_option maxRecDepth 100000
/-- the default of a field by its sort -/
def dz (q : Nat × Nat) : Value := match q.1 with
  | 0 => .int 0
  | 1 => .long 0
  | _ => .null
theorem cw_def (c : Nat) (C : String) (T : u_T) (N : Nat) (h : clW[c]? = some (C, T, N)) : ∃ ty : Nat → FieldType, (∀ k, k < N → parseFieldDescriptor (T k).2.2.1 = some (ty k)) ∧ ∀ k, k < N → defaultValue (ty k) = vp_V ((lay c).map dz) k := by
  match c, h with
  | 0, h => cases h; exact ⟨tyX0, tyX0_ok, fun k hk => (match k, hk with | 0, _ => rfl | 1, _ => rfl | 2, _ => rfl | 3, _ => rfl | 4, _ => rfl | 5, _ => rfl | 6, _ => rfl | 7, _ => rfl | 8, _ => rfl | k + 9, hk => absurd hk (by omega))⟩
  | 1, h => cases h; exact ⟨tyX1, tyX1_ok, fun k hk => (match k, hk with | 0, _ => rfl | 1, _ => rfl | 2, _ => rfl | 3, _ => rfl | 4, _ => rfl | 5, _ => rfl | 6, _ => rfl | 7, _ => rfl | 8, _ => rfl | 9, _ => rfl | k + 10, hk => absurd hk (by omega))⟩
  | 2, h => cases h; exact ⟨tyX3, tyX3_ok, fun k hk => (match k, hk with | 0, _ => rfl | 1, _ => rfl | 2, _ => rfl | 3, _ => rfl | 4, _ => rfl | 5, _ => rfl | 6, _ => rfl | 7, _ => rfl | 8, _ => rfl | 9, _ => rfl | 10, _ => rfl | 11, _ => rfl | 12, _ => rfl | 13, _ => rfl | 14, _ => rfl | 15, _ => rfl | 16, _ => rfl | 17, _ => rfl | 18, _ => rfl | 19, _ => rfl | k + 20, hk => absurd hk (by omega))⟩
  | 3, h => cases h; exact ⟨tyX4, tyX4_ok, fun k hk => (match k, hk with | 0, _ => rfl | 1, _ => rfl | 2, _ => rfl | k + 3, hk => absurd hk (by omega))⟩
  | 4, h => cases h; exact ⟨tyX5, tyX5_ok, fun k hk => (match k, hk with | 0, _ => rfl | 1, _ => rfl | 2, _ => rfl | k + 3, hk => absurd hk (by omega))⟩
  | 5, h => cases h; exact ⟨tyX6, tyX6_ok, fun k hk => (match k, hk with | 0, _ => rfl | 1, _ => rfl | 2, _ => rfl | 3, _ => rfl | 4, _ => rfl | 5, _ => rfl | 6, _ => rfl | 7, _ => rfl | k + 8, hk => absurd hk (by omega))⟩
  | 6, h => cases h; exact ⟨tyX8, tyX8_ok, fun k hk => (match k, hk with | 0, _ => rfl | 1, _ => rfl | k + 2, hk => absurd hk (by omega))⟩
  | 7, h => cases h; exact ⟨tyX9, tyX9_ok, fun k hk => (match k, hk with | 0, _ => rfl | 1, _ => rfl | 2, _ => rfl | k + 3, hk => absurd hk (by omega))⟩
  | 8, h => cases h; exact ⟨tyX10, tyX10_ok, fun k hk => (match k, hk with | 0, _ => rfl | 1, _ => rfl | 2, _ => rfl | 3, _ => rfl | k + 4, hk => absurd hk (by omega))⟩
  | 9, h => cases h; exact ⟨tyX11, tyX11_ok, fun k hk => (match k, hk with | 0, _ => rfl | 1, _ => rfl | 2, _ => rfl | 3, _ => rfl | k + 4, hk => absurd hk (by omega))⟩
  | 10, h => cases h; exact ⟨tyX12, tyX12_ok, fun k hk => (match k, hk with | 0, _ => rfl | 1, _ => rfl | k + 2, hk => absurd hk (by omega))⟩
  | 11, h => cases h; exact ⟨tyX13, tyX13_ok, fun k hk => (match k, hk with | 0, _ => rfl | 1, _ => rfl | 2, _ => rfl | 3, _ => rfl | 4, _ => rfl | 5, _ => rfl | 6, _ => rfl | k + 7, hk => absurd hk (by omega))⟩
  | 12, h => cases h; exact ⟨tyX14, tyX14_ok, fun k hk => (match k, hk with | 0, _ => rfl | 1, _ => rfl | 2, _ => rfl | 3, _ => rfl | 4, _ => rfl | 5, _ => rfl | 6, _ => rfl | 7, _ => rfl | k + 8, hk => absurd hk (by omega))⟩
  | 13, h => cases h; exact ⟨tyX15, tyX15_ok, fun k hk => (match k, hk with | 0, _ => rfl | 1, _ => rfl | 2, _ => rfl | 3, _ => rfl | 4, _ => rfl | 5, _ => rfl | 6, _ => rfl | 7, _ => rfl | k + 8, hk => absurd hk (by omega))⟩
  | 14, h => cases h; exact ⟨tyJ2, tyJ2_ok, fun k hk => (match k, hk with | 0, _ => rfl | 1, _ => rfl | 2, _ => rfl | 3, _ => rfl | k + 4, hk => absurd hk (by omega))⟩
  | 15, h => cases h; exact ⟨tyJ1, tyJ1_ok, fun k hk => (match k, hk with | 0, _ => rfl | 1, _ => rfl | 2, _ => rfl | 3, _ => rfl | k + 4, hk => absurd hk (by omega))⟩
  | c + 16, h => simp [clW] at h
/-- the class of a kind -/
def cn : Nat → String
  | 0 => RX0
  | 1 => RX1
  | 2 => RX3
  | 3 => RX4
  | 4 => RX5
  | 5 => RX6
  | 6 => RX8
  | 7 => RX9
  | 8 => RX10
  | 9 => RX11
  | 10 => RX12
  | 11 => RX13
  | 12 => RX14
  | 13 => RX15
  | 14 => RJ2
  | 15 => RJ1
  | _ => RJ2
theorem cn_ok (c : Nat) (hc : c < 16) : ∃ (T : u_T) (N : Nat), clW[c]? = some (cn c, T, N) := by
  match c, hc with
  | 0, _ => exact ⟨TX0, 9, rfl⟩
  | 1, _ => exact ⟨TX1, 10, rfl⟩
  | 2, _ => exact ⟨TX3, 20, rfl⟩
  | 3, _ => exact ⟨TX4, 3, rfl⟩
  | 4, _ => exact ⟨TX5, 3, rfl⟩
  | 5, _ => exact ⟨TX6, 8, rfl⟩
  | 6, _ => exact ⟨TX8, 2, rfl⟩
  | 7, _ => exact ⟨TX9, 3, rfl⟩
  | 8, _ => exact ⟨TX10, 4, rfl⟩
  | 9, _ => exact ⟨TX11, 4, rfl⟩
  | 10, _ => exact ⟨TX12, 2, rfl⟩
  | 11, _ => exact ⟨TX13, 7, rfl⟩
  | 12, _ => exact ⟨TX14, 8, rfl⟩
  | 13, _ => exact ⟨TX15, 8, rfl⟩
  | 14, _ => exact ⟨TJ2, 4, rfl⟩
  | 15, _ => exact ⟨TJ1, 4, rfl⟩
  | c + 16, h => exact absurd h (by omega)
theorem fe_0 : FE [0] 2 0 "ClassFileReader" "bytes" "[I" true := List.forall_mem_cons.mpr ⟨⟨RX0, TX0, 9, 0, by decide, rfl, by decide, rfl, rfl, rfl, rfl, rfl⟩, fun _ h => absurd h List.not_mem_nil⟩
theorem fe_1 : FE [0] 0 1 "ClassFileReader" "size" "I" false := List.forall_mem_cons.mpr ⟨⟨RX0, TX0, 9, 1, by decide, rfl, by decide, rfl, rfl, rfl, rfl, rfl⟩, fun _ h => absurd h List.not_mem_nil⟩
theorem fe_2 : FE [0] 0 2 "ClassFileReader" "at" "I" false := List.forall_mem_cons.mpr ⟨⟨RX0, TX0, 9, 2, by decide, rfl, by decide, rfl, rfl, rfl, rfl, rfl⟩, fun _ h => absurd h List.not_mem_nil⟩
theorem fe_3 : FE [0] 2 3 "ClassFileReader" "pool" "[LClassFileReader$Entry;" true := List.forall_mem_cons.mpr ⟨⟨RX0, TX0, 9, 3, by decide, rfl, by decide, rfl, rfl, rfl, rfl, rfl⟩, fun _ h => absurd h List.not_mem_nil⟩
theorem fe_4 : FE [0] 0 4 "ClassFileReader" "poolCount" "I" false := List.forall_mem_cons.mpr ⟨⟨RX0, TX0, 9, 4, by decide, rfl, by decide, rfl, rfl, rfl, rfl, rfl⟩, fun _ h => absurd h List.not_mem_nil⟩
theorem fe_5 : FE [0] 2 5 "ClassFileReader" "builder" "Ljava/lang/StringBuilder;" true := List.forall_mem_cons.mpr ⟨⟨RX0, TX0, 9, 5, by decide, rfl, by decide, rfl, rfl, rfl, rfl, rfl⟩, fun _ h => absurd h List.not_mem_nil⟩
theorem fe_6 : FE [0] 2 6 "ClassFileReader" "mirror" "LClassFileReader$Mirror;" false := List.forall_mem_cons.mpr ⟨⟨RX0, TX0, 9, 6, by decide, rfl, by decide, rfl, rfl, rfl, rfl, rfl⟩, fun _ h => absurd h List.not_mem_nil⟩
theorem fe_7 : FE [0] 2 7 "ClassFileReader" "fresh" "LClassFileReader$Mirror;" false := List.forall_mem_cons.mpr ⟨⟨RX0, TX0, 9, 7, by decide, rfl, by decide, rfl, rfl, rfl, rfl, rfl⟩, fun _ h => absurd h List.not_mem_nil⟩
theorem fe_8 : FE [0] 0 8 "ClassFileReader" "place" "I" false := List.forall_mem_cons.mpr ⟨⟨RX0, TX0, 9, 8, by decide, rfl, by decide, rfl, rfl, rfl, rfl, rfl⟩, fun _ h => absurd h List.not_mem_nil⟩
theorem fe_10 : FE [1] 2 10 "ClassFileReaderModel" "bytes" "[I" true := List.forall_mem_cons.mpr ⟨⟨RX1, TX1, 10, 0, by decide, rfl, by decide, rfl, rfl, rfl, rfl, rfl⟩, fun _ h => absurd h List.not_mem_nil⟩
theorem fe_11 : FE [1] 0 11 "ClassFileReaderModel" "size" "I" false := List.forall_mem_cons.mpr ⟨⟨RX1, TX1, 10, 1, by decide, rfl, by decide, rfl, rfl, rfl, rfl, rfl⟩, fun _ h => absurd h List.not_mem_nil⟩
theorem fe_12 : FE [1] 2 12 "ClassFileReaderModel" "notes" "[I" true := List.forall_mem_cons.mpr ⟨⟨RX1, TX1, 10, 2, by decide, rfl, by decide, rfl, rfl, rfl, rfl, rfl⟩, fun _ h => absurd h List.not_mem_nil⟩
theorem fe_13 : FE [1] 2 13 "ClassFileReaderModel" "mirror" "[I" true := List.forall_mem_cons.mpr ⟨⟨RX1, TX1, 10, 3, by decide, rfl, by decide, rfl, rfl, rfl, rfl, rfl⟩, fun _ h => absurd h List.not_mem_nil⟩
theorem fe_14 : FE [1] 2 14 "ClassFileReaderModel" "kept" "[I" true := List.forall_mem_cons.mpr ⟨⟨RX1, TX1, 10, 4, by decide, rfl, by decide, rfl, rfl, rfl, rfl, rfl⟩, fun _ h => absurd h List.not_mem_nil⟩
theorem fe_15 : FE [1] 0 15 "ClassFileReaderModel" "any" "Z" false := List.forall_mem_cons.mpr ⟨⟨RX1, TX1, 10, 5, by decide, rfl, by decide, rfl, rfl, rfl, rfl, rfl⟩, fun _ h => absurd h List.not_mem_nil⟩
theorem fe_16 : FE [1] 0 16 "ClassFileReaderModel" "mirrored" "Z" false := List.forall_mem_cons.mpr ⟨⟨RX1, TX1, 10, 6, by decide, rfl, by decide, rfl, rfl, rfl, rfl, rfl⟩, fun _ h => absurd h List.not_mem_nil⟩
theorem fe_17 : FE [1] 0 17 "ClassFileReaderModel" "at" "I" false := List.forall_mem_cons.mpr ⟨⟨RX1, TX1, 10, 7, by decide, rfl, by decide, rfl, rfl, rfl, rfl, rfl⟩, fun _ h => absurd h List.not_mem_nil⟩
theorem fe_18 : FE [1] 0 18 "ClassFileReaderModel" "code" "I" false := List.forall_mem_cons.mpr ⟨⟨RX1, TX1, 10, 8, by decide, rfl, by decide, rfl, rfl, rfl, rfl, rfl⟩, fun _ h => absurd h List.not_mem_nil⟩
theorem fe_19 : FE [1] 0 19 "ClassFileReaderModel" "wrong" "I" false := List.forall_mem_cons.mpr ⟨⟨RX1, TX1, 10, 9, by decide, rfl, by decide, rfl, rfl, rfl, rfl, rfl⟩, fun _ h => absurd h List.not_mem_nil⟩
theorem fe_20 : FE [2, 11, 12, 13] 2 20 "ClassFileReader$Holder" "signature" "Ljava/lang/String;" false := List.forall_mem_cons.mpr ⟨⟨RX3, TX3, 20, 0, by decide, rfl, by decide, rfl, rfl, rfl, rfl, rfl⟩, List.forall_mem_cons.mpr ⟨⟨RX13, TX13, 7, 0, by decide, rfl, by decide, rfl, rfl, rfl, rfl, rfl⟩, List.forall_mem_cons.mpr ⟨⟨RX14, TX14, 8, 0, by decide, rfl, by decide, rfl, rfl, rfl, rfl, rfl⟩, List.forall_mem_cons.mpr ⟨⟨RX15, TX15, 8, 0, by decide, rfl, by decide, rfl, rfl, rfl, rfl, rfl⟩, fun _ h => absurd h List.not_mem_nil⟩⟩⟩⟩
theorem fe_21 : FE [2, 11, 12, 13] 0 21 "ClassFileReader$Holder" "deprecated" "Z" false := List.forall_mem_cons.mpr ⟨⟨RX3, TX3, 20, 1, by decide, rfl, by decide, rfl, rfl, rfl, rfl, rfl⟩, List.forall_mem_cons.mpr ⟨⟨RX13, TX13, 7, 1, by decide, rfl, by decide, rfl, rfl, rfl, rfl, rfl⟩, List.forall_mem_cons.mpr ⟨⟨RX14, TX14, 8, 1, by decide, rfl, by decide, rfl, rfl, rfl, rfl, rfl⟩, List.forall_mem_cons.mpr ⟨⟨RX15, TX15, 8, 1, by decide, rfl, by decide, rfl, rfl, rfl, rfl, rfl⟩, fun _ h => absurd h List.not_mem_nil⟩⟩⟩⟩
theorem fe_22 : FE [2, 11, 12, 13] 0 22 "ClassFileReader$Holder" "seen" "I" false := List.forall_mem_cons.mpr ⟨⟨RX3, TX3, 20, 2, by decide, rfl, by decide, rfl, rfl, rfl, rfl, rfl⟩, List.forall_mem_cons.mpr ⟨⟨RX13, TX13, 7, 2, by decide, rfl, by decide, rfl, rfl, rfl, rfl, rfl⟩, List.forall_mem_cons.mpr ⟨⟨RX14, TX14, 8, 2, by decide, rfl, by decide, rfl, rfl, rfl, rfl, rfl⟩, List.forall_mem_cons.mpr ⟨⟨RX15, TX15, 8, 2, by decide, rfl, by decide, rfl, rfl, rfl, rfl, rfl⟩, fun _ h => absurd h List.not_mem_nil⟩⟩⟩⟩
theorem fe_23 : FE [2] 0 23 "ClassFileReader$Mirror" "major" "I" false := List.forall_mem_cons.mpr ⟨⟨RX3, TX3, 20, 3, by decide, rfl, by decide, rfl, rfl, rfl, rfl, rfl⟩, fun _ h => absurd h List.not_mem_nil⟩
theorem fe_24 : FE [2] 0 24 "ClassFileReader$Mirror" "flags" "I" false := List.forall_mem_cons.mpr ⟨⟨RX3, TX3, 20, 4, by decide, rfl, by decide, rfl, rfl, rfl, rfl, rfl⟩, fun _ h => absurd h List.not_mem_nil⟩
theorem fe_25 : FE [2] 0 25 "ClassFileReader$Mirror" "pool" "I" false := List.forall_mem_cons.mpr ⟨⟨RX3, TX3, 20, 5, by decide, rfl, by decide, rfl, rfl, rfl, rfl, rfl⟩, fun _ h => absurd h List.not_mem_nil⟩
theorem fe_26 : FE [2] 2 26 "ClassFileReader$Mirror" "name" "Ljava/lang/String;" false := List.forall_mem_cons.mpr ⟨⟨RX3, TX3, 20, 6, by decide, rfl, by decide, rfl, rfl, rfl, rfl, rfl⟩, fun _ h => absurd h List.not_mem_nil⟩
theorem fe_27 : FE [2] 2 27 "ClassFileReader$Mirror" "parent" "Ljava/lang/String;" false := List.forall_mem_cons.mpr ⟨⟨RX3, TX3, 20, 7, by decide, rfl, by decide, rfl, rfl, rfl, rfl, rfl⟩, fun _ h => absurd h List.not_mem_nil⟩
theorem fe_28 : FE [2] 2 28 "ClassFileReader$Mirror" "host" "Ljava/lang/String;" false := List.forall_mem_cons.mpr ⟨⟨RX3, TX3, 20, 8, by decide, rfl, by decide, rfl, rfl, rfl, rfl, rfl⟩, fun _ h => absurd h List.not_mem_nil⟩
theorem fe_29 : FE [2] 0 29 "ClassFileReader$Mirror" "record" "Z" false := List.forall_mem_cons.mpr ⟨⟨RX3, TX3, 20, 9, by decide, rfl, by decide, rfl, rfl, rfl, rfl, rfl⟩, fun _ h => absurd h List.not_mem_nil⟩
theorem fe_30 : FE [2] 2 30 "ClassFileReader$Mirror" "interfaces" "LClassFileReader$Links;" true := List.forall_mem_cons.mpr ⟨⟨RX3, TX3, 20, 10, by decide, rfl, by decide, rfl, rfl, rfl, rfl, rfl⟩, fun _ h => absurd h List.not_mem_nil⟩
theorem fe_31 : FE [2] 2 31 "ClassFileReader$Mirror" "fields" "LClassFileReader$Members;" true := List.forall_mem_cons.mpr ⟨⟨RX3, TX3, 20, 11, by decide, rfl, by decide, rfl, rfl, rfl, rfl, rfl⟩, fun _ h => absurd h List.not_mem_nil⟩
theorem fe_32 : FE [2] 2 32 "ClassFileReader$Mirror" "methods" "LClassFileReader$Members;" true := List.forall_mem_cons.mpr ⟨⟨RX3, TX3, 20, 12, by decide, rfl, by decide, rfl, rfl, rfl, rfl, rfl⟩, fun _ h => absurd h List.not_mem_nil⟩
theorem fe_33 : FE [2] 2 33 "ClassFileReader$Mirror" "components" "LClassFileReader$Members;" true := List.forall_mem_cons.mpr ⟨⟨RX3, TX3, 20, 13, by decide, rfl, by decide, rfl, rfl, rfl, rfl, rfl⟩, fun _ h => absurd h List.not_mem_nil⟩
theorem fe_34 : FE [2] 2 34 "ClassFileReader$Mirror" "inner" "LClassFileReader$Links;" true := List.forall_mem_cons.mpr ⟨⟨RX3, TX3, 20, 14, by decide, rfl, by decide, rfl, rfl, rfl, rfl, rfl⟩, fun _ h => absurd h List.not_mem_nil⟩
theorem fe_35 : FE [2] 2 35 "ClassFileReader$Mirror" "outer" "LClassFileReader$Links;" true := List.forall_mem_cons.mpr ⟨⟨RX3, TX3, 20, 15, by decide, rfl, by decide, rfl, rfl, rfl, rfl, rfl⟩, fun _ h => absurd h List.not_mem_nil⟩
theorem fe_36 : FE [2] 2 36 "ClassFileReader$Mirror" "simple" "LClassFileReader$Links;" true := List.forall_mem_cons.mpr ⟨⟨RX3, TX3, 20, 16, by decide, rfl, by decide, rfl, rfl, rfl, rfl, rfl⟩, fun _ h => absurd h List.not_mem_nil⟩
theorem fe_37 : FE [2] 2 37 "ClassFileReader$Mirror" "innerFlags" "[I" true := List.forall_mem_cons.mpr ⟨⟨RX3, TX3, 20, 17, by decide, rfl, by decide, rfl, rfl, rfl, rfl, rfl⟩, fun _ h => absurd h List.not_mem_nil⟩
theorem fe_38 : FE [2] 2 38 "ClassFileReader$Mirror" "mates" "LClassFileReader$Links;" true := List.forall_mem_cons.mpr ⟨⟨RX3, TX3, 20, 18, by decide, rfl, by decide, rfl, rfl, rfl, rfl, rfl⟩, fun _ h => absurd h List.not_mem_nil⟩
theorem fe_39 : FE [2] 2 39 "ClassFileReader$Mirror" "permitted" "LClassFileReader$Links;" true := List.forall_mem_cons.mpr ⟨⟨RX3, TX3, 20, 19, by decide, rfl, by decide, rfl, rfl, rfl, rfl, rfl⟩, fun _ h => absurd h List.not_mem_nil⟩
theorem fe_40 : FE [3] 2 40 "ClassFileReader$Links" "first" "LClassFileReader$Link;" false := List.forall_mem_cons.mpr ⟨⟨RX4, TX4, 3, 0, by decide, rfl, by decide, rfl, rfl, rfl, rfl, rfl⟩, fun _ h => absurd h List.not_mem_nil⟩
theorem fe_41 : FE [3] 2 41 "ClassFileReader$Links" "last" "LClassFileReader$Link;" false := List.forall_mem_cons.mpr ⟨⟨RX4, TX4, 3, 1, by decide, rfl, by decide, rfl, rfl, rfl, rfl, rfl⟩, fun _ h => absurd h List.not_mem_nil⟩
theorem fe_42 : FE [3] 0 42 "ClassFileReader$Links" "count" "I" false := List.forall_mem_cons.mpr ⟨⟨RX4, TX4, 3, 2, by decide, rfl, by decide, rfl, rfl, rfl, rfl, rfl⟩, fun _ h => absurd h List.not_mem_nil⟩
theorem fe_43 : FE [4] 2 43 "ClassFileReader$Members" "first" "LClassFileReader$Member;" false := List.forall_mem_cons.mpr ⟨⟨RX5, TX5, 3, 0, by decide, rfl, by decide, rfl, rfl, rfl, rfl, rfl⟩, fun _ h => absurd h List.not_mem_nil⟩
theorem fe_44 : FE [4] 2 44 "ClassFileReader$Members" "last" "LClassFileReader$Member;" false := List.forall_mem_cons.mpr ⟨⟨RX5, TX5, 3, 1, by decide, rfl, by decide, rfl, rfl, rfl, rfl, rfl⟩, fun _ h => absurd h List.not_mem_nil⟩
theorem fe_45 : FE [4] 0 45 "ClassFileReader$Members" "count" "I" false := List.forall_mem_cons.mpr ⟨⟨RX5, TX5, 3, 2, by decide, rfl, by decide, rfl, rfl, rfl, rfl, rfl⟩, fun _ h => absurd h List.not_mem_nil⟩
theorem fe_54 : FE [6, 7, 8, 9] 0 54 "ClassFileReader$Entry" "place" "I" true := List.forall_mem_cons.mpr ⟨⟨RX8, TX8, 2, 0, by decide, rfl, by decide, rfl, rfl, rfl, rfl, rfl⟩, List.forall_mem_cons.mpr ⟨⟨RX9, TX9, 3, 0, by decide, rfl, by decide, rfl, rfl, rfl, rfl, rfl⟩, List.forall_mem_cons.mpr ⟨⟨RX10, TX10, 4, 0, by decide, rfl, by decide, rfl, rfl, rfl, rfl, rfl⟩, List.forall_mem_cons.mpr ⟨⟨RX11, TX11, 4, 0, by decide, rfl, by decide, rfl, rfl, rfl, rfl, rfl⟩, fun _ h => absurd h List.not_mem_nil⟩⟩⟩⟩
theorem fe_55 : FE [6] 2 55 "ClassFileReader$Text" "text" "Ljava/lang/String;" true := List.forall_mem_cons.mpr ⟨⟨RX8, TX8, 2, 1, by decide, rfl, by decide, rfl, rfl, rfl, rfl, rfl⟩, fun _ h => absurd h List.not_mem_nil⟩
theorem fe_56 : FE [7] 0 56 "ClassFileReader$Constant" "tag" "I" true := List.forall_mem_cons.mpr ⟨⟨RX9, TX9, 3, 1, by decide, rfl, by decide, rfl, rfl, rfl, rfl, rfl⟩, fun _ h => absurd h List.not_mem_nil⟩
theorem fe_57 : FE [7] 1 57 "ClassFileReader$Constant" "value" "J" true := List.forall_mem_cons.mpr ⟨⟨RX9, TX9, 3, 2, by decide, rfl, by decide, rfl, rfl, rfl, rfl, rfl⟩, fun _ h => absurd h List.not_mem_nil⟩
theorem fe_58 : FE [8] 0 58 "ClassFileReader$Named" "type" "Z" true := List.forall_mem_cons.mpr ⟨⟨RX10, TX10, 4, 1, by decide, rfl, by decide, rfl, rfl, rfl, rfl, rfl⟩, fun _ h => absurd h List.not_mem_nil⟩
theorem fe_59 : FE [8] 0 59 "ClassFileReader$Named" "index" "I" true := List.forall_mem_cons.mpr ⟨⟨RX10, TX10, 4, 2, by decide, rfl, by decide, rfl, rfl, rfl, rfl, rfl⟩, fun _ h => absurd h List.not_mem_nil⟩
theorem fe_60 : FE [8] 2 60 "ClassFileReader$Named" "text" "Ljava/lang/String;" false := List.forall_mem_cons.mpr ⟨⟨RX10, TX10, 4, 3, by decide, rfl, by decide, rfl, rfl, rfl, rfl, rfl⟩, fun _ h => absurd h List.not_mem_nil⟩
theorem fe_61 : FE [9] 0 61 "ClassFileReader$Pair" "nameType" "Z" true := List.forall_mem_cons.mpr ⟨⟨RX11, TX11, 4, 1, by decide, rfl, by decide, rfl, rfl, rfl, rfl, rfl⟩, fun _ h => absurd h List.not_mem_nil⟩
theorem fe_62 : FE [9] 0 62 "ClassFileReader$Pair" "first" "I" true := List.forall_mem_cons.mpr ⟨⟨RX11, TX11, 4, 2, by decide, rfl, by decide, rfl, rfl, rfl, rfl, rfl⟩, fun _ h => absurd h List.not_mem_nil⟩
theorem fe_63 : FE [9] 0 63 "ClassFileReader$Pair" "second" "I" true := List.forall_mem_cons.mpr ⟨⟨RX11, TX11, 4, 3, by decide, rfl, by decide, rfl, rfl, rfl, rfl, rfl⟩, fun _ h => absurd h List.not_mem_nil⟩
theorem fe_64 : FE [10] 2 64 "ClassFileReader$Link" "text" "Ljava/lang/String;" true := List.forall_mem_cons.mpr ⟨⟨RX12, TX12, 2, 0, by decide, rfl, by decide, rfl, rfl, rfl, rfl, rfl⟩, fun _ h => absurd h List.not_mem_nil⟩
theorem fe_65 : FE [10] 2 65 "ClassFileReader$Link" "next" "LClassFileReader$Link;" false := List.forall_mem_cons.mpr ⟨⟨RX12, TX12, 2, 1, by decide, rfl, by decide, rfl, rfl, rfl, rfl, rfl⟩, fun _ h => absurd h List.not_mem_nil⟩
theorem fe_66 : FE [11, 12, 13] 0 66 "ClassFileReader$Member" "flags" "I" true := List.forall_mem_cons.mpr ⟨⟨RX13, TX13, 7, 3, by decide, rfl, by decide, rfl, rfl, rfl, rfl, rfl⟩, List.forall_mem_cons.mpr ⟨⟨RX14, TX14, 8, 3, by decide, rfl, by decide, rfl, rfl, rfl, rfl, rfl⟩, List.forall_mem_cons.mpr ⟨⟨RX15, TX15, 8, 3, by decide, rfl, by decide, rfl, rfl, rfl, rfl, rfl⟩, fun _ h => absurd h List.not_mem_nil⟩⟩⟩
theorem fe_67 : FE [11, 12, 13] 2 67 "ClassFileReader$Member" "name" "Ljava/lang/String;" true := List.forall_mem_cons.mpr ⟨⟨RX13, TX13, 7, 4, by decide, rfl, by decide, rfl, rfl, rfl, rfl, rfl⟩, List.forall_mem_cons.mpr ⟨⟨RX14, TX14, 8, 4, by decide, rfl, by decide, rfl, rfl, rfl, rfl, rfl⟩, List.forall_mem_cons.mpr ⟨⟨RX15, TX15, 8, 4, by decide, rfl, by decide, rfl, rfl, rfl, rfl, rfl⟩, fun _ h => absurd h List.not_mem_nil⟩⟩⟩
theorem fe_68 : FE [11, 12, 13] 2 68 "ClassFileReader$Member" "type" "Ljava/lang/String;" true := List.forall_mem_cons.mpr ⟨⟨RX13, TX13, 7, 5, by decide, rfl, by decide, rfl, rfl, rfl, rfl, rfl⟩, List.forall_mem_cons.mpr ⟨⟨RX14, TX14, 8, 5, by decide, rfl, by decide, rfl, rfl, rfl, rfl, rfl⟩, List.forall_mem_cons.mpr ⟨⟨RX15, TX15, 8, 5, by decide, rfl, by decide, rfl, rfl, rfl, rfl, rfl⟩, fun _ h => absurd h List.not_mem_nil⟩⟩⟩
theorem fe_69 : FE [11, 12, 13] 2 69 "ClassFileReader$Member" "next" "LClassFileReader$Member;" false := List.forall_mem_cons.mpr ⟨⟨RX13, TX13, 7, 6, by decide, rfl, by decide, rfl, rfl, rfl, rfl, rfl⟩, List.forall_mem_cons.mpr ⟨⟨RX14, TX14, 8, 6, by decide, rfl, by decide, rfl, rfl, rfl, rfl, rfl⟩, List.forall_mem_cons.mpr ⟨⟨RX15, TX15, 8, 6, by decide, rfl, by decide, rfl, rfl, rfl, rfl, rfl⟩, fun _ h => absurd h List.not_mem_nil⟩⟩⟩
theorem fe_70 : FE [12] 2 70 "ClassFileReader$Method" "exceptions" "LClassFileReader$Links;" true := List.forall_mem_cons.mpr ⟨⟨RX14, TX14, 8, 7, by decide, rfl, by decide, rfl, rfl, rfl, rfl, rfl⟩, fun _ h => absurd h List.not_mem_nil⟩
theorem fe_71 : FE [13] 1 71 "ClassFileReader$Field" "constant" "J" false := List.forall_mem_cons.mpr ⟨⟨RX15, TX15, 8, 7, by decide, rfl, by decide, rfl, rfl, rfl, rfl, rfl⟩, fun _ h => absurd h List.not_mem_nil⟩
theorem fe_72 : FE [17] 2 72 "java/lang/String" "value" "[B" true := List.forall_mem_cons.mpr ⟨⟨RJ2, TJ2, 4, 0, by decide, rfl, by decide, rfl, rfl, rfl, rfl, rfl⟩, fun _ h => absurd h List.not_mem_nil⟩
theorem fe_73 : FE [17] 0 73 "java/lang/String" "coder" "B" true := List.forall_mem_cons.mpr ⟨⟨RJ2, TJ2, 4, 1, by decide, rfl, by decide, rfl, rfl, rfl, rfl, rfl⟩, fun _ h => absurd h List.not_mem_nil⟩
theorem fe_74 : FE [17] 0 74 "java/lang/String" "hash" "I" false := List.forall_mem_cons.mpr ⟨⟨RJ2, TJ2, 4, 2, by decide, rfl, by decide, rfl, rfl, rfl, rfl, rfl⟩, fun _ h => absurd h List.not_mem_nil⟩
theorem fe_75 : FE [17] 0 75 "java/lang/String" "hashIsZero" "Z" false := List.forall_mem_cons.mpr ⟨⟨RJ2, TJ2, 4, 3, by decide, rfl, by decide, rfl, rfl, rfl, rfl, rfl⟩, fun _ h => absurd h List.not_mem_nil⟩
theorem fe_76 : FE [15] 2 76 "java/lang/AbstractStringBuilder" "value" "[B" false := List.forall_mem_cons.mpr ⟨⟨RJ1, TJ1, 4, 0, by decide, rfl, by decide, rfl, rfl, rfl, rfl, rfl⟩, fun _ h => absurd h List.not_mem_nil⟩
theorem fe_77 : FE [15] 0 77 "java/lang/AbstractStringBuilder" "coder" "B" false := List.forall_mem_cons.mpr ⟨⟨RJ1, TJ1, 4, 1, by decide, rfl, by decide, rfl, rfl, rfl, rfl, rfl⟩, fun _ h => absurd h List.not_mem_nil⟩
theorem fe_78 : FE [15] 0 78 "java/lang/AbstractStringBuilder" "maybeLatin1" "Z" false := List.forall_mem_cons.mpr ⟨⟨RJ1, TJ1, 4, 2, by decide, rfl, by decide, rfl, rfl, rfl, rfl, rfl⟩, fun _ h => absurd h List.not_mem_nil⟩
theorem fe_79 : FE [15] 0 79 "java/lang/AbstractStringBuilder" "count" "I" false := List.forall_mem_cons.mpr ⟨⟨RJ1, TJ1, 4, 3, by decide, rfl, by decide, rfl, rfl, rfl, rfl, rfl⟩, fun _ h => absurd h List.not_mem_nil⟩
