set_option maxRecDepth 100000
theorem pd_0 : parseFieldDescriptor "[I" = some (.array .int) := by decide +kernel
theorem pd_3 : parseFieldDescriptor "[LClassFileReader$Entry;" = some (.array (.object "ClassFileReader$Entry")) := by decide +kernel
theorem pd_5 : parseFieldDescriptor "Ljava/lang/StringBuilder;" = some (.object "java/lang/StringBuilder") := by decide +kernel
theorem pd_6 : parseFieldDescriptor "LClassFileReader$Mirror;" = some (.object "ClassFileReader$Mirror") := by decide +kernel
theorem pd_7 : parseFieldDescriptor "LClassFileReader$Mirror;" = some (.object "ClassFileReader$Mirror") := by decide +kernel
theorem pd_10 : parseFieldDescriptor "[I" = some (.array .int) := by decide +kernel
theorem pd_12 : parseFieldDescriptor "[I" = some (.array .int) := by decide +kernel
theorem pd_13 : parseFieldDescriptor "[I" = some (.array .int) := by decide +kernel
theorem pd_14 : parseFieldDescriptor "[I" = some (.array .int) := by decide +kernel
theorem pd_20 : parseFieldDescriptor "Ljava/lang/String;" = some (.object "java/lang/String") := by decide +kernel
theorem pd_26 : parseFieldDescriptor "Ljava/lang/String;" = some (.object "java/lang/String") := by decide +kernel
theorem pd_27 : parseFieldDescriptor "Ljava/lang/String;" = some (.object "java/lang/String") := by decide +kernel
theorem pd_28 : parseFieldDescriptor "Ljava/lang/String;" = some (.object "java/lang/String") := by decide +kernel
theorem pd_30 : parseFieldDescriptor "LClassFileReader$Links;" = some (.object "ClassFileReader$Links") := by decide +kernel
theorem pd_31 : parseFieldDescriptor "LClassFileReader$Members;" = some (.object "ClassFileReader$Members") := by decide +kernel
theorem pd_32 : parseFieldDescriptor "LClassFileReader$Members;" = some (.object "ClassFileReader$Members") := by decide +kernel
theorem pd_33 : parseFieldDescriptor "LClassFileReader$Members;" = some (.object "ClassFileReader$Members") := by decide +kernel
theorem pd_34 : parseFieldDescriptor "LClassFileReader$Links;" = some (.object "ClassFileReader$Links") := by decide +kernel
theorem pd_35 : parseFieldDescriptor "LClassFileReader$Links;" = some (.object "ClassFileReader$Links") := by decide +kernel
theorem pd_36 : parseFieldDescriptor "LClassFileReader$Links;" = some (.object "ClassFileReader$Links") := by decide +kernel
theorem pd_37 : parseFieldDescriptor "[I" = some (.array .int) := by decide +kernel
theorem pd_38 : parseFieldDescriptor "LClassFileReader$Links;" = some (.object "ClassFileReader$Links") := by decide +kernel
theorem pd_39 : parseFieldDescriptor "LClassFileReader$Links;" = some (.object "ClassFileReader$Links") := by decide +kernel
theorem pd_40 : parseFieldDescriptor "LClassFileReader$Link;" = some (.object "ClassFileReader$Link") := by decide +kernel
theorem pd_41 : parseFieldDescriptor "LClassFileReader$Link;" = some (.object "ClassFileReader$Link") := by decide +kernel
theorem pd_43 : parseFieldDescriptor "LClassFileReader$Member;" = some (.object "ClassFileReader$Member") := by decide +kernel
theorem pd_44 : parseFieldDescriptor "LClassFileReader$Member;" = some (.object "ClassFileReader$Member") := by decide +kernel
theorem pd_55 : parseFieldDescriptor "Ljava/lang/String;" = some (.object "java/lang/String") := by decide +kernel
theorem pd_60 : parseFieldDescriptor "Ljava/lang/String;" = some (.object "java/lang/String") := by decide +kernel
theorem pd_64 : parseFieldDescriptor "Ljava/lang/String;" = some (.object "java/lang/String") := by decide +kernel
theorem pd_65 : parseFieldDescriptor "LClassFileReader$Link;" = some (.object "ClassFileReader$Link") := by decide +kernel
theorem pd_67 : parseFieldDescriptor "Ljava/lang/String;" = some (.object "java/lang/String") := by decide +kernel
theorem pd_68 : parseFieldDescriptor "Ljava/lang/String;" = some (.object "java/lang/String") := by decide +kernel
theorem pd_69 : parseFieldDescriptor "LClassFileReader$Member;" = some (.object "ClassFileReader$Member") := by decide +kernel
theorem pd_70 : parseFieldDescriptor "LClassFileReader$Links;" = some (.object "ClassFileReader$Links") := by decide +kernel
theorem pd_72 : parseFieldDescriptor "[B" = some (.array .byte) := by decide +kernel
theorem pd_76 : parseFieldDescriptor "[B" = some (.array .byte) := by decide +kernel
theorem cast_Entry : ∀ c ∈ [6, 7, 8, 9], ob c = true ∧ Cond.castable (cn (ck c)) "ClassFileReader$Entry" ∈ lw_tbl := List.forall_mem_cons.mpr ⟨⟨rfl, q1431⟩, List.forall_mem_cons.mpr ⟨⟨rfl, q1432⟩, List.forall_mem_cons.mpr ⟨⟨rfl, q1433⟩, List.forall_mem_cons.mpr ⟨⟨rfl, q1434⟩, fun _ h => absurd h List.not_mem_nil⟩⟩⟩⟩
theorem cast_Text : ∀ c ∈ [6], ob c = true ∧ (cn (ck c) = "ClassFileReader$Text" ∨ Cond.castable (cn (ck c)) "ClassFileReader$Text" ∈ lw_tbl) := List.forall_mem_cons.mpr ⟨⟨rfl, Or.inl rfl⟩, fun _ h => absurd h List.not_mem_nil⟩
theorem nocast_Text : ∀ c ∈ ([7, 8, 9] : List Nat), ob c = true ∧ (cn (ck c), "ClassFileReader$Text") ∈ ncW ∧ ¬ c ∈ [6] := List.forall_mem_cons.mpr ⟨⟨rfl, List.mem_of_getElem? (i := 3) rfl, by decide⟩, List.forall_mem_cons.mpr ⟨⟨rfl, List.mem_of_getElem? (i := 6) rfl, by decide⟩, List.forall_mem_cons.mpr ⟨⟨rfl, List.mem_of_getElem? (i := 9) rfl, by decide⟩, fun _ h => absurd h List.not_mem_nil⟩⟩⟩
theorem cast_Constant : ∀ c ∈ [7], ob c = true ∧ (cn (ck c) = "ClassFileReader$Constant" ∨ Cond.castable (cn (ck c)) "ClassFileReader$Constant" ∈ lw_tbl) := List.forall_mem_cons.mpr ⟨⟨rfl, Or.inl rfl⟩, fun _ h => absurd h List.not_mem_nil⟩
theorem nocast_Constant : ∀ c ∈ ([6, 8, 9] : List Nat), ob c = true ∧ (cn (ck c), "ClassFileReader$Constant") ∈ ncW ∧ ¬ c ∈ [7] := List.forall_mem_cons.mpr ⟨⟨rfl, List.mem_of_getElem? (i := 2) rfl, by decide⟩, List.forall_mem_cons.mpr ⟨⟨rfl, List.mem_of_getElem? (i := 7) rfl, by decide⟩, List.forall_mem_cons.mpr ⟨⟨rfl, List.mem_of_getElem? (i := 10) rfl, by decide⟩, fun _ h => absurd h List.not_mem_nil⟩⟩⟩
theorem cast_Named : ∀ c ∈ [8], ob c = true ∧ (cn (ck c) = "ClassFileReader$Named" ∨ Cond.castable (cn (ck c)) "ClassFileReader$Named" ∈ lw_tbl) := List.forall_mem_cons.mpr ⟨⟨rfl, Or.inl rfl⟩, fun _ h => absurd h List.not_mem_nil⟩
theorem nocast_Named : ∀ c ∈ ([6, 7, 9] : List Nat), ob c = true ∧ (cn (ck c), "ClassFileReader$Named") ∈ ncW ∧ ¬ c ∈ [8] := List.forall_mem_cons.mpr ⟨⟨rfl, List.mem_of_getElem? (i := 0) rfl, by decide⟩, List.forall_mem_cons.mpr ⟨⟨rfl, List.mem_of_getElem? (i := 4) rfl, by decide⟩, List.forall_mem_cons.mpr ⟨⟨rfl, List.mem_of_getElem? (i := 11) rfl, by decide⟩, fun _ h => absurd h List.not_mem_nil⟩⟩⟩
theorem cast_Pair : ∀ c ∈ [9], ob c = true ∧ (cn (ck c) = "ClassFileReader$Pair" ∨ Cond.castable (cn (ck c)) "ClassFileReader$Pair" ∈ lw_tbl) := List.forall_mem_cons.mpr ⟨⟨rfl, Or.inl rfl⟩, fun _ h => absurd h List.not_mem_nil⟩
theorem nocast_Pair : ∀ c ∈ ([6, 7, 8] : List Nat), ob c = true ∧ (cn (ck c), "ClassFileReader$Pair") ∈ ncW ∧ ¬ c ∈ [9] := List.forall_mem_cons.mpr ⟨⟨rfl, List.mem_of_getElem? (i := 1) rfl, by decide⟩, List.forall_mem_cons.mpr ⟨⟨rfl, List.mem_of_getElem? (i := 5) rfl, by decide⟩, List.forall_mem_cons.mpr ⟨⟨rfl, List.mem_of_getElem? (i := 8) rfl, by decide⟩, fun _ h => absurd h List.not_mem_nil⟩⟩⟩
theorem cast_Method : ∀ c ∈ [12], ob c = true ∧ (cn (ck c) = "ClassFileReader$Method" ∨ Cond.castable (cn (ck c)) "ClassFileReader$Method" ∈ lw_tbl) := List.forall_mem_cons.mpr ⟨⟨rfl, Or.inl rfl⟩, fun _ h => absurd h List.not_mem_nil⟩
theorem nocast_Method : ∀ c ∈ ([] : List Nat), ob c = true ∧ (cn (ck c), "ClassFileReader$Method") ∈ ncW ∧ ¬ c ∈ [12] := fun _ h => absurd h List.not_mem_nil
theorem cast_Field : ∀ c ∈ [13], ob c = true ∧ (cn (ck c) = "ClassFileReader$Field" ∨ Cond.castable (cn (ck c)) "ClassFileReader$Field" ∈ lw_tbl) := List.forall_mem_cons.mpr ⟨⟨rfl, Or.inl rfl⟩, fun _ h => absurd h List.not_mem_nil⟩
theorem nocast_Field : ∀ c ∈ ([] : List Nat), ob c = true ∧ (cn (ck c), "ClassFileReader$Field") ∈ ncW ∧ ¬ c ∈ [13] := fun _ h => absurd h List.not_mem_nil
theorem cast_Mirror : ∀ c ∈ [2], ob c = true ∧ (cn (ck c) = "ClassFileReader$Mirror" ∨ Cond.castable (cn (ck c)) "ClassFileReader$Mirror" ∈ lw_tbl) := List.forall_mem_cons.mpr ⟨⟨rfl, Or.inl rfl⟩, fun _ h => absurd h List.not_mem_nil⟩
theorem nocast_Mirror : ∀ c ∈ ([] : List Nat), ob c = true ∧ (cn (ck c), "ClassFileReader$Mirror") ∈ ncW ∧ ¬ c ∈ [2] := fun _ h => absurd h List.not_mem_nil
section YT2
variable {I : Iv} {own : String} {cc : ByteArray} {nL : Nat} {ret : Option FieldType} {d : Nat} {hs : List (Nat × Nat × Nat × Nat)} {ini : Bool} {O : OA → HS → Prop} {pc : Nat} {ls : List (Option AV)} {st : List AV} {S : HS}
theorem y_strVal14 {a idx : Nat} {t : List Int32} (cx : Cx I own cc nL ret d hs ini) (hq : Cond.fieldLink own idx "java/lang/String" "value" "[B" ∈ lw_all) (hd : decode cc pc = .ok (.getfield idx, 3)) (k : ∀ w, tok t → Y Eq I O (pc + 3) ls (vR (some (104, w, t)) :: st) S) : Y Eq I O pc ls (vR (some (14, a, t)) :: st) S := by
  obtain ⟨p, l, e, R, s, m, args, below, meth, c0, G, S0⟩ := I
  obtain ⟨hx, hb, hml, hown, hts, hE, -⟩ := cx
  intro S' H locs la hS hbs hv hw1 hw2
  subst hS
  have htk := hbs.1.tok hw2.1 (Or.inl rfl)
  obtain ⟨-, v, x, z, hat, hv4, -⟩ := hbs.1.str hw2.1
  exact w_getf (ci := 14) (kk := 0) (C := RJ2) (T := TJ2) (N := 4) (ref := "java/lang/String") hx hb hown hts hE rfl (by decide) hat rfl (Or.inl hq) (Or.inl rfl) hd (k v htk S H locs la rfl hbs hv hw1 ⟨hv4, hw2.2⟩)
end YT2
