set_option maxRecDepth 100000
set_option maxHeartbeats 4000000
/-! java/lang/Integer.bitCount -/
theorem dJ12_bitCount_0 : decode cJ12_bitCount 0 = .ok (.iload_n 0, 1) := by decide +kernel
theorem dJ12_bitCount_1 : decode cJ12_bitCount 1 = .ok (.iload_n 0, 1) := by decide +kernel
theorem dJ12_bitCount_2 : decode cJ12_bitCount 2 = .ok (.iconst 1, 1) := by decide +kernel
theorem dJ12_bitCount_3 : decode cJ12_bitCount 3 = .ok (.iushr, 1) := by decide +kernel
theorem dJ12_bitCount_4 : decode cJ12_bitCount 4 = .ok (.ldc_w 265, 3) := by decide +kernel
theorem dJ12_bitCount_7 : decode cJ12_bitCount 7 = .ok (.iand, 1) := by decide +kernel
theorem dJ12_bitCount_8 : decode cJ12_bitCount 8 = .ok (.isub, 1) := by decide +kernel
theorem dJ12_bitCount_9 : decode cJ12_bitCount 9 = .ok (.istore_n 0, 1) := by decide +kernel
theorem dJ12_bitCount_10 : decode cJ12_bitCount 10 = .ok (.iload_n 0, 1) := by decide +kernel
theorem dJ12_bitCount_11 : decode cJ12_bitCount 11 = .ok (.ldc_w 266, 3) := by decide +kernel
theorem dJ12_bitCount_14 : decode cJ12_bitCount 14 = .ok (.iand, 1) := by decide +kernel
theorem dJ12_bitCount_15 : decode cJ12_bitCount 15 = .ok (.iload_n 0, 1) := by decide +kernel
theorem dJ12_bitCount_16 : decode cJ12_bitCount 16 = .ok (.iconst 2, 1) := by decide +kernel
theorem dJ12_bitCount_17 : decode cJ12_bitCount 17 = .ok (.iushr, 1) := by decide +kernel
theorem dJ12_bitCount_18 : decode cJ12_bitCount 18 = .ok (.ldc_w 266, 3) := by decide +kernel
theorem dJ12_bitCount_21 : decode cJ12_bitCount 21 = .ok (.iand, 1) := by decide +kernel
theorem dJ12_bitCount_22 : decode cJ12_bitCount 22 = .ok (.iadd, 1) := by decide +kernel
theorem dJ12_bitCount_23 : decode cJ12_bitCount 23 = .ok (.istore_n 0, 1) := by decide +kernel
theorem dJ12_bitCount_24 : decode cJ12_bitCount 24 = .ok (.iload_n 0, 1) := by decide +kernel
theorem dJ12_bitCount_25 : decode cJ12_bitCount 25 = .ok (.iload_n 0, 1) := by decide +kernel
theorem dJ12_bitCount_26 : decode cJ12_bitCount 26 = .ok (.iconst 4, 1) := by decide +kernel
theorem dJ12_bitCount_27 : decode cJ12_bitCount 27 = .ok (.iushr, 1) := by decide +kernel
theorem dJ12_bitCount_28 : decode cJ12_bitCount 28 = .ok (.iadd, 1) := by decide +kernel
theorem dJ12_bitCount_29 : decode cJ12_bitCount 29 = .ok (.ldc_w 267, 3) := by decide +kernel
theorem dJ12_bitCount_32 : decode cJ12_bitCount 32 = .ok (.iand, 1) := by decide +kernel
theorem dJ12_bitCount_33 : decode cJ12_bitCount 33 = .ok (.istore_n 0, 1) := by decide +kernel
theorem dJ12_bitCount_34 : decode cJ12_bitCount 34 = .ok (.iload_n 0, 1) := by decide +kernel
theorem dJ12_bitCount_35 : decode cJ12_bitCount 35 = .ok (.iload_n 0, 1) := by decide +kernel
theorem dJ12_bitCount_36 : decode cJ12_bitCount 36 = .ok (.bipush 8, 2) := by decide +kernel
theorem dJ12_bitCount_38 : decode cJ12_bitCount 38 = .ok (.iushr, 1) := by decide +kernel
theorem dJ12_bitCount_39 : decode cJ12_bitCount 39 = .ok (.iadd, 1) := by decide +kernel
theorem dJ12_bitCount_40 : decode cJ12_bitCount 40 = .ok (.istore_n 0, 1) := by decide +kernel
theorem dJ12_bitCount_41 : decode cJ12_bitCount 41 = .ok (.iload_n 0, 1) := by decide +kernel
theorem dJ12_bitCount_42 : decode cJ12_bitCount 42 = .ok (.iload_n 0, 1) := by decide +kernel
theorem dJ12_bitCount_43 : decode cJ12_bitCount 43 = .ok (.bipush 16, 2) := by decide +kernel
theorem dJ12_bitCount_45 : decode cJ12_bitCount 45 = .ok (.iushr, 1) := by decide +kernel
theorem dJ12_bitCount_46 : decode cJ12_bitCount 46 = .ok (.iadd, 1) := by decide +kernel
theorem dJ12_bitCount_47 : decode cJ12_bitCount 47 = .ok (.istore_n 0, 1) := by decide +kernel
theorem dJ12_bitCount_48 : decode cJ12_bitCount 48 = .ok (.iload_n 0, 1) := by decide +kernel
theorem dJ12_bitCount_49 : decode cJ12_bitCount 49 = .ok (.bipush 63, 2) := by decide +kernel
theorem dJ12_bitCount_51 : decode cJ12_bitCount 51 = .ok (.iand, 1) := by decide +kernel
theorem dJ12_bitCount_52 : decode cJ12_bitCount 52 = .ok (.ireturn, 1) := by decide +kernel
def w_J12_bitCount {σ : Type} (l0 : Int32) (x : σ) (N : Int32 → σ → Prop) : Prop :=
  ∀ v1, v1 = (l0 - (((l0.toUInt32 >>> ((1 : Int32).toUInt32 &&& Int32.toUInt32 31)).toInt32) &&& (1431655765 : Int32))) → ∀ v3, v3 = ((v1 &&& (858993459 : Int32)) + (((v1.toUInt32 >>> ((2 : Int32).toUInt32 &&& Int32.toUInt32 31)).toInt32) &&& (858993459 : Int32))) → ∀ v5, v5 = ((v3 + ((v3.toUInt32 >>> ((4 : Int32).toUInt32 &&& Int32.toUInt32 31)).toInt32)) &&& (252645135 : Int32)) → ∀ v7, v7 = (v5 + ((v5.toUInt32 >>> ((8 : Int32).toUInt32 &&& Int32.toUInt32 31)).toInt32)) → ∀ v9, v9 = (v7 + ((v7.toUInt32 >>> ((16 : Int32).toUInt32 &&& Int32.toUInt32 31)).toInt32)) → N (v9 &&& (63 : Int32)) x
theorem ct_J12_bitCount {l : Launch} {G : GT} {σ : Type} {ρ : σ → HS → Prop} (l0 : Int32) (x : σ) (N : Int32 → σ → Prop) (h : w_J12_bitCount l0 x N) : Ct ρ l yJ12_bitCount (ws_ yJ12_bitCount cJ12_bitCount 1 (some .int)) 1 G [vI l0] x (oI N (fun _ _ => False)) := by
  refine Ct.ofY (cc := cJ12_bitCount) (maxL := 1) (ret := (some .int)) [some (vI l0)] false (by decide +kernel) (fun h => by cases h) rfl rfl (Nat.le_of_ble_eq_true rfl) (fun I cx => ?_)
  unfold w_J12_bitCount at h
  refine y_iload_n 0 cx dJ12_bitCount_0 rfl rfl ?_
  refine y_iload_n 0 cx dJ12_bitCount_1 rfl rfl ?_
  refine y_iconst (v := 1) cx dJ12_bitCount_2 (by decide) ?_
  refine y_iushr cx dJ12_bitCount_3 ?_
  refine y_ldcw cx q826 dJ12_bitCount_4 ?_
  refine y_iand cx dJ12_bitCount_7 ?_
  refine y_isub cx dJ12_bitCount_8 ?_
  refine y_nmI (fun v1 e2 => ?_)
  replace h := h v1 e2
  refine y_istore_n 0 [some (vI v1)] cx dJ12_bitCount_9 rfl (Nat.le_of_ble_eq_true rfl) trivial rfl ?_
  refine y_iload_n 0 cx dJ12_bitCount_10 rfl rfl ?_
  refine y_ldcw cx q827 dJ12_bitCount_11 ?_
  refine y_iand cx dJ12_bitCount_14 ?_
  refine y_iload_n 0 cx dJ12_bitCount_15 rfl rfl ?_
  refine y_iconst (v := 2) cx dJ12_bitCount_16 (by decide) ?_
  refine y_iushr cx dJ12_bitCount_17 ?_
  refine y_ldcw cx q827 dJ12_bitCount_18 ?_
  refine y_iand cx dJ12_bitCount_21 ?_
  refine y_iadd cx dJ12_bitCount_22 ?_
  refine y_nmI (fun v3 e4 => ?_)
  replace h := h v3 e4
  refine y_istore_n 0 [some (vI v3)] cx dJ12_bitCount_23 rfl (Nat.le_of_ble_eq_true rfl) trivial rfl ?_
  refine y_iload_n 0 cx dJ12_bitCount_24 rfl rfl ?_
  refine y_iload_n 0 cx dJ12_bitCount_25 rfl rfl ?_
  refine y_iconst (v := 4) cx dJ12_bitCount_26 (by decide) ?_
  refine y_iushr cx dJ12_bitCount_27 ?_
  refine y_iadd cx dJ12_bitCount_28 ?_
  refine y_ldcw cx q828 dJ12_bitCount_29 ?_
  refine y_iand cx dJ12_bitCount_32 ?_
  refine y_nmI (fun v5 e6 => ?_)
  replace h := h v5 e6
  refine y_istore_n 0 [some (vI v5)] cx dJ12_bitCount_33 rfl (Nat.le_of_ble_eq_true rfl) trivial rfl ?_
  refine y_iload_n 0 cx dJ12_bitCount_34 rfl rfl ?_
  refine y_iload_n 0 cx dJ12_bitCount_35 rfl rfl ?_
  refine y_bipush (v := 8) cx dJ12_bitCount_36 (by decide) ?_
  refine y_iushr cx dJ12_bitCount_38 ?_
  refine y_iadd cx dJ12_bitCount_39 ?_
  refine y_nmI (fun v7 e8 => ?_)
  replace h := h v7 e8
  refine y_istore_n 0 [some (vI v7)] cx dJ12_bitCount_40 rfl (Nat.le_of_ble_eq_true rfl) trivial rfl ?_
  refine y_iload_n 0 cx dJ12_bitCount_41 rfl rfl ?_
  refine y_iload_n 0 cx dJ12_bitCount_42 rfl rfl ?_
  refine y_bipush (v := 16) cx dJ12_bitCount_43 (by decide) ?_
  refine y_iushr cx dJ12_bitCount_45 ?_
  refine y_iadd cx dJ12_bitCount_46 ?_
  refine y_nmI (fun v9 e10 => ?_)
  replace h := h v9 e10
  refine y_istore_n 0 [some (vI v9)] cx dJ12_bitCount_47 rfl (Nat.le_of_ble_eq_true rfl) trivial rfl ?_
  refine y_iload_n 0 cx dJ12_bitCount_48 rfl rfl ?_
  refine y_bipush (v := 63) cx dJ12_bitCount_49 (by decide) ?_
  refine y_iand cx dJ12_bitCount_51 ?_
  exact y_iret cx dJ12_bitCount_52 h
theorem md_J12_bitCount : yJ12_bitCount.cls ≠ "java/lang/invoke/MethodHandle" ∧ yJ12_bitCount.cls ≠ "java/lang/invoke/VarHandle" ∧ (parseMethodDescriptor yJ12_bitCount.desc).map (fun d => d.parameters.length) = some 1 := by decide +kernel
/-! java/lang/String.coder -/
theorem dJ2_coder_0 : decode cJ2_coder 0 = .ok (.getstatic 38, 3) := by decide +kernel
theorem dJ2_coder_3 : decode cJ2_coder 3 = .ok (.ifCond .eq 10, 3) := by decide +kernel
theorem dJ2_coder_6 : decode cJ2_coder 6 = .ok (.aload_n 0, 1) := by decide +kernel
theorem dJ2_coder_7 : decode cJ2_coder 7 = .ok (.getfield 15, 3) := by decide +kernel
theorem dJ2_coder_10 : decode cJ2_coder 10 = .ok (.goto 4, 3) := by decide +kernel
theorem dJ2_coder_13 : decode cJ2_coder 13 = .ok (.iconst 1, 1) := by decide +kernel
theorem dJ2_coder_14 : decode cJ2_coder 14 = .ok (.ireturn, 1) := by decide +kernel
def w_J2_coder (a : Nat) (t : List Int32) (S : HS) (N : Int32 → HS → Prop) (X : Nat → HS → Prop) : Prop :=
  (((1 : Int32) = 0 → narrow .byte (.int (1 : Int32)) = .int (1 : Int32) ∧ N (1 : Int32) S) ∧
   (¬ (1 : Int32) = 0 → narrow .byte (.int (0 : Int32)) = .int (0 : Int32) ∧ N (0 : Int32) S))
theorem ct_J2_coder {l : Launch} {G : GT} (a : Nat) (t : List Int32) (S : HS) (N : Int32 → HS → Prop) (X : Nat → HS → Prop) (h : w_J2_coder a t S N X) : Ct Eq l yJ2_coder (ws_ yJ2_coder cJ2_coder 1 (some .byte)) 1 G [vR (some (14, a, t))] S (oI N X) := by
  refine Ct.ofY (cc := cJ2_coder) (maxL := 1) (ret := (some .byte)) [some (vR (some (14, a, t)))] false (by decide +kernel) (fun h => by cases h) rfl rfl (Nat.le_of_ble_eq_true rfl) (fun I cx => ?_)
  unfold w_J2_coder at h
  refine y_compact cx q579 dJ2_coder_0 ?_
  refine y_if_eq 13 cx dJ2_coder_3 (by decide) (fun c1 => ?_) (fun c1 => ?_)
  · replace h := h.1 c1
    refine y_iconst (v := 1) cx dJ2_coder_13 (by decide) ?_
    obtain ⟨h2, h⟩ := h
    exact y_zret cx h2 dJ2_coder_14 h
  · replace h := h.2 c1
    refine y_aload_n 0 cx dJ2_coder_6 rfl rfl ?_
    refine y_strCoder cx q594 dJ2_coder_7 (Or.inl rfl) ?_
    refine y_goto 14 cx dJ2_coder_10 (by decide) ?_
    obtain ⟨h3, h⟩ := h
    exact y_zret cx h3 dJ2_coder_14 h
theorem md_J2_coder : yJ2_coder.cls ≠ "java/lang/invoke/MethodHandle" ∧ yJ2_coder.cls ≠ "java/lang/invoke/VarHandle" ∧ (parseMethodDescriptor yJ2_coder.desc).map (fun d => d.parameters.length) = some 0 := by decide +kernel
/-! java/lang/String.isLatin1 -/
theorem dJ2_isLatin1_0 : decode cJ2_isLatin1 0 = .ok (.getstatic 38, 3) := by decide +kernel
theorem dJ2_isLatin1_3 : decode cJ2_isLatin1 3 = .ok (.ifCond .eq 14, 3) := by decide +kernel
theorem dJ2_isLatin1_6 : decode cJ2_isLatin1 6 = .ok (.aload_n 0, 1) := by decide +kernel
theorem dJ2_isLatin1_7 : decode cJ2_isLatin1 7 = .ok (.getfield 15, 3) := by decide +kernel
theorem dJ2_isLatin1_10 : decode cJ2_isLatin1 10 = .ok (.ifCond .ne 7, 3) := by decide +kernel
theorem dJ2_isLatin1_13 : decode cJ2_isLatin1 13 = .ok (.iconst 1, 1) := by decide +kernel
theorem dJ2_isLatin1_14 : decode cJ2_isLatin1 14 = .ok (.goto 4, 3) := by decide +kernel
theorem dJ2_isLatin1_17 : decode cJ2_isLatin1 17 = .ok (.iconst 0, 1) := by decide +kernel
theorem dJ2_isLatin1_18 : decode cJ2_isLatin1 18 = .ok (.ireturn, 1) := by decide +kernel
def w_J2_isLatin1 (a : Nat) (t : List Int32) (S : HS) (N : Int32 → HS → Prop) (X : Nat → HS → Prop) : Prop :=
  (((1 : Int32) = 0 → N (0 : Int32) S) ∧
   (¬ (1 : Int32) = 0 → ((¬ (0 : Int32) = 0 → N (0 : Int32) S) ∧
     ((0 : Int32) = 0 → N (1 : Int32) S))))
theorem ct_J2_isLatin1 {l : Launch} {G : GT} (a : Nat) (t : List Int32) (S : HS) (N : Int32 → HS → Prop) (X : Nat → HS → Prop) (h : w_J2_isLatin1 a t S N X) : Ct Eq l yJ2_isLatin1 (ws_ yJ2_isLatin1 cJ2_isLatin1 1 (some .boolean)) 1 G [vR (some (14, a, t))] S (oI N X) := by
  refine Ct.ofY (cc := cJ2_isLatin1) (maxL := 1) (ret := (some .boolean)) [some (vR (some (14, a, t)))] false (by decide +kernel) (fun h => by cases h) rfl rfl (Nat.le_of_ble_eq_true rfl) (fun I cx => ?_)
  unfold w_J2_isLatin1 at h
  refine y_compact cx q579 dJ2_isLatin1_0 ?_
  refine y_if_eq 17 cx dJ2_isLatin1_3 (by decide) (fun c1 => ?_) (fun c1 => ?_)
  · replace h := h.1 c1
    refine y_iconst (v := 0) cx dJ2_isLatin1_17 (by decide) ?_
    exact y_zret cx rfl dJ2_isLatin1_18 h
  · replace h := h.2 c1
    refine y_aload_n 0 cx dJ2_isLatin1_6 rfl rfl ?_
    refine y_strCoder cx q594 dJ2_isLatin1_7 (Or.inl rfl) ?_
    refine y_if_ne 17 cx dJ2_isLatin1_10 (by decide) (fun c2 => ?_) (fun c2 => ?_)
    · replace h := h.1 c2
      refine y_iconst (v := 0) cx dJ2_isLatin1_17 (by decide) ?_
      exact y_zret cx rfl dJ2_isLatin1_18 h
    · replace h := h.2 c2
      refine y_iconst (v := 1) cx dJ2_isLatin1_13 (by decide) ?_
      refine y_goto 18 cx dJ2_isLatin1_14 (by decide) ?_
      exact y_zret cx rfl dJ2_isLatin1_18 h
theorem md_J2_isLatin1 : yJ2_isLatin1.cls ≠ "java/lang/invoke/MethodHandle" ∧ yJ2_isLatin1.cls ≠ "java/lang/invoke/VarHandle" ∧ (parseMethodDescriptor yJ2_isLatin1.desc).map (fun d => d.parameters.length) = some 0 := by decide +kernel
/-! java/lang/String.length -/
theorem dJ2_length_0 : decode cJ2_length 0 = .ok (.aload_n 0, 1) := by decide +kernel
theorem dJ2_length_1 : decode cJ2_length 1 = .ok (.getfield 9, 3) := by decide +kernel
theorem dJ2_length_4 : decode cJ2_length 4 = .ok (.arraylength, 1) := by decide +kernel
theorem dJ2_length_5 : decode cJ2_length 5 = .ok (.aload_n 0, 1) := by decide +kernel
theorem dJ2_length_6 : decode cJ2_length 6 = .ok (.invokevirtual 335, 3) := by decide +kernel
theorem dJ2_length_9 : decode cJ2_length 9 = .ok (.ishr, 1) := by decide +kernel
theorem dJ2_length_10 : decode cJ2_length 10 = .ok (.ireturn, 1) := by decide +kernel
def w_J2_length (a : Nat) (t : List Int32) (S : HS) (N : Int32 → HS → Prop) (X : Nat → HS → Prop) : Prop :=
  ∀ (w1 : Nat), tok t → w_J2_coder a t S (fun r4 S3 =>
   N ((nI t.length) >>> (r4 &&& 31)) S3) X
theorem ct_J2_length {l : Launch} {G : GT} (a : Nat) (t : List Int32) (S : HS) (N : Int32 → HS → Prop) (X : Nat → HS → Prop) (h : w_J2_length a t S N X) : Ct Eq l yJ2_length (ws_ yJ2_length cJ2_length 1 (some .int)) 2 G [vR (some (14, a, t))] S (oI N X) := by
  refine Ct.ofY (cc := cJ2_length) (maxL := 1) (ret := (some .int)) [some (vR (some (14, a, t)))] false (by decide +kernel) (fun h => by cases h) rfl rfl (Nat.le_of_ble_eq_true rfl) (fun I cx => ?_)
  unfold w_J2_length at h
  refine y_aload_n 0 cx dJ2_length_0 rfl rfl ?_
  refine y_strVal14 cx q593 dJ2_length_1 (fun w1 h2 => ?_)
  replace h := h w1 h2
  refine y_alenT cx dJ2_length_4 (Or.inr rfl) ?_
  refine y_aload_n 0 cx dJ2_length_5 rfl rfl ?_
  refine y_callI (d := 1) [vR (some (14, a, t))] [vI (nI t.length)] cx rfl rfl (fun l G => ct_J2_coder a t S _ _ h) (lw_meth q701) (by decide) (Or.inl q701) q80 (link_V cx (Or.inr (Or.inl ⟨Or.inl rfl, rfl⟩)) (Or.inl q698) q699 q700 q701 md_J2_coder rfl dJ2_length_6) (Nat.le_of_ble_eq_true rfl) (fun r4 S3 h => ?_) (fun a x' hx => hx)
  refine y_ishr cx dJ2_length_9 ?_
  exact y_iret cx dJ2_length_10 h
theorem md_J2_length : yJ2_length.cls ≠ "java/lang/invoke/MethodHandle" ∧ yJ2_length.cls ≠ "java/lang/invoke/VarHandle" ∧ (parseMethodDescriptor yJ2_length.desc).map (fun d => d.parameters.length) = some 0 := by decide +kernel
/-! java/lang/String.isEmpty -/
theorem dJ2_isEmpty_0 : decode cJ2_isEmpty 0 = .ok (.aload_n 0, 1) := by decide +kernel
theorem dJ2_isEmpty_1 : decode cJ2_isEmpty 1 = .ok (.getfield 9, 3) := by decide +kernel
theorem dJ2_isEmpty_4 : decode cJ2_isEmpty 4 = .ok (.arraylength, 1) := by decide +kernel
theorem dJ2_isEmpty_5 : decode cJ2_isEmpty 5 = .ok (.ifCond .ne 7, 3) := by decide +kernel
theorem dJ2_isEmpty_8 : decode cJ2_isEmpty 8 = .ok (.iconst 1, 1) := by decide +kernel
theorem dJ2_isEmpty_9 : decode cJ2_isEmpty 9 = .ok (.goto 4, 3) := by decide +kernel
theorem dJ2_isEmpty_12 : decode cJ2_isEmpty 12 = .ok (.iconst 0, 1) := by decide +kernel
theorem dJ2_isEmpty_13 : decode cJ2_isEmpty 13 = .ok (.ireturn, 1) := by decide +kernel
def w_J2_isEmpty (a : Nat) (t : List Int32) (S : HS) (N : Int32 → HS → Prop) (X : Nat → HS → Prop) : Prop :=
  ∀ (w1 : Nat), tok t → ((¬ (nI t.length) = 0 → N (0 : Int32) S) ∧
   ((nI t.length) = 0 → N (1 : Int32) S))
theorem ct_J2_isEmpty {l : Launch} {G : GT} (a : Nat) (t : List Int32) (S : HS) (N : Int32 → HS → Prop) (X : Nat → HS → Prop) (h : w_J2_isEmpty a t S N X) : Ct Eq l yJ2_isEmpty (ws_ yJ2_isEmpty cJ2_isEmpty 1 (some .boolean)) 1 G [vR (some (14, a, t))] S (oI N X) := by
  refine Ct.ofY (cc := cJ2_isEmpty) (maxL := 1) (ret := (some .boolean)) [some (vR (some (14, a, t)))] false (by decide +kernel) (fun h => by cases h) rfl rfl (Nat.le_of_ble_eq_true rfl) (fun I cx => ?_)
  unfold w_J2_isEmpty at h
  refine y_aload_n 0 cx dJ2_isEmpty_0 rfl rfl ?_
  refine y_strVal14 cx q593 dJ2_isEmpty_1 (fun w1 h2 => ?_)
  replace h := h w1 h2
  refine y_alenT cx dJ2_isEmpty_4 (Or.inr rfl) ?_
  refine y_if_ne 12 cx dJ2_isEmpty_5 (by decide) (fun c3 => ?_) (fun c3 => ?_)
  · replace h := h.1 c3
    refine y_iconst (v := 0) cx dJ2_isEmpty_12 (by decide) ?_
    exact y_zret cx rfl dJ2_isEmpty_13 h
  · replace h := h.2 c3
    refine y_iconst (v := 1) cx dJ2_isEmpty_8 (by decide) ?_
    refine y_goto 13 cx dJ2_isEmpty_9 (by decide) ?_
    exact y_zret cx rfl dJ2_isEmpty_13 h
theorem md_J2_isEmpty : yJ2_isEmpty.cls ≠ "java/lang/invoke/MethodHandle" ∧ yJ2_isEmpty.cls ≠ "java/lang/invoke/VarHandle" ∧ (parseMethodDescriptor yJ2_isEmpty.desc).map (fun d => d.parameters.length) = some 0 := by decide +kernel
/-! java/lang/StringLatin1.charAt -/
theorem dJ10_charAt_0 : decode cJ10_charAt 0 = .ok (.iload_n 1, 1) := by decide +kernel
theorem dJ10_charAt_1 : decode cJ10_charAt 1 = .ok (.aload_n 0, 1) := by decide +kernel
theorem dJ10_charAt_2 : decode cJ10_charAt 2 = .ok (.arraylength, 1) := by decide +kernel
theorem dJ10_charAt_3 : decode cJ10_charAt 3 = .ok (.invokestatic 9, 3) := by decide +kernel
theorem dJ10_charAt_6 : decode cJ10_charAt 6 = .ok (.aload_n 0, 1) := by decide +kernel
theorem dJ10_charAt_7 : decode cJ10_charAt 7 = .ok (.iload_n 1, 1) := by decide +kernel
theorem dJ10_charAt_8 : decode cJ10_charAt 8 = .ok (.baload, 1) := by decide +kernel
theorem dJ10_charAt_9 : decode cJ10_charAt 9 = .ok (.sipush 255, 3) := by decide +kernel
theorem dJ10_charAt_12 : decode cJ10_charAt 12 = .ok (.iand, 1) := by decide +kernel
theorem dJ10_charAt_13 : decode cJ10_charAt 13 = .ok (.i2c, 1) := by decide +kernel
theorem dJ10_charAt_14 : decode cJ10_charAt 14 = .ok (.ireturn, 1) := by decide +kernel
def w_J10_charAt (l0 : Rf) (l1 : Int32) (S : HS) (N : Int32 → HS → Prop) (X : Nat → HS → Prop) : Prop :=
  ∃ a1 t3, l0 = some (104, a1, t3) ∧ w_J2_checkIndex l1 (nI t3.length) S (fun S4 =>
   vp_in l1 t3.length ∧ narrow .char (.int ((((t3.getD l1.toNatClampNeg 0) &&& (255 : Int32)).toUInt32 % 65536).toInt32)) = .int ((((t3.getD l1.toNatClampNeg 0) &&& (255 : Int32)).toUInt32 % 65536).toInt32) ∧ N ((((t3.getD l1.toNatClampNeg 0) &&& (255 : Int32)).toUInt32 % 65536).toInt32) S4)
theorem ct_J10_charAt {l : Launch} {G : GT} (l0 : Rf) (l1 : Int32) (S : HS) (N : Int32 → HS → Prop) (X : Nat → HS → Prop) (h : w_J10_charAt l0 l1 S N X) : Ct Eq l yJ10_charAt (ws_ yJ10_charAt cJ10_charAt 2 (some .char)) 3 G [vR l0, vI l1] S (oI N X) := by
  refine Ct.ofY (cc := cJ10_charAt) (maxL := 2) (ret := (some .char)) [some (vR l0), some (vI l1)] false (by decide +kernel) (fun h => by cases h) rfl rfl (Nat.le_of_ble_eq_true rfl) (fun I cx => ?_)
  unfold w_J10_charAt at h
  refine y_iload_n 1 cx dJ10_charAt_0 rfl rfl ?_
  refine y_aload_n 0 cx dJ10_charAt_1 rfl rfl ?_
  obtain ⟨a1, t3, e2, h⟩ := h
  subst e2
  refine y_alenT cx dJ10_charAt_2 (Or.inr rfl) ?_
  refine y_callV (d := 2) [vI l1, vI (nI t3.length)] [] cx rfl rfl (fun l G => ct_J2_checkIndex l1 (nI t3.length) S _ h) (lw_meth q537) (by decide) (Or.inl q537) q80 (link_S cx (Or.inl q716) q536 q80 q537 md_J2_checkIndex rfl dJ10_charAt_3) (Nat.le_of_ble_eq_true rfl) (fun S4 h => ?_) (fun a x' hx => hx.elim)
  refine y_aload_n 0 cx dJ10_charAt_6 rfl rfl ?_
  refine y_iload_n 1 cx dJ10_charAt_7 rfl rfl ?_
  obtain ⟨h5, h⟩ := h
  refine y_baldT cx dJ10_charAt_8 (Or.inr rfl) h5 ?_
  refine y_sipush (v := 255) cx dJ10_charAt_9 (by decide) ?_
  refine y_iand cx dJ10_charAt_12 ?_
  refine y_i2c cx dJ10_charAt_13 ?_
  obtain ⟨h6, h⟩ := h
  exact y_zret cx h6 dJ10_charAt_14 h
theorem md_J10_charAt : yJ10_charAt.cls ≠ "java/lang/invoke/MethodHandle" ∧ yJ10_charAt.cls ≠ "java/lang/invoke/VarHandle" ∧ (parseMethodDescriptor yJ10_charAt.desc).map (fun d => d.parameters.length) = some 2 := by decide +kernel
/-! java/lang/String.charAt -/
theorem dJ2_charAt_0 : decode cJ2_charAt 0 = .ok (.aload_n 0, 1) := by decide +kernel
theorem dJ2_charAt_1 : decode cJ2_charAt 1 = .ok (.invokevirtual 492, 3) := by decide +kernel
theorem dJ2_charAt_4 : decode cJ2_charAt 4 = .ok (.ifCond .eq 12, 3) := by decide +kernel
theorem dJ2_charAt_7 : decode cJ2_charAt 7 = .ok (.aload_n 0, 1) := by decide +kernel
theorem dJ2_charAt_8 : decode cJ2_charAt 8 = .ok (.getfield 9, 3) := by decide +kernel
theorem dJ2_charAt_11 : decode cJ2_charAt 11 = .ok (.iload_n 1, 1) := by decide +kernel
theorem dJ2_charAt_12 : decode cJ2_charAt 12 = .ok (.invokestatic 495, 3) := by decide +kernel
theorem dJ2_charAt_15 : decode cJ2_charAt 15 = .ok (.ireturn, 1) := by decide +kernel
theorem dJ2_charAt_16 : decode cJ2_charAt 16 = .ok (.aload_n 0, 1) := by decide +kernel
theorem dJ2_charAt_17 : decode cJ2_charAt 17 = .ok (.getfield 9, 3) := by decide +kernel
theorem dJ2_charAt_20 : decode cJ2_charAt 20 = .ok (.iload_n 1, 1) := by decide +kernel
theorem dJ2_charAt_21 : decode cJ2_charAt 21 = .ok (.invokestatic 498, 3) := by decide +kernel
def w_J2_charAt (a : Nat) (t : List Int32) (l1 : Int32) (S : HS) (N : Int32 → HS → Prop) (X : Nat → HS → Prop) : Prop :=
  w_J2_isLatin1 a t S (fun r2 S1 =>
   ((r2 = 0 → ∀ (w4 : Nat), tok t → False) ∧
    (¬ r2 = 0 → ∀ (w6 : Nat), tok t → w_J10_charAt (some (104, w6, t)) l1 S1 (fun r9 S8 =>
      narrow .char (.int r9) = .int r9 ∧ N r9 S8) X))) X
theorem ct_J2_charAt {l : Launch} {G : GT} (a : Nat) (t : List Int32) (l1 : Int32) (S : HS) (N : Int32 → HS → Prop) (X : Nat → HS → Prop) (h : w_J2_charAt a t l1 S N X) : Ct Eq l yJ2_charAt (ws_ yJ2_charAt cJ2_charAt 2 (some .char)) 4 G [vR (some (14, a, t)), vI l1] S (oI N X) := by
  refine Ct.ofY (cc := cJ2_charAt) (maxL := 2) (ret := (some .char)) [some (vR (some (14, a, t))), some (vI l1)] false (by decide +kernel) (fun h => by cases h) rfl rfl (Nat.le_of_ble_eq_true rfl) (fun I cx => ?_)
  unfold w_J2_charAt at h
  refine y_aload_n 0 cx dJ2_charAt_0 rfl rfl ?_
  refine y_callI (d := 3) [vR (some (14, a, t))] [] cx rfl rfl (fun l G => ct_J2_isLatin1 a t S _ _ h) (lw_meth q712) (by decide) (Or.inl q712) q80 (link_V cx (Or.inr (Or.inl ⟨Or.inl rfl, rfl⟩)) (Or.inl q709) q710 q711 q712 md_J2_isLatin1 rfl dJ2_charAt_1) (Nat.le_of_ble_eq_true rfl) (fun r2 S1 h => ?_) (fun a x' hx => hx)
  refine y_if_eq 16 cx dJ2_charAt_4 (by decide) (fun c3 => ?_) (fun c3 => ?_)
  · replace h := h.1 c3
    refine y_aload_n 0 cx dJ2_charAt_16 rfl rfl ?_
    refine y_strVal14 cx q593 dJ2_charAt_17 (fun w4 h5 => ?_)
    replace h := h w4 h5
    refine y_iload_n 1 cx dJ2_charAt_20 rfl rfl ?_
    exact False.elim h
  · replace h := h.2 c3
    refine y_aload_n 0 cx dJ2_charAt_7 rfl rfl ?_
    refine y_strVal14 cx q593 dJ2_charAt_8 (fun w6 h7 => ?_)
    replace h := h w6 h7
    refine y_iload_n 1 cx dJ2_charAt_11 rfl rfl ?_
    refine y_callI (d := 3) [vR (some (104, w6, t)), vI l1] [] cx rfl rfl (fun l G => ct_J10_charAt (some (104, w6, t)) l1 S1 _ _ h) (lw_meth q715) (by decide) (Or.inl q715) q95 (link_S cx (Or.inl q713) q714 q95 q715 md_J10_charAt rfl dJ2_charAt_12) (Nat.le_of_ble_eq_true rfl) (fun r9 S8 h => ?_) (fun a x' hx => hx)
    obtain ⟨h10, h⟩ := h
    exact y_zret cx h10 dJ2_charAt_15 h
theorem md_J2_charAt : yJ2_charAt.cls ≠ "java/lang/invoke/MethodHandle" ∧ yJ2_charAt.cls ≠ "java/lang/invoke/VarHandle" ∧ (parseMethodDescriptor yJ2_charAt.desc).map (fun d => d.parameters.length) = some 1 := by decide +kernel
/-! java/lang/StringLatin1.equals -/
theorem dJ10_equals_0 : decode cJ10_equals 0 = .ok (.aload_n 0, 1) := by decide +kernel
theorem dJ10_equals_1 : decode cJ10_equals 1 = .ok (.arraylength, 1) := by decide +kernel
theorem dJ10_equals_2 : decode cJ10_equals 2 = .ok (.aload_n 1, 1) := by decide +kernel
theorem dJ10_equals_3 : decode cJ10_equals 3 = .ok (.arraylength, 1) := by decide +kernel
theorem dJ10_equals_4 : decode cJ10_equals 4 = .ok (.if_icmp .ne 30, 3) := by decide +kernel
theorem dJ10_equals_7 : decode cJ10_equals 7 = .ok (.iconst 0, 1) := by decide +kernel
theorem dJ10_equals_8 : decode cJ10_equals 8 = .ok (.istore_n 2, 1) := by decide +kernel
theorem dJ10_equals_9 : decode cJ10_equals 9 = .ok (.iload_n 2, 1) := by decide +kernel
theorem dJ10_equals_10 : decode cJ10_equals 10 = .ok (.aload_n 0, 1) := by decide +kernel
theorem dJ10_equals_11 : decode cJ10_equals 11 = .ok (.arraylength, 1) := by decide +kernel
theorem dJ10_equals_12 : decode cJ10_equals 12 = .ok (.if_icmp .ge 20, 3) := by decide +kernel
theorem dJ10_equals_15 : decode cJ10_equals 15 = .ok (.aload_n 0, 1) := by decide +kernel
theorem dJ10_equals_16 : decode cJ10_equals 16 = .ok (.iload_n 2, 1) := by decide +kernel
theorem dJ10_equals_17 : decode cJ10_equals 17 = .ok (.baload, 1) := by decide +kernel
theorem dJ10_equals_18 : decode cJ10_equals 18 = .ok (.aload_n 1, 1) := by decide +kernel
theorem dJ10_equals_19 : decode cJ10_equals 19 = .ok (.iload_n 2, 1) := by decide +kernel
theorem dJ10_equals_20 : decode cJ10_equals 20 = .ok (.baload, 1) := by decide +kernel
theorem dJ10_equals_21 : decode cJ10_equals 21 = .ok (.if_icmp .eq 5, 3) := by decide +kernel
theorem dJ10_equals_24 : decode cJ10_equals 24 = .ok (.iconst 0, 1) := by decide +kernel
theorem dJ10_equals_25 : decode cJ10_equals 25 = .ok (.ireturn, 1) := by decide +kernel
theorem dJ10_equals_26 : decode cJ10_equals 26 = .ok (.iinc 2 1, 3) := by decide +kernel
theorem dJ10_equals_29 : decode cJ10_equals 29 = .ok (.goto (-20), 3) := by decide +kernel
theorem dJ10_equals_32 : decode cJ10_equals 32 = .ok (.iconst 1, 1) := by decide +kernel
theorem dJ10_equals_33 : decode cJ10_equals 33 = .ok (.ireturn, 1) := by decide +kernel
theorem dJ10_equals_34 : decode cJ10_equals 34 = .ok (.iconst 0, 1) := by decide +kernel
theorem dJ10_equals_35 : decode cJ10_equals 35 = .ok (.ireturn, 1) := by decide +kernel
def w_J10_equals_b9 (N : Int32 → HS → Prop) (X : Nat → HS → Prop) : Nat → Rf → Rf → Int32 → HS → Prop
  | 0 => fun _ _ _ _ => False
  | n + 1 => fun l0 l1 l2 S =>
    ∃ c4 a1 t3, l0 = some (c4, a1, t3) ∧ (c4 = 103 ∨ c4 = 104) ∧ (((nI t3.length) ≤ l2 → N (1 : Int32) S) ∧
     (¬ (nI t3.length) ≤ l2 → vp_in l2 t3.length ∧ ∃ c11 a8 t10, l1 = some (c11, a8, t10) ∧ (c11 = 103 ∨ c11 = 104) ∧ vp_in l2 t10.length ∧ (((t3.getD l2.toNatClampNeg 0) = (t10.getD l2.toNatClampNeg 0) → ∀ v15, v15 = l2 + 1 → (w_J10_equals_b9 N X n) (some (c4, a1, t3)) (some (c11, a8, t10)) v15 S) ∧
       (¬ (t3.getD l2.toNatClampNeg 0) = (t10.getD l2.toNatClampNeg 0) → N (0 : Int32) S))))
theorem y_J10_equals_b9 {I : Iv} {N : Int32 → HS → Prop} {X : Nat → HS → Prop} (cx : Cx I RJ10 cJ10_equals 3 (some .boolean) 1 [] false) : ∀ (n : Nat) (l0 : Rf) (l1 : Rf) (l2 : Int32) (S : HS), w_J10_equals_b9 N X n l0 l1 l2 S → Y Eq I (oI N X) 9 [some (vR l0), some (vR l1), some (vI l2)] [] S := by
  intro n
  induction n with
  | zero => intro l0 l1 l2 S h; exact False.elim h
  | succ n ih =>
    intro l0 l1 l2 S h
    unfold w_J10_equals_b9 at h
    refine y_iload_n 2 cx dJ10_equals_9 rfl rfl ?_
    refine y_aload_n 0 cx dJ10_equals_10 rfl rfl ?_
    obtain ⟨c4, a1, t3, e2, h5, h⟩ := h
    subst e2
    refine y_alenT cx dJ10_equals_11 h5 ?_
    refine y_icmp_ge 32 cx dJ10_equals_12 (by decide) (fun c6 => ?_) (fun c6 => ?_)
    · replace h := h.1 c6
      refine y_iconst (v := 1) cx dJ10_equals_32 (by decide) ?_
      exact y_zret cx rfl dJ10_equals_33 h
    · replace h := h.2 c6
      refine y_aload_n 0 cx dJ10_equals_15 rfl rfl ?_
      refine y_iload_n 2 cx dJ10_equals_16 rfl rfl ?_
      obtain ⟨h7, h⟩ := h
      refine y_baldT cx dJ10_equals_17 h5 h7 ?_
      refine y_aload_n 1 cx dJ10_equals_18 rfl rfl ?_
      refine y_iload_n 2 cx dJ10_equals_19 rfl rfl ?_
      obtain ⟨c11, a8, t10, e9, h12, h⟩ := h
      subst e9
      obtain ⟨h13, h⟩ := h
      refine y_baldT cx dJ10_equals_20 h12 h13 ?_
      refine y_icmp_eq 26 cx dJ10_equals_21 (by decide) (fun c14 => ?_) (fun c14 => ?_)
      · replace h := h.1 c14
        refine y_iincN (v := 1) 2 (fun v15 => [some (vR (some (c4, a1, t3))), some (vR (some (c11, a8, t10))), some (vI v15)]) cx dJ10_equals_26 rfl (by decide) trivial (fun _ => rfl) (fun v15 e16 => ?_)
        replace h := h v15 e16
        refine y_goto 9 cx dJ10_equals_29 (by decide) ?_
        exact ih (some (c4, a1, t3)) (some (c11, a8, t10)) v15 S h
      · replace h := h.2 c14
        refine y_iconst (v := 0) cx dJ10_equals_24 (by decide) ?_
        exact y_zret cx rfl dJ10_equals_25 h
def w_J10_equals (l0 : Rf) (l1 : Rf) (S : HS) (N : Int32 → HS → Prop) (X : Nat → HS → Prop) : Prop :=
  ∃ c20 a17 t19, l0 = some (c20, a17, t19) ∧ (c20 = 103 ∨ c20 = 104) ∧ ∃ c25 a22 t24, l1 = some (c25, a22, t24) ∧ (c25 = 103 ∨ c25 = 104) ∧ ((¬ (nI t19.length) = (nI t24.length) → N (0 : Int32) S) ∧
   ((nI t19.length) = (nI t24.length) → ∃ k28, w_J10_equals_b9 N X k28 (some (c20, a17, t19)) (some (c25, a22, t24)) (0 : Int32) S))
theorem ct_J10_equals {l : Launch} {G : GT} (l0 : Rf) (l1 : Rf) (S : HS) (N : Int32 → HS → Prop) (X : Nat → HS → Prop) (h : w_J10_equals l0 l1 S N X) : Ct Eq l yJ10_equals (ws_ yJ10_equals cJ10_equals 3 (some .boolean)) 1 G [vR l0, vR l1] S (oI N X) := by
  refine Ct.ofY (cc := cJ10_equals) (maxL := 3) (ret := (some .boolean)) [some (vR l0), some (vR l1), none] false (by decide +kernel) (fun h => by cases h) rfl rfl (Nat.le_of_ble_eq_true rfl) (fun I cx => ?_)
  unfold w_J10_equals at h
  refine y_aload_n 0 cx dJ10_equals_0 rfl rfl ?_
  obtain ⟨c20, a17, t19, e18, h21, h⟩ := h
  subst e18
  refine y_alenT cx dJ10_equals_1 h21 ?_
  refine y_aload_n 1 cx dJ10_equals_2 rfl rfl ?_
  obtain ⟨c25, a22, t24, e23, h26, h⟩ := h
  subst e23
  refine y_alenT cx dJ10_equals_3 h26 ?_
  refine y_icmp_ne 34 cx dJ10_equals_4 (by decide) (fun c27 => ?_) (fun c27 => ?_)
  · replace h := h.1 c27
    refine y_iconst (v := 0) cx dJ10_equals_34 (by decide) ?_
    exact y_zret cx rfl dJ10_equals_35 h
  · replace h := h.2 c27
    refine y_iconst (v := 0) cx dJ10_equals_7 (by decide) ?_
    refine y_istore_n 2 [some (vR (some (c20, a17, t19))), some (vR (some (c25, a22, t24))), some (vI (0 : Int32))] cx dJ10_equals_8 rfl (Nat.le_of_ble_eq_true rfl) trivial rfl ?_
    obtain ⟨k28, h⟩ := h
    exact y_J10_equals_b9 cx k28 (some (c20, a17, t19)) (some (c25, a22, t24)) (0 : Int32) S h
theorem md_J10_equals : yJ10_equals.cls ≠ "java/lang/invoke/MethodHandle" ∧ yJ10_equals.cls ≠ "java/lang/invoke/VarHandle" ∧ (parseMethodDescriptor yJ10_equals.desc).map (fun d => d.parameters.length) = some 2 := by decide +kernel
/-! java/lang/String.equals -/
theorem dJ2_equals_0 : decode cJ2_equals 0 = .ok (.aload_n 0, 1) := by decide +kernel
theorem dJ2_equals_1 : decode cJ2_equals 1 = .ok (.aload_n 1, 1) := by decide +kernel
theorem dJ2_equals_2 : decode cJ2_equals 2 = .ok (.if_acmp .ne 5, 3) := by decide +kernel
theorem dJ2_equals_5 : decode cJ2_equals 5 = .ok (.iconst 1, 1) := by decide +kernel
theorem dJ2_equals_6 : decode cJ2_equals 6 = .ok (.ireturn, 1) := by decide +kernel
theorem dJ2_equals_7 : decode cJ2_equals 7 = .ok (.aload_n 1, 1) := by decide +kernel
theorem dJ2_equals_8 : decode cJ2_equals 8 = .ok (.instanceof 10, 3) := by decide +kernel
theorem dJ2_equals_11 : decode cJ2_equals 11 = .ok (.ifCond .eq 43, 3) := by decide +kernel
theorem dJ2_equals_14 : decode cJ2_equals 14 = .ok (.aload_n 1, 1) := by decide +kernel
theorem dJ2_equals_15 : decode cJ2_equals 15 = .ok (.checkcast 10, 3) := by decide +kernel
theorem dJ2_equals_18 : decode cJ2_equals 18 = .ok (.astore_n 2, 1) := by decide +kernel
theorem dJ2_equals_19 : decode cJ2_equals 19 = .ok (.getstatic 38, 3) := by decide +kernel
theorem dJ2_equals_22 : decode cJ2_equals 22 = .ok (.ifCond .eq 14, 3) := by decide +kernel
theorem dJ2_equals_25 : decode cJ2_equals 25 = .ok (.aload_n 0, 1) := by decide +kernel
theorem dJ2_equals_26 : decode cJ2_equals 26 = .ok (.getfield 15, 3) := by decide +kernel
theorem dJ2_equals_29 : decode cJ2_equals 29 = .ok (.aload_n 2, 1) := by decide +kernel
theorem dJ2_equals_30 : decode cJ2_equals 30 = .ok (.getfield 15, 3) := by decide +kernel
theorem dJ2_equals_33 : decode cJ2_equals 33 = .ok (.if_icmp .ne 21, 3) := by decide +kernel
theorem dJ2_equals_36 : decode cJ2_equals 36 = .ok (.aload_n 0, 1) := by decide +kernel
theorem dJ2_equals_37 : decode cJ2_equals 37 = .ok (.getfield 9, 3) := by decide +kernel
theorem dJ2_equals_40 : decode cJ2_equals 40 = .ok (.aload_n 2, 1) := by decide +kernel
theorem dJ2_equals_41 : decode cJ2_equals 41 = .ok (.getfield 9, 3) := by decide +kernel
theorem dJ2_equals_44 : decode cJ2_equals 44 = .ok (.invokestatic 541, 3) := by decide +kernel
theorem dJ2_equals_47 : decode cJ2_equals 47 = .ok (.ifCond .eq 7, 3) := by decide +kernel
theorem dJ2_equals_50 : decode cJ2_equals 50 = .ok (.iconst 1, 1) := by decide +kernel
theorem dJ2_equals_51 : decode cJ2_equals 51 = .ok (.goto 4, 3) := by decide +kernel
theorem dJ2_equals_54 : decode cJ2_equals 54 = .ok (.iconst 0, 1) := by decide +kernel
theorem dJ2_equals_55 : decode cJ2_equals 55 = .ok (.ireturn, 1) := by decide +kernel
def w_J2_equals_b36 (a : Nat) (t : List Int32) (N : Int32 → HS → Prop) (X : Nat → HS → Prop) (l2 : Rf) (S : HS) : Prop :=
  ∀ (w1 : Nat), tok t → ∃ a3 t5, l2 = some (14, a3, t5) ∧ ∀ (w6 : Nat), tok t5 → w_J10_equals (some (104, w1, t)) (some (104, w6, t5)) S (fun r9 S8 =>
   ((r9 = 0 → N (0 : Int32) S8) ∧
    (¬ r9 = 0 → N (1 : Int32) S8))) X
theorem y_J2_equals_b36 {I : Iv} {a : Nat} {t : List Int32} {N : Int32 → HS → Prop} {X : Nat → HS → Prop} (cx : Cx I RJ2 cJ2_equals 3 (some .boolean) 2 [] false) (l2 : Rf) (S : HS) (h : w_J2_equals_b36 a t N X l2 S) : Y Eq I (oI N X) 36 [some (vR (some (14, a, t))), none, some (vR l2)] [] S := by
  unfold w_J2_equals_b36 at h
  refine y_aload_n 0 cx dJ2_equals_36 rfl rfl ?_
  refine y_strVal14 cx q593 dJ2_equals_37 (fun w1 h2 => ?_)
  replace h := h w1 h2
  refine y_aload_n 2 cx dJ2_equals_40 rfl rfl ?_
  obtain ⟨a3, t5, e4, h⟩ := h
  subst e4
  refine y_strVal14 cx q593 dJ2_equals_41 (fun w6 h7 => ?_)
  replace h := h w6 h7
  refine y_callI (d := 1) [vR (some (104, w1, t)), vR (some (104, w6, t5))] [] cx rfl rfl (fun l G => ct_J10_equals (some (104, w1, t)) (some (104, w6, t5)) S _ _ h) (lw_meth q763) (by decide) (Or.inl q763) q95 (link_S cx (Or.inl q761) q762 q95 q763 md_J10_equals rfl dJ2_equals_44) (Nat.le_of_ble_eq_true rfl) (fun r9 S8 h => ?_) (fun a x' hx => hx)
  refine y_if_eq 54 cx dJ2_equals_47 (by decide) (fun c10 => ?_) (fun c10 => ?_)
  · replace h := h.1 c10
    refine y_iconst (v := 0) cx dJ2_equals_54 (by decide) ?_
    exact y_zret cx rfl dJ2_equals_55 h
  · replace h := h.2 c10
    refine y_iconst (v := 1) cx dJ2_equals_50 (by decide) ?_
    refine y_goto 55 cx dJ2_equals_51 (by decide) ?_
    exact y_zret cx rfl dJ2_equals_55 h
def w_J2_equals (a : Nat) (t : List Int32) (l1 : Rf) (S : HS) (N : Int32 → HS → Prop) (X : Nat → HS → Prop) : Prop :=
  ∃ c14 a11 t13, l1 = some (c14, a11, t13) ∧ (c14 = 14 ∨ c14 = 16) ∧ ((¬ a = a11 → (((1 : Int32) = 0 → N (0 : Int32) S) ∧
     (¬ (1 : Int32) = 0 → (((1 : Int32) = 0 → w_J2_equals_b36 a t N X (some (c14, a11, t13)) S) ∧
       (¬ (1 : Int32) = 0 → ((¬ (0 : Int32) = (0 : Int32) → N (0 : Int32) S) ∧
         ((0 : Int32) = (0 : Int32) → w_J2_equals_b36 a t N X (some (c14, a11, t13)) S))))))) ∧
   (a = a11 → t = t13 → N (1 : Int32) S))
theorem ct_J2_equals {l : Launch} {G : GT} (a : Nat) (t : List Int32) (l1 : Rf) (S : HS) (N : Int32 → HS → Prop) (X : Nat → HS → Prop) (h : w_J2_equals a t l1 S N X) : Ct Eq l yJ2_equals (ws_ yJ2_equals cJ2_equals 3 (some .boolean)) 2 G [vR (some (14, a, t)), vR l1] S (oI N X) := by
  refine Ct.ofY (cc := cJ2_equals) (maxL := 3) (ret := (some .boolean)) [some (vR (some (14, a, t))), some (vR l1), none] false (by decide +kernel) (fun h => by cases h) rfl rfl (Nat.le_of_ble_eq_true rfl) (fun I cx => ?_)
  unfold w_J2_equals at h
  refine y_aload_n 0 cx dJ2_equals_0 rfl rfl ?_
  refine y_aload_n 1 cx dJ2_equals_1 rfl rfl ?_
  obtain ⟨c14, a11, t13, e12, h15, h⟩ := h
  subst e12
  refine y_acmp_ne 7 cx dJ2_equals_2 (by decide) (fun c16 => ?_) (fun c16 c17 => ?_)
  · replace h := h.1 c16
    refine y_aload_n 1 cx dJ2_equals_7 rfl rfl ?_
    refine y_instS cx q760 dJ2_equals_8 h15 ?_
    refine y_if_eq 54 cx dJ2_equals_11 (by decide) (fun c18 => ?_) (fun c18 => ?_)
    · replace h := h.1 c18
      refine y_iconst (v := 0) cx dJ2_equals_54 (by decide) ?_
      exact y_zret cx rfl dJ2_equals_55 h
    · replace h := h.2 c18
      refine y_aload_n 1 cx dJ2_equals_14 rfl rfl ?_
      refine y_castS cx q760 dJ2_equals_15 h15 ?_
      refine y_astore_n 2 [some (vR (some (14, a, t))), some (vR (some (c14, a11, t13))), some (vR (some (c14, a11, t13)))] cx dJ2_equals_18 rfl (Nat.le_of_ble_eq_true rfl) trivial rfl ?_
      refine y_compact cx q579 dJ2_equals_19 ?_
      refine y_if_eq 36 cx dJ2_equals_22 (by decide) (fun c19 => ?_) (fun c19 => ?_)
      · replace h := h.1 c19
        refine y_less [some (vR (some (14, a, t))), none, some (vR (some (c14, a11, t13)))] ⟨rfl, ⟨rfl, trivial⟩⟩ ?_
        exact y_J2_equals_b36 cx (some (c14, a11, t13)) S h
      · replace h := h.2 c19
        refine y_aload_n 0 cx dJ2_equals_25 rfl rfl ?_
        refine y_strCoder cx q594 dJ2_equals_26 (Or.inl rfl) ?_
        refine y_aload_n 2 cx dJ2_equals_29 rfl rfl ?_
        refine y_strCoder cx q594 dJ2_equals_30 h15 ?_
        refine y_icmp_ne 54 cx dJ2_equals_33 (by decide) (fun c20 => ?_) (fun c20 => ?_)
        · replace h := h.1 c20
          refine y_iconst (v := 0) cx dJ2_equals_54 (by decide) ?_
          exact y_zret cx rfl dJ2_equals_55 h
        · replace h := h.2 c20
          refine y_less [some (vR (some (14, a, t))), none, some (vR (some (c14, a11, t13)))] ⟨rfl, ⟨rfl, trivial⟩⟩ ?_
          exact y_J2_equals_b36 cx (some (c14, a11, t13)) S h
  · replace h := h.2 c16 c17
    refine y_iconst (v := 1) cx dJ2_equals_5 (by decide) ?_
    exact y_zret cx rfl dJ2_equals_6 h
theorem md_J2_equals : yJ2_equals.cls ≠ "java/lang/invoke/MethodHandle" ∧ yJ2_equals.cls ≠ "java/lang/invoke/VarHandle" ∧ (parseMethodDescriptor yJ2_equals.desc).map (fun d => d.parameters.length) = some 1 := by decide +kernel
/-! jdk/internal/util/ArraysSupport.signedHashCode -/
theorem dJ7_signedHashCode_0 : decode cJ7_signedHashCode 0 = .ok (.iload_n 2, 1) := by decide +kernel
theorem dJ7_signedHashCode_1 : decode cJ7_signedHashCode 1 = .ok (.iload_n 3, 1) := by decide +kernel
theorem dJ7_signedHashCode_2 : decode cJ7_signedHashCode 2 = .ok (.iadd, 1) := by decide +kernel
theorem dJ7_signedHashCode_3 : decode cJ7_signedHashCode 3 = .ok (.istore 4, 2) := by decide +kernel
theorem dJ7_signedHashCode_5 : decode cJ7_signedHashCode 5 = .ok (.iload_n 2, 1) := by decide +kernel
theorem dJ7_signedHashCode_6 : decode cJ7_signedHashCode 6 = .ok (.istore 5, 2) := by decide +kernel
theorem dJ7_signedHashCode_8 : decode cJ7_signedHashCode 8 = .ok (.iload 5, 2) := by decide +kernel
theorem dJ7_signedHashCode_10 : decode cJ7_signedHashCode 10 = .ok (.iload 4, 2) := by decide +kernel
theorem dJ7_signedHashCode_12 : decode cJ7_signedHashCode 12 = .ok (.if_icmp .ge 23, 3) := by decide +kernel
theorem dJ7_signedHashCode_15 : decode cJ7_signedHashCode 15 = .ok (.bipush 31, 2) := by decide +kernel
theorem dJ7_signedHashCode_17 : decode cJ7_signedHashCode 17 = .ok (.iload_n 0, 1) := by decide +kernel
theorem dJ7_signedHashCode_18 : decode cJ7_signedHashCode 18 = .ok (.imul, 1) := by decide +kernel
theorem dJ7_signedHashCode_19 : decode cJ7_signedHashCode 19 = .ok (.aload_n 1, 1) := by decide +kernel
theorem dJ7_signedHashCode_20 : decode cJ7_signedHashCode 20 = .ok (.iload 5, 2) := by decide +kernel
theorem dJ7_signedHashCode_22 : decode cJ7_signedHashCode 22 = .ok (.baload, 1) := by decide +kernel
theorem dJ7_signedHashCode_23 : decode cJ7_signedHashCode 23 = .ok (.sipush 255, 3) := by decide +kernel
theorem dJ7_signedHashCode_26 : decode cJ7_signedHashCode 26 = .ok (.iand, 1) := by decide +kernel
theorem dJ7_signedHashCode_27 : decode cJ7_signedHashCode 27 = .ok (.iadd, 1) := by decide +kernel
theorem dJ7_signedHashCode_28 : decode cJ7_signedHashCode 28 = .ok (.istore_n 0, 1) := by decide +kernel
theorem dJ7_signedHashCode_29 : decode cJ7_signedHashCode 29 = .ok (.iinc 5 1, 3) := by decide +kernel
theorem dJ7_signedHashCode_32 : decode cJ7_signedHashCode 32 = .ok (.goto (-24), 3) := by decide +kernel
theorem dJ7_signedHashCode_35 : decode cJ7_signedHashCode 35 = .ok (.iload_n 0, 1) := by decide +kernel
theorem dJ7_signedHashCode_36 : decode cJ7_signedHashCode 36 = .ok (.ireturn, 1) := by decide +kernel
def w_J7_signedHashCode_b8 (N : Int32 → HS → Prop) (X : Nat → HS → Prop) : Nat → Int32 → Rf → Int32 → Int32 → HS → Prop
  | 0 => fun _ _ _ _ _ => False
  | n + 1 => fun l0 l1 l4 l5 S =>
    ((l4 ≤ l5 → N l0 S) ∧
     (¬ l4 ≤ l5 → ∃ a2 t4, l1 = some (104, a2, t4) ∧ vp_in l5 t4.length ∧ ∀ v6, v6 = (((31 : Int32) * l0) + ((t4.getD l5.toNatClampNeg 0) &&& (255 : Int32))) → ∀ v8, v8 = l5 + 1 → (w_J7_signedHashCode_b8 N X n) v6 (some (104, a2, t4)) l4 v8 S))
theorem y_J7_signedHashCode_b8 {I : Iv} {N : Int32 → HS → Prop} {X : Nat → HS → Prop} (cx : Cx I RJ7 cJ7_signedHashCode 6 (some .int) 1 [] false) : ∀ (n : Nat) (l0 : Int32) (l1 : Rf) (l4 : Int32) (l5 : Int32) (S : HS), w_J7_signedHashCode_b8 N X n l0 l1 l4 l5 S → Y Eq I (oI N X) 8 [some (vI l0), some (vR l1), none, none, some (vI l4), some (vI l5)] [] S := by
  intro n
  induction n with
  | zero => intro l0 l1 l4 l5 S h; exact False.elim h
  | succ n ih =>
    intro l0 l1 l4 l5 S h
    unfold w_J7_signedHashCode_b8 at h
    refine y_iload 5 cx dJ7_signedHashCode_8 rfl ?_
    refine y_iload 4 cx dJ7_signedHashCode_10 rfl ?_
    refine y_icmp_ge 35 cx dJ7_signedHashCode_12 (by decide) (fun c1 => ?_) (fun c1 => ?_)
    · replace h := h.1 c1
      refine y_iload_n 0 cx dJ7_signedHashCode_35 rfl rfl ?_
      exact y_iret cx dJ7_signedHashCode_36 h
    · replace h := h.2 c1
      refine y_bipush (v := 31) cx dJ7_signedHashCode_15 (by decide) ?_
      refine y_iload_n 0 cx dJ7_signedHashCode_17 rfl rfl ?_
      refine y_imul cx dJ7_signedHashCode_18 ?_
      refine y_aload_n 1 cx dJ7_signedHashCode_19 rfl rfl ?_
      refine y_iload 5 cx dJ7_signedHashCode_20 rfl ?_
      obtain ⟨a2, t4, e3, h⟩ := h
      subst e3
      obtain ⟨h5, h⟩ := h
      refine y_baldT cx dJ7_signedHashCode_22 (Or.inr rfl) h5 ?_
      refine y_sipush (v := 255) cx dJ7_signedHashCode_23 (by decide) ?_
      refine y_iand cx dJ7_signedHashCode_26 ?_
      refine y_iadd cx dJ7_signedHashCode_27 ?_
      refine y_nmI (fun v6 e7 => ?_)
      replace h := h v6 e7
      refine y_istore_n 0 [some (vI v6), some (vR (some (104, a2, t4))), none, none, some (vI l4), some (vI l5)] cx dJ7_signedHashCode_28 rfl (Nat.le_of_ble_eq_true rfl) trivial rfl ?_
      refine y_iincN (v := 1) 5 (fun v8 => [some (vI v6), some (vR (some (104, a2, t4))), none, none, some (vI l4), some (vI v8)]) cx dJ7_signedHashCode_29 rfl (by decide) trivial (fun _ => rfl) (fun v8 e9 => ?_)
      replace h := h v8 e9
      refine y_goto 8 cx dJ7_signedHashCode_32 (by decide) ?_
      exact ih v6 (some (104, a2, t4)) l4 v8 S h
def w_J7_signedHashCode (l0 : Int32) (l1 : Rf) (l2 : Int32) (l3 : Int32) (S : HS) (N : Int32 → HS → Prop) (X : Nat → HS → Prop) : Prop :=
  ∀ v10, v10 = (l2 + l3) → ∃ k12, w_J7_signedHashCode_b8 N X k12 l0 l1 v10 l2 S
theorem ct_J7_signedHashCode {l : Launch} {G : GT} (l0 : Int32) (l1 : Rf) (l2 : Int32) (l3 : Int32) (S : HS) (N : Int32 → HS → Prop) (X : Nat → HS → Prop) (h : w_J7_signedHashCode l0 l1 l2 l3 S N X) : Ct Eq l yJ7_signedHashCode (ws_ yJ7_signedHashCode cJ7_signedHashCode 6 (some .int)) 1 G [vI l0, vR l1, vI l2, vI l3] S (oI N X) := by
  refine Ct.ofY (cc := cJ7_signedHashCode) (maxL := 6) (ret := (some .int)) [some (vI l0), some (vR l1), some (vI l2), some (vI l3), none, none] false (by decide +kernel) (fun h => by cases h) rfl rfl (Nat.le_of_ble_eq_true rfl) (fun I cx => ?_)
  unfold w_J7_signedHashCode at h
  refine y_iload_n 2 cx dJ7_signedHashCode_0 rfl rfl ?_
  refine y_iload_n 3 cx dJ7_signedHashCode_1 rfl rfl ?_
  refine y_iadd cx dJ7_signedHashCode_2 ?_
  refine y_nmI (fun v10 e11 => ?_)
  replace h := h v10 e11
  refine y_istore 4 [some (vI l0), some (vR l1), some (vI l2), some (vI l3), some (vI v10), none] cx dJ7_signedHashCode_3 (Nat.le_of_ble_eq_true rfl) trivial rfl ?_
  refine y_iload_n 2 cx dJ7_signedHashCode_5 rfl rfl ?_
  refine y_istore 5 [some (vI l0), some (vR l1), some (vI l2), some (vI l3), some (vI v10), some (vI l2)] cx dJ7_signedHashCode_6 (Nat.le_of_ble_eq_true rfl) trivial rfl ?_
  refine y_less [some (vI l0), some (vR l1), none, none, some (vI v10), some (vI l2)] ⟨rfl, ⟨rfl, ⟨rfl, ⟨rfl, trivial⟩⟩⟩⟩ ?_
  obtain ⟨k12, h⟩ := h
  exact y_J7_signedHashCode_b8 cx k12 l0 l1 v10 l2 S h
theorem md_J7_signedHashCode : yJ7_signedHashCode.cls ≠ "java/lang/invoke/MethodHandle" ∧ yJ7_signedHashCode.cls ≠ "java/lang/invoke/VarHandle" ∧ (parseMethodDescriptor yJ7_signedHashCode.desc).map (fun d => d.parameters.length) = some 4 := by decide +kernel
/-! jdk/internal/util/ArraysSupport.vectorizedHashCode -/
theorem dJ7_vectorizedHashCode_0 : decode cJ7_vectorizedHashCode 0 = .ok (.iload 4, 2) := by decide +kernel
theorem dJ7_vectorizedHashCode_2 : decode cJ7_vectorizedHashCode 2 = .ok (.tableswitch 127 4 10 #[42, 55, 127, 127, 88, 101, 114], 42) := by decide +kernel
theorem dJ7_vectorizedHashCode_44 : decode cJ7_vectorizedHashCode 44 = .ok (.iload_n 3, 1) := by decide +kernel
theorem dJ7_vectorizedHashCode_45 : decode cJ7_vectorizedHashCode 45 = .ok (.aload_n 0, 1) := by decide +kernel
theorem dJ7_vectorizedHashCode_46 : decode cJ7_vectorizedHashCode 46 = .ok (.checkcast 60, 3) := by decide +kernel
theorem dJ7_vectorizedHashCode_49 : decode cJ7_vectorizedHashCode 49 = .ok (.iload_n 1, 1) := by decide +kernel
theorem dJ7_vectorizedHashCode_50 : decode cJ7_vectorizedHashCode 50 = .ok (.iload_n 2, 1) := by decide +kernel
theorem dJ7_vectorizedHashCode_51 : decode cJ7_vectorizedHashCode 51 = .ok (.invokestatic 62, 3) := by decide +kernel
theorem dJ7_vectorizedHashCode_54 : decode cJ7_vectorizedHashCode 54 = .ok (.goto 103, 3) := by decide +kernel
theorem dJ7_vectorizedHashCode_57 : decode cJ7_vectorizedHashCode 57 = .ok (.aload_n 0, 1) := by decide +kernel
theorem dJ7_vectorizedHashCode_58 : decode cJ7_vectorizedHashCode 58 = .ok (.instanceof 60, 3) := by decide +kernel
theorem dJ7_vectorizedHashCode_90 : decode cJ7_vectorizedHashCode 90 = .ok (.iload_n 3, 1) := by decide +kernel
theorem dJ7_vectorizedHashCode_91 : decode cJ7_vectorizedHashCode 91 = .ok (.aload_n 0, 1) := by decide +kernel
theorem dJ7_vectorizedHashCode_92 : decode cJ7_vectorizedHashCode 92 = .ok (.checkcast 60, 3) := by decide +kernel
theorem dJ7_vectorizedHashCode_95 : decode cJ7_vectorizedHashCode 95 = .ok (.iload_n 1, 1) := by decide +kernel
theorem dJ7_vectorizedHashCode_96 : decode cJ7_vectorizedHashCode 96 = .ok (.iload_n 2, 1) := by decide +kernel
theorem dJ7_vectorizedHashCode_97 : decode cJ7_vectorizedHashCode 97 = .ok (.invokestatic 75, 3) := by decide +kernel
theorem dJ7_vectorizedHashCode_103 : decode cJ7_vectorizedHashCode 103 = .ok (.iload_n 3, 1) := by decide +kernel
theorem dJ7_vectorizedHashCode_104 : decode cJ7_vectorizedHashCode 104 = .ok (.aload_n 0, 1) := by decide +kernel
theorem dJ7_vectorizedHashCode_105 : decode cJ7_vectorizedHashCode 105 = .ok (.checkcast 77, 3) := by decide +kernel
theorem dJ7_vectorizedHashCode_116 : decode cJ7_vectorizedHashCode 116 = .ok (.iload_n 3, 1) := by decide +kernel
theorem dJ7_vectorizedHashCode_117 : decode cJ7_vectorizedHashCode 117 = .ok (.aload_n 0, 1) := by decide +kernel
theorem dJ7_vectorizedHashCode_118 : decode cJ7_vectorizedHashCode 118 = .ok (.checkcast 82, 3) := by decide +kernel
theorem dJ7_vectorizedHashCode_129 : decode cJ7_vectorizedHashCode 129 = .ok (.new 87, 3) := by decide +kernel
theorem dJ7_vectorizedHashCode_157 : decode cJ7_vectorizedHashCode 157 = .ok (.ireturn, 1) := by decide +kernel
def w_J7_vectorizedHashCode_b129 (N : Int32 → HS → Prop) (X : Nat → HS → Prop) (S : HS) : Prop :=
  False
theorem y_J7_vectorizedHashCode_b129 {I : Iv} {N : Int32 → HS → Prop} {X : Nat → HS → Prop} (cx : Cx I RJ7 cJ7_vectorizedHashCode 5 (some .int) 2 [] false) (S : HS) (h : w_J7_vectorizedHashCode_b129 N X S) : Y Eq I (oI N X) 129 [none, none, none, none, none] [] S := by
  unfold w_J7_vectorizedHashCode_b129 at h
  exact False.elim h
def w_J7_vectorizedHashCode (l0 : Rf) (l1 : Int32) (l2 : Int32) (l3 : Int32) (l4 : Int32) (S : HS) (N : Int32 → HS → Prop) (X : Nat → HS → Prop) : Prop :=
  ((l4 = 4 → ∃ a1 t3, l0 = some (104, a1, t3) ∧ w_J7_signedHashCode l3 (some (104, a1, t3)) l1 l2 S (fun r5 S4 =>
     N r5 S4) X) ∧
   (¬ l4 = 4 → ((l4 = 5 → False) ∧
     (¬ l4 = 5 → ((l4 = 6 → w_J7_vectorizedHashCode_b129 N X S) ∧
       (¬ l4 = 6 → ((l4 = 7 → w_J7_vectorizedHashCode_b129 N X S) ∧
         (¬ l4 = 7 → ((l4 = 8 → ∃ a6 t8, l0 = some (104, a6, t8) ∧ False) ∧
           (¬ l4 = 8 → ((l4 = 9 → False) ∧
             (¬ l4 = 9 → ((l4 = 10 → False) ∧
               (¬ l4 = 10 → w_J7_vectorizedHashCode_b129 N X S))))))))))))))
theorem ct_J7_vectorizedHashCode {l : Launch} {G : GT} (l0 : Rf) (l1 : Int32) (l2 : Int32) (l3 : Int32) (l4 : Int32) (S : HS) (N : Int32 → HS → Prop) (X : Nat → HS → Prop) (h : w_J7_vectorizedHashCode l0 l1 l2 l3 l4 S N X) : Ct Eq l yJ7_vectorizedHashCode (ws_ yJ7_vectorizedHashCode cJ7_vectorizedHashCode 5 (some .int)) 2 G [vR l0, vI l1, vI l2, vI l3, vI l4] S (oI N X) := by
  refine Ct.ofY (cc := cJ7_vectorizedHashCode) (maxL := 5) (ret := (some .int)) [some (vR l0), some (vI l1), some (vI l2), some (vI l3), some (vI l4)] false (by decide +kernel) (fun h => by cases h) rfl rfl (Nat.le_of_ble_eq_true rfl) (fun I cx => ?_)
  unfold w_J7_vectorizedHashCode at h
  refine y_iload 4 cx dJ7_vectorizedHashCode_0 rfl ?_
  refine y_tsw [(4, 44), (5, 57), (6, 129), (7, 129), (8, 90), (9, 103), (10, 116)] 129 cx dJ7_vectorizedHashCode_2 (by decide) (by decide) (by decide) ⟨fun c9_0 => ?_, fun c9n_0 => ⟨fun c9_1 => ?_, fun c9n_1 => ⟨fun c9_2 => ?_, fun c9n_2 => ⟨fun c9_3 => ?_, fun c9n_3 => ⟨fun c9_4 => ?_, fun c9n_4 => ⟨fun c9_5 => ?_, fun c9n_5 => ⟨fun c9_6 => ?_, fun c9n_6 => ?_⟩⟩⟩⟩⟩⟩⟩
  · replace h := (h).1 c9_0
    refine y_iload_n 3 cx dJ7_vectorizedHashCode_44 rfl rfl ?_
    refine y_aload_n 0 cx dJ7_vectorizedHashCode_45 rfl rfl ?_
    obtain ⟨a1, t3, e2, h⟩ := h
    subst e2
    refine y_castB cx q938 dJ7_vectorizedHashCode_46 ?_
    refine y_iload_n 1 cx dJ7_vectorizedHashCode_49 rfl rfl ?_
    refine y_iload_n 2 cx dJ7_vectorizedHashCode_50 rfl rfl ?_
    refine y_callI (d := 1) [vI l3, vR (some (104, a1, t3)), vI l1, vI l2] [] cx rfl rfl (fun l G => ct_J7_signedHashCode l3 (some (104, a1, t3)) l1 l2 S _ _ h) (lw_meth q941) (by decide) (Or.inl q941) q91 (link_S cx (Or.inl q939) q940 q91 q941 md_J7_signedHashCode rfl dJ7_vectorizedHashCode_51) (Nat.le_of_ble_eq_true rfl) (fun r5 S4 h => ?_) (fun a x' hx => hx)
    refine y_goto 157 cx dJ7_vectorizedHashCode_54 (by decide) ?_
    exact y_iret cx dJ7_vectorizedHashCode_157 h
  · replace h := ((h).2 c9n_0).1 c9_1
    refine y_aload_n 0 cx dJ7_vectorizedHashCode_57 rfl rfl ?_
    exact False.elim h
  · replace h := (((h).2 c9n_0).2 c9n_1).1 c9_2
    refine y_less [none, none, none, none, none] trivial ?_
    exact y_J7_vectorizedHashCode_b129 cx S h
  · replace h := ((((h).2 c9n_0).2 c9n_1).2 c9n_2).1 c9_3
    refine y_less [none, none, none, none, none] trivial ?_
    exact y_J7_vectorizedHashCode_b129 cx S h
  · replace h := (((((h).2 c9n_0).2 c9n_1).2 c9n_2).2 c9n_3).1 c9_4
    refine y_iload_n 3 cx dJ7_vectorizedHashCode_90 rfl rfl ?_
    refine y_aload_n 0 cx dJ7_vectorizedHashCode_91 rfl rfl ?_
    obtain ⟨a6, t8, e7, h⟩ := h
    subst e7
    refine y_castB cx q938 dJ7_vectorizedHashCode_92 ?_
    refine y_iload_n 1 cx dJ7_vectorizedHashCode_95 rfl rfl ?_
    refine y_iload_n 2 cx dJ7_vectorizedHashCode_96 rfl rfl ?_
    exact False.elim h
  · replace h := ((((((h).2 c9n_0).2 c9n_1).2 c9n_2).2 c9n_3).2 c9n_4).1 c9_5
    refine y_iload_n 3 cx dJ7_vectorizedHashCode_103 rfl rfl ?_
    refine y_aload_n 0 cx dJ7_vectorizedHashCode_104 rfl rfl ?_
    exact False.elim h
  · replace h := (((((((h).2 c9n_0).2 c9n_1).2 c9n_2).2 c9n_3).2 c9n_4).2 c9n_5).1 c9_6
    refine y_iload_n 3 cx dJ7_vectorizedHashCode_116 rfl rfl ?_
    refine y_aload_n 0 cx dJ7_vectorizedHashCode_117 rfl rfl ?_
    exact False.elim h
  · replace h := (((((((h).2 c9n_0).2 c9n_1).2 c9n_2).2 c9n_3).2 c9n_4).2 c9n_5).2 c9n_6
    refine y_less [none, none, none, none, none] trivial ?_
    exact y_J7_vectorizedHashCode_b129 cx S h
theorem md_J7_vectorizedHashCode : yJ7_vectorizedHashCode.cls ≠ "java/lang/invoke/MethodHandle" ∧ yJ7_vectorizedHashCode.cls ≠ "java/lang/invoke/VarHandle" ∧ (parseMethodDescriptor yJ7_vectorizedHashCode.desc).map (fun d => d.parameters.length) = some 5 := by decide +kernel
/-! java/lang/StringLatin1.hashCode -/
theorem dJ10_hashCode_0 : decode cJ10_hashCode 0 = .ok (.aload_n 0, 1) := by decide +kernel
theorem dJ10_hashCode_1 : decode cJ10_hashCode 1 = .ok (.arraylength, 1) := by decide +kernel
theorem dJ10_hashCode_2 : decode cJ10_hashCode 2 = .ok (.lookupswitch 40 #[(0, 26), (1, 30)], 26) := by decide +kernel
theorem dJ10_hashCode_28 : decode cJ10_hashCode 28 = .ok (.iconst 0, 1) := by decide +kernel
theorem dJ10_hashCode_29 : decode cJ10_hashCode 29 = .ok (.goto 22, 3) := by decide +kernel
theorem dJ10_hashCode_32 : decode cJ10_hashCode 32 = .ok (.aload_n 0, 1) := by decide +kernel
theorem dJ10_hashCode_33 : decode cJ10_hashCode 33 = .ok (.iconst 0, 1) := by decide +kernel
theorem dJ10_hashCode_34 : decode cJ10_hashCode 34 = .ok (.baload, 1) := by decide +kernel
theorem dJ10_hashCode_35 : decode cJ10_hashCode 35 = .ok (.sipush 255, 3) := by decide +kernel
theorem dJ10_hashCode_38 : decode cJ10_hashCode 38 = .ok (.iand, 1) := by decide +kernel
theorem dJ10_hashCode_39 : decode cJ10_hashCode 39 = .ok (.goto 12, 3) := by decide +kernel
theorem dJ10_hashCode_42 : decode cJ10_hashCode 42 = .ok (.aload_n 0, 1) := by decide +kernel
theorem dJ10_hashCode_43 : decode cJ10_hashCode 43 = .ok (.iconst 0, 1) := by decide +kernel
theorem dJ10_hashCode_44 : decode cJ10_hashCode 44 = .ok (.aload_n 0, 1) := by decide +kernel
theorem dJ10_hashCode_45 : decode cJ10_hashCode 45 = .ok (.arraylength, 1) := by decide +kernel
theorem dJ10_hashCode_46 : decode cJ10_hashCode 46 = .ok (.iconst 0, 1) := by decide +kernel
theorem dJ10_hashCode_47 : decode cJ10_hashCode 47 = .ok (.iconst 4, 1) := by decide +kernel
theorem dJ10_hashCode_48 : decode cJ10_hashCode 48 = .ok (.invokestatic 84, 3) := by decide +kernel
theorem dJ10_hashCode_51 : decode cJ10_hashCode 51 = .ok (.ireturn, 1) := by decide +kernel
def w_J10_hashCode (l0 : Rf) (S : HS) (N : Int32 → HS → Prop) (X : Nat → HS → Prop) : Prop :=
  ∃ a1 t3, l0 = some (104, a1, t3) ∧ (((nI t3.length) = 0 → N (0 : Int32) S) ∧
   (¬ (nI t3.length) = 0 → (((nI t3.length) = 1 → vp_in (0 : Int32) t3.length ∧ N ((t3.getD (0 : Int32).toNatClampNeg 0) &&& (255 : Int32)) S) ∧
     (¬ (nI t3.length) = 1 → w_J7_vectorizedHashCode (some (104, a1, t3)) (0 : Int32) (nI t3.length) (0 : Int32) (4 : Int32) S (fun r6 S5 =>
       N r6 S5) X))))
theorem ct_J10_hashCode {l : Launch} {G : GT} (l0 : Rf) (S : HS) (N : Int32 → HS → Prop) (X : Nat → HS → Prop) (h : w_J10_hashCode l0 S N X) : Ct Eq l yJ10_hashCode (ws_ yJ10_hashCode cJ10_hashCode 1 (some .int)) 3 G [vR l0] S (oI N X) := by
  refine Ct.ofY (cc := cJ10_hashCode) (maxL := 1) (ret := (some .int)) [some (vR l0)] false (by decide +kernel) (fun h => by cases h) rfl rfl (Nat.le_of_ble_eq_true rfl) (fun I cx => ?_)
  unfold w_J10_hashCode at h
  refine y_aload_n 0 cx dJ10_hashCode_0 rfl rfl ?_
  obtain ⟨a1, t3, e2, h⟩ := h
  subst e2
  refine y_alenT cx dJ10_hashCode_1 (Or.inr rfl) ?_
  refine y_lsw [(0, 28), (1, 32)] 42 cx dJ10_hashCode_2 (by decide) (by decide) (by decide) ⟨fun c7_0 => ?_, fun c7n_0 => ⟨fun c7_1 => ?_, fun c7n_1 => ?_⟩⟩
  · replace h := (h).1 c7_0
    refine y_iconst (v := 0) cx dJ10_hashCode_28 (by decide) ?_
    refine y_goto 51 cx dJ10_hashCode_29 (by decide) ?_
    exact y_iret cx dJ10_hashCode_51 h
  · replace h := ((h).2 c7n_0).1 c7_1
    refine y_aload_n 0 cx dJ10_hashCode_32 rfl rfl ?_
    refine y_iconst (v := 0) cx dJ10_hashCode_33 (by decide) ?_
    obtain ⟨h4, h⟩ := h
    refine y_baldT cx dJ10_hashCode_34 (Or.inr rfl) h4 ?_
    refine y_sipush (v := 255) cx dJ10_hashCode_35 (by decide) ?_
    refine y_iand cx dJ10_hashCode_38 ?_
    refine y_goto 51 cx dJ10_hashCode_39 (by decide) ?_
    exact y_iret cx dJ10_hashCode_51 h
  · replace h := ((h).2 c7n_0).2 c7n_1
    refine y_aload_n 0 cx dJ10_hashCode_42 rfl rfl ?_
    refine y_iconst (v := 0) cx dJ10_hashCode_43 (by decide) ?_
    refine y_aload_n 0 cx dJ10_hashCode_44 rfl rfl ?_
    refine y_alenT cx dJ10_hashCode_45 (Or.inr rfl) ?_
    refine y_iconst (v := 0) cx dJ10_hashCode_46 (by decide) ?_
    refine y_iconst (v := 4) cx dJ10_hashCode_47 (by decide) ?_
    refine y_callI (d := 2) [vR (some (104, a1, t3)), vI (0 : Int32), vI (nI t3.length), vI (0 : Int32), vI (4 : Int32)] [] cx rfl rfl (fun l G => ct_J7_vectorizedHashCode (some (104, a1, t3)) (0 : Int32) (nI t3.length) (0 : Int32) (4 : Int32) S _ _ h) (lw_meth q937) (by decide) (Or.inl q937) q91 (link_S cx (Or.inl q935) q936 q91 q937 md_J7_vectorizedHashCode rfl dJ10_hashCode_48) (Nat.le_of_ble_eq_true rfl) (fun r6 S5 h => ?_) (fun a x' hx => hx)
    exact y_iret cx dJ10_hashCode_51 h
theorem md_J10_hashCode : yJ10_hashCode.cls ≠ "java/lang/invoke/MethodHandle" ∧ yJ10_hashCode.cls ≠ "java/lang/invoke/VarHandle" ∧ (parseMethodDescriptor yJ10_hashCode.desc).map (fun d => d.parameters.length) = some 1 := by decide +kernel
/-! java/lang/String.hashCode -/
theorem dJ2_hashCode_0 : decode cJ2_hashCode 0 = .ok (.aload_n 0, 1) := by decide +kernel
theorem dJ2_hashCode_1 : decode cJ2_hashCode 1 = .ok (.getfield 19, 3) := by decide +kernel
theorem dJ2_hashCode_4 : decode cJ2_hashCode 4 = .ok (.istore_n 1, 1) := by decide +kernel
theorem dJ2_hashCode_5 : decode cJ2_hashCode 5 = .ok (.iload_n 1, 1) := by decide +kernel
theorem dJ2_hashCode_6 : decode cJ2_hashCode 6 = .ok (.ifCond .ne 52, 3) := by decide +kernel
theorem dJ2_hashCode_9 : decode cJ2_hashCode 9 = .ok (.aload_n 0, 1) := by decide +kernel
theorem dJ2_hashCode_10 : decode cJ2_hashCode 10 = .ok (.getfield 23, 3) := by decide +kernel
theorem dJ2_hashCode_13 : decode cJ2_hashCode 13 = .ok (.ifCond .ne 45, 3) := by decide +kernel
theorem dJ2_hashCode_16 : decode cJ2_hashCode 16 = .ok (.aload_n 0, 1) := by decide +kernel
theorem dJ2_hashCode_17 : decode cJ2_hashCode 17 = .ok (.invokevirtual 492, 3) := by decide +kernel
theorem dJ2_hashCode_20 : decode cJ2_hashCode 20 = .ok (.ifCond .eq 13, 3) := by decide +kernel
theorem dJ2_hashCode_23 : decode cJ2_hashCode 23 = .ok (.aload_n 0, 1) := by decide +kernel
theorem dJ2_hashCode_24 : decode cJ2_hashCode 24 = .ok (.getfield 9, 3) := by decide +kernel
theorem dJ2_hashCode_27 : decode cJ2_hashCode 27 = .ok (.invokestatic 628, 3) := by decide +kernel
theorem dJ2_hashCode_30 : decode cJ2_hashCode 30 = .ok (.goto 10, 3) := by decide +kernel
theorem dJ2_hashCode_33 : decode cJ2_hashCode 33 = .ok (.aload_n 0, 1) := by decide +kernel
theorem dJ2_hashCode_34 : decode cJ2_hashCode 34 = .ok (.getfield 9, 3) := by decide +kernel
theorem dJ2_hashCode_37 : decode cJ2_hashCode 37 = .ok (.invokestatic 632, 3) := by decide +kernel
theorem dJ2_hashCode_40 : decode cJ2_hashCode 40 = .ok (.istore_n 1, 1) := by decide +kernel
theorem dJ2_hashCode_41 : decode cJ2_hashCode 41 = .ok (.iload_n 1, 1) := by decide +kernel
theorem dJ2_hashCode_42 : decode cJ2_hashCode 42 = .ok (.ifCond .ne 11, 3) := by decide +kernel
theorem dJ2_hashCode_45 : decode cJ2_hashCode 45 = .ok (.aload_n 0, 1) := by decide +kernel
theorem dJ2_hashCode_46 : decode cJ2_hashCode 46 = .ok (.iconst 1, 1) := by decide +kernel
theorem dJ2_hashCode_47 : decode cJ2_hashCode 47 = .ok (.putfield 23, 3) := by decide +kernel
theorem dJ2_hashCode_50 : decode cJ2_hashCode 50 = .ok (.goto 8, 3) := by decide +kernel
theorem dJ2_hashCode_53 : decode cJ2_hashCode 53 = .ok (.aload_n 0, 1) := by decide +kernel
theorem dJ2_hashCode_54 : decode cJ2_hashCode 54 = .ok (.iload_n 1, 1) := by decide +kernel
theorem dJ2_hashCode_55 : decode cJ2_hashCode 55 = .ok (.putfield 19, 3) := by decide +kernel
theorem dJ2_hashCode_58 : decode cJ2_hashCode 58 = .ok (.iload_n 1, 1) := by decide +kernel
theorem dJ2_hashCode_59 : decode cJ2_hashCode 59 = .ok (.ireturn, 1) := by decide +kernel
def w_J2_hashCode (a : Nat) (t : List Int32) (S : HS) (N : Int32 → HS → Prop) (X : Nat → HS → Prop) : Prop :=
  ∀ (x1 : Int32), (x1 ≠ 0 → x1 = hsh t) → ((¬ x1 = 0 → N x1 S) ∧
   (x1 = 0 → ∀ (x4 : Int32), (x4 ≠ 0 → hsh t = 0) → ((¬ x4 = 0 → N x1 S) ∧
     (x4 = 0 → w_J2_isLatin1 a t S (fun r8 S7 =>
       ((r8 = 0 → ∀ (w10 : Nat), tok t → False) ∧
        (¬ r8 = 0 → ∀ (w12 : Nat), tok t → w_J10_hashCode (some (104, w12, t)) S7 (fun r15 S14 =>
          ((¬ r15 = 0 → r15 = hsh t ∧ N r15 S14) ∧
           (r15 = 0 → hsh t = 0 ∧ N r15 S14))) X))) X))))
theorem ct_J2_hashCode {l : Launch} {G : GT} (a : Nat) (t : List Int32) (S : HS) (N : Int32 → HS → Prop) (X : Nat → HS → Prop) (h : w_J2_hashCode a t S N X) : Ct Eq l yJ2_hashCode (ws_ yJ2_hashCode cJ2_hashCode 2 (some .int)) 4 G [vR (some (14, a, t))] S (oI N X) := by
  refine Ct.ofY (cc := cJ2_hashCode) (maxL := 2) (ret := (some .int)) [some (vR (some (14, a, t))), none] false (by decide +kernel) (fun h => by cases h) rfl rfl (Nat.le_of_ble_eq_true rfl) (fun I cx => ?_)
  unfold w_J2_hashCode at h
  refine y_aload_n 0 cx dJ2_hashCode_0 rfl rfl ?_
  refine y_strHash cx q595 dJ2_hashCode_1 (fun x1 h2 => ?_)
  replace h := h x1 h2
  refine y_istore_n 1 [some (vR (some (14, a, t))), some (vI x1)] cx dJ2_hashCode_4 rfl (Nat.le_of_ble_eq_true rfl) trivial rfl ?_
  refine y_iload_n 1 cx dJ2_hashCode_5 rfl rfl ?_
  refine y_if_ne 58 cx dJ2_hashCode_6 (by decide) (fun c3 => ?_) (fun c3 => ?_)
  · replace h := h.1 c3
    refine y_iload_n 1 cx dJ2_hashCode_58 rfl rfl ?_
    exact y_iret cx dJ2_hashCode_59 h
  · replace h := h.2 c3
    refine y_aload_n 0 cx dJ2_hashCode_9 rfl rfl ?_
    refine y_strHz cx q596 dJ2_hashCode_10 (fun x4 h5 => ?_)
    replace h := h x4 h5
    refine y_if_ne 58 cx dJ2_hashCode_13 (by decide) (fun c6 => ?_) (fun c6 => ?_)
    · replace h := h.1 c6
      refine y_iload_n 1 cx dJ2_hashCode_58 rfl rfl ?_
      exact y_iret cx dJ2_hashCode_59 h
    · replace h := h.2 c6
      refine y_aload_n 0 cx dJ2_hashCode_16 rfl rfl ?_
      refine y_callI (d := 3) [vR (some (14, a, t))] [] cx rfl rfl (fun l G => ct_J2_isLatin1 a t S _ _ h) (lw_meth q712) (by decide) (Or.inl q712) q80 (link_V cx (Or.inr (Or.inl ⟨Or.inl rfl, rfl⟩)) (Or.inl q709) q710 q711 q712 md_J2_isLatin1 rfl dJ2_hashCode_17) (Nat.le_of_ble_eq_true rfl) (fun r8 S7 h => ?_) (fun a x' hx => hx)
      refine y_if_eq 33 cx dJ2_hashCode_20 (by decide) (fun c9 => ?_) (fun c9 => ?_)
      · replace h := h.1 c9
        refine y_aload_n 0 cx dJ2_hashCode_33 rfl rfl ?_
        refine y_strVal14 cx q593 dJ2_hashCode_34 (fun w10 h11 => ?_)
        replace h := h w10 h11
        exact False.elim h
      · replace h := h.2 c9
        refine y_aload_n 0 cx dJ2_hashCode_23 rfl rfl ?_
        refine y_strVal14 cx q593 dJ2_hashCode_24 (fun w12 h13 => ?_)
        replace h := h w12 h13
        refine y_callI (d := 3) [vR (some (104, w12, t))] [] cx rfl rfl (fun l G => ct_J10_hashCode (some (104, w12, t)) S7 _ _ h) (lw_meth q934) (by decide) (Or.inl q934) q95 (link_S cx (Or.inl q932) q933 q95 q934 md_J10_hashCode rfl dJ2_hashCode_27) (Nat.le_of_ble_eq_true rfl) (fun r15 S14 h => ?_) (fun a x' hx => hx)
        refine y_goto 40 cx dJ2_hashCode_30 (by decide) ?_
        refine y_istore_n 1 [some (vR (some (14, a, t))), some (vI r15)] cx dJ2_hashCode_40 rfl (Nat.le_of_ble_eq_true rfl) trivial rfl ?_
        refine y_iload_n 1 cx dJ2_hashCode_41 rfl rfl ?_
        refine y_if_ne 53 cx dJ2_hashCode_42 (by decide) (fun c16 => ?_) (fun c16 => ?_)
        · replace h := h.1 c16
          refine y_aload_n 0 cx dJ2_hashCode_53 rfl rfl ?_
          refine y_iload_n 1 cx dJ2_hashCode_54 rfl rfl ?_
          obtain ⟨h17, h⟩ := h
          refine y_putHash cx q595 dJ2_hashCode_55 h17 ?_
          refine y_iload_n 1 cx dJ2_hashCode_58 rfl rfl ?_
          exact y_iret cx dJ2_hashCode_59 h
        · replace h := h.2 c16
          refine y_aload_n 0 cx dJ2_hashCode_45 rfl rfl ?_
          refine y_iconst (v := 1) cx dJ2_hashCode_46 (by decide) ?_
          obtain ⟨h18, h⟩ := h
          refine y_putHz cx q596 dJ2_hashCode_47 rfl h18 ?_
          refine y_goto 58 cx dJ2_hashCode_50 (by decide) ?_
          refine y_iload_n 1 cx dJ2_hashCode_58 rfl rfl ?_
          exact y_iret cx dJ2_hashCode_59 h
theorem md_J2_hashCode : yJ2_hashCode.cls ≠ "java/lang/invoke/MethodHandle" ∧ yJ2_hashCode.cls ≠ "java/lang/invoke/VarHandle" ∧ (parseMethodDescriptor yJ2_hashCode.desc).map (fun d => d.parameters.length) = some 0 := by decide +kernel
/-! java/lang/AbstractStringBuilder.<init> -/
theorem dJ0_init_0 : decode cJ0_init 0 = .ok (.aload_n 0, 1) := by decide +kernel
theorem dJ0_init_1 : decode cJ0_init 1 = .ok (.invokespecial 3, 3) := by decide +kernel
theorem dJ0_init_4 : decode cJ0_init 4 = .ok (.getstatic 18, 3) := by decide +kernel
theorem dJ0_init_7 : decode cJ0_init 7 = .ok (.ifCond .eq 18, 3) := by decide +kernel
theorem dJ0_init_10 : decode cJ0_init 10 = .ok (.aload_n 0, 1) := by decide +kernel
theorem dJ0_init_11 : decode cJ0_init 11 = .ok (.iload_n 1, 1) := by decide +kernel
theorem dJ0_init_12 : decode cJ0_init 12 = .ok (.newarray .byte, 2) := by decide +kernel
theorem dJ0_init_14 : decode cJ0_init 14 = .ok (.putfield 15, 3) := by decide +kernel
theorem dJ0_init_17 : decode cJ0_init 17 = .ok (.aload_n 0, 1) := by decide +kernel
theorem dJ0_init_18 : decode cJ0_init 18 = .ok (.iconst 0, 1) := by decide +kernel
theorem dJ0_init_19 : decode cJ0_init 19 = .ok (.putfield 22, 3) := by decide +kernel
theorem dJ0_init_22 : decode cJ0_init 22 = .ok (.goto 16, 3) := by decide +kernel
theorem dJ0_init_25 : decode cJ0_init 25 = .ok (.aload_n 0, 1) := by decide +kernel
theorem dJ0_init_26 : decode cJ0_init 26 = .ok (.iload_n 1, 1) := by decide +kernel
theorem dJ0_init_27 : decode cJ0_init 27 = .ok (.invokestatic 26, 3) := by decide +kernel
theorem dJ0_init_38 : decode cJ0_init 38 = .ok (.return_, 1) := by decide +kernel
def w_J0_init (a : Nat) (l1 : Int32) (S : HS) (N : HS → Prop) (X : Nat → HS → Prop) : Prop :=
  (((1 : Int32) = 0 → False) ∧
   (¬ (1 : Int32) = 0 → ¬ l1 < 0 ∧ l1.toNatClampNeg ≤ 65536 ∧ 1 ≤ hB S ∧ l1.toNatClampNeg ≤ hU S ∧ ∀ a6 S7, a6 = hZ S → S7 = sN S 101 l1.toNatClampNeg → ∀ S10, S10 = sR S7 76 a (some (101, a6, [])) → ∀ S12, S12 = sI S10 77 a (0 : Int32) → N S12))
theorem ct_J0_init {l : Launch} {G : GT} (a : Nat) (l1 : Int32) (S : HS) (N : HS → Prop) (X : Nat → HS → Prop) (h : w_J0_init a l1 S N X) : Ct Eq l yJ0_init (ws_ yJ0_init cJ0_init 2 none) 2 G [vR (some (15, a, [])), vI l1] S (oV N X) := by
  refine Ct.ofY (cc := cJ0_init) (maxL := 2) (ret := none) [some (vR (some (15, a, []))), some (vI l1)] true (by decide +kernel) (fun _ => rfl) rfl rfl (Nat.le_of_ble_eq_true rfl) (fun I cx => ?_)
  unfold w_J0_init at h
  refine y_aload_n 0 cx dJ0_init_0 rfl rfl ?_
  refine y_objInit (d := 1) cx q125 q113 q114 dJ0_init_1 rfl (by rw [catA_sum]; exact Nat.le_of_ble_eq_true rfl) ?_
  refine y_compact cx q126 dJ0_init_4 ?_
  refine y_if_eq 25 cx dJ0_init_7 (by decide) (fun c1 => ?_) (fun c1 => ?_)
  · replace h := h.1 c1
    refine y_aload_n 0 cx dJ0_init_25 rfl rfl ?_
    refine y_iload_n 1 cx dJ0_init_26 rfl rfl ?_
    exact False.elim h
  · replace h := h.2 c1
    refine y_aload_n 0 cx dJ0_init_10 rfl rfl ?_
    refine y_iload_n 1 cx dJ0_init_11 rfl rfl ?_
    obtain ⟨h2, h⟩ := h
    obtain ⟨h3, h⟩ := h
    obtain ⟨h4, h⟩ := h
    obtain ⟨h5, h⟩ := h
    refine y_newbN cx q150 dJ0_init_12 h2 h3 h4 h5 (fun a6 S7 e8 e9 => ?_)
    replace h := h a6 S7 e8 e9
    refine y_putR cx fe_76 (Or.inl q135) (Or.inl rfl) (Or.inl rfl) dJ0_init_14 (by decide) pd_76 (Or.inr ⟨_, rfl⟩) ?_
    refine y_nmS (fun S10 e11 => ?_)
    replace h := h S10 e11
    refine y_aload_n 0 cx dJ0_init_17 rfl rfl ?_
    refine y_iconst (v := 0) cx dJ0_init_18 (by decide) ?_
    refine y_putI cx fe_77 (Or.inl q136) (Or.inl rfl) (Or.inl rfl) dJ0_init_19 (by decide) pdB ⟨rfl, rfl⟩ ?_
    refine y_nmS (fun S12 e13 => ?_)
    replace h := h S12 e13
    refine y_goto 38 cx dJ0_init_22 (by decide) ?_
    exact y_vret cx dJ0_init_38 h
theorem md_J0_init : yJ0_init.cls ≠ "java/lang/invoke/MethodHandle" ∧ yJ0_init.cls ≠ "java/lang/invoke/VarHandle" ∧ (parseMethodDescriptor yJ0_init.desc).map (fun d => d.parameters.length) = some 1 := by decide +kernel
/-! java/lang/StringBuilder.<init> -/
theorem dJ1_init_0 : decode cJ1_init 0 = .ok (.aload_n 0, 1) := by decide +kernel
theorem dJ1_init_1 : decode cJ1_init 1 = .ok (.iload_n 1, 1) := by decide +kernel
theorem dJ1_init_2 : decode cJ1_init 2 = .ok (.invokespecial 1, 3) := by decide +kernel
theorem dJ1_init_5 : decode cJ1_init 5 = .ok (.return_, 1) := by decide +kernel
def w_J1_init (a : Nat) (l1 : Int32) (S : HS) (N : HS → Prop) (X : Nat → HS → Prop) : Prop :=
  w_J0_init a l1 S (fun S1 =>
   N S1) X
theorem ct_J1_init {l : Launch} {G : GT} (a : Nat) (l1 : Int32) (S : HS) (N : HS → Prop) (X : Nat → HS → Prop) (h : w_J1_init a l1 S N X) : Ct Eq l yJ1_init (ws_ yJ1_init cJ1_init 2 none) 3 G [vR (some (15, a, [])), vI l1] S (oV N X) := by
  refine Ct.ofY (cc := cJ1_init) (maxL := 2) (ret := none) [some (vR (some (15, a, []))), some (vI l1)] true (by decide +kernel) (fun _ => rfl) rfl rfl (Nat.le_of_ble_eq_true rfl) (fun I cx => ?_)
  unfold w_J1_init at h
  refine y_aload_n 0 cx dJ1_init_0 rfl rfl ?_
  refine y_iload_n 1 cx dJ1_init_1 rfl rfl ?_
  refine y_callV (d := 2) [vR (some (15, a, [])), vI l1] [] cx rfl rfl (fun l G => ct_J0_init a l1 S _ _ h) (lw_meth q124) (by decide) (Or.inl q124) q78 (link_I cx rfl (Or.inl q122) q123 q124 md_J0_init rfl dJ1_init_2) (Nat.le_of_ble_eq_true rfl) (fun S1 h => ?_) (fun a x' hx => hx)
  exact y_vret cx dJ1_init_5 h
theorem md_J1_init : yJ1_init.cls ≠ "java/lang/invoke/MethodHandle" ∧ yJ1_init.cls ≠ "java/lang/invoke/VarHandle" ∧ (parseMethodDescriptor yJ1_init.desc).map (fun d => d.parameters.length) = some 1 := by decide +kernel
/-! java/lang/AbstractStringBuilder.isLatin1 -/
theorem dJ0_isLatin1_0 : decode cJ0_isLatin1 0 = .ok (.getstatic 18, 3) := by decide +kernel
theorem dJ0_isLatin1_3 : decode cJ0_isLatin1 3 = .ok (.ifCond .eq 14, 3) := by decide +kernel
theorem dJ0_isLatin1_6 : decode cJ0_isLatin1 6 = .ok (.aload_n 0, 1) := by decide +kernel
theorem dJ0_isLatin1_7 : decode cJ0_isLatin1 7 = .ok (.getfield 22, 3) := by decide +kernel
theorem dJ0_isLatin1_10 : decode cJ0_isLatin1 10 = .ok (.ifCond .ne 7, 3) := by decide +kernel
theorem dJ0_isLatin1_13 : decode cJ0_isLatin1 13 = .ok (.iconst 1, 1) := by decide +kernel
theorem dJ0_isLatin1_14 : decode cJ0_isLatin1 14 = .ok (.goto 4, 3) := by decide +kernel
theorem dJ0_isLatin1_17 : decode cJ0_isLatin1 17 = .ok (.iconst 0, 1) := by decide +kernel
theorem dJ0_isLatin1_18 : decode cJ0_isLatin1 18 = .ok (.ireturn, 1) := by decide +kernel
def w_J0_isLatin1 (a : Nat) (S : HS) (N : Int32 → HS → Prop) (X : Nat → HS → Prop) : Prop :=
  (((1 : Int32) = 0 → N (0 : Int32) S) ∧
   (¬ (1 : Int32) = 0 → ((¬ (hI S 77 a) = 0 → N (0 : Int32) S) ∧
     ((hI S 77 a) = 0 → N (1 : Int32) S))))
theorem ct_J0_isLatin1 {l : Launch} {G : GT} (a : Nat) (S : HS) (N : Int32 → HS → Prop) (X : Nat → HS → Prop) (h : w_J0_isLatin1 a S N X) : Ct Eq l yJ0_isLatin1 (ws_ yJ0_isLatin1 cJ0_isLatin1 1 (some .boolean)) 1 G [vR (some (15, a, []))] S (oI N X) := by
  refine Ct.ofY (cc := cJ0_isLatin1) (maxL := 1) (ret := (some .boolean)) [some (vR (some (15, a, [])))] false (by decide +kernel) (fun h => by cases h) rfl rfl (Nat.le_of_ble_eq_true rfl) (fun I cx => ?_)
  unfold w_J0_isLatin1 at h
  refine y_compact cx q126 dJ0_isLatin1_0 ?_
  refine y_if_eq 17 cx dJ0_isLatin1_3 (by decide) (fun c1 => ?_) (fun c1 => ?_)
  · replace h := h.1 c1
    refine y_iconst (v := 0) cx dJ0_isLatin1_17 (by decide) ?_
    exact y_zret cx rfl dJ0_isLatin1_18 h
  · replace h := h.2 c1
    refine y_aload_n 0 cx dJ0_isLatin1_6 rfl rfl ?_
    refine y_getI cx fe_77 (Or.inl q136) (Or.inl rfl) dJ0_isLatin1_7 (by decide) ?_
    refine y_if_ne 17 cx dJ0_isLatin1_10 (by decide) (fun c2 => ?_) (fun c2 => ?_)
    · replace h := h.1 c2
      refine y_iconst (v := 0) cx dJ0_isLatin1_17 (by decide) ?_
      exact y_zret cx rfl dJ0_isLatin1_18 h
    · replace h := h.2 c2
      refine y_iconst (v := 1) cx dJ0_isLatin1_13 (by decide) ?_
      refine y_goto 18 cx dJ0_isLatin1_14 (by decide) ?_
      exact y_zret cx rfl dJ0_isLatin1_18 h
theorem md_J0_isLatin1 : yJ0_isLatin1.cls ≠ "java/lang/invoke/MethodHandle" ∧ yJ0_isLatin1.cls ≠ "java/lang/invoke/VarHandle" ∧ (parseMethodDescriptor yJ0_isLatin1.desc).map (fun d => d.parameters.length) = some 0 := by decide +kernel
/-! java/lang/AbstractStringBuilder.ensureCapacityInternal -/
theorem dJ0_ensureCapacityInternal_0 : decode cJ0_ensureCapacityInternal 0 = .ok (.aload_n 0, 1) := by decide +kernel
theorem dJ0_ensureCapacityInternal_1 : decode cJ0_ensureCapacityInternal 1 = .ok (.getfield 15, 3) := by decide +kernel
theorem dJ0_ensureCapacityInternal_4 : decode cJ0_ensureCapacityInternal 4 = .ok (.arraylength, 1) := by decide +kernel
theorem dJ0_ensureCapacityInternal_5 : decode cJ0_ensureCapacityInternal 5 = .ok (.aload_n 0, 1) := by decide +kernel
theorem dJ0_ensureCapacityInternal_6 : decode cJ0_ensureCapacityInternal 6 = .ok (.getfield 22, 3) := by decide +kernel
theorem dJ0_ensureCapacityInternal_9 : decode cJ0_ensureCapacityInternal 9 = .ok (.ishr, 1) := by decide +kernel
theorem dJ0_ensureCapacityInternal_10 : decode cJ0_ensureCapacityInternal 10 = .ok (.istore_n 2, 1) := by decide +kernel
theorem dJ0_ensureCapacityInternal_11 : decode cJ0_ensureCapacityInternal 11 = .ok (.iload_n 1, 1) := by decide +kernel
theorem dJ0_ensureCapacityInternal_12 : decode cJ0_ensureCapacityInternal 12 = .ok (.iload_n 2, 1) := by decide +kernel
theorem dJ0_ensureCapacityInternal_13 : decode cJ0_ensureCapacityInternal 13 = .ok (.isub, 1) := by decide +kernel
theorem dJ0_ensureCapacityInternal_14 : decode cJ0_ensureCapacityInternal 14 = .ok (.ifCond .le 24, 3) := by decide +kernel
theorem dJ0_ensureCapacityInternal_17 : decode cJ0_ensureCapacityInternal 17 = .ok (.aload_n 0, 1) := by decide +kernel
theorem dJ0_ensureCapacityInternal_18 : decode cJ0_ensureCapacityInternal 18 = .ok (.aload_n 0, 1) := by decide +kernel
theorem dJ0_ensureCapacityInternal_19 : decode cJ0_ensureCapacityInternal 19 = .ok (.getfield 15, 3) := by decide +kernel
theorem dJ0_ensureCapacityInternal_22 : decode cJ0_ensureCapacityInternal 22 = .ok (.aload_n 0, 1) := by decide +kernel
theorem dJ0_ensureCapacityInternal_23 : decode cJ0_ensureCapacityInternal 23 = .ok (.iload_n 1, 1) := by decide +kernel
theorem dJ0_ensureCapacityInternal_24 : decode cJ0_ensureCapacityInternal 24 = .ok (.invokevirtual 104, 3) := by decide +kernel
theorem dJ0_ensureCapacityInternal_38 : decode cJ0_ensureCapacityInternal 38 = .ok (.return_, 1) := by decide +kernel
def w_J0_ensureCapacityInternal (a : Nat) (l1 : Int32) (S : HS) (N : HS → Prop) (X : Nat → HS → Prop) : Prop :=
  ∃ a1, (hR S 76 a) = some (101, a1, []) ∧ ∀ v3, v3 = ((nI (hN S a1)) >>> ((hI S 77 a) &&& 31)) → (((l1 - v3) ≤ 0 → N S) ∧
   (¬ (l1 - v3) ≤ 0 → False))
theorem ct_J0_ensureCapacityInternal {l : Launch} {G : GT} (a : Nat) (l1 : Int32) (S : HS) (N : HS → Prop) (X : Nat → HS → Prop) (h : w_J0_ensureCapacityInternal a l1 S N X) : Ct Eq l yJ0_ensureCapacityInternal (ws_ yJ0_ensureCapacityInternal cJ0_ensureCapacityInternal 3 none) 1 G [vR (some (15, a, [])), vI l1] S (oV N X) := by
  refine Ct.ofY (cc := cJ0_ensureCapacityInternal) (maxL := 3) (ret := none) [some (vR (some (15, a, []))), some (vI l1), none] false (by decide +kernel) (fun h => by cases h) rfl rfl (Nat.le_of_ble_eq_true rfl) (fun I cx => ?_)
  unfold w_J0_ensureCapacityInternal at h
  refine y_aload_n 0 cx dJ0_ensureCapacityInternal_0 rfl rfl ?_
  refine y_getR cx fe_76 (Or.inl q135) (Or.inl rfl) dJ0_ensureCapacityInternal_1 (by decide) ?_
  obtain ⟨a1, e2, h⟩ := h
  refine y_eqR0 e2 ?_
  refine y_alen cx dJ0_ensureCapacityInternal_4 (by decide) ?_
  refine y_aload_n 0 cx dJ0_ensureCapacityInternal_5 rfl rfl ?_
  refine y_getI cx fe_77 (Or.inl q136) (Or.inl rfl) dJ0_ensureCapacityInternal_6 (by decide) ?_
  refine y_ishr cx dJ0_ensureCapacityInternal_9 ?_
  refine y_nmI (fun v3 e4 => ?_)
  replace h := h v3 e4
  refine y_istore_n 2 [some (vR (some (15, a, []))), some (vI l1), some (vI v3)] cx dJ0_ensureCapacityInternal_10 rfl (Nat.le_of_ble_eq_true rfl) trivial rfl ?_
  refine y_iload_n 1 cx dJ0_ensureCapacityInternal_11 rfl rfl ?_
  refine y_iload_n 2 cx dJ0_ensureCapacityInternal_12 rfl rfl ?_
  refine y_isub cx dJ0_ensureCapacityInternal_13 ?_
  refine y_if_le 38 cx dJ0_ensureCapacityInternal_14 (by decide) (fun c5 => ?_) (fun c5 => ?_)
  · replace h := h.1 c5
    exact y_vret cx dJ0_ensureCapacityInternal_38 h
  · replace h := h.2 c5
    refine y_aload_n 0 cx dJ0_ensureCapacityInternal_17 rfl rfl ?_
    refine y_aload_n 0 cx dJ0_ensureCapacityInternal_18 rfl rfl ?_
    refine y_getR cx fe_76 (Or.inl q135) (Or.inl rfl) dJ0_ensureCapacityInternal_19 (by decide) ?_
    refine y_aload_n 0 cx dJ0_ensureCapacityInternal_22 rfl rfl ?_
    refine y_iload_n 1 cx dJ0_ensureCapacityInternal_23 rfl rfl ?_
    exact False.elim h
theorem md_J0_ensureCapacityInternal : yJ0_ensureCapacityInternal.cls ≠ "java/lang/invoke/MethodHandle" ∧ yJ0_ensureCapacityInternal.cls ≠ "java/lang/invoke/VarHandle" ∧ (parseMethodDescriptor yJ0_ensureCapacityInternal.desc).map (fun d => d.parameters.length) = some 1 := by decide +kernel
/-! java/lang/AbstractStringBuilder.setLength -/
theorem dJ0_setLength_0 : decode cJ0_setLength 0 = .ok (.iload_n 1, 1) := by decide +kernel
theorem dJ0_setLength_1 : decode cJ0_setLength 1 = .ok (.ifCond .ge 12, 3) := by decide +kernel
theorem dJ0_setLength_4 : decode cJ0_setLength 4 = .ok (.new 129, 3) := by decide +kernel
theorem dJ0_setLength_13 : decode cJ0_setLength 13 = .ok (.aload_n 0, 1) := by decide +kernel
theorem dJ0_setLength_14 : decode cJ0_setLength 14 = .ok (.iload_n 1, 1) := by decide +kernel
theorem dJ0_setLength_15 : decode cJ0_setLength 15 = .ok (.invokevirtual 100, 3) := by decide +kernel
theorem dJ0_setLength_18 : decode cJ0_setLength 18 = .ok (.aload_n 0, 1) := by decide +kernel
theorem dJ0_setLength_19 : decode cJ0_setLength 19 = .ok (.getfield 79, 3) := by decide +kernel
theorem dJ0_setLength_22 : decode cJ0_setLength 22 = .ok (.iload_n 1, 1) := by decide +kernel
theorem dJ0_setLength_23 : decode cJ0_setLength 23 = .ok (.if_icmp .ge 40, 3) := by decide +kernel
theorem dJ0_setLength_26 : decode cJ0_setLength 26 = .ok (.aload_n 0, 1) := by decide +kernel
theorem dJ0_setLength_27 : decode cJ0_setLength 27 = .ok (.invokevirtual 83, 3) := by decide +kernel
theorem dJ0_setLength_30 : decode cJ0_setLength 30 = .ok (.ifCond .eq 18, 3) := by decide +kernel
theorem dJ0_setLength_33 : decode cJ0_setLength 33 = .ok (.aload_n 0, 1) := by decide +kernel
theorem dJ0_setLength_34 : decode cJ0_setLength 34 = .ok (.getfield 15, 3) := by decide +kernel
theorem dJ0_setLength_37 : decode cJ0_setLength 37 = .ok (.aload_n 0, 1) := by decide +kernel
theorem dJ0_setLength_38 : decode cJ0_setLength 38 = .ok (.getfield 79, 3) := by decide +kernel
theorem dJ0_setLength_41 : decode cJ0_setLength 41 = .ok (.iload_n 1, 1) := by decide +kernel
theorem dJ0_setLength_42 : decode cJ0_setLength 42 = .ok (.invokestatic 133, 3) := by decide +kernel
theorem dJ0_setLength_48 : decode cJ0_setLength 48 = .ok (.aload_n 0, 1) := by decide +kernel
theorem dJ0_setLength_49 : decode cJ0_setLength 49 = .ok (.getfield 15, 3) := by decide +kernel
theorem dJ0_setLength_52 : decode cJ0_setLength 52 = .ok (.aload_n 0, 1) := by decide +kernel
theorem dJ0_setLength_53 : decode cJ0_setLength 53 = .ok (.getfield 79, 3) := by decide +kernel
theorem dJ0_setLength_56 : decode cJ0_setLength 56 = .ok (.iload_n 1, 1) := by decide +kernel
theorem dJ0_setLength_57 : decode cJ0_setLength 57 = .ok (.invokestatic 137, 3) := by decide +kernel
theorem dJ0_setLength_63 : decode cJ0_setLength 63 = .ok (.aload_n 0, 1) := by decide +kernel
theorem dJ0_setLength_64 : decode cJ0_setLength 64 = .ok (.getfield 79, 3) := by decide +kernel
theorem dJ0_setLength_67 : decode cJ0_setLength 67 = .ok (.iload_n 1, 1) := by decide +kernel
theorem dJ0_setLength_68 : decode cJ0_setLength 68 = .ok (.if_icmp .le 8, 3) := by decide +kernel
theorem dJ0_setLength_71 : decode cJ0_setLength 71 = .ok (.aload_n 0, 1) := by decide +kernel
theorem dJ0_setLength_72 : decode cJ0_setLength 72 = .ok (.iconst 1, 1) := by decide +kernel
theorem dJ0_setLength_73 : decode cJ0_setLength 73 = .ok (.putfield 73, 3) := by decide +kernel
theorem dJ0_setLength_76 : decode cJ0_setLength 76 = .ok (.aload_n 0, 1) := by decide +kernel
theorem dJ0_setLength_77 : decode cJ0_setLength 77 = .ok (.iload_n 1, 1) := by decide +kernel
theorem dJ0_setLength_78 : decode cJ0_setLength 78 = .ok (.putfield 79, 3) := by decide +kernel
theorem dJ0_setLength_81 : decode cJ0_setLength 81 = .ok (.return_, 1) := by decide +kernel
def w_J0_setLength_b76 (a : Nat) (N : HS → Prop) (X : Nat → HS → Prop) (l1 : Int32) (S : HS) : Prop :=
  ∀ S1, S1 = sI S 79 a l1 → N S1
theorem y_J0_setLength_b76 {I : Iv} {a : Nat} {N : HS → Prop} {X : Nat → HS → Prop} (cx : Cx I RJ0 cJ0_setLength 2 none 2 [] false) (l1 : Int32) (S : HS) (h : w_J0_setLength_b76 a N X l1 S) : Y Eq I (oV N X) 76 [some (vR (some (15, a, []))), some (vI l1)] [] S := by
  unfold w_J0_setLength_b76 at h
  refine y_aload_n 0 cx dJ0_setLength_76 rfl rfl ?_
  refine y_iload_n 1 cx dJ0_setLength_77 rfl rfl ?_
  refine y_putI cx fe_79 (Or.inl q139) (Or.inl rfl) (Or.inl rfl) dJ0_setLength_78 (by decide) pdI ⟨rfl, rfl⟩ ?_
  refine y_nmS (fun S1 e2 => ?_)
  replace h := h S1 e2
  exact y_vret cx dJ0_setLength_81 h
def w_J0_setLength (a : Nat) (l1 : Int32) (S : HS) (N : HS → Prop) (X : Nat → HS → Prop) : Prop :=
  ((0 ≤ l1 → w_J0_ensureCapacityInternal a l1 S (fun S4 =>
     ((l1 ≤ (hI S4 79 a) → (((hI S4 79 a) ≤ l1 → w_J0_setLength_b76 a N X l1 S4) ∧
        (¬ (hI S4 79 a) ≤ l1 → ∀ S7, S7 = sI S4 78 a (1 : Int32) → w_J0_setLength_b76 a N X l1 S7))) ∧
      (¬ l1 ≤ (hI S4 79 a) → w_J0_isLatin1 a S4 (fun r10 S9 =>
        ((r10 = 0 → False) ∧
         (¬ r10 = 0 → False))) X))) X) ∧
   (¬ 0 ≤ l1 → False))
theorem ct_J0_setLength {l : Launch} {G : GT} (a : Nat) (l1 : Int32) (S : HS) (N : HS → Prop) (X : Nat → HS → Prop) (h : w_J0_setLength a l1 S N X) : Ct Eq l yJ0_setLength (ws_ yJ0_setLength cJ0_setLength 2 none) 2 G [vR (some (15, a, [])), vI l1] S (oV N X) := by
  refine Ct.ofY (cc := cJ0_setLength) (maxL := 2) (ret := none) [some (vR (some (15, a, []))), some (vI l1)] false (by decide +kernel) (fun h => by cases h) rfl rfl (Nat.le_of_ble_eq_true rfl) (fun I cx => ?_)
  unfold w_J0_setLength at h
  refine y_iload_n 1 cx dJ0_setLength_0 rfl rfl ?_
  refine y_if_ge 13 cx dJ0_setLength_1 (by decide) (fun c3 => ?_) (fun c3 => ?_)
  · replace h := h.1 c3
    refine y_aload_n 0 cx dJ0_setLength_13 rfl rfl ?_
    refine y_iload_n 1 cx dJ0_setLength_14 rfl rfl ?_
    refine y_callV (d := 1) [vR (some (15, a, [])), vI l1] [] cx rfl rfl (fun l G => ct_J0_ensureCapacityInternal a l1 S _ _ h) (lw_meth q436) (by decide) (Or.inl q436) q78 (link_P (C := "java/lang/StringBuilder") cx (Or.inl ⟨rfl, rfl⟩) q433 q1427 q435 q434 q436 md_J0_ensureCapacityInternal rfl dJ0_setLength_15) (Nat.le_of_ble_eq_true rfl) (fun S4 h => ?_) (fun a x' hx => hx)
    refine y_aload_n 0 cx dJ0_setLength_18 rfl rfl ?_
    refine y_getI cx fe_79 (Or.inl q139) (Or.inl rfl) dJ0_setLength_19 (by decide) ?_
    refine y_iload_n 1 cx dJ0_setLength_22 rfl rfl ?_
    refine y_icmp_ge 63 cx dJ0_setLength_23 (by decide) (fun c5 => ?_) (fun c5 => ?_)
    · replace h := h.1 c5
      refine y_aload_n 0 cx dJ0_setLength_63 rfl rfl ?_
      refine y_getI cx fe_79 (Or.inl q139) (Or.inl rfl) dJ0_setLength_64 (by decide) ?_
      refine y_iload_n 1 cx dJ0_setLength_67 rfl rfl ?_
      refine y_icmp_le 76 cx dJ0_setLength_68 (by decide) (fun c6 => ?_) (fun c6 => ?_)
      · replace h := h.1 c6
        exact y_J0_setLength_b76 cx l1 S4 h
      · replace h := h.2 c6
        refine y_aload_n 0 cx dJ0_setLength_71 rfl rfl ?_
        refine y_iconst (v := 1) cx dJ0_setLength_72 (by decide) ?_
        refine y_putI cx fe_78 (Or.inl q137) (Or.inl rfl) (Or.inl rfl) dJ0_setLength_73 (by decide) pdZ (nz_bool (Or.inr rfl)) ?_
        refine y_nmS (fun S7 e8 => ?_)
        replace h := h S7 e8
        exact y_J0_setLength_b76 cx l1 S7 h
    · replace h := h.2 c5
      refine y_aload_n 0 cx dJ0_setLength_26 rfl rfl ?_
      refine y_callI (d := 1) [vR (some (15, a, []))] [] cx rfl rfl (fun l G => ct_J0_isLatin1 a S4 _ _ h) (lw_meth q472) (by decide) (Or.inl q472) q78 (link_VU (x := ⟨"java/lang/AbstractStringBuilder", "isLatin1", "()Z"⟩) (owner := "java/lang/AbstractStringBuilder") (C := "java/lang/StringBuilder") cx (Or.inl ⟨rfl, rfl⟩) q468 q470 (Or.inr ⟨_, _, _, q469, q472⟩) q469 q471 (by decide +kernel) rfl dJ0_setLength_27) (Nat.le_of_ble_eq_true rfl) (fun r10 S9 h => ?_) (fun a x' hx => hx)
      refine y_if_eq 48 cx dJ0_setLength_30 (by decide) (fun c11 => ?_) (fun c11 => ?_)
      · replace h := h.1 c11
        refine y_aload_n 0 cx dJ0_setLength_48 rfl rfl ?_
        refine y_getR cx fe_76 (Or.inl q135) (Or.inl rfl) dJ0_setLength_49 (by decide) ?_
        refine y_aload_n 0 cx dJ0_setLength_52 rfl rfl ?_
        refine y_getI cx fe_79 (Or.inl q139) (Or.inl rfl) dJ0_setLength_53 (by decide) ?_
        refine y_iload_n 1 cx dJ0_setLength_56 rfl rfl ?_
        exact False.elim h
      · replace h := h.2 c11
        refine y_aload_n 0 cx dJ0_setLength_33 rfl rfl ?_
        refine y_getR cx fe_76 (Or.inl q135) (Or.inl rfl) dJ0_setLength_34 (by decide) ?_
        refine y_aload_n 0 cx dJ0_setLength_37 rfl rfl ?_
        refine y_getI cx fe_79 (Or.inl q139) (Or.inl rfl) dJ0_setLength_38 (by decide) ?_
        refine y_iload_n 1 cx dJ0_setLength_41 rfl rfl ?_
        exact False.elim h
  · replace h := h.2 c3
    exact False.elim h
theorem md_J0_setLength : yJ0_setLength.cls ≠ "java/lang/invoke/MethodHandle" ∧ yJ0_setLength.cls ≠ "java/lang/invoke/VarHandle" ∧ (parseMethodDescriptor yJ0_setLength.desc).map (fun d => d.parameters.length) = some 1 := by decide +kernel
/-! java/lang/StringBuilder.setLength -/
theorem dJ1_setLength_0 : decode cJ1_setLength 0 = .ok (.aload_n 0, 1) := by decide +kernel
theorem dJ1_setLength_1 : decode cJ1_setLength 1 = .ok (.iload_n 1, 1) := by decide +kernel
theorem dJ1_setLength_2 : decode cJ1_setLength 2 = .ok (.invokespecial 333, 3) := by decide +kernel
theorem dJ1_setLength_5 : decode cJ1_setLength 5 = .ok (.return_, 1) := by decide +kernel
def w_J1_setLength (a : Nat) (l1 : Int32) (S : HS) (N : HS → Prop) (X : Nat → HS → Prop) : Prop :=
  w_J0_setLength a l1 S (fun S1 =>
   N S1) X
theorem ct_J1_setLength {l : Launch} {G : GT} (a : Nat) (l1 : Int32) (S : HS) (N : HS → Prop) (X : Nat → HS → Prop) (h : w_J1_setLength a l1 S N X) : Ct Eq l yJ1_setLength (ws_ yJ1_setLength cJ1_setLength 2 none) 3 G [vR (some (15, a, [])), vI l1] S (oV N X) := by
  refine Ct.ofY (cc := cJ1_setLength) (maxL := 2) (ret := none) [some (vR (some (15, a, []))), some (vI l1)] false (by decide +kernel) (fun h => by cases h) rfl rfl (Nat.le_of_ble_eq_true rfl) (fun I cx => ?_)
  unfold w_J1_setLength at h
  refine y_aload_n 0 cx dJ1_setLength_0 rfl rfl ?_
  refine y_iload_n 1 cx dJ1_setLength_1 rfl rfl ?_
  refine y_callV (d := 2) [vR (some (15, a, [])), vI l1] [] cx rfl rfl (fun l G => ct_J0_setLength a l1 S _ _ h) (lw_meth q432) (by decide) (Or.inl q432) q78 (link_SU (sup := "java/lang/AbstractStringBuilder") (C := "java/lang/StringBuilder") cx (Or.inl ⟨rfl, rfl⟩) q430 q1426 q148 (Or.inl rfl) q431 q432 (by decide +kernel) md_J0_setLength rfl dJ1_setLength_2) (Nat.le_of_ble_eq_true rfl) (fun S1 h => ?_) (fun a x' hx => hx)
  exact y_vret cx dJ1_setLength_5 h
theorem md_J1_setLength : yJ1_setLength.cls ≠ "java/lang/invoke/MethodHandle" ∧ yJ1_setLength.cls ≠ "java/lang/invoke/VarHandle" ∧ (parseMethodDescriptor yJ1_setLength.desc).map (fun d => d.parameters.length) = some 1 := by decide +kernel
/-! java/lang/StringLatin1.canEncode -/
theorem dJ10_canEncode_0 : decode cJ10_canEncode 0 = .ok (.iload_n 0, 1) := by decide +kernel
theorem dJ10_canEncode_1 : decode cJ10_canEncode 1 = .ok (.sipush 255, 3) := by decide +kernel
theorem dJ10_canEncode_4 : decode cJ10_canEncode 4 = .ok (.if_icmp .gt 7, 3) := by decide +kernel
theorem dJ10_canEncode_7 : decode cJ10_canEncode 7 = .ok (.iconst 1, 1) := by decide +kernel
theorem dJ10_canEncode_8 : decode cJ10_canEncode 8 = .ok (.goto 4, 3) := by decide +kernel
theorem dJ10_canEncode_11 : decode cJ10_canEncode 11 = .ok (.iconst 0, 1) := by decide +kernel
theorem dJ10_canEncode_12 : decode cJ10_canEncode 12 = .ok (.ireturn, 1) := by decide +kernel
def w_J10_canEncode {σ : Type} (l0 : Int32) (x : σ) (N : Int32 → σ → Prop) : Prop :=
  (((255 : Int32) < l0 → N (0 : Int32) x) ∧
   (¬ (255 : Int32) < l0 → N (1 : Int32) x))
theorem ct_J10_canEncode {l : Launch} {G : GT} {σ : Type} {ρ : σ → HS → Prop} (l0 : Int32) (x : σ) (N : Int32 → σ → Prop) (h : w_J10_canEncode l0 x N) : Ct ρ l yJ10_canEncode (ws_ yJ10_canEncode cJ10_canEncode 1 (some .boolean)) 1 G [vI l0] x (oI N (fun _ _ => False)) := by
  refine Ct.ofY (cc := cJ10_canEncode) (maxL := 1) (ret := (some .boolean)) [some (vI l0)] false (by decide +kernel) (fun h => by cases h) rfl rfl (Nat.le_of_ble_eq_true rfl) (fun I cx => ?_)
  unfold w_J10_canEncode at h
  refine y_iload_n 0 cx dJ10_canEncode_0 rfl rfl ?_
  refine y_sipush (v := 255) cx dJ10_canEncode_1 (by decide) ?_
  refine y_icmp_gt 11 cx dJ10_canEncode_4 (by decide) (fun c1 => ?_) (fun c1 => ?_)
  · replace h := h.1 c1
    refine y_iconst (v := 0) cx dJ10_canEncode_11 (by decide) ?_
    exact y_zret cx rfl dJ10_canEncode_12 h
  · replace h := h.2 c1
    refine y_iconst (v := 1) cx dJ10_canEncode_7 (by decide) ?_
    refine y_goto 12 cx dJ10_canEncode_8 (by decide) ?_
    exact y_zret cx rfl dJ10_canEncode_12 h
theorem md_J10_canEncode : yJ10_canEncode.cls ≠ "java/lang/invoke/MethodHandle" ∧ yJ10_canEncode.cls ≠ "java/lang/invoke/VarHandle" ∧ (parseMethodDescriptor yJ10_canEncode.desc).map (fun d => d.parameters.length) = some 1 := by decide +kernel
/-! java/lang/AbstractStringBuilder.append -/
theorem dJ0_append_0 : decode cJ0_append 0 = .ok (.aload_n 0, 1) := by decide +kernel
theorem dJ0_append_1 : decode cJ0_append 1 = .ok (.aload_n 0, 1) := by decide +kernel
theorem dJ0_append_2 : decode cJ0_append 2 = .ok (.getfield 79, 3) := by decide +kernel
theorem dJ0_append_5 : decode cJ0_append 5 = .ok (.iconst 1, 1) := by decide +kernel
theorem dJ0_append_6 : decode cJ0_append 6 = .ok (.iadd, 1) := by decide +kernel
theorem dJ0_append_7 : decode cJ0_append 7 = .ok (.invokevirtual 100, 3) := by decide +kernel
theorem dJ0_append_10 : decode cJ0_append 10 = .ok (.aload_n 0, 1) := by decide +kernel
theorem dJ0_append_11 : decode cJ0_append 11 = .ok (.invokevirtual 83, 3) := by decide +kernel
theorem dJ0_append_14 : decode cJ0_append 14 = .ok (.ifCond .eq 31, 3) := by decide +kernel
theorem dJ0_append_17 : decode cJ0_append 17 = .ok (.iload_n 1, 1) := by decide +kernel
theorem dJ0_append_18 : decode cJ0_append 18 = .ok (.invokestatic 191, 3) := by decide +kernel
theorem dJ0_append_21 : decode cJ0_append 21 = .ok (.ifCond .eq 24, 3) := by decide +kernel
theorem dJ0_append_24 : decode cJ0_append 24 = .ok (.aload_n 0, 1) := by decide +kernel
theorem dJ0_append_25 : decode cJ0_append 25 = .ok (.getfield 15, 3) := by decide +kernel
theorem dJ0_append_28 : decode cJ0_append 28 = .ok (.aload_n 0, 1) := by decide +kernel
theorem dJ0_append_29 : decode cJ0_append 29 = .ok (.dup, 1) := by decide +kernel
theorem dJ0_append_30 : decode cJ0_append 30 = .ok (.getfield 79, 3) := by decide +kernel
theorem dJ0_append_33 : decode cJ0_append 33 = .ok (.dup_x1, 1) := by decide +kernel
theorem dJ0_append_34 : decode cJ0_append 34 = .ok (.iconst 1, 1) := by decide +kernel
theorem dJ0_append_35 : decode cJ0_append 35 = .ok (.iadd, 1) := by decide +kernel
theorem dJ0_append_36 : decode cJ0_append 36 = .ok (.putfield 79, 3) := by decide +kernel
theorem dJ0_append_39 : decode cJ0_append 39 = .ok (.iload_n 1, 1) := by decide +kernel
theorem dJ0_append_40 : decode cJ0_append 40 = .ok (.i2b, 1) := by decide +kernel
theorem dJ0_append_41 : decode cJ0_append 41 = .ok (.bastore, 1) := by decide +kernel
theorem dJ0_append_42 : decode cJ0_append 42 = .ok (.goto 33, 3) := by decide +kernel
theorem dJ0_append_45 : decode cJ0_append 45 = .ok (.aload_n 0, 1) := by decide +kernel
theorem dJ0_append_46 : decode cJ0_append 46 = .ok (.invokevirtual 83, 3) := by decide +kernel
theorem dJ0_append_49 : decode cJ0_append 49 = .ok (.ifCond .eq 7, 3) := by decide +kernel
theorem dJ0_append_52 : decode cJ0_append 52 = .ok (.aload_n 0, 1) := by decide +kernel
theorem dJ0_append_53 : decode cJ0_append 53 = .ok (.invokevirtual 195, 3) := by decide +kernel
theorem dJ0_append_56 : decode cJ0_append 56 = .ok (.aload_n 0, 1) := by decide +kernel
theorem dJ0_append_57 : decode cJ0_append 57 = .ok (.getfield 15, 3) := by decide +kernel
theorem dJ0_append_60 : decode cJ0_append 60 = .ok (.aload_n 0, 1) := by decide +kernel
theorem dJ0_append_61 : decode cJ0_append 61 = .ok (.dup, 1) := by decide +kernel
theorem dJ0_append_62 : decode cJ0_append 62 = .ok (.getfield 79, 3) := by decide +kernel
theorem dJ0_append_65 : decode cJ0_append 65 = .ok (.dup_x1, 1) := by decide +kernel
theorem dJ0_append_66 : decode cJ0_append 66 = .ok (.iconst 1, 1) := by decide +kernel
theorem dJ0_append_67 : decode cJ0_append 67 = .ok (.iadd, 1) := by decide +kernel
theorem dJ0_append_68 : decode cJ0_append 68 = .ok (.putfield 79, 3) := by decide +kernel
theorem dJ0_append_71 : decode cJ0_append 71 = .ok (.iload_n 1, 1) := by decide +kernel
theorem dJ0_append_72 : decode cJ0_append 72 = .ok (.invokestatic 197, 3) := by decide +kernel
theorem dJ0_append_75 : decode cJ0_append 75 = .ok (.aload_n 0, 1) := by decide +kernel
theorem dJ0_append_76 : decode cJ0_append 76 = .ok (.areturn, 1) := by decide +kernel
def w_J0_append_b45 (a : Nat) (N : Rf → HS → Prop) (X : Nat → HS → Prop) (l1 : Int32) (S : HS) : Prop :=
  w_J0_isLatin1 a S (fun r2 S1 =>
   ((r2 = 0 → ∀ S4, S4 = sI S1 79 a ((hI S1 79 a) + (1 : Int32)) → False) ∧
    (¬ r2 = 0 → False))) X
theorem y_J0_append_b45 {I : Iv} {a : Nat} {N : Rf → HS → Prop} {X : Nat → HS → Prop} (cx : Cx I RJ0 cJ0_append 2 (some (.object "java/lang/AbstractStringBuilder")) 2 [] false) (l1 : Int32) (S : HS) (h : w_J0_append_b45 a N X l1 S) : Y Eq I (oR N X) 45 [some (vR (some (15, a, []))), some (vI l1)] [] S := by
  unfold w_J0_append_b45 at h
  refine y_aload_n 0 cx dJ0_append_45 rfl rfl ?_
  refine y_callI (d := 1) [vR (some (15, a, []))] [] cx rfl rfl (fun l G => ct_J0_isLatin1 a S _ _ h) (lw_meth q472) (by decide) (Or.inl q472) q78 (link_VU (x := ⟨"java/lang/AbstractStringBuilder", "isLatin1", "()Z"⟩) (owner := "java/lang/AbstractStringBuilder") (C := "java/lang/StringBuilder") cx (Or.inl ⟨rfl, rfl⟩) q468 q470 (Or.inr ⟨_, _, _, q469, q472⟩) q469 q471 (by decide +kernel) rfl dJ0_append_46) (Nat.le_of_ble_eq_true rfl) (fun r2 S1 h => ?_) (fun a x' hx => hx)
  refine y_if_eq 56 cx dJ0_append_49 (by decide) (fun c3 => ?_) (fun c3 => ?_)
  · replace h := h.1 c3
    refine y_aload_n 0 cx dJ0_append_56 rfl rfl ?_
    refine y_getR cx fe_76 (Or.inl q135) (Or.inl rfl) dJ0_append_57 (by decide) ?_
    refine y_aload_n 0 cx dJ0_append_60 rfl rfl ?_
    refine y_dupr cx dJ0_append_61 ?_
    refine y_getI cx fe_79 (Or.inl q139) (Or.inl rfl) dJ0_append_62 (by decide) ?_
    refine y_dup_x1ir cx dJ0_append_65 ?_
    refine y_iconst (v := 1) cx dJ0_append_66 (by decide) ?_
    refine y_iadd cx dJ0_append_67 ?_
    refine y_putI cx fe_79 (Or.inl q139) (Or.inl rfl) (Or.inl rfl) dJ0_append_68 (by decide) pdI ⟨rfl, rfl⟩ ?_
    refine y_nmS (fun S4 e5 => ?_)
    replace h := h S4 e5
    refine y_iload_n 1 cx dJ0_append_71 rfl rfl ?_
    exact False.elim h
  · replace h := h.2 c3
    refine y_aload_n 0 cx dJ0_append_52 rfl rfl ?_
    exact False.elim h
def w_J0_append (a : Nat) (l1 : Int32) (S : HS) (N : Rf → HS → Prop) (X : Nat → HS → Prop) : Prop :=
  w_J0_ensureCapacityInternal a ((hI S 79 a) + (1 : Int32)) S (fun S6 =>
   w_J0_isLatin1 a S6 (fun r8 S7 =>
    ((r8 = 0 → w_J0_append_b45 a N X l1 S7) ∧
     (¬ r8 = 0 → w_J10_canEncode l1 S7 (fun r11 S10 =>
       ((r11 = 0 → w_J0_append_b45 a N X l1 S10) ∧
        (¬ r11 = 0 → ∀ S13, S13 = sI S10 79 a ((hI S10 79 a) + (1 : Int32)) → ∃ a15, (hR S10 76 a) = some (101, a15, []) ∧ vp_in (hI S10 79 a) (hN S13 a15) ∧ (l1.toInt8.toInt32).toInt8.toInt32 = (l1.toInt8.toInt32) ∧ ∀ S19, S19 = sY S13 a15 (hI S10 79 a).toNatClampNeg (l1.toInt8.toInt32) → N (some (15, a, [])) S19)))))) X) X
theorem ct_J0_append {l : Launch} {G : GT} (a : Nat) (l1 : Int32) (S : HS) (N : Rf → HS → Prop) (X : Nat → HS → Prop) (h : w_J0_append a l1 S N X) : Ct Eq l yJ0_append (ws_ yJ0_append cJ0_append 2 (some (.object "java/lang/AbstractStringBuilder"))) 2 G [vR (some (15, a, [])), vI l1] S (oR N X) := by
  refine Ct.ofY (cc := cJ0_append) (maxL := 2) (ret := (some (.object "java/lang/AbstractStringBuilder"))) [some (vR (some (15, a, []))), some (vI l1)] false (by decide +kernel) (fun h => by cases h) rfl rfl (Nat.le_of_ble_eq_true rfl) (fun I cx => ?_)
  unfold w_J0_append at h
  refine y_aload_n 0 cx dJ0_append_0 rfl rfl ?_
  refine y_aload_n 0 cx dJ0_append_1 rfl rfl ?_
  refine y_getI cx fe_79 (Or.inl q139) (Or.inl rfl) dJ0_append_2 (by decide) ?_
  refine y_iconst (v := 1) cx dJ0_append_5 (by decide) ?_
  refine y_iadd cx dJ0_append_6 ?_
  refine y_callV (d := 1) [vR (some (15, a, [])), vI ((hI S 79 a) + (1 : Int32))] [] cx rfl rfl (fun l G => ct_J0_ensureCapacityInternal a ((hI S 79 a) + (1 : Int32)) S _ _ h) (lw_meth q436) (by decide) (Or.inl q436) q78 (link_P (C := "java/lang/StringBuilder") cx (Or.inl ⟨rfl, rfl⟩) q433 q1427 q435 q434 q436 md_J0_ensureCapacityInternal rfl dJ0_append_7) (Nat.le_of_ble_eq_true rfl) (fun S6 h => ?_) (fun a x' hx => hx)
  refine y_aload_n 0 cx dJ0_append_10 rfl rfl ?_
  refine y_callI (d := 1) [vR (some (15, a, []))] [] cx rfl rfl (fun l G => ct_J0_isLatin1 a S6 _ _ h) (lw_meth q472) (by decide) (Or.inl q472) q78 (link_VU (x := ⟨"java/lang/AbstractStringBuilder", "isLatin1", "()Z"⟩) (owner := "java/lang/AbstractStringBuilder") (C := "java/lang/StringBuilder") cx (Or.inl ⟨rfl, rfl⟩) q468 q470 (Or.inr ⟨_, _, _, q469, q472⟩) q469 q471 (by decide +kernel) rfl dJ0_append_11) (Nat.le_of_ble_eq_true rfl) (fun r8 S7 h => ?_) (fun a x' hx => hx)
  refine y_if_eq 45 cx dJ0_append_14 (by decide) (fun c9 => ?_) (fun c9 => ?_)
  · replace h := h.1 c9
    exact y_J0_append_b45 cx l1 S7 h
  · replace h := h.2 c9
    refine y_iload_n 1 cx dJ0_append_17 rfl rfl ?_
    refine y_callI (d := 1) [vI l1] [] cx rfl rfl (fun l G => ct_J10_canEncode l1 S7 _ h) (lw_meth q495) (by decide) (Or.inl q495) q95 (link_S cx (Or.inl q493) q494 q95 q495 md_J10_canEncode rfl dJ0_append_18) (Nat.le_of_ble_eq_true rfl) (fun r11 S10 h => ?_) (fun a x' hx => hx.elim)
    refine y_if_eq 45 cx dJ0_append_21 (by decide) (fun c12 => ?_) (fun c12 => ?_)
    · replace h := h.1 c12
      exact y_J0_append_b45 cx l1 S10 h
    · replace h := h.2 c12
      refine y_aload_n 0 cx dJ0_append_24 rfl rfl ?_
      refine y_getR cx fe_76 (Or.inl q135) (Or.inl rfl) dJ0_append_25 (by decide) ?_
      refine y_aload_n 0 cx dJ0_append_28 rfl rfl ?_
      refine y_dupr cx dJ0_append_29 ?_
      refine y_getI cx fe_79 (Or.inl q139) (Or.inl rfl) dJ0_append_30 (by decide) ?_
      refine y_dup_x1ir cx dJ0_append_33 ?_
      refine y_iconst (v := 1) cx dJ0_append_34 (by decide) ?_
      refine y_iadd cx dJ0_append_35 ?_
      refine y_putI cx fe_79 (Or.inl q139) (Or.inl rfl) (Or.inl rfl) dJ0_append_36 (by decide) pdI ⟨rfl, rfl⟩ ?_
      refine y_nmS (fun S13 e14 => ?_)
      replace h := h S13 e14
      refine y_iload_n 1 cx dJ0_append_39 rfl rfl ?_
      refine y_i2b cx dJ0_append_40 ?_
      obtain ⟨a15, e16, h⟩ := h
      refine y_eqR2 e16 ?_
      obtain ⟨h17, h⟩ := h
      obtain ⟨h18, h⟩ := h
      refine y_bast cx dJ0_append_41 h17 h18 ?_
      refine y_nmS (fun S19 e20 => ?_)
      replace h := h S19 e20
      refine y_goto 75 cx dJ0_append_42 (by decide) ?_
      refine y_aload_n 0 cx dJ0_append_75 rfl rfl ?_
      exact y_aret cx (Or.inl ⟨_, rfl⟩) dJ0_append_76 h
theorem md_J0_append : yJ0_append.cls ≠ "java/lang/invoke/MethodHandle" ∧ yJ0_append.cls ≠ "java/lang/invoke/VarHandle" ∧ (parseMethodDescriptor yJ0_append.desc).map (fun d => d.parameters.length) = some 1 := by decide +kernel
/-! java/lang/StringBuilder.append -/
theorem dJ1_append_0 : decode cJ1_append 0 = .ok (.aload_n 0, 1) := by decide +kernel
theorem dJ1_append_1 : decode cJ1_append 1 = .ok (.iload_n 1, 1) := by decide +kernel
theorem dJ1_append_2 : decode cJ1_append 2 = .ok (.invokespecial 50, 3) := by decide +kernel
theorem dJ1_append_5 : decode cJ1_append 5 = .ok (.pop, 1) := by decide +kernel
theorem dJ1_append_6 : decode cJ1_append 6 = .ok (.aload_n 0, 1) := by decide +kernel
theorem dJ1_append_7 : decode cJ1_append 7 = .ok (.areturn, 1) := by decide +kernel
def w_J1_append (a : Nat) (l1 : Int32) (S : HS) (N : Rf → HS → Prop) (X : Nat → HS → Prop) : Prop :=
  w_J0_append a l1 S (fun r2 S1 =>
   N (some (15, a, [])) S1) X
theorem ct_J1_append {l : Launch} {G : GT} (a : Nat) (l1 : Int32) (S : HS) (N : Rf → HS → Prop) (X : Nat → HS → Prop) (h : w_J1_append a l1 S N X) : Ct Eq l yJ1_append (ws_ yJ1_append cJ1_append 2 (some (.object "java/lang/StringBuilder"))) 3 G [vR (some (15, a, [])), vI l1] S (oR N X) := by
  refine Ct.ofY (cc := cJ1_append) (maxL := 2) (ret := (some (.object "java/lang/StringBuilder"))) [some (vR (some (15, a, []))), some (vI l1)] false (by decide +kernel) (fun h => by cases h) rfl rfl (Nat.le_of_ble_eq_true rfl) (fun I cx => ?_)
  unfold w_J1_append at h
  refine y_aload_n 0 cx dJ1_append_0 rfl rfl ?_
  refine y_iload_n 1 cx dJ1_append_1 rfl rfl ?_
  refine y_callR (d := 2) [vR (some (15, a, [])), vI l1] [] cx rfl rfl (fun l G => ct_J0_append a l1 S _ _ h) (lw_meth q492) (by decide) (Or.inl q492) q78 (link_SU (sup := "java/lang/AbstractStringBuilder") (C := "java/lang/StringBuilder") cx (Or.inl ⟨rfl, rfl⟩) q490 q1429 q148 (Or.inl rfl) q491 q492 (by decide +kernel) md_J0_append rfl dJ1_append_2) (Nat.le_of_ble_eq_true rfl) (fun r2 S1 h => ?_) (fun a x' hx => hx)
  refine y_popr cx dJ1_append_5 ?_
  refine y_aload_n 0 cx dJ1_append_6 rfl rfl ?_
  exact y_aret cx (Or.inl ⟨_, rfl⟩) dJ1_append_7 h
theorem md_J1_append : yJ1_append.cls ≠ "java/lang/invoke/MethodHandle" ∧ yJ1_append.cls ≠ "java/lang/invoke/VarHandle" ∧ (parseMethodDescriptor yJ1_append.desc).map (fun d => d.parameters.length) = some 1 := by decide +kernel
/-! java/lang/AbstractStringBuilder.getValue -/
theorem dJ0_getValue_0 : decode cJ0_getValue 0 = .ok (.aload_n 0, 1) := by decide +kernel
theorem dJ0_getValue_1 : decode cJ0_getValue 1 = .ok (.getfield 15, 3) := by decide +kernel
theorem dJ0_getValue_4 : decode cJ0_getValue 4 = .ok (.areturn, 1) := by decide +kernel
def w_J0_getValue (a : Nat) (S : HS) (N : Rf → HS → Prop) (X : Nat → HS → Prop) : Prop :=
  N (hR S 76 a) S
theorem ct_J0_getValue {l : Launch} {G : GT} (a : Nat) (S : HS) (N : Rf → HS → Prop) (X : Nat → HS → Prop) (h : w_J0_getValue a S N X) : Ct Eq l yJ0_getValue (ws_ yJ0_getValue cJ0_getValue 1 (some (.array .byte))) 1 G [vR (some (15, a, []))] S (oR N X) := by
  refine Ct.ofY (cc := cJ0_getValue) (maxL := 1) (ret := (some (.array .byte))) [some (vR (some (15, a, [])))] false (by decide +kernel) (fun h => by cases h) rfl rfl (Nat.le_of_ble_eq_true rfl) (fun I cx => ?_)
  unfold w_J0_getValue at h
  refine y_aload_n 0 cx dJ0_getValue_0 rfl rfl ?_
  refine y_getR cx fe_76 (Or.inl q135) (Or.inl rfl) dJ0_getValue_1 (by decide) ?_
  exact y_aret cx (Or.inr ⟨_, rfl⟩) dJ0_getValue_4 h
theorem md_J0_getValue : yJ0_getValue.cls ≠ "java/lang/invoke/MethodHandle" ∧ yJ0_getValue.cls ≠ "java/lang/invoke/VarHandle" ∧ (parseMethodDescriptor yJ0_getValue.desc).map (fun d => d.parameters.length) = some 0 := by decide +kernel
/-! java/lang/AbstractStringBuilder.length -/
theorem dJ0_length_0 : decode cJ0_length 0 = .ok (.aload_n 0, 1) := by decide +kernel
theorem dJ0_length_1 : decode cJ0_length 1 = .ok (.getfield 79, 3) := by decide +kernel
theorem dJ0_length_4 : decode cJ0_length 4 = .ok (.ireturn, 1) := by decide +kernel
def w_J0_length (a : Nat) (S : HS) (N : Int32 → HS → Prop) (X : Nat → HS → Prop) : Prop :=
  N (hI S 79 a) S
theorem ct_J0_length {l : Launch} {G : GT} (a : Nat) (S : HS) (N : Int32 → HS → Prop) (X : Nat → HS → Prop) (h : w_J0_length a S N X) : Ct Eq l yJ0_length (ws_ yJ0_length cJ0_length 1 (some .int)) 1 G [vR (some (15, a, []))] S (oI N X) := by
  refine Ct.ofY (cc := cJ0_length) (maxL := 1) (ret := (some .int)) [some (vR (some (15, a, [])))] false (by decide +kernel) (fun h => by cases h) rfl rfl (Nat.le_of_ble_eq_true rfl) (fun I cx => ?_)
  unfold w_J0_length at h
  refine y_aload_n 0 cx dJ0_length_0 rfl rfl ?_
  refine y_getI cx fe_79 (Or.inl q139) (Or.inl rfl) dJ0_length_1 (by decide) ?_
  exact y_iret cx dJ0_length_4 h
theorem md_J0_length : yJ0_length.cls ≠ "java/lang/invoke/MethodHandle" ∧ yJ0_length.cls ≠ "java/lang/invoke/VarHandle" ∧ (parseMethodDescriptor yJ0_length.desc).map (fun d => d.parameters.length) = some 0 := by decide +kernel
/-! java/lang/StringBuilder.length -/
theorem dJ1_length_0 : decode cJ1_length 0 = .ok (.aload_n 0, 1) := by decide +kernel
theorem dJ1_length_1 : decode cJ1_length 1 = .ok (.invokespecial 343, 3) := by decide +kernel
theorem dJ1_length_4 : decode cJ1_length 4 = .ok (.ireturn, 1) := by decide +kernel
def w_J1_length (a : Nat) (S : HS) (N : Int32 → HS → Prop) (X : Nat → HS → Prop) : Prop :=
  w_J0_length a S (fun r2 S1 =>
   N r2 S1) X
theorem ct_J1_length {l : Launch} {G : GT} (a : Nat) (S : HS) (N : Int32 → HS → Prop) (X : Nat → HS → Prop) (h : w_J1_length a S N X) : Ct Eq l yJ1_length (ws_ yJ1_length cJ1_length 1 (some .int)) 2 G [vR (some (15, a, []))] S (oI N X) := by
  refine Ct.ofY (cc := cJ1_length) (maxL := 1) (ret := (some .int)) [some (vR (some (15, a, [])))] false (by decide +kernel) (fun h => by cases h) rfl rfl (Nat.le_of_ble_eq_true rfl) (fun I cx => ?_)
  unfold w_J1_length at h
  refine y_aload_n 0 cx dJ1_length_0 rfl rfl ?_
  refine y_callI (d := 1) [vR (some (15, a, []))] [] cx rfl rfl (fun l G => ct_J0_length a S _ _ h) (lw_meth q568) (by decide) (Or.inl q568) q78 (link_SU (sup := "java/lang/AbstractStringBuilder") (C := "java/lang/StringBuilder") cx (Or.inl ⟨rfl, rfl⟩) q567 q563 q148 (Or.inl rfl) q562 q568 (by decide +kernel) md_J0_length rfl dJ1_length_1) (Nat.le_of_ble_eq_true rfl) (fun r2 S1 h => ?_) (fun a x' hx => hx)
  exact y_iret cx dJ1_length_4 h
theorem md_J1_length : yJ1_length.cls ≠ "java/lang/invoke/MethodHandle" ∧ yJ1_length.cls ≠ "java/lang/invoke/VarHandle" ∧ (parseMethodDescriptor yJ1_length.desc).map (fun d => d.parameters.length) = some 0 := by decide +kernel
/-! java/util/Arrays.checkLength -/
theorem dJ9_checkLength_0 : decode cJ9_checkLength 0 = .ok (.iload_n 1, 1) := by decide +kernel
theorem dJ9_checkLength_1 : decode cJ9_checkLength 1 = .ok (.iload_n 0, 1) := by decide +kernel
theorem dJ9_checkLength_2 : decode cJ9_checkLength 2 = .ok (.if_icmp .ge 35, 3) := by decide +kernel
theorem dJ9_checkLength_5 : decode cJ9_checkLength 5 = .ok (.new 43, 3) := by decide +kernel
theorem dJ9_checkLength_37 : decode cJ9_checkLength 37 = .ok (.return_, 1) := by decide +kernel
def w_J9_checkLength (l0 : Int32) (l1 : Int32) (S : HS) (N : HS → Prop) (X : Nat → HS → Prop) : Prop :=
  ((l0 ≤ l1 → N S) ∧
   (¬ l0 ≤ l1 → False))
theorem ct_J9_checkLength {l : Launch} {G : GT} (l0 : Int32) (l1 : Int32) (S : HS) (N : HS → Prop) (X : Nat → HS → Prop) (h : w_J9_checkLength l0 l1 S N X) : Ct Eq l yJ9_checkLength (ws_ yJ9_checkLength cJ9_checkLength 2 none) 1 G [vI l0, vI l1] S (oV N X) := by
  refine Ct.ofY (cc := cJ9_checkLength) (maxL := 2) (ret := none) [some (vI l0), some (vI l1)] false (by decide +kernel) (fun h => by cases h) rfl rfl (Nat.le_of_ble_eq_true rfl) (fun I cx => ?_)
  unfold w_J9_checkLength at h
  refine y_iload_n 1 cx dJ9_checkLength_0 rfl rfl ?_
  refine y_iload_n 0 cx dJ9_checkLength_1 rfl rfl ?_
  refine y_icmp_ge 37 cx dJ9_checkLength_2 (by decide) (fun c1 => ?_) (fun c1 => ?_)
  · replace h := h.1 c1
    exact y_vret cx dJ9_checkLength_37 h
  · replace h := h.2 c1
    exact False.elim h
theorem md_J9_checkLength : yJ9_checkLength.cls ≠ "java/lang/invoke/MethodHandle" ∧ yJ9_checkLength.cls ≠ "java/lang/invoke/VarHandle" ∧ (parseMethodDescriptor yJ9_checkLength.desc).map (fun d => d.parameters.length) = some 2 := by decide +kernel
/-! java/util/Arrays.copyOfRangeByte -/
theorem dJ9_copyOfRangeByte_0 : decode cJ9_copyOfRangeByte 0 = .ok (.iload_n 1, 1) := by decide +kernel
theorem dJ9_copyOfRangeByte_1 : decode cJ9_copyOfRangeByte 1 = .ok (.iload_n 2, 1) := by decide +kernel
theorem dJ9_copyOfRangeByte_2 : decode cJ9_copyOfRangeByte 2 = .ok (.invokestatic 343, 3) := by decide +kernel
theorem dJ9_copyOfRangeByte_5 : decode cJ9_copyOfRangeByte 5 = .ok (.iload_n 2, 1) := by decide +kernel
theorem dJ9_copyOfRangeByte_6 : decode cJ9_copyOfRangeByte 6 = .ok (.iload_n 1, 1) := by decide +kernel
theorem dJ9_copyOfRangeByte_7 : decode cJ9_copyOfRangeByte 7 = .ok (.isub, 1) := by decide +kernel
theorem dJ9_copyOfRangeByte_8 : decode cJ9_copyOfRangeByte 8 = .ok (.istore_n 3, 1) := by decide +kernel
theorem dJ9_copyOfRangeByte_9 : decode cJ9_copyOfRangeByte 9 = .ok (.iload_n 3, 1) := by decide +kernel
theorem dJ9_copyOfRangeByte_10 : decode cJ9_copyOfRangeByte 10 = .ok (.newarray .byte, 2) := by decide +kernel
theorem dJ9_copyOfRangeByte_12 : decode cJ9_copyOfRangeByte 12 = .ok (.astore 4, 2) := by decide +kernel
theorem dJ9_copyOfRangeByte_14 : decode cJ9_copyOfRangeByte 14 = .ok (.aload_n 0, 1) := by decide +kernel
theorem dJ9_copyOfRangeByte_15 : decode cJ9_copyOfRangeByte 15 = .ok (.iload_n 1, 1) := by decide +kernel
theorem dJ9_copyOfRangeByte_16 : decode cJ9_copyOfRangeByte 16 = .ok (.aload 4, 2) := by decide +kernel
theorem dJ9_copyOfRangeByte_18 : decode cJ9_copyOfRangeByte 18 = .ok (.iconst 0, 1) := by decide +kernel
theorem dJ9_copyOfRangeByte_19 : decode cJ9_copyOfRangeByte 19 = .ok (.aload_n 0, 1) := by decide +kernel
theorem dJ9_copyOfRangeByte_20 : decode cJ9_copyOfRangeByte 20 = .ok (.arraylength, 1) := by decide +kernel
theorem dJ9_copyOfRangeByte_21 : decode cJ9_copyOfRangeByte 21 = .ok (.iload_n 1, 1) := by decide +kernel
theorem dJ9_copyOfRangeByte_22 : decode cJ9_copyOfRangeByte 22 = .ok (.isub, 1) := by decide +kernel
theorem dJ9_copyOfRangeByte_23 : decode cJ9_copyOfRangeByte 23 = .ok (.iload_n 3, 1) := by decide +kernel
theorem dJ9_copyOfRangeByte_24 : decode cJ9_copyOfRangeByte 24 = .ok (.invokestatic 304, 3) := by decide +kernel
theorem dJ9_copyOfRangeByte_27 : decode cJ9_copyOfRangeByte 27 = .ok (.invokestatic 150, 3) := by decide +kernel
theorem dJ9_copyOfRangeByte_30 : decode cJ9_copyOfRangeByte 30 = .ok (.aload 4, 2) := by decide +kernel
theorem dJ9_copyOfRangeByte_32 : decode cJ9_copyOfRangeByte 32 = .ok (.areturn, 1) := by decide +kernel
def w_J9_copyOfRangeByte (l0 : Rf) (l1 : Int32) (l2 : Int32) (S : HS) (N : Rf → HS → Prop) (X : Nat → HS → Prop) : Prop :=
  w_J9_checkLength l1 l2 S (fun S1 =>
   ∀ v2, v2 = (l2 - l1) → ¬ v2 < 0 ∧ v2.toNatClampNeg ≤ 65536 ∧ 1 ≤ hB S1 ∧ v2.toNatClampNeg ≤ hU S1 ∧ ∀ a8 S9, a8 = hZ S1 → S9 = sN S1 101 v2.toNatClampNeg → ∃ a12, l0 = some (101, a12, []) ∧ ¬ l1 < 0 ∧ ¬ (0 : Int32) < 0 ∧ ¬ (if v2 < ((nI (hN S9 a12)) - l1) then v2 else ((nI (hN S9 a12)) - l1)) < 0 ∧ l1.toNatClampNeg + (if v2 < ((nI (hN S9 a12)) - l1) then v2 else ((nI (hN S9 a12)) - l1)).toNatClampNeg ≤ hN S9 a12 ∧ (0 : Int32).toNatClampNeg + (if v2 < ((nI (hN S9 a12)) - l1) then v2 else ((nI (hN S9 a12)) - l1)).toNatClampNeg ≤ hN S9 a8 ∧ (∀ i, i < (if v2 < ((nI (hN S9 a12)) - l1) then v2 else ((nI (hN S9 a12)) - l1)).toNatClampNeg → fits .byte (.int (hY S9 a12 (l1.toNatClampNeg + i))) = true) ∧ ∀ S20, S20 = sK S9 a12 l1.toNatClampNeg a8 (0 : Int32).toNatClampNeg (if v2 < ((nI (hN S9 a12)) - l1) then v2 else ((nI (hN S9 a12)) - l1)).toNatClampNeg → N (some (101, a8, [])) S20) X
theorem ct_J9_copyOfRangeByte {l : Launch} {G : GT} (l0 : Rf) (l1 : Int32) (l2 : Int32) (S : HS) (N : Rf → HS → Prop) (X : Nat → HS → Prop) (h : w_J9_copyOfRangeByte l0 l1 l2 S N X) : Ct Eq l yJ9_copyOfRangeByte (ws_ yJ9_copyOfRangeByte cJ9_copyOfRangeByte 5 (some (.array .byte))) 2 G [vR l0, vI l1, vI l2] S (oR N X) := by
  refine Ct.ofY (cc := cJ9_copyOfRangeByte) (maxL := 5) (ret := (some (.array .byte))) [some (vR l0), some (vI l1), some (vI l2), none, none] false (by decide +kernel) (fun h => by cases h) rfl rfl (Nat.le_of_ble_eq_true rfl) (fun I cx => ?_)
  unfold w_J9_copyOfRangeByte at h
  refine y_iload_n 1 cx dJ9_copyOfRangeByte_0 rfl rfl ?_
  refine y_iload_n 2 cx dJ9_copyOfRangeByte_1 rfl rfl ?_
  refine y_callV (d := 1) [vI l1, vI l2] [] cx rfl rfl (fun l G => ct_J9_checkLength l1 l2 S _ _ h) (lw_meth q578) (by decide) (Or.inl q578) q93 (link_S cx (Or.inl q576) q577 q93 q578 md_J9_checkLength rfl dJ9_copyOfRangeByte_2) (Nat.le_of_ble_eq_true rfl) (fun S1 h => ?_) (fun a x' hx => hx)
  refine y_iload_n 2 cx dJ9_copyOfRangeByte_5 rfl rfl ?_
  refine y_iload_n 1 cx dJ9_copyOfRangeByte_6 rfl rfl ?_
  refine y_isub cx dJ9_copyOfRangeByte_7 ?_
  refine y_nmI (fun v2 e3 => ?_)
  replace h := h v2 e3
  refine y_istore_n 3 [some (vR l0), some (vI l1), some (vI l2), some (vI v2), none] cx dJ9_copyOfRangeByte_8 rfl (Nat.le_of_ble_eq_true rfl) trivial rfl ?_
  refine y_iload_n 3 cx dJ9_copyOfRangeByte_9 rfl rfl ?_
  obtain ⟨h4, h⟩ := h
  obtain ⟨h5, h⟩ := h
  obtain ⟨h6, h⟩ := h
  obtain ⟨h7, h⟩ := h
  refine y_newbN cx q150 dJ9_copyOfRangeByte_10 h4 h5 h6 h7 (fun a8 S9 e10 e11 => ?_)
  replace h := h a8 S9 e10 e11
  refine y_astore 4 [some (vR l0), some (vI l1), some (vI l2), some (vI v2), some (vR (some (101, a8, [])))] cx dJ9_copyOfRangeByte_12 (Nat.le_of_ble_eq_true rfl) trivial rfl ?_
  refine y_aload_n 0 cx dJ9_copyOfRangeByte_14 rfl rfl ?_
  refine y_iload_n 1 cx dJ9_copyOfRangeByte_15 rfl rfl ?_
  refine y_aload 4 cx dJ9_copyOfRangeByte_16 rfl ?_
  refine y_iconst (v := 0) cx dJ9_copyOfRangeByte_18 (by decide) ?_
  refine y_aload_n 0 cx dJ9_copyOfRangeByte_19 rfl rfl ?_
  obtain ⟨a12, e13, h⟩ := h
  subst e13
  refine y_alen cx dJ9_copyOfRangeByte_20 (by decide) ?_
  refine y_iload_n 1 cx dJ9_copyOfRangeByte_21 rfl rfl ?_
  refine y_isub cx dJ9_copyOfRangeByte_22 ?_
  refine y_iload_n 3 cx dJ9_copyOfRangeByte_23 rfl rfl ?_
  refine y_min (d := 1) cx q462 q463 q92 q464 dJ9_copyOfRangeByte_24 rfl (Nat.le_of_ble_eq_true rfl) ?_
  obtain ⟨h14, h⟩ := h
  obtain ⟨h15, h⟩ := h
  obtain ⟨h16, h⟩ := h
  obtain ⟨h17, h⟩ := h
  obtain ⟨h18, h⟩ := h
  obtain ⟨h19, h⟩ := h
  refine y_copyB (d := 1) cx q465 q467 q466 q94 dJ9_copyOfRangeByte_27 rfl (Nat.le_of_ble_eq_true rfl) h14 h15 h16 h17 h18 h19 ?_
  refine y_nmS (fun S20 e21 => ?_)
  replace h := h S20 e21
  refine y_aload 4 cx dJ9_copyOfRangeByte_30 rfl ?_
  exact y_aret cx (Or.inr ⟨_, rfl⟩) dJ9_copyOfRangeByte_32 h
theorem md_J9_copyOfRangeByte : yJ9_copyOfRangeByte.cls ≠ "java/lang/invoke/MethodHandle" ∧ yJ9_copyOfRangeByte.cls ≠ "java/lang/invoke/VarHandle" ∧ (parseMethodDescriptor yJ9_copyOfRangeByte.desc).map (fun d => d.parameters.length) = some 3 := by decide +kernel
/-! java/util/Arrays.copyOfRange -/
theorem dJ9_copyOfRange_0 : decode cJ9_copyOfRange 0 = .ok (.iload_n 1, 1) := by decide +kernel
theorem dJ9_copyOfRange_1 : decode cJ9_copyOfRange 1 = .ok (.ifCond .ne 9, 3) := by decide +kernel
theorem dJ9_copyOfRange_4 : decode cJ9_copyOfRange 4 = .ok (.iload_n 2, 1) := by decide +kernel
theorem dJ9_copyOfRange_5 : decode cJ9_copyOfRange 5 = .ok (.aload_n 0, 1) := by decide +kernel
theorem dJ9_copyOfRange_6 : decode cJ9_copyOfRange 6 = .ok (.arraylength, 1) := by decide +kernel
theorem dJ9_copyOfRange_7 : decode cJ9_copyOfRange 7 = .ok (.if_icmp .eq 10, 3) := by decide +kernel
theorem dJ9_copyOfRange_10 : decode cJ9_copyOfRange 10 = .ok (.aload_n 0, 1) := by decide +kernel
theorem dJ9_copyOfRange_11 : decode cJ9_copyOfRange 11 = .ok (.iload_n 1, 1) := by decide +kernel
theorem dJ9_copyOfRange_12 : decode cJ9_copyOfRange 12 = .ok (.iload_n 2, 1) := by decide +kernel
theorem dJ9_copyOfRange_13 : decode cJ9_copyOfRange 13 = .ok (.invokestatic 339, 3) := by decide +kernel
theorem dJ9_copyOfRange_16 : decode cJ9_copyOfRange 16 = .ok (.areturn, 1) := by decide +kernel
theorem dJ9_copyOfRange_17 : decode cJ9_copyOfRange 17 = .ok (.aload_n 0, 1) := by decide +kernel
theorem dJ9_copyOfRange_18 : decode cJ9_copyOfRange 18 = .ok (.invokevirtual 310, 3) := by decide +kernel
def w_J9_copyOfRange_b10 (N : Rf → HS → Prop) (X : Nat → HS → Prop) (l0 : Rf) (l1 : Int32) (l2 : Int32) (S : HS) : Prop :=
  w_J9_copyOfRangeByte l0 l1 l2 S (fun r2 S1 =>
   N r2 S1) X
theorem y_J9_copyOfRange_b10 {I : Iv} {N : Rf → HS → Prop} {X : Nat → HS → Prop} (cx : Cx I RJ9 cJ9_copyOfRange 3 (some (.array .byte)) 3 [] false) (l0 : Rf) (l1 : Int32) (l2 : Int32) (S : HS) (h : w_J9_copyOfRange_b10 N X l0 l1 l2 S) : Y Eq I (oR N X) 10 [some (vR l0), some (vI l1), some (vI l2)] [] S := by
  unfold w_J9_copyOfRange_b10 at h
  refine y_aload_n 0 cx dJ9_copyOfRange_10 rfl rfl ?_
  refine y_iload_n 1 cx dJ9_copyOfRange_11 rfl rfl ?_
  refine y_iload_n 2 cx dJ9_copyOfRange_12 rfl rfl ?_
  refine y_callR (d := 2) [vR l0, vI l1, vI l2] [] cx rfl rfl (fun l G => ct_J9_copyOfRangeByte l0 l1 l2 S _ _ h) (lw_meth q575) (by decide) (Or.inl q575) q93 (link_S cx (Or.inl q573) q574 q93 q575 md_J9_copyOfRangeByte rfl dJ9_copyOfRange_13) (Nat.le_of_ble_eq_true rfl) (fun r2 S1 h => ?_) (fun a x' hx => hx)
  exact y_aret cx (Or.inr ⟨_, rfl⟩) dJ9_copyOfRange_16 h
def w_J9_copyOfRange (l0 : Rf) (l1 : Int32) (l2 : Int32) (S : HS) (N : Rf → HS → Prop) (X : Nat → HS → Prop) : Prop :=
  ((¬ l1 = 0 → w_J9_copyOfRange_b10 N X l0 l1 l2 S) ∧
   (l1 = 0 → ∃ a4, l0 = some (101, a4, []) ∧ ((l2 = (nI (hN S a4)) → False) ∧
     (¬ l2 = (nI (hN S a4)) → w_J9_copyOfRange_b10 N X (some (101, a4, [])) l1 l2 S))))
theorem ct_J9_copyOfRange {l : Launch} {G : GT} (l0 : Rf) (l1 : Int32) (l2 : Int32) (S : HS) (N : Rf → HS → Prop) (X : Nat → HS → Prop) (h : w_J9_copyOfRange l0 l1 l2 S N X) : Ct Eq l yJ9_copyOfRange (ws_ yJ9_copyOfRange cJ9_copyOfRange 3 (some (.array .byte))) 3 G [vR l0, vI l1, vI l2] S (oR N X) := by
  refine Ct.ofY (cc := cJ9_copyOfRange) (maxL := 3) (ret := (some (.array .byte))) [some (vR l0), some (vI l1), some (vI l2)] false (by decide +kernel) (fun h => by cases h) rfl rfl (Nat.le_of_ble_eq_true rfl) (fun I cx => ?_)
  unfold w_J9_copyOfRange at h
  refine y_iload_n 1 cx dJ9_copyOfRange_0 rfl rfl ?_
  refine y_if_ne 10 cx dJ9_copyOfRange_1 (by decide) (fun c3 => ?_) (fun c3 => ?_)
  · replace h := h.1 c3
    exact y_J9_copyOfRange_b10 cx l0 l1 l2 S h
  · replace h := h.2 c3
    refine y_iload_n 2 cx dJ9_copyOfRange_4 rfl rfl ?_
    refine y_aload_n 0 cx dJ9_copyOfRange_5 rfl rfl ?_
    obtain ⟨a4, e5, h⟩ := h
    subst e5
    refine y_alen cx dJ9_copyOfRange_6 (by decide) ?_
    refine y_icmp_eq 17 cx dJ9_copyOfRange_7 (by decide) (fun c6 => ?_) (fun c6 => ?_)
    · replace h := h.1 c6
      refine y_aload_n 0 cx dJ9_copyOfRange_17 rfl rfl ?_
      exact False.elim h
    · replace h := h.2 c6
      exact y_J9_copyOfRange_b10 cx (some (101, a4, [])) l1 l2 S h
theorem md_J9_copyOfRange : yJ9_copyOfRange.cls ≠ "java/lang/invoke/MethodHandle" ∧ yJ9_copyOfRange.cls ≠ "java/lang/invoke/VarHandle" ∧ (parseMethodDescriptor yJ9_copyOfRange.desc).map (fun d => d.parameters.length) = some 3 := by decide +kernel
/-! java/lang/String.<init> -/
theorem dJ2_init_2_0 : decode cJ2_init_2 0 = .ok (.aload_n 0, 1) := by decide +kernel
theorem dJ2_init_2_1 : decode cJ2_init_2 1 = .ok (.invokespecial 1, 3) := by decide +kernel
theorem dJ2_init_2_4 : decode cJ2_init_2 4 = .ok (.aload_n 1, 1) := by decide +kernel
theorem dJ2_init_2_5 : decode cJ2_init_2 5 = .ok (.invokevirtual 552, 3) := by decide +kernel
theorem dJ2_init_2_8 : decode cJ2_init_2 8 = .ok (.astore_n 3, 1) := by decide +kernel
theorem dJ2_init_2_9 : decode cJ2_init_2 9 = .ok (.aload_n 1, 1) := by decide +kernel
theorem dJ2_init_2_10 : decode cJ2_init_2 10 = .ok (.invokevirtual 549, 3) := by decide +kernel
theorem dJ2_init_2_13 : decode cJ2_init_2 13 = .ok (.istore 4, 2) := by decide +kernel
theorem dJ2_init_2_15 : decode cJ2_init_2 15 = .ok (.aload_n 1, 1) := by decide +kernel
theorem dJ2_init_2_16 : decode cJ2_init_2 16 = .ok (.invokevirtual 1047, 3) := by decide +kernel
theorem dJ2_init_2_19 : decode cJ2_init_2 19 = .ok (.ifCond .eq 22, 3) := by decide +kernel
theorem dJ2_init_2_22 : decode cJ2_init_2 22 = .ok (.aload_n 0, 1) := by decide +kernel
theorem dJ2_init_2_23 : decode cJ2_init_2 23 = .ok (.iconst 0, 1) := by decide +kernel
theorem dJ2_init_2_24 : decode cJ2_init_2 24 = .ok (.putfield 15, 3) := by decide +kernel
theorem dJ2_init_2_27 : decode cJ2_init_2 27 = .ok (.aload_n 0, 1) := by decide +kernel
theorem dJ2_init_2_28 : decode cJ2_init_2 28 = .ok (.aload_n 3, 1) := by decide +kernel
theorem dJ2_init_2_29 : decode cJ2_init_2 29 = .ok (.iconst 0, 1) := by decide +kernel
theorem dJ2_init_2_30 : decode cJ2_init_2 30 = .ok (.iload 4, 2) := by decide +kernel
theorem dJ2_init_2_32 : decode cJ2_init_2 32 = .ok (.invokestatic 54, 3) := by decide +kernel
theorem dJ2_init_2_35 : decode cJ2_init_2 35 = .ok (.putfield 9, 3) := by decide +kernel
theorem dJ2_init_2_38 : decode cJ2_init_2 38 = .ok (.goto 59, 3) := by decide +kernel
theorem dJ2_init_2_41 : decode cJ2_init_2 41 = .ok (.getstatic 38, 3) := by decide +kernel
theorem dJ2_init_2_44 : decode cJ2_init_2 44 = .ok (.ifCond .eq 35, 3) := by decide +kernel
theorem dJ2_init_2_47 : decode cJ2_init_2 47 = .ok (.aload_n 1, 1) := by decide +kernel
theorem dJ2_init_2_48 : decode cJ2_init_2 48 = .ok (.getfield 1048, 3) := by decide +kernel
theorem dJ2_init_2_51 : decode cJ2_init_2 51 = .ok (.ifCond .eq 28, 3) := by decide +kernel
theorem dJ2_init_2_54 : decode cJ2_init_2 54 = .ok (.aload_n 0, 1) := by decide +kernel
theorem dJ2_init_2_55 : decode cJ2_init_2 55 = .ok (.aload_n 3, 1) := by decide +kernel
theorem dJ2_init_2_56 : decode cJ2_init_2 56 = .ok (.iconst 0, 1) := by decide +kernel
theorem dJ2_init_2_57 : decode cJ2_init_2 57 = .ok (.iload 4, 2) := by decide +kernel
theorem dJ2_init_2_59 : decode cJ2_init_2 59 = .ok (.invokestatic 1051, 3) := by decide +kernel
theorem dJ2_init_2_79 : decode cJ2_init_2 79 = .ok (.aload_n 0, 1) := by decide +kernel
theorem dJ2_init_2_80 : decode cJ2_init_2 80 = .ok (.iconst 1, 1) := by decide +kernel
theorem dJ2_init_2_81 : decode cJ2_init_2 81 = .ok (.putfield 15, 3) := by decide +kernel
theorem dJ2_init_2_84 : decode cJ2_init_2 84 = .ok (.aload_n 0, 1) := by decide +kernel
theorem dJ2_init_2_85 : decode cJ2_init_2 85 = .ok (.aload_n 3, 1) := by decide +kernel
theorem dJ2_init_2_86 : decode cJ2_init_2 86 = .ok (.iconst 0, 1) := by decide +kernel
theorem dJ2_init_2_87 : decode cJ2_init_2 87 = .ok (.iload 4, 2) := by decide +kernel
theorem dJ2_init_2_89 : decode cJ2_init_2 89 = .ok (.iconst 1, 1) := by decide +kernel
theorem dJ2_init_2_90 : decode cJ2_init_2 90 = .ok (.ishl, 1) := by decide +kernel
theorem dJ2_init_2_91 : decode cJ2_init_2 91 = .ok (.invokestatic 54, 3) := by decide +kernel
theorem dJ2_init_2_94 : decode cJ2_init_2 94 = .ok (.putfield 9, 3) := by decide +kernel
theorem dJ2_init_2_97 : decode cJ2_init_2 97 = .ok (.return_, 1) := by decide +kernel
def w_J2_init_2_b79 (a : Nat) (N : HS → Prop) (X : Nat → HS → Prop) (l3 : Rf) (l4 : Int32) (S : HS) : Prop :=
  ∀ S1, S1 = sI S 73 a (1 : Int32) → w_J9_copyOfRange l3 (0 : Int32) (l4 <<< ((1 : Int32) &&& 31)) S1 (fun r4 S3 =>
   ∀ S5, S5 = sR S3 72 a r4 → N S5) X
theorem y_J2_init_2_b79 {I : Iv} {a : Nat} {N : HS → Prop} {X : Nat → HS → Prop} (cx : Cx I RJ2 cJ2_init_2 5 none 4 [] true) (l3 : Rf) (l4 : Int32) (S : HS) (h : w_J2_init_2_b79 a N X l3 l4 S) : Y Eq I (oV N X) 79 [some (vR (some (17, a, []))), none, none, some (vR l3), some (vI l4)] [] S := by
  unfold w_J2_init_2_b79 at h
  refine y_aload_n 0 cx dJ2_init_2_79 rfl rfl ?_
  refine y_iconst (v := 1) cx dJ2_init_2_80 (by decide) ?_
  refine y_putI cx fe_73 (Or.inl q594) (Or.inl rfl) (Or.inr ⟨rfl, rfl, rfl, q594⟩) dJ2_init_2_81 (by decide) pdB ⟨rfl, rfl⟩ ?_
  refine y_nmS (fun S1 e2 => ?_)
  replace h := h S1 e2
  refine y_aload_n 0 cx dJ2_init_2_84 rfl rfl ?_
  refine y_aload_n 3 cx dJ2_init_2_85 rfl rfl ?_
  refine y_iconst (v := 0) cx dJ2_init_2_86 (by decide) ?_
  refine y_iload 4 cx dJ2_init_2_87 rfl ?_
  refine y_iconst (v := 1) cx dJ2_init_2_89 (by decide) ?_
  refine y_ishl cx dJ2_init_2_90 ?_
  refine y_callR (d := 3) [vR l3, vI (0 : Int32), vI (l4 <<< ((1 : Int32) &&& 31))] [vR (some (17, a, []))] cx rfl rfl (fun l G => ct_J9_copyOfRange l3 (0 : Int32) (l4 <<< ((1 : Int32) &&& 31)) S1 _ _ h) (lw_meth q572) (by decide) (Or.inl q572) q93 (link_S cx (Or.inl q570) q571 q93 q572 md_J9_copyOfRange rfl dJ2_init_2_91) (Nat.le_of_ble_eq_true rfl) (fun r4 S3 h => ?_) (fun a x' hx => hx)
  refine y_putR cx fe_72 (Or.inl q593) (Or.inl rfl) (Or.inr ⟨rfl, rfl, rfl, q593⟩) dJ2_init_2_94 (by decide) pd_72 (Or.inr ⟨_, rfl⟩) ?_
  refine y_nmS (fun S5 e6 => ?_)
  replace h := h S5 e6
  exact y_vret cx dJ2_init_2_97 h
def w_J2_init_2 (a : Nat) (l1 : Rf) (l2 : Rf) (S : HS) (N : HS → Prop) (X : Nat → HS → Prop) : Prop :=
  ∃ a9, l1 = some (15, a9, []) ∧ w_J0_getValue a9 S (fun r8 S7 =>
   w_J1_length a9 S7 (fun r12 S11 =>
    w_J0_isLatin1 a9 S11 (fun r14 S13 =>
     ((r14 = 0 → (((1 : Int32) = 0 → w_J2_init_2_b79 a N X r8 r12 S13) ∧
        (¬ (1 : Int32) = 0 → (((hI S13 78 a9) = 0 → w_J2_init_2_b79 a N X r8 r12 S13) ∧
          (¬ (hI S13 78 a9) = 0 → False))))) ∧
      (¬ r14 = 0 → ∀ S18, S18 = sI S13 73 a (0 : Int32) → w_J9_copyOfRange r8 (0 : Int32) r12 S18 (fun r21 S20 =>
        ∀ S22, S22 = sR S20 72 a r21 → N S22) X))) X) X) X
theorem ct_J2_init_2 {l : Launch} {G : GT} (a : Nat) (l1 : Rf) (l2 : Rf) (S : HS) (N : HS → Prop) (X : Nat → HS → Prop) (h : w_J2_init_2 a l1 l2 S N X) : Ct Eq l yJ2_init_2 (ws_ yJ2_init_2 cJ2_init_2 5 none) 4 G [vR (some (17, a, [])), vR l1, vR l2] S (oV N X) := by
  refine Ct.ofY (cc := cJ2_init_2) (maxL := 5) (ret := none) [some (vR (some (17, a, []))), some (vR l1), some (vR l2), none, none] true (by decide +kernel) (fun _ => rfl) rfl rfl (Nat.le_of_ble_eq_true rfl) (fun I cx => ?_)
  unfold w_J2_init_2 at h
  refine y_aload_n 0 cx dJ2_init_2_0 rfl rfl ?_
  refine y_objInit (d := 3) cx q555 q113 q114 dJ2_init_2_1 rfl (by rw [catA_sum]; exact Nat.le_of_ble_eq_true rfl) ?_
  refine y_aload_n 1 cx dJ2_init_2_4 rfl rfl ?_
  obtain ⟨a9, e10, h⟩ := h
  subst e10
  refine y_callR (d := 3) [vR (some (15, a9, []))] [] cx rfl rfl (fun l G => ct_J0_getValue a9 S _ _ h) (lw_meth q560) (by decide) (Or.inl q560) q78 (link_VU (x := ⟨"java/lang/AbstractStringBuilder", "getValue", "()[B"⟩) (owner := "java/lang/AbstractStringBuilder") (C := "java/lang/StringBuilder") cx (Or.inl ⟨rfl, rfl⟩) q556 q558 (Or.inr ⟨_, _, _, q557, q560⟩) q557 q559 (by decide +kernel) rfl dJ2_init_2_5) (Nat.le_of_ble_eq_true rfl) (fun r8 S7 h => ?_) (fun a x' hx => hx)
  refine y_astore_n 3 [some (vR (some (17, a, []))), some (vR (some (15, a9, []))), some (vR l2), some (vR r8), none] cx dJ2_init_2_8 rfl (Nat.le_of_ble_eq_true rfl) trivial rfl ?_
  refine y_aload_n 1 cx dJ2_init_2_9 rfl rfl ?_
  refine y_callI (d := 3) [vR (some (15, a9, []))] [] cx rfl rfl (fun l G => ct_J1_length a9 S7 _ _ h) (lw_meth q566) (by decide) (Or.inl q566) q79 (link_VU (x := ⟨"java/lang/AbstractStringBuilder", "length", "()I"⟩) (owner := "java/lang/AbstractStringBuilder") (C := "java/lang/StringBuilder") cx (Or.inl ⟨rfl, rfl⟩) q561 q563 (Or.inr ⟨_, _, _, q562, q568⟩) q565 q564 (by decide +kernel) rfl dJ2_init_2_10) (Nat.le_of_ble_eq_true rfl) (fun r12 S11 h => ?_) (fun a x' hx => hx)
  refine y_istore 4 [some (vR (some (17, a, []))), some (vR (some (15, a9, []))), some (vR l2), some (vR r8), some (vI r12)] cx dJ2_init_2_13 (Nat.le_of_ble_eq_true rfl) trivial rfl ?_
  refine y_aload_n 1 cx dJ2_init_2_15 rfl rfl ?_
  refine y_callI (d := 3) [vR (some (15, a9, []))] [] cx rfl rfl (fun l G => ct_J0_isLatin1 a9 S11 _ _ h) (lw_meth q472) (by decide) (Or.inl q472) q78 (link_VU (x := ⟨"java/lang/AbstractStringBuilder", "isLatin1", "()Z"⟩) (owner := "java/lang/AbstractStringBuilder") (C := "java/lang/StringBuilder") cx (Or.inl ⟨rfl, rfl⟩) q569 q470 (Or.inr ⟨_, _, _, q469, q472⟩) q469 q471 (by decide +kernel) rfl dJ2_init_2_16) (Nat.le_of_ble_eq_true rfl) (fun r14 S13 h => ?_) (fun a x' hx => hx)
  refine y_if_eq 41 cx dJ2_init_2_19 (by decide) (fun c15 => ?_) (fun c15 => ?_)
  · replace h := h.1 c15
    refine y_compact cx q579 dJ2_init_2_41 ?_
    refine y_if_eq 79 cx dJ2_init_2_44 (by decide) (fun c16 => ?_) (fun c16 => ?_)
    · replace h := h.1 c16
      refine y_less [some (vR (some (17, a, []))), none, none, some (vR r8), some (vI r12)] ⟨rfl, ⟨rfl, ⟨rfl, trivial⟩⟩⟩ ?_
      exact y_J2_init_2_b79 cx r8 r12 S13 h
    · replace h := h.2 c16
      refine y_aload_n 1 cx dJ2_init_2_47 rfl rfl ?_
      refine y_getI cx fe_78 (Or.inl q138) (Or.inl rfl) dJ2_init_2_48 (by decide) ?_
      refine y_if_eq 79 cx dJ2_init_2_51 (by decide) (fun c17 => ?_) (fun c17 => ?_)
      · replace h := h.1 c17
        refine y_less [some (vR (some (17, a, []))), none, none, some (vR r8), some (vI r12)] ⟨rfl, ⟨rfl, ⟨rfl, trivial⟩⟩⟩ ?_
        exact y_J2_init_2_b79 cx r8 r12 S13 h
      · replace h := h.2 c17
        refine y_aload_n 0 cx dJ2_init_2_54 rfl rfl ?_
        refine y_aload_n 3 cx dJ2_init_2_55 rfl rfl ?_
        refine y_iconst (v := 0) cx dJ2_init_2_56 (by decide) ?_
        refine y_iload 4 cx dJ2_init_2_57 rfl ?_
        exact False.elim h
  · replace h := h.2 c15
    refine y_aload_n 0 cx dJ2_init_2_22 rfl rfl ?_
    refine y_iconst (v := 0) cx dJ2_init_2_23 (by decide) ?_
    refine y_putI cx fe_73 (Or.inl q594) (Or.inl rfl) (Or.inr ⟨rfl, rfl, rfl, q594⟩) dJ2_init_2_24 (by decide) pdB ⟨rfl, rfl⟩ ?_
    refine y_nmS (fun S18 e19 => ?_)
    replace h := h S18 e19
    refine y_aload_n 0 cx dJ2_init_2_27 rfl rfl ?_
    refine y_aload_n 3 cx dJ2_init_2_28 rfl rfl ?_
    refine y_iconst (v := 0) cx dJ2_init_2_29 (by decide) ?_
    refine y_iload 4 cx dJ2_init_2_30 rfl ?_
    refine y_callR (d := 3) [vR r8, vI (0 : Int32), vI r12] [vR (some (17, a, []))] cx rfl rfl (fun l G => ct_J9_copyOfRange r8 (0 : Int32) r12 S18 _ _ h) (lw_meth q572) (by decide) (Or.inl q572) q93 (link_S cx (Or.inl q570) q571 q93 q572 md_J9_copyOfRange rfl dJ2_init_2_32) (Nat.le_of_ble_eq_true rfl) (fun r21 S20 h => ?_) (fun a x' hx => hx)
    refine y_putR cx fe_72 (Or.inl q593) (Or.inl rfl) (Or.inr ⟨rfl, rfl, rfl, q593⟩) dJ2_init_2_35 (by decide) pd_72 (Or.inr ⟨_, rfl⟩) ?_
    refine y_nmS (fun S22 e23 => ?_)
    replace h := h S22 e23
    refine y_goto 97 cx dJ2_init_2_38 (by decide) ?_
    exact y_vret cx dJ2_init_2_97 h
theorem md_J2_init_2 : yJ2_init_2.cls ≠ "java/lang/invoke/MethodHandle" ∧ yJ2_init_2.cls ≠ "java/lang/invoke/VarHandle" ∧ (parseMethodDescriptor yJ2_init_2.desc).map (fun d => d.parameters.length) = some 2 := by decide +kernel
/-! java/lang/String.<init> -/
theorem dJ2_init_0 : decode cJ2_init 0 = .ok (.aload_n 0, 1) := by decide +kernel
theorem dJ2_init_1 : decode cJ2_init 1 = .ok (.aload_n 1, 1) := by decide +kernel
theorem dJ2_init_2 : decode cJ2_init 2 = .ok (.aconst_null, 1) := by decide +kernel
theorem dJ2_init_3 : decode cJ2_init 3 = .ok (.invokespecial 489, 3) := by decide +kernel
theorem dJ2_init_6 : decode cJ2_init 6 = .ok (.return_, 1) := by decide +kernel
def w_J2_init (a : Nat) (l1 : Rf) (S : HS) (N : HS → Prop) (X : Nat → HS → Prop) : Prop :=
  w_J2_init_2 a l1 none S (fun S1 =>
   N S1) X
theorem ct_J2_init {l : Launch} {G : GT} (a : Nat) (l1 : Rf) (S : HS) (N : HS → Prop) (X : Nat → HS → Prop) (h : w_J2_init a l1 S N X) : Ct Eq l yJ2_init (ws_ yJ2_init cJ2_init 2 none) 5 G [vR (some (17, a, [])), vR l1] S (oV N X) := by
  refine Ct.ofY (cc := cJ2_init) (maxL := 2) (ret := none) [some (vR (some (17, a, []))), some (vR l1)] true (by decide +kernel) (fun _ => rfl) rfl rfl (Nat.le_of_ble_eq_true rfl) (fun I cx => ?_)
  unfold w_J2_init at h
  refine y_aload_n 0 cx dJ2_init_0 rfl rfl ?_
  refine y_aload_n 1 cx dJ2_init_1 rfl rfl ?_
  refine y_null cx dJ2_init_2 ?_
  refine y_callV (d := 4) [vR (some (17, a, [])), vR l1, vR none] [] cx rfl rfl (fun l G => ct_J2_init_2 a l1 none S _ _ h) (lw_meth q554) (by decide) (Or.inl q554) q80 (link_I cx rfl (Or.inl q552) q553 q554 md_J2_init_2 rfl dJ2_init_3) (Nat.le_of_ble_eq_true rfl) (fun S1 h => ?_) (fun a x' hx => hx)
  exact y_vret cx dJ2_init_6 h
theorem md_J2_init : yJ2_init.cls ≠ "java/lang/invoke/MethodHandle" ∧ yJ2_init.cls ≠ "java/lang/invoke/VarHandle" ∧ (parseMethodDescriptor yJ2_init.desc).map (fun d => d.parameters.length) = some 1 := by decide +kernel
