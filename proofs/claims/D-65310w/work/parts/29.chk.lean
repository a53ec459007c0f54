set_option maxRecDepth 100000
/-- Preconditions.checkIndex with the formatter off a static field -/
theorem y_chk {σ : Type} {ρ : σ → HS → Prop} {I : Iv} {own : String} {cc : ByteArray} {nL : Nat} {ret : Option FieldType} {d pc : Nat} {ini : Bool} {hs : List (Nat × Nat × Nat × Nat)} {O : OA → σ → Prop} {ls : List (Option AV)} {st : List AV} {x : σ} {idx idx2 : Nat} {x1 y1 : Int32} (cx : Cx I own cc nL ret (d + 1) hs ini) (hf : Cond.fieldLink own idx2 "jdk/internal/util/Preconditions" "SIOOBE_FORMATTER" "Ljava/util/function/BiFunction;" ∈ lw_all) (hq : Cond.methodLink own idx yJ11_checkIndex ∈ lw_all) (hd : decode cc pc = .ok (.getstatic idx2, 3)) (hd2 : decode cc (pc + 3) = .ok (.invokestatic idx, 3)) (hlen : ls.length = nL) (hst : (st.map catA).sum ≤ 20) (h0 : 0 ≤ x1) (h1 : x1 < y1)
    (k : Y ρ I O (pc + 6) ls (vI x1 :: st) x) : Y ρ I O pc ls (vI y1 :: vI x1 :: st) x := by
  obtain ⟨p, l, e, R, s, m, args, below, meth, c0, G, S0⟩ := I
  obtain ⟨hx, hb, hml, hown, hts, hE, -, -, hR0, -⟩ := cx
  intro S H locs la hS hbs hv hw1 hw2
  subst hR0
  have key : ∀ f : Value, (∃ q, f = .ref q) ∨ f = .null → W p l e (rmD (d + 1) S0) s m args below meth c0 H locs (hB S0 - hB S) (hU S0 - hU S) (Fin' ρ below G S0 O s) (F0 m (pc + 3) la (f :: .int y1 :: .int x1 :: st.map cv)) := by
    intro f hf T hT X
    obtain ⟨v, vm', X', ⟨first, t, hpost⟩, hstep⟩ := X.staticByContractV hx hown (hts _ hq) (hts _ q539) (hts _ q96) (hts _ q540) (by decide)
      (Lib.Preconditions.checkIndex.meetsLoose l) rfl rfl rfl rfl
      (fun args' first o s₂ h => by
        simp only [Lib.Preconditions.checkIndex.spec, Cond.after_and, Bool.and_eq_true] at h
        cases o with
        | returned r => exact ⟨r, rfl⟩
        | threw y => simp [Cond.after, Cond.holds, Cond.value] at h)
      (g := F0 m (pc + 3) la (f :: .int y1 :: .int x1 :: st.map cv)) rfl (by show la.size = _; rw [hml, ← hlen, ← lc_len]; exact hv.1) (argsL := [.int x1, .int y1, f]) (rest := st.map cv)
      (fun sig hs => by
        have h : (parseMethodDescriptor "(IILjava/util/function/BiFunction;)I").map (fun d => d.parameters.length) = some 3 := by decide +kernel
        rw [show yJ11_checkIndex.desc = "(IILjava/util/function/BiFunction;)I" from rfl] at hs
        rw [hs] at h
        exact (Option.some.inj h).symm)
      rfl (by rw [hb]; exact hd2)
      (fun vm' hW => by
        simp only [Lib.Preconditions.checkIndex.spec, Cond.before_and, Bool.and_eq_true]
        refine ⟨?_, rfl, rfl, rfl, ?_, ?_, ?_⟩
        · have q := hts _ q540
          rw [← Cond.code_setVm hW.alike] at q
          simp only [Cond.before, Cond.holds, Cond.value, State.methodNamed?, State.vm_setVm] at q ⊢
          exact q
        · rcases hf with ⟨q, rfl⟩ | rfl <;> rfl
        · simp [Cond.before, Cond.holds, Cond.value, Term.eval, h0]
        · simp [Cond.before, Cond.holds, Cond.value, Term.eval, h1])
      (by show 0 + 1 ≤ d + 1; omega) (by rw [catA_sum]; show 2 * 0 + _ + (3 + 11) + 0 ≤ 64 * (d + 1); omega) (by show _ + 0 ≤ hB S0; omega) (by show _ + 0 ≤ hU S0; omega)
    have hv1 : v = some (.int x1) := by
      rcases v with _ | w
      · simp [Lib.Preconditions.checkIndex.spec, Cond.after, Cond.holds, Cond.value, Term.eval] at hpost
      · cases w <;> simp [Lib.Preconditions.checkIndex.spec, Cond.after, Cond.holds, Cond.value, Term.eval] at hpost
        simp [hpost]
    subst hv1
    obtain ⟨t, a1, b1⟩ := k S H locs la hS hbs hv hw1 ⟨trivial, hw2.2.2⟩ (T.setVm vm') hT X'
    exact ⟨t, hstep t a1, b1⟩
  rcases hE.2.2.2.2.2.2.1 with ⟨cf, kf, fi, f, a, cell, h1, h2, h3, h4, h5, h6, h7, h8⟩ | ⟨t, cf, kf, fi, f, a, cell, h1, h2, h3, h4, h5, h6, h7, h8⟩
  · exact W.gets hx hb hown (hts _ hf) h1 h2 h3 h4 (by rw [hbs.1.2.2.1 a (Nat.not_le.mp h8)]; exact h5) (fun e => by rw [e] at h6; cases h6) h7 rfl hd (key _ (Or.inr rfl))
  · exact W.gets hx hb hown (hts _ hf) h1 h2 h3 h4 (by rw [hbs.1.2.2.1 a (Nat.not_le.mp h8)]; exact h5) (fun e => by rw [e] at h6; cases h6) h7 rfl hd (key _ (Or.inl ⟨t, rfl⟩))
theorem dJ2_checkIndex_0 : decode cJ2_checkIndex 0 = .ok (.iload_n 0, 1) := by decide +kernel
theorem dJ2_checkIndex_1 : decode cJ2_checkIndex 1 = .ok (.iload_n 1, 1) := by decide +kernel
theorem dJ2_checkIndex_2 : decode cJ2_checkIndex 2 = .ok (.getstatic 1053, 3) := by decide +kernel
theorem dJ2_checkIndex_5 : decode cJ2_checkIndex 5 = .ok (.invokestatic 1059, 3) := by decide +kernel
theorem dJ2_checkIndex_8 : decode cJ2_checkIndex 8 = .ok (.pop, 1) := by decide +kernel
theorem dJ2_checkIndex_9 : decode cJ2_checkIndex 9 = .ok (.return_, 1) := by decide +kernel
def w_J2_checkIndex {σ : Type} (l0 l1 : Int32) (x : σ) (N : σ → Prop) : Prop := 0 ≤ l0 ∧ l0 < l1 ∧ N x
theorem ct_J2_checkIndex {l : Launch} {G : GT} {σ : Type} {ρ : σ → HS → Prop} (l0 l1 : Int32) (x : σ) (N : σ → Prop) (h : w_J2_checkIndex l0 l1 x N) : Ct ρ l yJ2_checkIndex (ws_ yJ2_checkIndex cJ2_checkIndex 2 none) 2 G [vI l0, vI l1] x (oV N (fun _ _ => False)) := by
  refine Ct.ofY (cc := cJ2_checkIndex) (maxL := 2) (ret := none) [some (vI l0), some (vI l1)] false (by decide +kernel) (fun h => by cases h) rfl rfl (Nat.le_of_ble_eq_true rfl) (fun I cx => ?_)
  obtain ⟨h0, h1, h⟩ := h
  refine y_iload_n 0 cx dJ2_checkIndex_0 rfl rfl ?_
  refine y_iload_n 1 cx dJ2_checkIndex_1 rfl rfl ?_
  refine y_chk (d := 1) cx q515 q538 dJ2_checkIndex_2 dJ2_checkIndex_5 rfl (by decide) h0 h1 ?_
  refine y_popi cx dJ2_checkIndex_8 ?_
  exact y_vret cx dJ2_checkIndex_9 h
theorem md_J2_checkIndex : yJ2_checkIndex.cls ≠ "java/lang/invoke/MethodHandle" ∧ yJ2_checkIndex.cls ≠ "java/lang/invoke/VarHandle" ∧ (parseMethodDescriptor yJ2_checkIndex.desc).map (fun d => d.parameters.length) = some 2 := by decide +kernel
