set_option maxRecDepth 100000
/-- bytes are copied from one array to another -/
def sK (S : HS) (b sp a dp n : Nat) : HS := (S.1, S.2.1, S.2.2.1, S.2.2.2.1, S.2.2.2.2.1, S.2.2.2.2.2.1, fun c j => if c = a ∧ dp ≤ j ∧ j < dp + n then S.2.2.2.2.2.2.1 b (sp + (j - dp)) else S.2.2.2.2.2.2.1 c j, S.2.2.2.2.2.2.2)
theorem hC_sK (S : HS) (b sp a dp n c : Nat) : hC (sK S b sp a dp n) c = hC S c := rfl
theorem hI_sK (S : HS) (b sp a dp n f c : Nat) : hI (sK S b sp a dp n) f c = hI S f c := rfl
theorem hL_sK (S : HS) (b sp a dp n f c : Nat) : hL (sK S b sp a dp n) f c = hL S f c := rfl
theorem hR_sK (S : HS) (b sp a dp n f c : Nat) : hR (sK S b sp a dp n) f c = hR S f c := rfl
theorem hN_sK (S : HS) (b sp a dp n c : Nat) : hN (sK S b sp a dp n) c = hN S c := rfl
theorem hA_sK (S : HS) (b sp a dp n c j : Nat) : hA (sK S b sp a dp n) c j = hA S c j := rfl
theorem hY_sK (S : HS) (b sp a dp n c j : Nat) : hY (sK S b sp a dp n) c j = if c = a ∧ dp ≤ j ∧ j < dp + n then hY S b (sp + (j - dp)) else hY S c j := rfl
theorem hP_sK (S : HS) (b sp a dp n c j : Nat) : hP (sK S b sp a dp n) c j = hP S c j := rfl
theorem hZ_sK (S : HS) (b sp a dp n : Nat) : hZ (sK S b sp a dp n) = hZ S := rfl
theorem hB_sK (S : HS) (b sp a dp n : Nat) : hB (sK S b sp a dp n) = hB S := rfl
theorem hU_sK (S : HS) (b sp a dp n : Nat) : hU (sK S b sp a dp n) = hU S := rfl
section YK2
variable {I : Iv} {own : String} {cc : ByteArray} {nL : Nat} {ret : Option FieldType} {d : Nat} {hs : List (Nat × Nat × Nat × Nat)} {ini : Bool} {O : OA → HS → Prop} {pc : Nat} {ls : List (Option AV)} {st : List AV} {S : HS}
theorem y_eqR0 {σ : Type} {ρ : σ → HS → Prop} {O : OA → σ → Prop} {x : σ} {r r' : Rf} (e : r = r') (k : Y ρ I O pc ls (vR r' :: st) x) : Y ρ I O pc ls (vR r :: st) x := by rw [e]; exact k
theorem y_eqR1 {σ : Type} {ρ : σ → HS → Prop} {O : OA → σ → Prop} {x : σ} {r r' : Rf} {v : AV} (e : r = r') (k : Y ρ I O pc ls (v :: vR r' :: st) x) : Y ρ I O pc ls (v :: vR r :: st) x := by rw [e]; exact k
theorem y_eqR2 {σ : Type} {ρ : σ → HS → Prop} {O : OA → σ → Prop} {x : σ} {r r' : Rf} {v w : AV} (e : r = r') (k : Y ρ I O pc ls (v :: w :: vR r' :: st) x) : Y ρ I O pc ls (v :: w :: vR r :: st) x := by rw [e]; exact k
theorem y_eqR3 {σ : Type} {ρ : σ → HS → Prop} {O : OA → σ → Prop} {x : σ} {r r' : Rf} {v w u : AV} (e : r = r') (k : Y ρ I O pc ls (v :: w :: u :: vR r' :: st) x) : Y ρ I O pc ls (v :: w :: u :: vR r :: st) x := by rw [e]; exact k
theorem y_eqR4 {σ : Type} {ρ : σ → HS → Prop} {O : OA → σ → Prop} {x : σ} {r r' : Rf} {v w u z : AV} (e : r = r') (k : Y ρ I O pc ls (v :: w :: u :: z :: vR r' :: st) x) : Y ρ I O pc ls (v :: w :: u :: z :: vR r :: st) x := by rw [e]; exact k
/-- new, address and state by name -/
theorem y_newN {c ci N idx : Nat} {C : String} {T : u_T} (cx : Cx I own cc nL ret d hs ini) (hc : (ob c = true ∧ ci = ck c) ∨ (c = 5 ∧ ci = 5)) (hcl : clW[ci]? = some (C, T, N)) (hq1 : Cond.classLink own idx C ∈ lw_all) (hq2 : Cond.instantiable C N ∈ lw_all) (hq3 : Cond.initialized C ∈ lw_all)
    (hd : decode cc pc = .ok (.new idx, 3)) (h1 : 1 ≤ hB S) (h2 : N ≤ hU S) (k : ∀ a S1, a = hZ S → S1 = sO S c N → Y Eq I O (pc + 3) ls (vR (some (c, a, [])) :: st) S1) : Y Eq I O pc ls st S := y_new cx hc hcl hq1 hq2 hq3 hd h1 h2 (k _ _ rfl rfl)
theorem y_newiN {n : Int32} (cx : Cx I own cc nL ret d hs ini) (hq : Cond.arrayClass .int ∈ lw_all) (hd : decode cc pc = .ok (.newarray .int, 2)) (hn : ¬ n < 0) (hn2 : n.toNatClampNeg ≤ 65536) (h1 : 1 ≤ hB S) (h2 : n.toNatClampNeg ≤ hU S)
    (k : ∀ a S1, a = hZ S → S1 = sN S 100 n.toNatClampNeg → Y Eq I O (pc + 2) ls (vR (some (100, a, [])) :: st) S1) : Y Eq I O pc ls (vI n :: st) S := y_newi cx hq hd hn hn2 h1 h2 (k _ _ rfl rfl)
theorem y_newbN {n : Int32} (cx : Cx I own cc nL ret d hs ini) (hq : Cond.arrayClass .byte ∈ lw_all) (hd : decode cc pc = .ok (.newarray .byte, 2)) (hn : ¬ n < 0) (hn2 : n.toNatClampNeg ≤ 65536) (h1 : 1 ≤ hB S) (h2 : n.toNatClampNeg ≤ hU S)
    (k : ∀ a S1, a = hZ S → S1 = sN S 101 n.toNatClampNeg → Y Eq I O (pc + 2) ls (vR (some (101, a, [])) :: st) S1) : Y Eq I O pc ls (vI n :: st) S := y_newb cx hq hd hn hn2 h1 h2 (k _ _ rfl rfl)
theorem y_newEN {n : Int32} {idx : Nat} (cx : Cx I own cc nL ret d hs ini) (hq : Cond.classLink own idx "ClassFileReader$Entry" ∈ lw_all) (hd : decode cc pc = .ok (.anewarray idx, 3)) (hn : ¬ n < 0) (hn2 : n.toNatClampNeg ≤ 65536) (h1 : 1 ≤ hB S) (h2 : n.toNatClampNeg ≤ hU S)
    (k : ∀ a S1, a = hZ S → S1 = sN S 102 n.toNatClampNeg → Y Eq I O (pc + 3) ls (vR (some (102, a, [])) :: st) S1) : Y Eq I O pc ls (vI n :: st) S := y_newE cx hq hd hn hn2 h1 h2 (k _ _ rfl rfl)
/-- System.arraycopy, of bytes -/
theorem y_copyB {b a idx : Nat} {t u : List Int32} {sp dp n : Int32} (cx : Cx I own cc nL ret (d + 1) hs ini) (hq : Cond.methodLink own idx arraycopyName ∈ lw_all) (hq1 : Cond.native arraycopyName ∈ lw_all) (hq2 : Cond.static arraycopyName ∈ lw_all) (hq3 : Cond.initialized "java/lang/System" ∈ lw_all) (hd : decode cc pc = .ok (.invokestatic idx, 3)) (hlen : ls.length = nL) (hst : (st.map catA).sum ≤ 20)
    (h1 : ¬ sp < 0) (h2 : ¬ dp < 0) (h3 : ¬ n < 0) (h4 : sp.toNatClampNeg + n.toNatClampNeg ≤ hN S b) (h5 : dp.toNatClampNeg + n.toNatClampNeg ≤ hN S a) (hfit : ∀ i, i < n.toNatClampNeg → fits .byte (.int (hY S b (sp.toNatClampNeg + i))) = true)
    (k : Y Eq I O (pc + 3) ls st (sK S b sp.toNatClampNeg a dp.toNatClampNeg n.toNatClampNeg)) : Y Eq I O pc ls (vI n :: vI dp :: vR (some (101, a, u)) :: vI sp :: vR (some (101, b, t)) :: st) S := by
  obtain ⟨p, l, e, R, s, m, args, below, meth, c0, G, S0⟩ := I
  obtain ⟨hx, hb, hml, hown, hts, hE, -, -, hR0, -⟩ := cx
  intro S' H locs la hS hbs hv hw1 hw2
  subst hS
  subst hR0
  have nn : ∀ z : Int32, ¬ z < 0 → z.toInt = (z.toNatClampNeg : Int) := by
    intro z hz
    have hz0 : (0 : Int) ≤ z.toInt := by
      have := Int32.not_lt.mp hz
      simpa using Int32.le_iff_toInt_le.mp this
    show z.toInt = ((z.toInt.toNat : Nat) : Int)
    omega
  have hc1 : H[a]? = some (vp_cell (G.2.1 1) (hN S a, .inl (hY S a))) := (hbs.1.at hw2.2.2.1 rfl).2.2
  have hc0 : H[b]? = some (vp_cell (G.2.1 1) (hN S b, .inl (hY S b))) := (hbs.1.at hw2.2.2.2.2.1 rfl).2.2
  have hnf : nativeFrameWords "java/lang/System" "arraycopy" 5 ≤ 20 := by decide +kernel
  intro T hT X
  obtain ⟨-, k0, hk0, cm0, hkk0⟩ := (hE.1.2 1 _ rfl).1 (hN S b) (fun j => .int (hY S b j))
  obtain ⟨-, k1, hk1, cm1, hkk1⟩ := (hE.1.2 1 _ rfl).1 (hN S a) (fun j => .int (hY S a j))
  obtain ⟨vm', X', step⟩ := X.arraycopy hx hown (hts _ hq) (hts _ hq1) (hts _ hq2) (hts _ hq3) (src := b) (dst := a) (cs := vp_cell (G.2.1 1) (hN S b, .inl (hY S b))) (cd := vp_cell (G.2.1 1) (hN S a, .inl (hY S a))) (srcPos := sp) (destPos := dp) (n := n) (by rw [hT]; exact hc0) (by rw [hT]; exact hc1)
    (fun _ h => by cases h) (fun _ h => by cases h) (fun h => by cases h) (fun h => by cases h) hk0 hk1 hkk0 hkk1 (by simp [refKind]) h1 h2 h3
    (by rw [nn sp h1, nn n h3]; show ¬ _ > ((arrV _ (hN S b) (fun j => .int (hY S b j))).slots.size : Int); rw [arrV_size]; omega)
    (by rw [nn dp h2, nn n h3]; show ¬ _ > ((arrV _ (hN S a) (fun j => .int (hY S a j))).slots.size : Int); rw [arrV_size]; omega)
    (fun vm₁ _ i hi => by
      have e : (vp_cell (G.2.1 1) (hN S b, .inl (hY S b))).slots.getD (sp.toNatClampNeg + i) .null = .int (hY S b (sp.toNatClampNeg + i)) := by
        show (arrV _ (hN S b) (fun j => .int (hY S b j))).slots.getD _ _ = _
        rw [Array.getD_eq_getD_getElem?, arrV_read _ _ (by omega)]
        rfl
      refine ⟨?_, ?_⟩
      · rw [e]
        exact hfit i hi
      · rw [e]
        exact trivial)
    (g := F0 m pc la (.int n :: .int dp :: .ref a :: .int sp :: .ref b :: st.map cv)) rfl (by show la.size = _; rw [hml, ← hlen, ← lc_len]; exact hv.1) (rest := st.map cv) rfl (by rw [hb]; exact hd) (by show 1 ≤ d + 1; omega) (by rw [catA_sum]; show 2 * 0 + _ + (nativeFrameWords "java/lang/System" "arraycopy" 5 + 11) ≤ 64 * (d + 1); omega)
  have e1 : copied (vp_cell (G.2.1 1) (hN S b, .inl (hY S b))) (vp_cell (G.2.1 1) (hN S a, .inl (hY S a))) sp dp n = vp_cell (G.2.1 1) (hN S a, .inl (va_cpy (hY S b) (hY S a) sp.toNatClampNeg dp.toNatClampNeg n.toNatClampNeg)) := va_copied (fun z => .int z) (G.2.1 1) (G.2.1 1) (hY S b) (hY S a) h4
  rw [e1] at X' step
  have hl : a < H.size := (Array.getElem?_eq_some_iff.mp hc1).1
  generalize hS1 : sK S b sp.toNatClampNeg a dp.toNatClampNeg n.toNatClampNeg = S1 at k
  have ecell : vp_cell (G.2.1 1) (hN S a, .inl (va_cpy (hY S b) (hY S a) sp.toNatClampNeg dp.toNatClampNeg n.toNatClampNeg)) = vp_cell (G.2.1 1) (hN S1 a, .inl (hY S1 a)) := by
    rw [← hS1, hN_sK]
    congr 3
    funext j
    rw [hY_sK]
    unfold va_cpy
    by_cases hj : dp.toNatClampNeg ≤ j ∧ j < dp.toNatClampNeg + n.toNatClampNeg
    · rw [if_pos hj, if_pos ⟨rfl, hj⟩]
    · rw [if_neg hj, if_neg (fun z => hj z.2)]
  rw [ecell] at X' step
  have hheap : ((T.setVm vm').setCell a (vp_cell (G.2.1 1) (hN S1 a, .inl (hY S1 a)))).heap = H.setIfInBounds a (vp_cell (G.2.1 1) (hN S1 a, .inl (hY S1 a))) := by rw [← hT]; rfl
  have hr' : Rep G S1 (H.setIfInBounds a (vp_cell (G.2.1 1) (hN S1 a, .inl (hY S1 a)))) := by
    subst hS1
    obtain ⟨ht, hza, -⟩ := hbs.1.at hw2.2.2.1 rfl
    refine hbs.1.set hw2.2.2.1 hza (fun _ => rfl) rfl (fun c hb => ⟨fun _ => rfl, fun _ => rfl, fun _ => rfl, rfl, fun _ => rfl, fun j => by rw [hY_sK, if_neg (fun z => hb z.1)], fun _ => rfl⟩) (fun f => hbs.1.2.2.2.2.1 f a) (fun k => hbs.1.2.2.2.2.2.1 a k) (by simp) (fun q hq => by simp [Array.getElem?_setIfInBounds, Ne.symm hq]) (Or.inl ⟨rfl, ht, hza, ?_⟩)
    show (H.setIfInBounds a _)[a]? = some _
    simp [Array.getElem?_setIfInBounds, hl]
  have hm : Mono S S1 := by rw [← hS1]; exact fun _ _ h => h
  have hBU : hB S1 = hB S ∧ hU S1 = hU S := by rw [← hS1]; exact ⟨rfl, rfl⟩
  generalize hL : locs ++ List.map _ _ = L at X'
  have hLb : ∀ q ∈ L, gz G ≤ q.base := by
    intro q hq
    rw [← hL] at hq
    rcases List.mem_append.mp hq with h | h
    · exact hbs.2.1 q h
    · obtain ⟨z, -, hz⟩ := List.mem_map.mp h
      rw [← hz]
      exact (hbs.1.at hw2.2.2.1 rfl).2.1
  have k := k S1 _ L la rfl ⟨hr', hLb, by rw [hBU.1]; exact hbs.2.2.1, by rw [hBU.2]; exact hbs.2.2.2.1, hbs.2.2.2.2.tr hm⟩ hv (hw1.mono hm) (lvS.mono hm hw2.2.2.2.2.2)
  rw [hBU.1, hBU.2] at k
  obtain ⟨t, a1, b1⟩ := k _ hheap X'
  exact ⟨t, step t a1, b1⟩
end YK2
