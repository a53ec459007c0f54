set_option maxRecDepth 100000
theorem dz_fv {S : HS} {c n a : Nat} (ha : a = hZ S) (q : Nat × Nat) : fv (sO S c n) q a = dz q := by
  obtain ⟨q1, q2⟩ := q
  subst ha
  match q1 with
  | 0 => show Value.int (hI (sO S c n) q2 (hZ S)) = _; rw [hI_sO, if_pos rfl]; rfl
  | 1 => show Value.long (hL (sO S c n) q2 (hZ S)) = _; rw [hL_sO, if_pos rfl]; rfl
  | k + 2 => show cr (hR (sO S c n) q2 (hZ S)) = _; rw [hR_sO, if_pos rfl]; rfl
theorem sO_sd {S : HS} {c n b : Nat} (hb : b ≠ hZ S) : SD S (sO S c n) b := ⟨fun f => by rw [hI_sO, if_neg hb], fun f => by rw [hL_sO, if_neg hb], fun f => by rw [hR_sO, if_neg hb], rfl, fun _ => rfl, fun _ => rfl, fun _ => rfl⟩
theorem sN_sd {S : HS} {c n b : Nat} (hb : b ≠ hZ S) : SD S (sN S c n) b := ⟨fun _ => rfl, fun _ => rfl, fun _ => rfl, by rw [hN_sN, if_neg hb], fun f => by rw [hA_sN, if_neg hb], fun f => by rw [hY_sN, if_neg hb], fun f => by rw [hP_sN, if_neg hb]⟩
section YN
variable {I : Iv} {own : String} {cc : ByteArray} {nL : Nat} {ret : Option FieldType} {d : Nat} {hs : List (Nat × Nat × Nat × Nat)} {ini : Bool} {O : OA → HS → Prop} {pc : Nat} {ls : List (Option AV)} {st : List AV} {S : HS}
/-- new, of a kind that is an object (or 5, a Malformed) -/
theorem y_new {c ci N idx : Nat} {C : String} {T : u_T} (cx : Cx I own cc nL ret d hs ini) (hc : (ob c = true ∧ ci = ck c) ∨ (c = 5 ∧ ci = 5)) (hcl : clW[ci]? = some (C, T, N)) (hq1 : Cond.classLink own idx C ∈ lw_all) (hq2 : Cond.instantiable C N ∈ lw_all) (hq3 : Cond.initialized C ∈ lw_all)
    (hd : decode cc pc = .ok (.new idx, 3)) (h1 : 1 ≤ hB S) (h2 : N ≤ hU S) (k : Y Eq I O (pc + 3) ls (vR (some (c, hZ S, [])) :: st) (sO S c N)) : Y Eq I O pc ls st S := by
  obtain ⟨p, l, e, R, s, m, args, below, meth, c0, G, S0⟩ := I
  obtain ⟨hx, hb, hml, hown, hts, hE, -, -, hR0, -⟩ := cx
  intro S' H locs la hS hbs hv hw1 hw2
  subst hS
  subst hR0
  obtain ⟨hin, -⟩ := cw_ok ci C T N hcl
  obtain ⟨ty, hty, hdf⟩ := cw_def ci C T N hcl
  have hKn := hE.1.1 ci _ hcl
  have b3 := hbs.2.2.1
  have b4 := hbs.2.2.2.1
  refine W.newcK hx hb hown (hts _ hq1) (hts _ hq2) (hts _ hq3) rfl hd (by show _ ≤ hB S0; omega) (by show _ ≤ hU S0; omega) hKn.2.1 hbs.1.1 fun H1 kC hkC e1 z1 o1 => ?_
  have hat : va_at G.1 clW (hZ S, .inr (ci, (lay ci).map dz)) H1 := ⟨_, hcl, (u_born ty hts hin hKn hkC e1 hty).to hdf⟩
  have hfv : (lay ci).map dz = (lay ci).map (fun q => fv (sO S c N) q (hZ S)) := List.map_congr_left (fun q _ => (dz_fv rfl q).symm)
  have hr := hbs.1.push (S' := sO S c N) (H1 := H1) (c := c) (fun _ => rfl) rfl (fun b hb => sO_sd hb) (fun f => Or.inl (by rw [hR_sO, if_pos rfl])) (fun k => Or.inr rfl) (by rw [z1, hbs.1.1]) (by intro q hq; exact o1 q (by rw [← hbs.1.1]; exact hq)) (by
    have hz : gz G ≤ hZ S := by have := hbs.1.2.1; have := hbs.1.1; omega
    rcases hc with ⟨h, e⟩ | ⟨h, e⟩
    · subst e
      refine Or.inl ⟨ob_wr h, rfl, hz, ?_⟩
      rw [cE_obj h, ← hfv]
      exact hat
    · subst h
      subst e
      refine Or.inr (Or.inl ⟨rfl, rfl, hz, fun cell hc => by rw [e1] at hc; cases hc; exact ⟨rfl, rfl⟩, [.null, .null, .null, .null, .null, .int 0], rfl, fun _ => rfl, ?_⟩)
      rw [hI_sO, if_pos rfl, hI_sO, if_pos rfl]
      exact hat)
  refine W.cs (cells' := hB S0 - hB (sO S c N)) (slots' := hU S0 - hU (sO S c N)) (by rw [hB_sO]; omega) (by rw [hU_sO]; omega) ?_
  exact k (sO S c N) H1 locs la rfl (hbs.push hr (by rw [hB_sO]; omega) (by rw [hU_sO]; omega)) hv (hw1.mono hr.2) ⟨by show hC (sO S c N) (hZ S) = some (c, []); rw [hC_sO, if_pos rfl], lvS.mono hr.2 hw2⟩
theorem y_newK {c : Nat} {atype : ArrayType} {n : Int32} {w : Nat} (hcw : (c = 100 ∧ w = 0 ∧ atype = .int) ∨ (c = 101 ∧ w = 1 ∧ atype = .byte)) (cx : Cx I own cc nL ret d hs ini) (hq : Cond.arrayClass (newarray.typeOf atype) ∈ lw_all) (hd : decode cc pc = .ok (.newarray atype, 2)) (hn : ¬ n < 0) (hn2 : n.toNatClampNeg ≤ 65536) (h1 : 1 ≤ hB S) (h2 : n.toNatClampNeg ≤ hU S)
    (k : Y Eq I O (pc + 2) ls (vR (some (c, hZ S, [])) :: st) (sN S c n.toNatClampNeg)) : Y Eq I O pc ls (vI n :: st) S := by
  obtain ⟨p, l, e, R, s, m, args, below, meth, c0, G, S0⟩ := I
  obtain ⟨hx, hb, hml, hown, hts, hE, -, -, hR0, -⟩ := cx
  intro S' H locs la hS hbs hv hw1 hw2
  subst hS
  subst hR0
  have b3 := hbs.2.2.1
  have b4 := hbs.2.2.2.1
  refine va_newaK hx hb (hts _ hq) rfl hd rfl hn rfl (by rcases hcw with ⟨_, _, rfl⟩ | ⟨_, _, rfl⟩ <;> (simp only [newarray.typeOf, componentBytes]; omega)) (by show _ ≤ hB S0; omega) (by show _ ≤ hU S0; omega) hbs.1.1 fun H1 cA e1 z1 o1 hAr hNm => ?_
  have hz : gz G ≤ hZ S := by have := hbs.1.2.1; have := hbs.1.1; omega
  have hr := hbs.1.push (S' := sN S c n.toNatClampNeg) (H1 := H1) (c := c) (fun _ => rfl) rfl (fun b hb => sN_sd hb) (fun f => Or.inr rfl) (fun k => Or.inl (by rw [hP_sN, if_pos rfl])) (by rw [z1, hbs.1.1]) (by intro q hq; exact o1 q (by rw [← hbs.1.1]; exact hq)) (by
    rcases hcw with ⟨rfl, rfl, rfl⟩ | ⟨rfl, rfl, rfl⟩
    · refine Or.inl ⟨rfl, rfl, hz, ?_⟩
      have hcA : cA = G.2.1 0 := Option.some.inj (hNm.symm.trans (hE.1.2 0 _ rfl).2)
      show H1[hZ S]? = some (vp_cell (G.2.1 0) (hN (sN S 100 n.toNatClampNeg) (hZ S), .inl (hA (sN S 100 n.toNatClampNeg) (hZ S))))
      rw [e1, vp_cell_i, hcA, hN_sN, if_pos rfl]
      congr 2
      funext j
      rw [hA_sN, if_pos rfl]
      rfl
    · refine Or.inl ⟨rfl, rfl, hz, ?_⟩
      have hcA : cA = G.2.1 1 := Option.some.inj (hNm.symm.trans (hE.1.2 1 _ rfl).2)
      show H1[hZ S]? = some (vp_cell (G.2.1 1) (hN (sN S 101 n.toNatClampNeg) (hZ S), .inl (hY (sN S 101 n.toNatClampNeg) (hZ S))))
      rw [e1, vp_cell_i, hcA, hN_sN, if_pos rfl]
      congr 2
      funext j
      rw [hY_sN, if_pos rfl]
      rfl)
  refine W.cs (cells' := hB S0 - hB (sN S c n.toNatClampNeg)) (slots' := hU S0 - hU (sN S c n.toNatClampNeg)) (by rw [hB_sN]; omega) (by rw [hU_sN]; omega) ?_
  exact k (sN S c n.toNatClampNeg) H1 locs la rfl (hbs.push hr (by rw [hB_sN]; omega) (by rw [hU_sN]; omega)) hv (hw1.mono hr.2) ⟨by show hC (sN S c n.toNatClampNeg) (hZ S) = some (c, []); rw [hC_sN, if_pos rfl], lvS.mono hr.2 hw2.2⟩
theorem y_newi {n : Int32} (cx : Cx I own cc nL ret d hs ini) (hq : Cond.arrayClass .int ∈ lw_all) (hd : decode cc pc = .ok (.newarray .int, 2)) (hn : ¬ n < 0) (hn2 : n.toNatClampNeg ≤ 65536) (h1 : 1 ≤ hB S) (h2 : n.toNatClampNeg ≤ hU S)
    (k : Y Eq I O (pc + 2) ls (vR (some (100, hZ S, [])) :: st) (sN S 100 n.toNatClampNeg)) : Y Eq I O pc ls (vI n :: st) S := y_newK (Or.inl ⟨rfl, rfl, rfl⟩) cx hq hd hn hn2 h1 h2 k
theorem y_newb {n : Int32} (cx : Cx I own cc nL ret d hs ini) (hq : Cond.arrayClass .byte ∈ lw_all) (hd : decode cc pc = .ok (.newarray .byte, 2)) (hn : ¬ n < 0) (hn2 : n.toNatClampNeg ≤ 65536) (h1 : 1 ≤ hB S) (h2 : n.toNatClampNeg ≤ hU S)
    (k : Y Eq I O (pc + 2) ls (vR (some (101, hZ S, [])) :: st) (sN S 101 n.toNatClampNeg)) : Y Eq I O pc ls (vI n :: st) S := y_newK (Or.inr ⟨rfl, rfl, rfl⟩) cx hq hd hn hn2 h1 h2 k
theorem y_newE {n : Int32} {idx : Nat} (cx : Cx I own cc nL ret d hs ini) (hq : Cond.classLink own idx "ClassFileReader$Entry" ∈ lw_all) (hd : decode cc pc = .ok (.anewarray idx, 3)) (hn : ¬ n < 0) (hn2 : n.toNatClampNeg ≤ 65536) (h1 : 1 ≤ hB S) (h2 : n.toNatClampNeg ≤ hU S)
    (k : Y Eq I O (pc + 3) ls (vR (some (102, hZ S, [])) :: st) (sN S 102 n.toNatClampNeg)) : Y Eq I O pc ls (vI n :: st) S := by
  obtain ⟨p, l, e, R, s, m, args, below, meth, c0, G, S0⟩ := I
  obtain ⟨hx, hb, hml, hown, hts, hE, -, -, hR0, -⟩ := cx
  intro S' H locs la hS hbs hv hw1 hw2
  subst hS
  subst hR0
  have b3 := hbs.2.2.1
  have b4 := hbs.2.2.2.1
  refine W.anew hx hb hown (hts _ hq) (va_AO.use hE.2.2.2.2.2.2.2.1) rfl hd rfl hn (by omega) (by show _ ≤ hB S0; omega) (by show _ ≤ hU S0; omega) fun cA kA comp f1 f2 f3 f4 => ?_
  generalize hH1 : H.push ({ cls := cA, slots := Array.replicate n.toNatClampNeg .null, vm := .none } : Cell) = H1
  have z1 : H1.size = H.size + 1 := by rw [← hH1, Array.size_push]
  have e1 : H1[H.size]? = some (arrV cA n.toNatClampNeg (fun _ => .null)) := by rw [← hH1, Array.getElem?_push_size, ← arrV_new]
  have o1 : ∀ q : Nat, q < H.size → H1[q]? = H[q]? := fun q hq => by rw [← hH1, Array.getElem?_push, if_neg (Nat.ne_of_lt hq)]
  have hz : gz G ≤ hZ S := by have := hbs.1.2.1; have := hbs.1.1; omega
  have hr := hbs.1.push (S' := sN S 102 n.toNatClampNeg) (H1 := H1) (c := 102) (fun _ => rfl) rfl (fun b hb => sN_sd hb) (fun f => Or.inr rfl) (fun k => Or.inl (by rw [hP_sN, if_pos rfl])) z1 o1 (by
    refine Or.inl ⟨rfl, rfl, hz, ?_⟩
    obtain ⟨kA', comp', -, -, -, hNm⟩ := (hE.1.2 2 _ rfl).2
    have hcA : cA = G.2.1 2 := Option.some.inj (f1.symm.trans hNm)
    show H1[hZ S]? = some (vp_cell (G.2.1 2) (hN (sN S 102 n.toNatClampNeg) (hZ S), .inr (.inr (.inr (.inr (fun k => (hP (sN S 102 n.toNatClampNeg) (hZ S) k).map (fun q => q.2.1)))))))
    rw [← hbs.1.1, e1, vp_cell_q, hcA, hbs.1.1, hN_sN, if_pos rfl]
    congr 2
    funext j
    rw [hP_sN, if_pos rfl]
    rfl)
  rw [hbs.1.1]
  refine W.cs (cells' := hB S0 - hB (sN S 102 n.toNatClampNeg)) (slots' := hU S0 - hU (sN S 102 n.toNatClampNeg)) (by rw [hB_sN]; omega) (by rw [hU_sN]; omega) ?_
  exact k (sN S 102 n.toNatClampNeg) H1 locs la rfl (hbs.push hr (by rw [hB_sN]; omega) (by rw [hU_sN]; omega)) hv (hw1.mono hr.2) ⟨by show hC (sN S 102 n.toNatClampNeg) (hZ S) = some (102, []); rw [hC_sN, if_pos rfl], lvS.mono hr.2 hw2.2⟩
/-- Object.<init> -/
theorem y_objInit {c a idx : Nat} {t : List Int32} (cx : Cx I own cc nL ret (d + 1) hs ini) (hq1 : Cond.methodLink own idx Lib.objectInit ∈ lw_all) (hq2 : Cond.instanceMethod Lib.objectInit ∈ lw_all) (hq3 : Cond.code Lib.objectInit ⟨#[0xb1]⟩ 1 none ∈ lw_all) (hd : decode cc pc = .ok (.invokespecial idx, 3)) (hlen : ls.length = nL) (hst : ((st.map cv).map fun v => v.category).sum ≤ 50) (k : Y Eq I O (pc + 3) ls st S) : Y Eq I O pc ls (vR (some (c, a, t)) :: st) S := by
  obtain ⟨p, l, e, R, s, m, args, below, meth, c0, G, S0⟩ := I
  obtain ⟨hx, hb, hml, hown, hts, hE, -, -, hR0, -⟩ := cx
  intro S' H locs la hS hbs hv hw1 hw2
  subst hS
  subst hR0
  exact W.objInit hx hb hown (hts _ hq1) (hts _ hq2) (hts _ hq3) rfl (by rw [hml, ← hlen, ← lc_len]; exact hv.1) rfl hd (by show 1 ≤ d + 1; omega) (by show _ ≤ 64 * (d + 1); simp only [JFrame.monitorRoom]; omega) (k S H locs la rfl hbs hv hw1 hw2.2)
/-- instanceof -/
theorem y_inst {nm : String} {idx : Nat} {r : Rf} (yes no : List Nat) (hy : ∀ c ∈ yes, ob c = true ∧ (cn (ck c) = nm ∨ Cond.castable (cn (ck c)) nm ∈ lw_tbl)) (hno : ∀ c ∈ no, ob c = true ∧ (cn (ck c), nm) ∈ ncW ∧ ¬ c ∈ yes) (cx : Cx I own cc nL ret d hs ini) (hq : Cond.classLink own idx nm ∈ lw_all) (hd : decode cc pc = .ok (.instanceof idx, 3)) (hr : kin r (yes ++ no)) (k : Y Eq I O (pc + 3) ls (vI (isI r yes) :: st) S) : Y Eq I O pc ls (vR r :: st) S := by
  obtain ⟨p, l, e, R, s, m, args, below, meth, c0, G, S0⟩ := I
  obtain ⟨hx, hb, hml, hown, hts, hE, -⟩ := cx
  intro S' H locs la hS hbs hv hw1 hw2
  subst hS
  have k := k S H locs la rfl hbs hv hw1 ⟨trivial, hw2.2⟩
  cases r with
  | none => exact lv_instN hx hb hd k
  | some q =>
    rcases List.mem_append.mp (hr q rfl) with z | z
    · obtain ⟨hob, hca⟩ := hy _ z
      obtain ⟨cell, g1, g4, g3, g2⟩ := y_recv hE hbs hob hw2.1
      have e1 : isI (some q) yes = 1 := if_pos z
      rw [e1] at k
      rcases hca with rfl | hca
      · exact va_instE hx hb hown (hts _ hq) ⟨cell, g1, g4, g2⟩ hd k
      · exact va_instY hx hb hown (hts _ hq) (hE.2.1 _ hca rfl) ⟨cell, g1, g4, g2⟩ hd k
    · obtain ⟨hob, hca, hn⟩ := hno _ z
      obtain ⟨cell, g1, g4, g3, g2⟩ := y_recv hE hbs hob hw2.1
      have e1 : isI (some q) yes = 0 := if_neg hn
      rw [e1] at k
      exact va_instNo hx hb hown (hts _ hq) (hE.2.2.2.2.2.2.2.2.1 _ hca) ⟨cell, g1, g4, g2⟩ hd k
/-- checkcast -/
theorem y_cast {nm : String} {idx : Nat} {r : Rf} (yes : List Nat) (hy : ∀ c ∈ yes, ob c = true ∧ (cn (ck c) = nm ∨ Cond.castable (cn (ck c)) nm ∈ lw_tbl)) (cx : Cx I own cc nL ret d hs ini) (hq : Cond.classLink own idx nm ∈ lw_all) (hd : decode cc pc = .ok (.checkcast idx, 3)) (hr : kin r yes) (k : Y Eq I O (pc + 3) ls (vR r :: st) S) : Y Eq I O pc ls (vR r :: st) S := by
  obtain ⟨p, l, e, R, s, m, args, below, meth, c0, G, S0⟩ := I
  obtain ⟨hx, hb, hml, hown, hts, hE, -⟩ := cx
  intro S' H locs la hS hbs hv hw1 hw2
  subst hS
  have k := k S H locs la rfl hbs hv hw1 hw2
  cases r with
  | none => exact lv_castN hx hb hd k
  | some q =>
    obtain ⟨hob, hca⟩ := hy _ (hr q rfl)
    obtain ⟨cell, g1, g4, g3, g2⟩ := y_recv hE hbs hob hw2.1
    rcases hca with rfl | hca
    · exact va_castE hx hb hown (hts _ hq) ⟨cell, g1, g4, g2⟩ hd k
    · exact va_castY hx hb hown (hts _ hq) (hE.2.1 _ hca rfl) ⟨cell, g1, g4, g2⟩ hd k
theorem y_ldc {idx : Nat} {v : Int32} {σ : Type} {ρ : σ → HS → Prop} {O : OA → σ → Prop} {x : σ} (cx : Cx I own cc nL ret d hs ini) (hq : Cond.constant own idx v ∈ lw_all) (hd : decode cc pc = .ok (.ldc idx, 2)) (k : Y ρ I O (pc + 2) ls (vI v :: st) x) : Y ρ I O pc ls st x := by
  obtain ⟨p, l, e, R, s, m, args, below, meth, c0, G, S0⟩ := I
  obtain ⟨hx, hb, hml, hown, hts, hE, -⟩ := cx
  intro S H locs la hS hbs hv hw1 hw2
  exact lv_ldc hx hb hown (hts _ hq) hd (k S H locs la hS hbs hv hw1 ⟨trivial, hw2⟩)
theorem y_ldcw {idx : Nat} {v : Int32} {σ : Type} {ρ : σ → HS → Prop} {O : OA → σ → Prop} {x : σ} (cx : Cx I own cc nL ret d hs ini) (hq : Cond.constant own idx v ∈ lw_all) (hd : decode cc pc = .ok (.ldc_w idx, 3)) (k : Y ρ I O (pc + 3) ls (vI v :: st) x) : Y ρ I O pc ls st x := by
  obtain ⟨p, l, e, R, s, m, args, below, meth, c0, G, S0⟩ := I
  obtain ⟨hx, hb, hml, hown, hts, hE, -⟩ := cx
  intro S H locs la hS hbs hv hw1 hw2
  exact lv_ldcw hx hb hown (hts _ hq) hd (k S H locs la hS hbs hv hw1 ⟨trivial, hw2⟩)
theorem y_ldc2 {idx : Nat} {v : Int64} {σ : Type} {ρ : σ → HS → Prop} {O : OA → σ → Prop} {x : σ} (cx : Cx I own cc nL ret d hs ini) (hq : Cond.constantLong own idx v ∈ lw_all) (hd : decode cc pc = .ok (.ldc2_w idx, 3)) (k : Y ρ I O (pc + 3) ls (vL v :: st) x) : Y ρ I O pc ls st x := by
  obtain ⟨p, l, e, R, s, m, args, below, meth, c0, G, S0⟩ := I
  obtain ⟨hx, hb, hml, hown, hts, hE, -⟩ := cx
  intro S H locs la hS hbs hv hw1 hw2
  exact lv_ldc2 hx hb hown (hts _ hq) hd (k S H locs la hS hbs hv hw1 ⟨trivial, hw2⟩)
/-- a String constant -/
theorem y_ldcS {idx j : Nat} {tx : String} (cx : Cx I own cc nL ret d hs ini) (hj : j < litN) (hq : litKey[j]? = some (own, idx, tx)) (hd : decode cc pc = .ok (.ldc idx, 2)) (k : ∀ a, Y Eq I O (pc + 2) ls (vR (some (16, a, litT j)) :: st) S) : Y Eq I O pc ls st S := by
  obtain ⟨p, l, e, R, s, m, args, below, meth, c0, G, S0⟩ := I
  obtain ⟨hx, hb, hml, hown, hts, hE, -⟩ := cx
  intro S' H locs la hS hbs hv hw1 hw2
  subst hS
  exact va_ldcS hx hb hown ((hE.2.2.1 j hj).2.2.2.2 _ hq) hd (k (gK G j) S H locs la rfl hbs hv hw1 ⟨(hbs.1.2.2.2.2.2.2 j hj).1, hw2⟩)
theorem w_ldcwS {p : Program} {l : Launch} {e : Env} {R : Room} {s : State} {m : MethodId} {args : Array Value} {below : List Frame} {meth : Method} {c : Code} {T : State} {locs : List Loc} {cells slots : Nat}
    (X : Stand p l e R s m args below meth c T locs cells slots) (hexec : p.tables.exec = Jvm.exec) {text : String} {index : Nat} {a : Addr} (hown : s.vm.findClass own = some m.cls)
    (hconst : (Cond.stringRef own index text).before args s = true) (hev : (Term.string own index).eval args s none [] s = some (.ref a)) {g : JFrame} (hg : g.method = m) (hdg : decode c.code g.pc = .ok (.ldc_w index, 3)) :
    ∀ target, Steps p.tables e below (T.setTop { g with pc := g.pc + 3, stack := .ref a :: g.stack }) target → Steps p.tables e below (T.setTop g) target := by
  obtain ⟨k, cf, i, a', hk, hcf, hcp, -, hr, hev'⟩ := Cond.stringRef_spec hown hconst
  cases hev.symm.trans hev'
  obtain ⟨k', hk', he⟩ := X.warmed.alike.2.2 _ _ hk
  have hr' : k'.resolved[index]? = some (some (.string a)) := by
    rcases X.warmed.entry hk hk' index with h | ⟨h, -⟩
    · rw [h]; exact hr
    · rw [hr] at h; cases h
  intro target hrest
  subst hg
  jvm_step X.here [hexec, hdg, ldc_w.wp_string (e := e) (s := T) (f := g) X.here.top hk' (by rw [he]; exact hcf) hcp hr']
  exact hrest
theorem y_ldcwS {idx j : Nat} {tx : String} (cx : Cx I own cc nL ret d hs ini) (hj : j < litN) (hq : litKey[j]? = some (own, idx, tx)) (hd : decode cc pc = .ok (.ldc_w idx, 3)) (k : ∀ a, Y Eq I O (pc + 3) ls (vR (some (16, a, litT j)) :: st) S) : Y Eq I O pc ls st S := by
  obtain ⟨p, l, e, R, s, m, args, below, meth, c0, G, S0⟩ := I
  obtain ⟨hx, hb, hml, hown, hts, hE, -⟩ := cx
  intro S' H locs la hS hbs hv hw1 hw2
  subst hS
  have hZ := (hE.2.2.1 j hj).2.2.2.2 _ hq
  have k := k (gK G j) S H locs la rfl hbs hv hw1 ⟨(hbs.1.2.2.2.2.2.2 j hj).1, hw2⟩
  intro T hT X
  obtain ⟨t, a1, b1⟩ := k T hT X
  exact ⟨t, w_ldcwS X hx hown (text := tx) (a := gK G j) hZ.1 hZ.2 (g := F0 m pc la (st.map cv)) rfl (by rw [hb]; exact hd) t a1, b1⟩
end YN
