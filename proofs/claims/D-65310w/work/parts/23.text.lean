set_option maxRecDepth 100000
theorem lit_tok : ∀ j, j < litN → tok (litT j) := by unfold tok; decide +kernel
theorem Rep.str {G : GT} {S : HS} {H : Heap} (h : Rep G S H) {a : Nat} {t : List Int32} (hc : hC S a = some (14, t)) : gz G ≤ a ∧ ∃ (v : Nat) (x z : Int32), va_at G.1 clW (a, .inr (14, [.ref v, .int 0, .int x, .int z])) H ∧ hC S v = some (104, t) ∧ (x ≠ 0 → x = hsh t) ∧ (z ≠ 0 → hsh t = 0) := by
  rcases h.kc hc with ⟨h1, -⟩ | ⟨h1, -⟩ | ⟨-, h2, v, x, z, h3, h4, h5, h6⟩ | ⟨h1, -⟩ | ⟨h1, -⟩ | ⟨h1, -⟩
  · cases h1
  · cases h1
  · exact ⟨h2, v, x, z, h3, h4, h5, h6⟩
  · cases h1
  · cases h1
  · cases h1
theorem Rep.lit {G : GT} {S : HS} {H : Heap} (h : Rep G S H) {a : Nat} {t : List Int32} (hc : hC S a = some (16, t)) : ∃ j, j < litN ∧ a = gK G j ∧ t = litT j := by
  rcases h.kc hc with ⟨h1, -⟩ | ⟨h1, -⟩ | ⟨h1, -⟩ | ⟨h1, -⟩ | ⟨-, h2⟩ | ⟨h1, -⟩
  · cases h1
  · cases h1
  · cases h1
  · cases h1
  · exact h2
  · cases h1
theorem Rep.litv {G : GT} {S : HS} {H : Heap} (h : Rep G S H) {a : Nat} {t : List Int32} (hc : hC S a = some (103, t)) : ∃ j, j < litN ∧ a = gV G j ∧ t = litT j := by
  rcases h.kc hc with ⟨h1, -⟩ | ⟨h1, -⟩ | ⟨h1, -⟩ | ⟨h1, -⟩ | ⟨h1, -⟩ | ⟨-, h2⟩
  · cases h1
  · cases h1
  · cases h1
  · cases h1
  · cases h1
  · exact h2
theorem Rep.frz {G : GT} {S : HS} {H : Heap} (h : Rep G S H) {a : Nat} {t : List Int32} (hc : hC S a = some (104, t)) : gz G ≤ a ∧ tok t ∧ va_at G.1 clW (a, .inl (G.2.1 1, t.length, .inl (fun k => t.getD k 0))) H := by
  rcases h.kc hc with ⟨h1, -⟩ | ⟨h1, -⟩ | ⟨h1, -⟩ | ⟨-, h2⟩ | ⟨h1, -⟩ | ⟨h1, -⟩
  · cases h1
  · cases h1
  · cases h1
  · exact h2
  · cases h1
  · cases h1
theorem Rep.tok {G : GT} {S : HS} {H : Heap} (h : Rep G S H) {a c : Nat} {t : List Int32} (hc : hC S a = some (c, t)) (h14 : c = 14 ∨ c = 16) : tok t := by
  rcases h14 with rfl | rfl
  · obtain ⟨-, v, x, z, -, h4, -⟩ := h.str hc
    exact (h.frz h4).2.1
  · obtain ⟨j, hj, -, rfl⟩ := h.lit hc
    exact lit_tok j hj
theorem Rep.mal {G : GT} {S : HS} {H : Heap} (h : Rep G S H) {a : Nat} {t : List Int32} (hc : hC S a = some (5, t)) : t = [] ∧ gz G ≤ a ∧ MF H a ∧ ∃ w : List Value, w.length = 6 ∧ (hI S 99 a = 0 → w = [.null, .null, .null, .null, .null, .int 0]) ∧ va_at G.1 clW (a, .inr (5, w ++ [.int (hI S 52 a), .int (hI S 53 a)])) H := by
  rcases h.kc hc with ⟨h1, -⟩ | ⟨-, h2⟩ | ⟨h1, -⟩ | ⟨h1, -⟩ | ⟨h1, -⟩ | ⟨h1, -⟩
  · cases h1
  · exact h2
  · cases h1
  · cases h1
  · cases h1
  · cases h1
section YT
variable {I : Iv} {own : String} {cc : ByteArray} {nL : Nat} {ret : Option FieldType} {d : Nat} {hs : List (Nat × Nat × Nat × Nat)} {ini : Bool} {O : OA → HS → Prop} {pc : Nat} {ls : List (Option AV)} {st : List AV} {S : HS}
theorem w_litf {p : Program} {l : Launch} {e : Env} {R : Room} {s : State} {m : MethodId} {args : Array Value} {below : List Frame} {meth : Method} {c : Code} {H : Heap} {locs : List Loc} {cells slots : Nat} {Q : State → Prop} {la : Array Slot} {rest : List Value} {G : GT} {nm ds : String} {idx a : Nat} {v : Value} (hx : p.tables.exec = Jvm.exec) (hb : c.code = cc) (hown : s.vm.findClass own = some m.cls) (hr : Rep G S H) (hF : va_OF "java/lang/String" nm ds v a (gA G) s G.2.2.1) (hlk : (Cond.fieldLink own idx "java/lang/String" nm ds).before args s = true) (hd : decode cc pc = .ok (.getfield idx, 3))
    (k : W p l e R s m args below meth c H locs cells slots Q (F0 m (pc + 3) la (v :: rest))) : W p l e R s m args below meth c H locs cells slots Q (F0 m pc la (.ref a :: rest)) := by
  obtain ⟨cf, kf, fi, f, cell, h1, h2, h3, h4, h5, h6⟩ := hF
  exact W.getf hx hb hown hlk h1 h2 (by rw [hr.2.2.1 a (Nat.not_le.mp h6)]; exact h3) h4 (v := v) h5 rfl rfl hd k
theorem y_strVal {c a idx : Nat} {t : List Int32} (cx : Cx I own cc nL ret d hs ini) (hq : Cond.fieldLink own idx "java/lang/String" "value" "[B" ∈ lw_all) (hd : decode cc pc = .ok (.getfield idx, 3)) (hc : c = 14 ∨ c = 16) (k : ∀ cw w, (cw = 103 ∨ cw = 104) → tok t → Y Eq I O (pc + 3) ls (vR (some (cw, w, t)) :: st) S) : Y Eq I O pc ls (vR (some (c, a, t)) :: st) S := by
  obtain ⟨p, l, e, R, s, m, args, below, meth, c0, G, S0⟩ := I
  obtain ⟨hx, hb, hml, hown, hts, hE, -⟩ := cx
  intro S' H locs la hS hbs hv hw1 hw2
  subst hS
  have htk := hbs.1.tok hw2.1 hc
  rcases hc with rfl | rfl
  · obtain ⟨-, v, x, z, hat, hv4, -⟩ := hbs.1.str hw2.1
    exact w_getf (ci := 14) (kk := 0) (C := RJ2) (T := TJ2) (N := 4) (ref := "java/lang/String") hx hb hown hts hE rfl (by decide) hat rfl (Or.inl hq) (Or.inl rfl) hd (k 104 v (Or.inr rfl) htk S H locs la rfl hbs hv hw1 ⟨hv4, hw2.2⟩)
  · obtain ⟨j, hj, e1, e2⟩ := hbs.1.lit hw2.1
    have e1 : a = gK G j := e1
    have e2 : t = litT j := e2
    subst e1
    subst e2
    exact w_litf hx hb hown hbs.1 (hE.2.2.1 j hj).2.2.1 (hts _ hq) hd (k 103 (gV G j) (Or.inl rfl) htk S H locs la rfl hbs hv hw1 ⟨(hbs.1.2.2.2.2.2.2 j hj).2, hw2.2⟩)
theorem y_strCoder {c a idx : Nat} {t : List Int32} (cx : Cx I own cc nL ret d hs ini) (hq : Cond.fieldLink own idx "java/lang/String" "coder" "B" ∈ lw_all) (hd : decode cc pc = .ok (.getfield idx, 3)) (hc : c = 14 ∨ c = 16) (k : Y Eq I O (pc + 3) ls (vI 0 :: st) S) : Y Eq I O pc ls (vR (some (c, a, t)) :: st) S := by
  obtain ⟨p, l, e, R, s, m, args, below, meth, c0, G, S0⟩ := I
  obtain ⟨hx, hb, hml, hown, hts, hE, -⟩ := cx
  intro S' H locs la hS hbs hv hw1 hw2
  subst hS
  rcases hc with rfl | rfl
  · obtain ⟨-, v, x, z, hat, hv4, -⟩ := hbs.1.str hw2.1
    exact w_getf (ci := 14) (kk := 1) (C := RJ2) (T := TJ2) (N := 4) (ref := "java/lang/String") hx hb hown hts hE rfl (by decide) hat rfl (Or.inl hq) (Or.inl rfl) hd (k S H locs la rfl hbs hv hw1 ⟨trivial, hw2.2⟩)
  · obtain ⟨j, hj, e1, e2⟩ := hbs.1.lit hw2.1
    have e1 : a = gK G j := e1
    subst e1
    exact w_litf hx hb hown hbs.1 (hE.2.2.1 j hj).2.1 (hts _ hq) hd (k S H locs la rfl hbs hv hw1 ⟨trivial, hw2.2⟩)
theorem y_strHash {a idx : Nat} {t : List Int32} (cx : Cx I own cc nL ret d hs ini) (hq : Cond.fieldLink own idx "java/lang/String" "hash" "I" ∈ lw_all) (hd : decode cc pc = .ok (.getfield idx, 3)) (k : ∀ x, (x ≠ 0 → x = hsh t) → Y Eq I O (pc + 3) ls (vI x :: st) S) : Y Eq I O pc ls (vR (some (14, a, t)) :: st) S := by
  obtain ⟨p, l, e, R, s, m, args, below, meth, c0, G, S0⟩ := I
  obtain ⟨hx, hb, hml, hown, hts, hE, -⟩ := cx
  intro S' H locs la hS hbs hv hw1 hw2
  subst hS
  obtain ⟨-, v, x, z, hat, hv4, h5, h6⟩ := hbs.1.str hw2.1
  exact w_getf (ci := 14) (kk := 2) (C := RJ2) (T := TJ2) (N := 4) (ref := "java/lang/String") hx hb hown hts hE rfl (by decide) hat rfl (Or.inl hq) (Or.inl rfl) hd (k x h5 S H locs la rfl hbs hv hw1 ⟨trivial, hw2.2⟩)
theorem y_strHz {a idx : Nat} {t : List Int32} (cx : Cx I own cc nL ret d hs ini) (hq : Cond.fieldLink own idx "java/lang/String" "hashIsZero" "Z" ∈ lw_all) (hd : decode cc pc = .ok (.getfield idx, 3)) (k : ∀ z, (z ≠ 0 → hsh t = 0) → Y Eq I O (pc + 3) ls (vI z :: st) S) : Y Eq I O pc ls (vR (some (14, a, t)) :: st) S := by
  obtain ⟨p, l, e, R, s, m, args, below, meth, c0, G, S0⟩ := I
  obtain ⟨hx, hb, hml, hown, hts, hE, -⟩ := cx
  intro S' H locs la hS hbs hv hw1 hw2
  subst hS
  obtain ⟨-, v, x, z, hat, hv4, h5, h6⟩ := hbs.1.str hw2.1
  exact w_getf (ci := 14) (kk := 3) (C := RJ2) (T := TJ2) (N := 4) (ref := "java/lang/String") hx hb hown hts hE rfl (by decide) hat rfl (Or.inl hq) (Or.inl rfl) hd (k z h6 S H locs la rfl hbs hv hw1 ⟨trivial, hw2.2⟩)
/-- a String's hash is written down -/
theorem y_putHash {a idx : Nat} {t : List Int32} {x : Int32} (cx : Cx I own cc nL ret d hs ini) (hq : Cond.fieldLink own idx "java/lang/String" "hash" "I" ∈ lw_all) (hd : decode cc pc = .ok (.putfield idx, 3)) (hh : x = hsh t) (k : Y Eq I O (pc + 3) ls st S) : Y Eq I O pc ls (vI x :: vR (some (14, a, t)) :: st) S := by
  obtain ⟨p, l, e, R, s, m, args, below, meth, c0, G, S0⟩ := I
  obtain ⟨hx, hb, hml, hown, hts, hE, -, -, -, -, hini, -⟩ := cx
  intro S' H locs la hS hbs hv hw1 hw2
  subst hS
  obtain ⟨hz, v, y, z, hat, hv4, h5, h6⟩ := hbs.1.str hw2.2.1
  refine w_putf (ci := 14) (kk := 2) (C := RJ2) (T := TJ2) (N := 4) (ref := "java/lang/String") (ty := .int) hx hb hown hts hE hini rfl (by decide) hat (Nat.le_of_ble_eq_true rfl) (Or.inl hq) (Or.inl rfl) (Or.inl rfl) pdI rfl rfl hd ?_
  intro H' i a2 a3 hat' _
  have hr' : Rep G S H' := hbs.1.set hw2.2.1 hz (fun _ => rfl) rfl (fun b _ => SD.rf) (fun f => hbs.1.2.2.2.2.1 f a) (fun k => hbs.1.2.2.2.2.2.1 a k) a2 a3 (Or.inr (Or.inr (Or.inl ⟨rfl, hz, v, x, z, hat', hv4, fun _ => hh, h6⟩)))
  exact k S H' _ la rfl (hbs.put hr' hz Mono.rf rfl rfl) hv hw1 hw2.2.2
theorem y_putHz {a idx : Nat} {t : List Int32} {x : Int32} (cx : Cx I own cc nL ret d hs ini) (hq : Cond.fieldLink own idx "java/lang/String" "hashIsZero" "Z" ∈ lw_all) (hd : decode cc pc = .ok (.putfield idx, 3)) (hx1 : x = 1) (hh : hsh t = 0) (k : Y Eq I O (pc + 3) ls st S) : Y Eq I O pc ls (vI x :: vR (some (14, a, t)) :: st) S := by
  subst hx1
  obtain ⟨p, l, e, R, s, m, args, below, meth, c0, G, S0⟩ := I
  obtain ⟨hx, hb, hml, hown, hts, hE, -, -, -, -, hini, -⟩ := cx
  intro S' H locs la hS hbs hv hw1 hw2
  subst hS
  obtain ⟨hz, v, y, z, hat, hv4, h5, h6⟩ := hbs.1.str hw2.2.1
  refine w_putf (ci := 14) (kk := 3) (C := RJ2) (T := TJ2) (N := 4) (ref := "java/lang/String") (ty := .boolean) hx hb hown hts hE hini rfl (by decide) hat (Nat.le_of_ble_eq_true rfl) (Or.inl hq) (Or.inl rfl) (Or.inl rfl) pdZ rfl rfl hd ?_
  intro H' i a2 a3 hat' _
  have hr' : Rep G S H' := hbs.1.set hw2.2.1 hz (fun _ => rfl) rfl (fun b _ => SD.rf) (fun f => hbs.1.2.2.2.2.1 f a) (fun k => hbs.1.2.2.2.2.2.1 a k) a2 a3 (Or.inr (Or.inr (Or.inl ⟨rfl, hz, v, y, 1, hat', hv4, h5, fun _ => hh⟩)))
  exact k S H' _ la rfl (hbs.put hr' hz Mono.rf rfl rfl) hv hw1 hw2.2.2
theorem y_baldT {c a : Nat} {t : List Int32} {i : Int32} (cx : Cx I own cc nL ret d hs ini) (hd : decode cc pc = .ok (.baload, 1)) (hc : c = 103 ∨ c = 104) (hin : vp_in i t.length) (k : Y Eq I O (pc + 1) ls (vI (t.getD i.toNatClampNeg 0) :: st) S) : Y Eq I O pc ls (vI i :: vR (some (c, a, t)) :: st) S := by
  obtain ⟨p, l, e, R, s, m, args, below, meth, c0, G, S0⟩ := I
  obtain ⟨hx, hb, hml, hown, hts, hE, -⟩ := cx
  intro S' H locs la hS hbs hv hw1 hw2
  subst hS
  have k := k S H locs la rfl hbs hv hw1 ⟨trivial, hw2.2.2⟩
  rcases hc with rfl | rfl
  · obtain ⟨j, hj, e1, e2⟩ := hbs.1.litv hw2.2.1
    have e1 : a = gV G j := e1
    have e2 : t = litT j := e2
    subst e1
    subst e2
    obtain ⟨cell, g1, g2, g3, g4, g5, g6, g7⟩ := (hE.2.2.1 j hj).2.2.2.1
    have hlt : i.toNatClampNeg < litL j := Nat.not_le.mp fun q => hin (Or.inr q)
    refine W.bald (v := .int (litB j i.toNatClampNeg)) hx hb (by rw [hbs.1.2.2.1 _ (Nat.not_le.mp g7)]; exact g1) g2 g3 (fun z => ?_) (g6 _ hlt) rfl rfl hd k
    rcases z with z | z
    · exact hin (Or.inl z)
    · omega
  · obtain ⟨-, -, hat⟩ := hbs.1.frz hw2.2.1
    exact va_bald (D := G.1) (cl := clW) (cA := G.2.1 1) (n := t.length) (f := fun k => t.getD k 0) hx hb hE.1 (va_P.one hat) 0 1 rfl rfl hin hd k
theorem y_alenT {c a : Nat} {t : List Int32} (cx : Cx I own cc nL ret d hs ini) (hd : decode cc pc = .ok (.arraylength, 1)) (hc : c = 103 ∨ c = 104) (k : Y Eq I O (pc + 1) ls (vI (nI t.length) :: st) S) : Y Eq I O pc ls (vR (some (c, a, t)) :: st) S := by
  obtain ⟨p, l, e, R, s, m, args, below, meth, c0, G, S0⟩ := I
  obtain ⟨hx, hb, hml, hown, hts, hE, -⟩ := cx
  intro S' H locs la hS hbs hv hw1 hw2
  subst hS
  have k := k S H locs la rfl hbs hv hw1 ⟨trivial, hw2.2⟩
  rcases hc with rfl | rfl
  · obtain ⟨j, hj, e1, e2⟩ := hbs.1.litv hw2.1
    have e1 : a = gV G j := e1
    have e2 : t = litT j := e2
    subst e1
    subst e2
    obtain ⟨cell, g1, g2, g3, g4, g5, g6, g7⟩ := (hE.2.2.1 j hj).2.2.2.1
    exact W.alen (n := nI (litL j)) hx hb (by rw [hbs.1.2.2.1 _ (Nat.not_le.mp g7)]; exact g1) g2 g5 rfl rfl hd k
  · obtain ⟨-, -, hat⟩ := hbs.1.frz hw2.1
    exact va_alen (D := G.1) (cl := clW) (cA := G.2.1 1) (x := (t.length, .inl (fun k => t.getD k 0))) hx hb hE.1 (va_P.one hat) 0 1 rfl rfl rfl hd k
theorem y_castB {a idx : Nat} {t : List Int32} (cx : Cx I own cc nL ret d hs ini) (hq : Cond.classLink own idx "[B" ∈ lw_all) (hd : decode cc pc = .ok (.checkcast idx, 3)) (k : Y Eq I O (pc + 3) ls (vR (some (104, a, t)) :: st) S) : Y Eq I O pc ls (vR (some (104, a, t)) :: st) S := by
  obtain ⟨p, l, e, R, s, m, args, below, meth, c0, G, S0⟩ := I
  obtain ⟨hx, hb, hml, hown, hts, hE, -⟩ := cx
  intro S' H locs la hS hbs hv hw1 hw2
  subst hS
  obtain ⟨-, -, hat⟩ := hbs.1.frz hw2.1
  exact va_castA (D := G.1) (cl := clW) (x := (t.length, .inl (fun k => t.getD k 0))) hx hb hown (hts _ hq) (va_P.one hat) 0 rfl (hE.1.2 1 _ rfl).2 hd (k S H locs la rfl hbs hv hw1 hw2)
theorem y_compact {idx : Nat} (cx : Cx I own cc nL ret d hs ini) (hq : Cond.fieldLink own idx "java/lang/String" "COMPACT_STRINGS" "Z" ∈ lw_all) (hd : decode cc pc = .ok (.getstatic idx, 3)) (k : Y Eq I O (pc + 3) ls (vI 1 :: st) S) : Y Eq I O pc ls st S := by
  obtain ⟨p, l, e, R, s, m, args, below, meth, c0, G, S0⟩ := I
  obtain ⟨hx, hb, hml, hown, hts, hE, -⟩ := cx
  intro S' H locs la hS hbs hv hw1 hw2
  subst hS
  obtain ⟨cf, kf, fi, f, a, cell, h1, h2, h3, h4, h5, h6, h7, h8⟩ := hE.2.2.2.1
  exact W.gets hx hb hown (hts _ hq) h1 h2 h3 h4 (by rw [hbs.1.2.2.1 a (Nat.not_le.mp h8)]; exact h5) (fun e => by rw [e] at h6; cases h6) h7 rfl hd (k S H locs la rfl hbs hv hw1 ⟨trivial, hw2⟩)
theorem y_instS {c a idx : Nat} {t : List Int32} (cx : Cx I own cc nL ret d hs ini) (hq : Cond.classLink own idx "java/lang/String" ∈ lw_all) (hd : decode cc pc = .ok (.instanceof idx, 3)) (hc : c = 14 ∨ c = 16) (k : Y Eq I O (pc + 3) ls (vI 1 :: st) S) : Y Eq I O pc ls (vR (some (c, a, t)) :: st) S := by
  obtain ⟨p, l, e, R, s, m, args, below, meth, c0, G, S0⟩ := I
  obtain ⟨hx, hb, hml, hown, hts, hE, -⟩ := cx
  intro S' H locs la hS hbs hv hw1 hw2
  subst hS
  exact va_instE hx hb hown (hts _ hq) (rcv.cell (Or.inr (Or.inl ⟨hc, rfl⟩)) hE hbs hw2.1) hd (k S H locs la rfl hbs hv hw1 ⟨trivial, hw2.2⟩)
theorem y_castS {c a idx : Nat} {t : List Int32} (cx : Cx I own cc nL ret d hs ini) (hq : Cond.classLink own idx "java/lang/String" ∈ lw_all) (hd : decode cc pc = .ok (.checkcast idx, 3)) (hc : c = 14 ∨ c = 16) (k : Y Eq I O (pc + 3) ls (vR (some (c, a, t)) :: st) S) : Y Eq I O pc ls (vR (some (c, a, t)) :: st) S := by
  obtain ⟨p, l, e, R, s, m, args, below, meth, c0, G, S0⟩ := I
  obtain ⟨hx, hb, hml, hown, hts, hE, -⟩ := cx
  intro S' H locs la hS hbs hv hw1 hw2
  subst hS
  exact va_castE hx hb hown (hts _ hq) (rcv.cell (Or.inr (Or.inl ⟨hc, rfl⟩)) hE hbs hw2.1) hd (k S H locs la rfl hbs hv hw1 hw2)
/-- a Malformed is thrown out of the method -/
theorem y_athrow {a : Nat} (cx : Cx I own cc nL ret d [] ini) (hd : decode cc pc = .ok (.athrow, 1)) (k : O (.inr a) S) : Y Eq I O pc ls (vR (some (5, a, [])) :: st) S := by
  obtain ⟨p, l, e, R, s, m, args, below, meth, c0, G, S0⟩ := I
  obtain ⟨hx, hb, hml, hown, hts, hE, -, hlk, -, hht, -⟩ := cx
  intro S' H locs la hS hbs hv hw1 hw2
  subst hS
  intro T hT X
  obtain ⟨a1, a2, a3, a4, a5⟩ := X.athrowLeaves hx (g := F0 m pc la (.ref a :: st.map cv)) rfl rfl rfl (by rw [hht]; intro q hq; cases hq) (a := a) (rest := st.map cv) rfl (by rw [hb]; exact hd) hlk
  exact ⟨_, a1, _, a2, a3, a4, S, S, locs, .inr a, a5, by show Bs G S0 S T.heap locs; rw [hT]; exact hbs, rfl, rfl, hw2.1, k⟩
theorem y_getM {f kk idx a : Nat} {nm : String} (cx : Cx I own cc nL ret d hs ini) (hf : (f = 52 ∧ kk = 6 ∧ nm = "code") ∨ (f = 53 ∧ kk = 7 ∧ nm = "place")) (hlk : LK own idx "ClassFileReader$Malformed" nm "I") (hd : decode cc pc = .ok (.getfield idx, 3)) (k : Y Eq I O (pc + 3) ls (vI (hI S f a) :: st) S) : Y Eq I O pc ls (vR (some (5, a, [])) :: st) S := by
  obtain ⟨p, l, e, R, s, m, args, below, meth, c0, G, S0⟩ := I
  obtain ⟨hx, hb, hml, hown, hts, hE, -⟩ := cx
  intro S' H locs la hS hbs hv hw1 hw2
  subst hS
  obtain ⟨-, hz, -, w, hw, -, hat⟩ := hbs.1.mal hw2.1
  have k := k S H locs la rfl hbs hv hw1 ⟨trivial, hw2.2⟩
  rcases hf with ⟨rfl, rfl, rfl⟩ | ⟨rfl, rfl, rfl⟩
  · exact w_getf (ci := 5) (kk := 6) (C := RX6) (T := TX6) (N := 8) (ref := "ClassFileReader$Malformed") hx hb hown hts hE rfl (by decide) hat (by rw [List.getElem?_append_right (by omega), hw]; rfl) hlk (Or.inl rfl) hd k
  · exact w_getf (ci := 5) (kk := 7) (C := RX6) (T := TX6) (N := 8) (ref := "ClassFileReader$Malformed") hx hb hown hts hE rfl (by decide) hat (by rw [List.getElem?_append_right (by omega), hw]; rfl) hlk (Or.inl rfl) hd k
theorem y_putM {f kk idx a : Nat} {nm : String} {v : Int32} (cx : Cx I "ClassFileReader$Malformed" cc nL ret d hs true) (hf : (f = 52 ∧ kk = 6 ∧ nm = "code") ∨ (f = 53 ∧ kk = 7 ∧ nm = "place")) (hq : Cond.fieldLink "ClassFileReader$Malformed" idx "ClassFileReader$Malformed" nm "I" ∈ lw_all) (hd : decode cc pc = .ok (.putfield idx, 3)) (k : Y Eq I O (pc + 3) ls st (sI S f a v)) : Y Eq I O pc ls (vI v :: vR (some (5, a, [])) :: st) S := by
  obtain ⟨p, l, e, R, s, m, args, below, meth, c0, G, S0⟩ := I
  obtain ⟨hx, hb, hml, hown, hts, hE, -, -, -, -, hini, -⟩ := cx
  intro S' H locs la hS hbs hv hw1 hw2
  subst hS
  obtain ⟨-, hz, hmf, w, hw, hw0, hat⟩ := hbs.1.mal hw2.2.1
  have hm : Mono S (sI S f a v) := fun _ _ h => h
  have h99 : ¬ 99 = f := by rcases hf with ⟨rfl, -⟩ | ⟨rfl, -⟩ <;> decide
  have fin : ∀ (H' : Heap) (i : Nat), H'.size = H.size → (∀ q, q ≠ a → H'[q]? = H[q]?) → va_at G.1 clW (a, .inr (5, w ++ [.int (hI (sI S f a v) 52 a), .int (hI (sI S f a v) 53 a)])) H' → MF H' a → W p l e R s m args below meth c0 H' (locs ++ [⟨a, i⟩]) (hB S0 - hB S) (hU S0 - hU S) (Fin' Eq below G S0 O s) (F0 m (pc + 3) la (st.map cv)) := by
    intro H' i a2 a3 hat' hmf'
    have hr' : Rep G (sI S f a v) H' := hbs.1.set hw2.2.1 hz (fun _ => rfl) rfl (fun b hb => ⟨fun g => by rw [hI_sI, if_neg (fun z => hb z.2)], fun _ => rfl, fun _ => rfl, rfl, fun _ => rfl, fun _ => rfl, fun _ => rfl⟩) (fun f => hbs.1.2.2.2.2.1 f a) (fun k => hbs.1.2.2.2.2.2.1 a k) a2 a3 (Or.inr (Or.inl ⟨rfl, rfl, hz, hmf', w, hw, by rw [hI_sI, if_neg (fun z => h99 z.1)]; exact hw0, hat'⟩))
    exact k (sI S f a v) H' _ la rfl (hbs.put hr' hz hm rfl rfl) hv (hw1.mono hm) (lvS.mono hm hw2.2.2)
  rcases hf with ⟨rfl, rfl, rfl⟩ | ⟨rfl, rfl, rfl⟩
  · refine w_putf (ci := 5) (kk := 6) (C := RX6) (T := TX6) (N := 8) (ref := "ClassFileReader$Malformed") (ty := .int) hx hb hown hts hE hini rfl (by decide) hat (by rw [List.length_append, hw]; exact Nat.le_of_ble_eq_true rfl) (Or.inl hq) (Or.inl rfl) (Or.inr ⟨rfl, rfl, rfl, hq⟩) pdI rfl rfl hd (fun H' i a2 a3 hat' hmf' => fin H' i a2 a3 ?_ (hmf' hmf))
    rw [List.set_append_right _ _ (by omega), hw] at hat'
    simp only [hI_sI]
    exact hat'
  · refine w_putf (ci := 5) (kk := 7) (C := RX6) (T := TX6) (N := 8) (ref := "ClassFileReader$Malformed") (ty := .int) hx hb hown hts hE hini rfl (by decide) hat (by rw [List.length_append, hw]; exact Nat.le_of_ble_eq_true rfl) (Or.inl hq) (Or.inl rfl) (Or.inr ⟨rfl, rfl, rfl, hq⟩) pdI rfl rfl hd (fun H' i a2 a3 hat' hmf' => fin H' i a2 a3 ?_ (hmf' hmf))
    rw [List.set_append_right _ _ (by omega), hw] at hat'
    simp only [hI_sI]
    exact hat'
end YT
