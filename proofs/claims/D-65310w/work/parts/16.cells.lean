set_option maxRecDepth 100000
theorem SD.rf {S : HS} {b : Nat} : SD S S b := ⟨fun _ => rfl, fun _ => rfl, fun _ => rfl, rfl, fun _ => rfl, fun _ => rfl, fun _ => rfl⟩
/-- between an invocation's start and behind a new cell -/
theorem Bs.push {G : GT} {S0 S S' : HS} {H H' : Heap} {locs : List Loc} (h : Bs G S0 S H locs) (hr : Rep G S' H' ∧ Mono S S') (h1 : hB S' ≤ hB S) (h2 : hU S' ≤ hU S) : Bs G S0 S' H' locs :=
  ⟨hr.1, h.2.1, Nat.le_trans h1 h.2.2.1, Nat.le_trans h2 h.2.2.2.1, h.2.2.2.2.tr hr.2⟩
theorem arrV_upd (cA : ClassId) (n : Nat) (f : Nat → Int32) (j : Nat) (x : Int32) : (vp_cell cA (n, .inl f)).setSlot j (.int x) = vp_cell cA (n, .inl (fun k => if k = j then x else f k)) := by
  rw [vp_cell_i, vp_cell_i, arrV_store]
  congr 2
  funext q
  by_cases hq : q = j
  · subst hq
    simp [updV]
  · simp [updV, hq]
theorem arrV_updq (cA : ClassId) (n : Nat) (f : Nat → Option Nat) (j : Nat) (x : Option Nat) : (vp_cell cA (n, .inr (.inr (.inr (.inr f))))).setSlot j (va_rf x) = vp_cell cA (n, .inr (.inr (.inr (.inr (fun k => if k = j then x else f k))))) := by
  rw [vp_cell_q, vp_cell_q, arrV_store]
  congr 2
  funext q
  by_cases hq : q = j
  · subst hq
    simp [updV]
  · simp [updV, hq]
/-- 1 for an object of one of these kinds -/
def isI (r : Rf) (cs : List Nat) : Int32 := match r with
  | none => 0
  | some q => if q.1 ∈ cs then 1 else 0
/-- null, or of one of these kinds -/
def kin (r : Rf) (cs : List Nat) : Prop := ∀ q, r = some q → q.1 ∈ cs
section YC
variable {I : Iv} {own : String} {cc : ByteArray} {nL : Nat} {ret : Option FieldType} {d : Nat} {hs : List (Nat × Nat × Nat × Nat)} {ini : Bool} {O : OA → HS → Prop} {pc : Nat} {ls : List (Option AV)} {st : List AV} {S : HS}
theorem y_iald {a : Nat} {t : List Int32} {i : Int32} (cx : Cx I own cc nL ret d hs ini) (hd : decode cc pc = .ok (.iaload, 1)) (hin : vp_in i (hN S a)) (k : Y Eq I O (pc + 1) ls (vI (hA S a i.toNatClampNeg) :: st) S) : Y Eq I O pc ls (vI i :: vR (some (100, a, t)) :: st) S := by
  obtain ⟨p, l, e, R, s, m, args, below, meth, c0, G, S0⟩ := I
  obtain ⟨hx, hb, hml, hown, hts, hE, -⟩ := cx
  intro S' H locs la hS hbs hv hw1 hw2
  subst hS
  have hat := (hbs.1.at hw2.2.1 rfl).2.2
  exact va_iald (D := G.1) (cl := clW) (cA := G.2.1 0) (n := hN S a) (f := hA S a) hx hb hE.1 (va_P.one hat) 0 0 rfl rfl hin hd (k S H locs la rfl hbs hv hw1 ⟨trivial, hw2.2.2⟩)
theorem y_bald {a : Nat} {t : List Int32} {i : Int32} (cx : Cx I own cc nL ret d hs ini) (hd : decode cc pc = .ok (.baload, 1)) (hin : vp_in i (hN S a)) (k : Y Eq I O (pc + 1) ls (vI (hY S a i.toNatClampNeg) :: st) S) : Y Eq I O pc ls (vI i :: vR (some (101, a, t)) :: st) S := by
  obtain ⟨p, l, e, R, s, m, args, below, meth, c0, G, S0⟩ := I
  obtain ⟨hx, hb, hml, hown, hts, hE, -⟩ := cx
  intro S' H locs la hS hbs hv hw1 hw2
  subst hS
  have hat := (hbs.1.at hw2.2.1 rfl).2.2
  exact va_bald (D := G.1) (cl := clW) (cA := G.2.1 1) (n := hN S a) (f := hY S a) hx hb hE.1 (va_P.one hat) 0 1 rfl rfl hin hd (k S H locs la rfl hbs hv hw1 ⟨trivial, hw2.2.2⟩)
theorem y_aald {a : Nat} {t : List Int32} {i : Int32} (cx : Cx I own cc nL ret d hs ini) (hd : decode cc pc = .ok (.aaload, 1)) (hin : vp_in i (hN S a)) (k : Y Eq I O (pc + 1) ls (vR (hP S a i.toNatClampNeg) :: st) S) : Y Eq I O pc ls (vI i :: vR (some (102, a, t)) :: st) S := by
  obtain ⟨p, l, e, R, s, m, args, below, meth, c0, G, S0⟩ := I
  obtain ⟨hx, hb, hml, hown, hts, hE, -⟩ := cx
  intro S' H locs la hS hbs hv hw1 hw2
  subst hS
  have hat := (hbs.1.at hw2.2.1 rfl).2.2
  exact va_aldq (D := G.1) (cl := clW) (cA := G.2.1 2) (C := "ClassFileReader$Entry") (n := hN S a) (f := fun k => (hP S a k).map (fun (q : Nat × Nat × List Int32) => q.2.1)) hx hb hE.1 (va_P.one hat) 0 2 rfl rfl hin hd (k S H locs la rfl hbs hv hw1 ⟨hbs.1.2.2.2.2.2.1 _ _, hw2.2.2⟩)
/-- one array's element is written, in the machine and in the field heap -/
theorem y_arr {c a : Nat} {t : List Int32} {S1 : HS} {G : GT} {S0 : HS} {H H' : Heap} {locs : List Loc} {i : Nat} (hbs : Bs G S0 S H locs) (hca : hC S a = some (c, t)) (hw : wr c = true)
    (hC' : ∀ b, hC S1 b = hC S b) (hZ' : hZ S1 = hZ S) (hB' : hB S1 = hB S) (hU' : hU S1 = hU S) (ho : ∀ b, b ≠ a → SD S S1 b) (hR' : ∀ f b, hR S1 f b = hR S f b) (hP' : ∀ k, lvR S (hP S1 a k)) (a2 : H'.size = H.size) (a3 : ∀ q, q ≠ a → H'[q]? = H[q]?) (hat : va_at G.1 clW (a, cE G S1 c a) H') :
    Bs G S0 S1 H' (locs ++ [⟨a, i⟩]) ∧ Mono S S1 := by
  have hm : Mono S S1 := fun b x hx => by rw [hC']; exact hx
  obtain ⟨ht, hza, -⟩ := hbs.1.at hca hw
  have hr' : Rep G S1 H' := hbs.1.set hca hza hC' hZ' ho (fun f => by rw [hR']; exact hbs.1.2.2.2.2.1 f a) hP' a2 a3 (Or.inl ⟨hw, ht, hza, hat⟩)
  exact ⟨hbs.put hr' hza hm hB' hU', hm⟩
theorem y_iast {a : Nat} {t : List Int32} {i v : Int32} (cx : Cx I own cc nL ret d hs ini) (hd : decode cc pc = .ok (.iastore, 1)) (hin : vp_in i (hN S a)) (k : Y Eq I O (pc + 1) ls st (sA S a i.toNatClampNeg v)) : Y Eq I O pc ls (vI v :: vI i :: vR (some (100, a, t)) :: st) S := by
  obtain ⟨p, l, e, R, s, m, args, below, meth, c0, G, S0⟩ := I
  obtain ⟨hx, hb, hml, hown, hts, hE, -⟩ := cx
  intro S' H locs la hS hbs hv hw1 hw2
  subst hS
  have hat := (hbs.1.at hw2.2.2.1 rfl).2.2
  have hc : H[a]? = some (vp_cell (G.2.1 0) (hN S a, .inl (hA S a))) := hat
  refine W.iast hx hb hc ((hE.1.2 0 _ rfl).1 (hN S a) (fun j => .int (hA S a j))) (fun q => by cases q) (by show ¬ (i < 0 ∨ (arrV _ _ _).slots.size ≤ _); rw [arrV_size]; exact hin) rfl rfl hd fun H' e z oq => ?_
  obtain ⟨b1, hm⟩ := y_arr (S1 := sA S a i.toNatClampNeg v) (i := i.toNatClampNeg) hbs hw2.2.2.1 rfl (fun _ => rfl) rfl rfl rfl (fun b hb => ⟨fun _ => rfl, fun _ => rfl, fun _ => rfl, rfl, fun j => by rw [hA_sA, if_neg (fun z => hb z.1)], fun _ => rfl, fun _ => rfl⟩) (fun _ _ => rfl) (fun k => hbs.1.2.2.2.2.2.1 a k) z oq (by
    show H'[a]? = some (vp_cell (G.2.1 0) (hN S a, .inl (hA (sA S a i.toNatClampNeg v) a)))
    rw [e, arrV_upd]
    congr 5
    funext j
    rw [hA_sA]
    simp)
  exact k (sA S a i.toNatClampNeg v) H' _ la rfl b1 hv (hw1.mono hm) (lvS.mono hm hw2.2.2.2)
theorem y_bast {a : Nat} {t : List Int32} {i v : Int32} (cx : Cx I own cc nL ret d hs ini) (hd : decode cc pc = .ok (.bastore, 1)) (hin : vp_in i (hN S a)) (hvb : v.toInt8.toInt32 = v) (k : Y Eq I O (pc + 1) ls st (sY S a i.toNatClampNeg v)) : Y Eq I O pc ls (vI v :: vI i :: vR (some (101, a, t)) :: st) S := by
  obtain ⟨p, l, e, R, s, m, args, below, meth, c0, G, S0⟩ := I
  obtain ⟨hx, hb, hml, hown, hts, hE, -⟩ := cx
  intro S' H locs la hS hbs hv hw1 hw2
  subst hS
  have hat := (hbs.1.at hw2.2.2.1 rfl).2.2
  have hc : H[a]? = some (vp_cell (G.2.1 1) (hN S a, .inl (hY S a))) := hat
  refine W.bast hx hb hc ((hE.1.2 1 _ rfl).1 (hN S a) (fun j => .int (hY S a j))) (fun q => by cases q) (by show ¬ (i < 0 ∨ (arrV _ _ _).slots.size ≤ _); rw [arrV_size]; exact hin) rfl rfl hd fun H' e z oq => ?_
  have hnv : narrow .byte (.int v) = .int v := by
    show Value.int v.toInt8.toInt32 = _
    rw [hvb]
  rw [hnv] at e
  obtain ⟨b1, hm⟩ := y_arr (S1 := sY S a i.toNatClampNeg v) (i := i.toNatClampNeg) hbs hw2.2.2.1 rfl (fun _ => rfl) rfl rfl rfl (fun b hb => ⟨fun _ => rfl, fun _ => rfl, fun _ => rfl, rfl, fun _ => rfl, fun j => by rw [hY_sY, if_neg (fun z => hb z.1)], fun _ => rfl⟩) (fun _ _ => rfl) (fun k => hbs.1.2.2.2.2.2.1 a k) z oq (by
    show H'[a]? = some (vp_cell (G.2.1 1) (hN S a, .inl (hY (sY S a i.toNatClampNeg v) a)))
    rw [e, arrV_upd]
    congr 5
    funext j
    rw [hY_sY]
    simp)
  exact k (sY S a i.toNatClampNeg v) H' _ la rfl b1 hv (hw1.mono hm) (lvS.mono hm hw2.2.2.2)
theorem y_recv {G : GT} {S0 : HS} {H : Heap} {locs : List Loc} {s : State} {c a : Nat} {t : List Int32} (hE : EnvT G s) (hbs : Bs G S0 S H locs) (hob : ob c = true) (hca : hC S a = some (c, t)) : ∃ cell : Cell, H[a]? = some cell ∧ cell.vm.isStatics = false ∧ cell.vm = .none ∧ s.vm.findClass (cn (ck c)) = some cell.cls := by
  have hat := (hbs.1.at hca (ob_wr hob)).2.2
  rw [cE_obj hob] at hat
  obtain ⟨T, N, hcl⟩ := cn_ok (ck c) (ck_lt hob)
  obtain ⟨r, h1, cell, q1, q2, q3, -⟩ := hat
  exact ⟨cell, q1, by rw [q3]; rfl, q3, by rw [q2]; exact (hE.1.1 _ _ hcl).2.1⟩
theorem y_aast {a : Nat} {t : List Int32} {i : Int32} {r : Rf} (cs : List Nat) (hcs : ∀ c ∈ cs, ob c = true ∧ Cond.castable (cn (ck c)) "ClassFileReader$Entry" ∈ lw_tbl) (cx : Cx I own cc nL ret d hs ini) (hd : decode cc pc = .ok (.aastore, 1)) (hin : vp_in i (hN S a)) (hr : kin r cs) (k : Y Eq I O (pc + 1) ls st (sP S a i.toNatClampNeg r)) : Y Eq I O pc ls (vR r :: vI i :: vR (some (102, a, t)) :: st) S := by
  obtain ⟨p, l, e, R, s, m, args, below, meth, c0, G, S0⟩ := I
  obtain ⟨hx, hb, hml, hown, hts, hE, -⟩ := cx
  intro S' H locs la hS hbs hv hw1 hw2
  subst hS
  have hat := (hbs.1.at hw2.2.2.1 rfl).2.2
  have hc : H[a]? = some (vp_cell (G.2.1 2) (hN S a, .inr (.inr (.inr (.inr (fun k => (hP S a k).map (fun q => q.2.1))))))) := hat
  have fin : ∀ H' : Heap, H'[a]? = some ((vp_cell (G.2.1 2) (hN S a, .inr (.inr (.inr (.inr (fun k => (hP S a k).map (fun q => q.2.1))))))).setSlot i.toNatClampNeg (cr r)) → H'.size = H.size → (∀ q, q ≠ a → H'[q]? = H[q]?) → W p l e R s m args below meth c0 H' (locs ++ [⟨a, i.toNatClampNeg⟩]) (hB S0 - hB S) (hU S0 - hU S) (Fin' Eq below G S0 O s) (F0 m (pc + 1) la (st.map cv)) := by
    intro H' e z oq
    obtain ⟨b1, hm⟩ := y_arr (S1 := sP S a i.toNatClampNeg r) (i := i.toNatClampNeg) hbs hw2.2.2.1 rfl (fun _ => rfl) rfl rfl rfl (fun b hb => ⟨fun _ => rfl, fun _ => rfl, fun _ => rfl, rfl, fun _ => rfl, fun _ => rfl, fun j => by rw [hP_sP, if_neg (fun z => hb z.1)]⟩) (fun _ _ => rfl) (fun k => by
        rw [hP_sP]
        split
        · exact hw2.1
        · exact hbs.1.2.2.2.2.2.1 a k) z oq (by
      show H'[a]? = some (vp_cell (G.2.1 2) (hN S a, .inr (.inr (.inr (.inr (fun k => (hP (sP S a i.toNatClampNeg r) a k).map (fun q => q.2.1)))))))
      rw [e]
      unfold cr
      rw [arrV_updq]
      congr 8
      funext j
      rw [hP_sP]
      by_cases hj : j = i.toNatClampNeg
      · rw [if_pos hj, if_pos ⟨rfl, hj⟩]
      · rw [if_neg hj, if_neg (fun z => hj z.2)])
    exact k (sP S a i.toNatClampNeg r) H' _ la rfl b1 hv (hw1.mono hm) (lvS.mono hm hw2.2.2.2)
  cases r with
  | none => exact va_WaastN (C := "ClassFileReader$Entry") hx hb hc ((hE.1.2 2 _ rfl).1 (hN S a) (fun j => va_rf ((hP S a j).map (fun q => q.2.1)))) (fun h => by cases h) (by show ¬ (i < 0 ∨ (arrV _ _ _).slots.size ≤ _); rw [arrV_size]; exact hin) rfl rfl hd fin
  | some q =>
    obtain ⟨hob, hca⟩ := hcs q.1 (hr q rfl)
    obtain ⟨cellV, g1, g4, g3, g2⟩ := y_recv hE hbs hob hw2.1
    obtain ⟨kA, comp, k1, k2, k3, -⟩ := (hE.1.2 2 _ rfl).2
    obtain ⟨kE, hkE, -⟩ := Vm.findClass_spec k3
    obtain ⟨c1, t1, f1, f2, f3⟩ := Cond.castable_spec (va_Nw.use (A := args) rfl (hE.2.1 _ hca rfl))
    cases g2.symm.trans f1
    cases k3.symm.trans f2
    obtain ⟨kC, hkC, -⟩ := Vm.findClass_spec g2
    exact W.aast hx hb hc (fun q h => by cases h) (fun h => by cases h) k1 k2 rfl hkE ⟨fun z => hin (Or.inl z), by show _ < (arrV _ _ _).slots.size; rw [arrV_size]; exact Nat.not_le.mp fun z => hin (Or.inr z)⟩ g1 (fun q h => by rw [g3] at h; cases h) hkC f3 rfl rfl hd fin
theorem y_alen {c a : Nat} {t : List Int32} (cx : Cx I own cc nL ret d hs ini) (hd : decode cc pc = .ok (.arraylength, 1)) (hc : c ∈ [100, 101, 102]) (k : Y Eq I O (pc + 1) ls (vI (nI (hN S a)) :: st) S) : Y Eq I O pc ls (vR (some (c, a, t)) :: st) S := by
  obtain ⟨p, l, e, R, s, m, args, below, meth, c0, G, S0⟩ := I
  obtain ⟨hx, hb, hml, hown, hts, hE, -⟩ := cx
  intro S' H locs la hS hbs hv hw1 hw2
  subst hS
  have k := k S H locs la rfl hbs hv hw1 ⟨trivial, hw2.2⟩
  simp only [List.mem_cons, List.not_mem_nil, or_false] at hc
  rcases hc with rfl | rfl | rfl
  · exact va_alen (D := G.1) (cl := clW) (cA := G.2.1 0) (x := (hN S a, .inl (hA S a))) hx hb hE.1 (va_P.one (hbs.1.at hw2.1 rfl).2.2) 0 0 rfl rfl rfl hd k
  · exact va_alen (D := G.1) (cl := clW) (cA := G.2.1 1) (x := (hN S a, .inl (hY S a))) hx hb hE.1 (va_P.one (hbs.1.at hw2.1 rfl).2.2) 0 1 rfl rfl rfl hd k
  · exact va_alen (D := G.1) (cl := clW) (cA := G.2.1 2) (x := (hN S a, .inr (.inr (.inr (.inr (fun k => (hP S a k).map (fun q => q.2.1))))))) hx hb hE.1 (va_P.one (hbs.1.at hw2.1 rfl).2.2) 0 2 rfl rfl rfl hd k
end YC
