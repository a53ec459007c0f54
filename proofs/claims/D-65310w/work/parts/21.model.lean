set_option maxRecDepth 100000
/-! The reference's own state: int fields and int arrays by their numbers -/
abbrev MS : Type := (Nat → Int32) × (Nat → Nat → Int32)
def mI (M : MS) (f : Nat) : Int32 := M.1 f
def mA (M : MS) (f k : Nat) : Int32 := M.2 f k
def mSI (M : MS) (f : Nat) (v : Int32) : MS := (fun g => if g = f then v else M.1 g, M.2)
def mSA (M : MS) (f k : Nat) (v : Int32) : MS := (M.1, fun g j => if g = f ∧ j = k then v else M.2 g j)
theorem mI_mSI (M : MS) (f : Nat) (v : Int32) (g : Nat) : mI (mSI M f v) g = if g = f then v else mI M g := rfl
theorem mA_mSI (M : MS) (f : Nat) (v : Int32) (g k : Nat) : mA (mSI M f v) g k = mA M g k := rfl
theorem mI_mSA (M : MS) (f k : Nat) (v : Int32) (g : Nat) : mI (mSA M f k v) g = mI M g := rfl
theorem mA_mSA (M : MS) (f k : Nat) (v : Int32) (g j : Nat) : mA (mSA M f k v) g j = if g = f ∧ j = k then v else mA M g j := rfl
abbrev mAr : List Nat := [10, 12, 13, 14]
abbrev mIn : List Nat := [11, 15, 16, 17, 18, 19]
def aln (f : Nat) : Nat := if f = 10 ∨ f = 14 then 480 else 500
/-- a reference object stands at ad 1, its arrays at ad 10, ad 12, ad 13, ad 14 -/
def MAd (ad : Nat → Nat) (S : HS) : Prop := hC S (ad 1) = some (1, []) ∧ (∀ f ∈ mAr, hR S f (ad 1) = some (100, ad f, []) ∧ hN S (ad f) = aln f) ∧ ∀ f ∈ mAr, ∀ g ∈ mAr, ad f = ad g → f = g
/-- S is Sb, but the reference at ad holds M -/
def MRep (ad : Nat → Nat) (Sb : HS) (M : MS) (S : HS) : Prop :=
  MAd ad S ∧ (∀ a, hC S a = hC Sb a) ∧ (hZ S = hZ Sb ∧ hB S = hB Sb ∧ hU S = hU Sb) ∧ (∀ f a, hL S f a = hL Sb f a) ∧ (∀ f a, hR S f a = hR Sb f a) ∧ (∀ a, hN S a = hN Sb a) ∧ (∀ a k, hY S a k = hY Sb a k) ∧ (∀ a k, hP S a k = hP Sb a k) ∧
  (∀ f a, a ≠ ad 1 → hI S f a = hI Sb f a) ∧ (∀ a k, (∀ f ∈ mAr, a ≠ ad f) → hA S a k = hA Sb a k) ∧ (∀ f ∈ mIn, hI S f (ad 1) = mI M f) ∧ ∀ f ∈ mAr, ∀ k, hA S (ad f) k = mA M f k
section YM
variable {I : Iv} {own : String} {cc : ByteArray} {nL : Nat} {ret : Option FieldType} {d : Nat} {hs : List (Nat × Nat × Nat × Nat)} {ini : Bool} {pc : Nat} {ls : List (Option AV)} {st : List AV} {ad : Nat → Nat} {Sb : HS} {O : OA → MS → Prop} {x : MS}
theorem m_liftO {O : OA → MS → Prop} {pc : Nat} {ls : List (Option AV)} {st : List AV} (h : ∀ S, MRep ad Sb x S → Y Eq I (fun o S' => ∃ x', MRep ad Sb x' S' ∧ O o x') pc ls st S) : Y (MRep ad Sb) I O pc ls st x := by
  obtain ⟨p, l, e, R, s, m, args, below, meth, c0, G, S0⟩ := I
  intro S H locs la hS hbs hv hw1 hw2
  refine W.Qmono ?_ (h S hS S H locs la rfl hbs hv hw1 hw2)
  rintro t ⟨o, a1, a2, a3, S', x', L, oa, a4, a5, a6, a7, a8, z, a9, a10⟩
  subst a6
  exact ⟨o, a1, a2, a3, _, z, L, oa, a4, a5, a9, a7, a8, a10⟩
theorem m_lowO {O : OA → MS → Prop} {pc : Nat} {ls : List (Option AV)} {st : List AV} {S : HS} (hS : MRep ad Sb x S) (h : Y (MRep ad Sb) I O pc ls st x) : Y Eq I (fun o S' => ∃ x', MRep ad Sb x' S' ∧ O o x') pc ls st S := by
  obtain ⟨p, l, e, R, s, m, args, below, meth, c0, G, S0⟩ := I
  intro S1 H locs la hS1 hbs hv hw1 hw2
  subst hS1
  refine W.Qmono ?_ (h S H locs la hS hbs hv hw1 hw2)
  rintro t ⟨o, a1, a2, a3, S', x', L, oa, a4, a5, a6, a7, a8, a9⟩
  exact ⟨o, a1, a2, a3, S', S', L, oa, a4, a5, rfl, a7, a8, x', a6, a9⟩
theorem m_getI {f idx : Nat} {nm ds : String} {fin : Bool} (cx : Cx I own cc nL ret d hs ini) (hF : FE [1] 0 f "ClassFileReaderModel" nm ds fin) (hlk : LK own idx "ClassFileReaderModel" nm ds) (hd : decode cc pc = .ok (.getfield idx, 3)) (hf : f ∈ mIn) (k : Y (MRep ad Sb) I O (pc + 3) ls (vI (mI x f) :: st) x) : Y (MRep ad Sb) I O pc ls (vR (some (1, ad 1, [])) :: st) x := by
  refine m_liftO fun S hS => y_getI cx hF hlk (Or.inl rfl) hd (by decide) ?_
  rw [hS.2.2.2.2.2.2.2.2.2.2.1 f hf]
  exact m_lowO hS k
theorem m_getA {f idx : Nat} {nm ds : String} {fin : Bool} (cx : Cx I own cc nL ret d hs ini) (hF : FE [1] 2 f "ClassFileReaderModel" nm ds fin) (hlk : LK own idx "ClassFileReaderModel" nm ds) (hd : decode cc pc = .ok (.getfield idx, 3)) (hf : f ∈ mAr) (k : Y (MRep ad Sb) I O (pc + 3) ls (vR (some (100, ad f, [])) :: st) x) : Y (MRep ad Sb) I O pc ls (vR (some (1, ad 1, [])) :: st) x := by
  refine m_liftO fun S hS => y_getR cx hF hlk (Or.inl rfl) hd (by decide) ?_
  rw [(hS.1.2.1 f hf).1]
  exact m_lowO hS k
theorem m_putI {f idx : Nat} {nm ds : String} {v : Int32} {ty : FieldType} (cx : Cx I own cc nL ret d hs ini) (hF : FE [1] 0 f "ClassFileReaderModel" nm ds false) (hlk : LK own idx "ClassFileReaderModel" nm ds) (hd : decode cc pc = .ok (.putfield idx, 3)) (hf : f ∈ mIn) (hpd : parseFieldDescriptor ds = some ty) (hn : narrow ty (.int v) = .int v ∧ fits ty (.int v) = true) (k : Y (MRep ad Sb) I O (pc + 3) ls st (mSI x f v)) : Y (MRep ad Sb) I O pc ls (vI v :: vR (some (1, ad 1, [])) :: st) x := by
  refine m_liftO fun S hS => y_putI cx hF hlk (Or.inl rfl) (Or.inl rfl) hd (by decide) hpd hn ?_
  refine m_lowO (x := mSI x f v) ?_ k
  obtain ⟨h1, h2, h3, h4, h5, h6, h7, h8, h9, h10, h11, h12⟩ := hS
  refine ⟨h1, h2, h3, h4, h5, h6, h7, h8, fun g a ha => ?_, h10, fun g hg => ?_, h12⟩
  · rw [hI_sI, if_neg (fun z => ha z.2)]
    exact h9 g a ha
  · rw [hI_sI, mI_mSI]
    by_cases e : g = f
    · rw [if_pos ⟨e, rfl⟩, if_pos e]
    · rw [if_neg (fun z => e z.1), if_neg e]
      exact h11 g hg
theorem m_iald {f : Nat} {i : Int32} (cx : Cx I own cc nL ret d hs ini) (hd : decode cc pc = .ok (.iaload, 1)) (hf : f ∈ mAr) (hin : vp_in i (aln f)) (k : Y (MRep ad Sb) I O (pc + 1) ls (vI (mA x f i.toNatClampNeg) :: st) x) : Y (MRep ad Sb) I O pc ls (vI i :: vR (some (100, ad f, [])) :: st) x := by
  refine m_liftO fun S hS => y_iald cx hd (by rw [(hS.1.2.1 f hf).2]; exact hin) ?_
  rw [hS.2.2.2.2.2.2.2.2.2.2.2 f hf]
  exact m_lowO hS k
theorem m_iast {f : Nat} {i v : Int32} (cx : Cx I own cc nL ret d hs ini) (hd : decode cc pc = .ok (.iastore, 1)) (hf : f ∈ mAr) (hin : vp_in i (aln f)) (k : Y (MRep ad Sb) I O (pc + 1) ls st (mSA x f i.toNatClampNeg v)) : Y (MRep ad Sb) I O pc ls (vI v :: vI i :: vR (some (100, ad f, [])) :: st) x := by
  refine m_liftO fun S hS => y_iast cx hd (by rw [(hS.1.2.1 f hf).2]; exact hin) ?_
  refine m_lowO (x := mSA x f i.toNatClampNeg v) ?_ k
  obtain ⟨h1, h2, h3, h4, h5, h6, h7, h8, h9, h10, h11, h12⟩ := hS
  refine ⟨h1, h2, h3, h4, h5, h6, h7, h8, h9, fun a j ha => ?_, h11, fun g hg j => ?_⟩
  · rw [hA_sA, if_neg (fun z => ha f hf z.1)]
    exact h10 a j ha
  · rw [hA_sA, mA_mSA]
    by_cases e : g = f ∧ j = i.toNatClampNeg
    · rw [if_pos ⟨by rw [e.1], e.2⟩, if_pos e]
    · rw [if_neg (fun z => e ⟨h1.2.2 g hg f hf z.1, z.2⟩), if_neg e]
      exact h12 g hg j
theorem m_alen {f : Nat} (cx : Cx I own cc nL ret d hs ini) (hd : decode cc pc = .ok (.arraylength, 1)) (hf : f ∈ mAr) (k : Y (MRep ad Sb) I O (pc + 1) ls (vI (nI (aln f)) :: st) x) : Y (MRep ad Sb) I O pc ls (vR (some (100, ad f, [])) :: st) x := by
  refine m_liftO fun S hS => y_alen cx hd (by decide) ?_
  rw [(hS.1.2.1 f hf).2]
  exact m_lowO hS k
end YM
/-- a boolean stays what it is -/
theorem nz_bool {v : Int32} (h : v = 0 ∨ v = 1) : narrow .boolean (.int v) = .int v ∧ fits .boolean (.int v) = true := by
  rcases h with rfl | rfl <;> exact ⟨rfl, rfl⟩
