set_option maxRecDepth 100000
theorem setSlot_get {c : Cell} {i j : Nat} {v : Value} (h : j ≠ i) : (c.setSlot i v).slots[j]? = c.slots[j]? := by
  show (c.slots.setIfInBounds i v)[j]? = _
  rw [Array.getElem?_setIfInBounds, if_neg (Ne.symm h)]
theorem setSlot_size (c : Cell) (i : Nat) (v : Value) : (c.setSlot i v).slots.size = c.slots.size := by
  show (c.slots.setIfInBounds i v).size = _
  rw [Array.size_setIfInBounds]
section YX
variable {I : Iv} {cc : ByteArray} {nL : Nat} {ret : Option FieldType} {d : Nat} {hs : List (Nat × Nat × Nat × Nat)} {ini : Bool} {O : OA → HS → Prop} {pc : Nat} {ls : List (Option AV)} {st : List AV} {S : HS}
set_option maxHeartbeats 2000000 in
/-- RuntimeException's constructor, on a Malformed just made -/
theorem y_excInit {a idx : Nat} (cx : Cx I "ClassFileReader$Malformed" cc nL ret (d + 5) hs ini) (hq : Cond.methodLink "ClassFileReader$Malformed" idx ⟨"java/lang/RuntimeException", "<init>", "()V"⟩ ∈ lw_all) (hd : decode cc pc = .ok (.invokespecial idx, 3)) (hlen : ls.length = nL) (hst : (st.map catA).sum ≤ 50) (h99 : hI S 99 a = 0) (k : Y Eq I O (pc + 3) ls st (sI S 99 a 1)) : Y Eq I O pc ls (vR (some (5, a, [])) :: st) S := by
  obtain ⟨p, l, e, R, s, m, args, below, meth, c0, G, S0⟩ := I
  obtain ⟨hx, hb, hml, hown, hts, hE, -, -, hR0, -, -, hl0, hrep0⟩ := cx
  have hold0 := hrep0.2.2.1
  intro S' H locs la hS hbs hv hw1 hw2
  subst hS
  subst hR0
  obtain ⟨-, hz, hmf, w, hw, hw0, hat⟩ := hbs.1.mal hw2.1
  have hw0 := hw0 h99
  have hz : gz G ≤ a := hz
  intro T' hT X
  have howns : e.platform.frameOwnsMonitors = true := by rw [X.admits.platform]
  have hfin : e.platform.finalization = false := by rw [X.admits.platform]
  have hpl : e.platform.magicAccessors = ({} : Platform).magicAccessors := by rw [X.admits.platform]
  have htr : e.platform.stackTraces = false := (congrArg Platform.stackTraces X.admits.2.2.2.2.1).trans hl0
  have hold : ∀ q : Nat, q < gz G → T'.heap[q]? = G.2.2.1[q]? := fun q h => by rw [hT]; exact hbs.1.2.2.1 q h
  have hA : ∀ c ∈ Bundle.throwableAtoms, c.before args s = true := by
    intro c hc
    simp only [Bundle.throwableAtoms, List.mem_cons, List.not_mem_nil, or_false] at hc
    rcases hc with h | h | h | h | h | h | h | h | h | h | h | h | h | h | h | h | h | h | h | h | h | h | h | h
    · rw [h]; exact hts _ q87
    · rw [h]; exact hts _ q353
    · rw [h]; exact hts _ q362
    · rw [h]; exact hts _ q364
    · rw [h]; exact hts _ q367
    · rw [h]; exact hts _ q369
    · rw [h]; exact hts _ q354
    · rw [h]; exact hts _ q355
    · rw [h]; exact hts _ q113
    · rw [h]; exact hts _ q114
    · rw [h]; exact hts _ q356
    · rw [h]; exact hts _ q361
    · rw [h]; exact hts _ q365
    · rw [h]; exact hts _ q385
    · rw [h]; exact hts _ q343
    · rw [h]; exact hts _ q386
    · rw [h]; exact hts _ q345
    · rw [h]; exact hts _ q387
    · rw [h]; exact hts _ q347
    · rw [h]; exact hts _ q357
    · rw [h]; exact hE.2.2.2.2.2.2.2.2.2.1 args s rfl hold0
    · rw [h]; exact hts _ q359
    · rw [h]; exact hE.2.2.2.2.2.2.2.2.2.2 args s rfl hold0
    · rw [h]; exact hts _ q349
  obtain ⟨T, Z, L, LZ, Y0⟩ := ThrowableC.of_atoms (args := args) howns hfin hpl hA
  have hCh : ∀ c ∈ Bundle.chain0Atoms "java/lang/RuntimeException" ["java/lang/Exception"], c.before args s = true := by
    intro c hc
    simp only [Bundle.chain0Atoms, Bundle.passAtoms, List.mem_append, List.mem_cons, List.not_mem_nil, or_false] at hc
    rcases hc with (h | h | h | h | h) | h | h | h | h | h
    · rw [h]; exact hts _ q374
    · rw [h]; exact hts _ q375
    · rw [h]; exact hts _ q376
    · rw [h]; exact hts _ q377
    · rw [h]; exact va_Nw.use rfl (hE.2.1 _ q336 rfl)
    · rw [h]; exact hts _ q377
    · rw [h]; exact hts _ q378
    · rw [h]; exact hts _ q379
    · rw [h]; exact hts _ q354
    · rw [h]; exact va_Nw.use rfl (hE.2.1 _ q338 rfl)
  obtain ⟨P1, Ps, hlenP, L1, hL, hP1m, hlink1, hlink⟩ := Bundle.chain0 (args := args) hpl Y0.init0 ["java/lang/Exception"] "java/lang/RuntimeException" (by decide +kernel) (by decide +kernel) hCh
  obtain ⟨r, hr5, cell, q1, q2, q3, q4⟩ := hat
  have hr5 : r = (RX6, TX6, 8) := Option.some.inj (hr5.symm.trans (rfl : clW[5]? = some (RX6, TX6, 8)))
  subst hr5
  have hcell : T'.heap[a]? = some cell := by rw [hT]; exact q1
  obtain ⟨hSl, hfc, kC, hkC, hkind⟩ := hE.1.1 5 _ (rfl : clW[5]? = some (RX6, TX6, 8))
  obtain ⟨hin, hnm, -, ty0, hty⟩ := cw_ok 5 RX6 TX6 8 rfl
  have hap := va_apart (own := "ClassFileReader$Malformed") hts hin ty0 hty hnm hE.1 (rfl : clW[5]? = some (RX6, TX6, 8))
  have hfound : s.vm.findClass "ClassFileReader$Malformed" = some cell.cls := by rw [q2]; exact hfc
  have hsel0 : selectMethod e.platform s.vm cell.cls T.fill0 = .method T.fill0 := by
    obtain ⟨c2, r2, m2, g1, g2, g3, g4, -⟩ := Cond.selects_spec (hts _ q340)
    cases Option.some.inj (g1.symm.trans hfound)
    cases Option.some.inj (g2.symm.trans (State.methodFound?_of_named Y0.fill0 (by decide)))
    cases Option.some.inj (g3.symm.trans Y0.fill0)
    rw [Launch.admits_selectMethod X.admits]; exact g4
  have hselF : selectMethod e.platform s.vm cell.cls T.fill = .method T.fill := by
    obtain ⟨c2, r2, m2, g1, g2, g3, g4, -⟩ := Cond.selects_spec (hts _ q341)
    cases Option.some.inj (g1.symm.trans hfound)
    cases Option.some.inj (g2.symm.trans (State.methodFound?_of_named Y0.fill (by decide)))
    cases Option.some.inj (g3.symm.trans Y0.fill)
    rw [Launch.admits_selectMethod X.admits]; exact g4
  have stat : ∀ {nm ds : String} {i : Nat} {fd : Field}, va_Zq "java/lang/Throwable" nm ds (gA G) s G.2.2.1 → s.fieldFound? "java/lang/Throwable" nm ds = some (T.cT, T.kT, i, fd) → ∃ (u : RefV) (cS : Cell), T'.heap[T.aS]? = some cS ∧ T.aS < gz G ∧ cS.vm.isStatics = true ∧ cS.slots[fd.slot]? = some u.v := by
    intro nm ds i fd hz hf
    rcases hz with ⟨cf, kf, fi, f, aS, cS, h1, h2, h3, h4, h5, h6, h7, h8⟩ | ⟨t, cf, kf, fi, f, aS, cS, h1, h2, h3, h4, h5, h6, h7, h8⟩
    · cases h1.symm.trans hf
      cases h4.symm.trans L.statics
      exact ⟨⟨.null, rfl⟩, cS, by rw [hold _ (Nat.not_le.mp h8)]; exact h5, Nat.not_le.mp h8, h6, h7⟩
    · cases h1.symm.trans hf
      cases h4.symm.trans L.statics
      exact ⟨⟨.ref t, rfl⟩, cS, by rw [hold _ (Nat.not_le.mp h8)]; exact h5, Nat.not_le.mp h8, h6, h7⟩
  obtain ⟨u0, cellS, hcS, haS, hiss, hvU⟩ := stat hE.2.2.2.2.1 Y0.unassigned
  obtain ⟨sen, cellS2, hcS2, -, -, hvSen⟩ := stat hE.2.2.2.2.2.1 Y0.sentinel
  cases hcS.symm.trans hcS2
  have hneS : T.aS ≠ a := fun z => Nat.not_lt.mpr hz (by rw [← z]; exact haS)
  have sl : ∀ k, k < 8 → ∀ {cf kf fi fd}, s.fieldFound? (TX6 k).1 (TX6 k).2.1 (TX6 k).2.2.1 = some (cf, kf, fi, fd) → fd.slot = G.1.2 5 k := by
    intro k hk cf kf fi fd hf
    obtain ⟨cf', kf', fi', fd', hf', hs'⟩ := hSl k hk
    cases hf.symm.trans hf'
    exact hs'
  have s0 : T.fCause.slot = G.1.2 5 0 := sl 0 (by decide) Y0.cause
  have s1 : T.fStack.slot = G.1.2 5 1 := sl 1 (by decide) Y0.stack
  have s2 : T.fSupp.slot = G.1.2 5 2 := sl 2 (by decide) Y0.supp
  have lt : ∀ k, k < 8 → G.1.2 5 k < cell.slots.size := fun k hk => (Array.getElem?_eq_some_iff.mp (q4 k hk)).1
  have tk : ∀ k, k < 8 → ∀ {cf kf fi fd} {v : Value} {ty : FieldType}, s.fieldFound? (TX6 k).1 (TX6 k).2.1 (TX6 k).2.2.1 = some (cf, kf, fi, fd) → parseFieldDescriptor (TX6 k).2.2.1 = some ty → narrow ty v = v → fits ty v = true → Takes s cell fd v := by
    intro k hk cf kf fi fd v ty hf hp hn hfit
    refine ⟨by rw [sl k hk hf]; exact lt k hk, ?_⟩
    have := (u_fits hfc hkC hkind (u_lays hts hin hk) hf hp hn hfit).2
    rw [q2, q3]
    exact this
  obtain ⟨ci198, i198, fB, hk198, hg198, ha198, hsB, -, hnB, htB, hffB⟩ := Cond.ownField (t := .object "java/lang/Object") Y0.found L.cls (by decide +kernel) (hts _ q352) (hts _ q351) e.platform hpl
  have s4 : fB.slot = G.1.2 5 4 := sl 4 (by decide) hffB
  have hskip : SkipFacts T e.platform s (fun u => u) u0 ((preparedCellV T.toThrowableT cell a u0 sen).withEntry T'.cur) := by
    refine ⟨{ ci198 := ci198, i198 := i198, fBack := fB }, ⟨hk198, hg198, ha198, hsB⟩, ?_, fun _ _ => rfl⟩
    show (((cell.setSlot T.fCause.slot (.ref a)).setSlot T.fStack.slot u0.v).setSlot T.fSupp.slot sen.v).slots[fB.slot]? = some .null
    rw [s0, s1, s2, s4, setSlot_get (hap 4 2 (by decide) (by decide) (by decide)), setSlot_get (hap 4 1 (by decide) (by decide) (by decide)), setSlot_get (hap 4 0 (by decide) (by decide) (by decide)), q4 4 (by decide), hw0]
    rfl
  have hsz : (F0 m pc la (.ref a :: st.map cv)).locals.size = c0.maxLocals := by
    show la.size = _
    rw [hml, ← hlen, ← lc_len]
    exact hv.1
  obtain ⟨tm, methC, cdC, kC2, vm₁, hnC, -, -, -, -, -, -, -, hW₁, st1⟩ := Steps.initCold (tb := p.tables) (e := e) (below := below) (s := s) (U := T') X.here hx X.warmed hpl hown (t := ⟨"java/lang/RuntimeException", "<init>", "()V"⟩) rfl rfl (by decide)
    (hts _ hq) (hts _ q374) (bytes := prog_23_method_1_code) (maxL := 1) (hts _ q375) (f := F0 m pc la (.ref a :: st.map cv)) rfl (a := a) (rest := st.map cv) rfl (by rw [hb]; exact hd)
  cases Option.some.inj (hnC.symm.trans hP1m)
  have X₁ := X.noted hW₁
  obtain ⟨vm₂, X₂, st2⟩ := X₁.ctorPlainOffV hx (g := F0 m pc la (st.map cv)) rfl hsz T L Z LZ (P1 :: Ps)
    (fun P hP => by rcases List.mem_cons.mp hP with rfl | hP; exact L1; exact hL P hP) ⟨hlink1, hlink⟩ (u0 := u0) (sen := sen) (self := a) (cell := cell) (cellS := cellS)
    hcell (fun _ h => by rw [q3] at h; cases h) (by rw [q3]; exact fun h => by cases h) (hmf cell q1).1 (hmf cell q1).2 hsel0 hselF hcS hneS (fun h => by rw [h] at hiss; cases hiss) hvU hvSen
    (tk 0 (by decide) Y0.cause (ty := .object "java/lang/Throwable") (by decide +kernel) rfl rfl) (tk 1 (by decide) Y0.stack (ty := .array (.object "java/lang/StackTraceElement")) (by decide +kernel) (narrow_refV _ u0) (fits_refV_array _ u0)) (tk 2 (by decide) Y0.supp (ty := .object "java/util/List") (by decide +kernel) (narrow_refV _ sen) (fits_refV_object _ sen)) Y0.objLocals hskip htr [] (by rw [hb]; exact hd)
    (by simp only [List.length_cons, hlenP]; show _ < d + 5; simp only [List.length_nil]; omega) (by rw [catA_sum]; simp only [List.length_cons, hlenP, List.length_nil]; show 2 * (F0 m pc la (st.map cv)).monitorRoom + _ + _ ≤ 64 * (d + 5); simp only [JFrame.monitorRoom]; omega)
  have hlt : a < T'.heap.size := (Array.getElem?_eq_some_iff.mp hcell).1
  generalize hNC : (preparedCellV T.toThrowableT cell a u0 sen).setSlot T.fStack.slot u0.v = nc at X₂ st2
  have ncs : ∀ k, k < 8 → k ≠ 0 → k ≠ 1 → k ≠ 2 → nc.slots[G.1.2 5 k]? = cell.slots[G.1.2 5 k]? := by
    intro k hk n0 n1 n2
    rw [← hNC]
    show ((((cell.setSlot T.fCause.slot (.ref a)).setSlot T.fStack.slot u0.v).setSlot T.fSupp.slot sen.v).setSlot T.fStack.slot u0.v).slots[_]? = _
    rw [s0, s1, s2, setSlot_get (hap k 1 hk (by decide) n1), setSlot_get (hap k 2 hk (by decide) n2), setSlot_get (hap k 1 hk (by decide) n1), setSlot_get (hap k 0 hk (by decide) n0)]
  have ncz : nc.slots.size = cell.slots.size := by
    rw [← hNC]
    show ((((cell.setSlot T.fCause.slot (.ref a)).setSlot T.fStack.slot u0.v).setSlot T.fSupp.slot sen.v).setSlot T.fStack.slot u0.v).slots.size = _
    rw [setSlot_size, setSlot_size, setSlot_size, setSlot_size]
  have ncc : nc.cls = cell.cls ∧ nc.vm = cell.vm ∧ nc.monitor = cell.monitor := by rw [← hNC]; exact ⟨rfl, rfl, rfl⟩
  have hH2 : ((((T'.setVm vm₁).setVm vm₂).setCell a nc)).heap = T'.heap.setIfInBounds a nc := rfl
  have hgA : (T'.heap.setIfInBounds a nc)[a]? = some nc := by rw [Array.getElem?_setIfInBounds, if_pos rfl, if_pos hlt]
  have hmm : Mono S (sI S 99 a 1) := fun _ _ h => h
  have hr' : Rep G (sI S 99 a 1) (T'.heap.setIfInBounds a nc) := by
    refine hbs.1.set hw2.1 hz (fun _ => rfl) rfl (fun b hb => ⟨fun g => by rw [hI_sI, if_neg (fun z => hb z.2)], fun _ => rfl, fun _ => rfl, rfl, fun _ => rfl, fun _ => rfl, fun _ => rfl⟩) (fun f => hbs.1.2.2.2.2.1 f a) (fun k => hbs.1.2.2.2.2.2.1 a k) (by rw [Array.size_setIfInBounds, hT]) (fun q hq => by rw [Array.getElem?_setIfInBounds, if_neg (Ne.symm hq), hT]) ?_
    refine Or.inr (Or.inl ⟨rfl, rfl, hz, fun c' hc' => ?_, (List.range 6).map (fun k => nc.slots.getD (G.1.2 5 k) .null), rfl, fun z => ?_, ?_⟩)
    · rw [hgA] at hc'
      cases hc'
      rw [ncc.2.2]
      exact hmf cell q1
    · rw [hI_sI, if_pos ⟨rfl, rfl⟩] at z
      exact absurd z (by decide)
    · refine ⟨_, (rfl : clW[5]? = some (RX6, TX6, 8)), nc, hgA, by rw [ncc.1]; exact q2, by rw [ncc.2.1]; exact q3, fun k hk => ?_⟩
      have hks : G.1.2 5 k < nc.slots.size := by rw [ncz]; exact lt k hk
      match k, hk with
      | 0, _ => show _ = some (nc.slots.getD (G.1.2 5 0) .null); rw [Array.getD_eq_getD_getElem?, Array.getElem?_eq_getElem hks]; rfl
      | 1, _ => show _ = some (nc.slots.getD (G.1.2 5 1) .null); rw [Array.getD_eq_getD_getElem?, Array.getElem?_eq_getElem hks]; rfl
      | 2, _ => show _ = some (nc.slots.getD (G.1.2 5 2) .null); rw [Array.getD_eq_getD_getElem?, Array.getElem?_eq_getElem hks]; rfl
      | 3, _ => show _ = some (nc.slots.getD (G.1.2 5 3) .null); rw [Array.getD_eq_getD_getElem?, Array.getElem?_eq_getElem hks]; rfl
      | 4, _ => show _ = some (nc.slots.getD (G.1.2 5 4) .null); rw [Array.getD_eq_getD_getElem?, Array.getElem?_eq_getElem hks]; rfl
      | 5, _ => show _ = some (nc.slots.getD (G.1.2 5 5) .null); rw [Array.getD_eq_getD_getElem?, Array.getElem?_eq_getElem hks]; rfl
      | 6, _ => rw [ncs 6 (by decide) (by decide) (by decide) (by decide), q4 6 (by decide), hw0]; rfl
      | 7, _ => rw [ncs 7 (by decide) (by decide) (by decide) (by decide), q4 7 (by decide), hw0]; rfl
      | k + 8, hk => exact absurd (show k + 8 < 8 from hk) (by omega)
  have hbs' : Bs G S0 (sI S 99 a 1) (T'.heap.setIfInBounds a nc) (locs ++ [⟨a, T.fCause.slot⟩, ⟨a, T.fStack.slot⟩, ⟨a, T.fSupp.slot⟩, ⟨a, T.fStack.slot⟩]) := by
    refine ⟨hr', fun q hq => ?_, hbs.2.2.1, hbs.2.2.2.1, hbs.2.2.2.2.tr hmm⟩
    rcases List.mem_append.mp hq with z | z
    · exact hbs.2.1 q z
    · simp only [List.mem_cons, List.not_mem_nil, or_false] at z
      rcases z with rfl | rfl | rfl | rfl <;> exact hz
  obtain ⟨t, t1, t2⟩ := k (sI S 99 a 1) _ _ la rfl hbs' hv (hw1.mono hmm) (lvS.mono hmm hw2.2) _ hH2 X₂
  exact ⟨t, st1 _ (fun acts => by rw [doInvoke_state]; exact st2 _ t1), t2⟩
end YX
