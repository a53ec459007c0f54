set_option maxRecDepth 100000
/-- a private method of a class above the receiver's own -/
theorem lk_P {p : Program} {l : Launch} {e : Env} {R : Room} {s : State} {m : MethodId} {args : Array Value} {below : List Frame} {meth : Method} {c : Code} {T : State} {locs : List Loc} {cells slots : Nat}
    (X : Stand p l e R s m args below meth c T locs cells slots) (hexec : p.tables.exec = Jvm.exec) {own : String} {index : Nat} {y : MethodName} {bytes : ByteArray} {maxL : Nat} {ret : Option FieldType}
    (hown : s.vm.findClass own = some m.cls) (hlink : (Cond.methodLink own index y).before args s = true) (hsame : (Cond.sameMethod y.cls y.cls y.name y.desc).before args s = true) (hinst : (Cond.instanceMethod y).before args s = true) (hpriv : (Cond.privateMethod y).before args s = true)
    (hcode : (Cond.code y bytes maxL ret).before args s = true) (hy : y.cls ≠ "java/lang/invoke/MethodHandle" ∧ y.cls ≠ "java/lang/invoke/VarHandle")
    {b : Addr} {cellB : Cell} (hcell : T.heap[b]? = some cellB) (hobj : cellB.vm.isStatics = false)
    {g : JFrame} (hg : g.method = m) {argsL rest : List Value} (hlen : ∀ sig, parseMethodDescriptor y.desc = some sig → argsL.length = sig.parameters.length)
    (hstack : g.stack = argsL.reverse ++ .ref b :: rest) (hdg : decode c.code g.pc = .ok (.invokevirtual index, 3)) :
    Lk p l e R s m args below meth c T locs cells slots g rest y (Value.ref b :: argsL).toArray := by
  obtain ⟨mk, methM, hnamed, hmethM, hstM, habM⟩ := Cond.instanceMethod_spec hinst
  obtain ⟨methM', cM, hmethM', -, -, -, -, -, -, hsigM⟩ := Cond.code_spec hnamed hcode
  cases hmethM.symm.trans hmethM'
  obtain ⟨cS, kS, r1, h1, h2, h3, -, -⟩ := Cond.sameMethod_found hsame
  have hcls : cS = mk.cls := Option.some.inj (h1.symm.trans (findClass_of_methodNamed hnamed))
  subst hcls
  have hselP : selectMethod e.platform s.vm cellB.cls mk = .method mk := selectMethod_private hmethM (Cond.privateMethod_at hpriv mk methM hnamed hmethM)
  obtain ⟨vm₁, X₁, hstep₁⟩ := X.invokevirtual hexec hown hlink hnamed hmethM hstM h2 h3 hy (a := b) (cell := cellB) hcell
    (fun z h => by rw [h] at hobj; cases hobj) hselP hmethM habM h2 h3 (g := g) hg (argsL := argsL) (rest := rest) (hlen _ hsigM) hstack hdg
  exact ⟨vm₁, mk, _, X₁.warmed, X₁, X₁.named hnamed, hdg, fun target h => hstep₁ _ fun acts => by rw [doInvoke_state]; exact h⟩
theorem link_P {I : Iv} {own : String} {cc : ByteArray} {nL : Nat} {ret : Option FieldType} {d pc : Nat} {ini : Bool} {c a idx n maxL : Nat} {t : List Int32} {As rest : List AV} {hs : List (Nat × Nat × Nat × Nat)} {y : MethodName} {bytes : ByteArray} {rt : Option FieldType} {C : String} (cx : Cx I own cc nL ret d hs ini) (hrc : rcv c C) (hl : Cond.methodLink own idx y ∈ lw_all) (hsm : Cond.sameMethod y.cls y.cls y.name y.desc ∈ lw_all) (hi : Cond.instanceMethod y ∈ lw_all) (hp : Cond.privateMethod y ∈ lw_tbl) (hcd : Cond.code y bytes maxL rt ∈ lw_all)
    (hd : y.cls ≠ "java/lang/invoke/MethodHandle" ∧ y.cls ≠ "java/lang/invoke/VarHandle" ∧ (parseMethodDescriptor y.desc).map (fun d => d.parameters.length) = some n) (hn : As.length = n) (hdg : decode cc pc = .ok (.invokevirtual idx, 3)) : LinkY I pc (vR (some (c, a, t)) :: As) rest y := by
  obtain ⟨p, l, e, R, s, m, args, below, meth, c0, G, S0⟩ := I
  obtain ⟨hx, hb, hml, hown, hts, hE, -⟩ := cx
  intro S H locs la T cells slots hbs hA hT X
  obtain ⟨cell, h1, h2, h3⟩ := hrc.cell hE hbs hA.1
  exact lk_P X hx hown (hts _ hl) (hts _ hsm) (hts _ hi) (va_Nw.use rfl (hE.2.1 _ hp rfl)) (hts _ hcd) ⟨hd.1, hd.2.1⟩ (by rw [hT]; exact h1) h2 (g := F0 m pc la _) rfl (argsL := As.map cv) (par_len hd.2.2 hn) (rev_stk _ As rest) (by rw [hb]; exact hdg)
/-- Math.min -/
theorem y_min {σ : Type} {ρ : σ → HS → Prop} {I : Iv} {own : String} {cc : ByteArray} {nL : Nat} {ret : Option FieldType} {d pc : Nat} {ini : Bool} {hs : List (Nat × Nat × Nat × Nat)} {O : OA → σ → Prop} {ls : List (Option AV)} {st : List AV} {x : σ} {idx : Nat} {x1 y1 : Int32} (cx : Cx I own cc nL ret (d + 1) hs ini) (hq : Cond.methodLink own idx Lib.Math.min.name ∈ lw_all) (hq1 : Cond.static Lib.Math.min.name ∈ lw_all) (hq2 : Cond.initialized "java/lang/Math" ∈ lw_all) (hq3 : Cond.code Lib.Math.min.name Lib.Math.min.code 2 (some .int) ∈ lw_all) (hd : decode cc pc = .ok (.invokestatic idx, 3)) (hlen : ls.length = nL) (hst : (st.map catA).sum ≤ 20)
    (k : Y ρ I O (pc + 3) ls (vI (if y1 < x1 then y1 else x1) :: st) x) : Y ρ I O pc ls (vI y1 :: vI x1 :: st) x := by
  obtain ⟨p, l, e, R, s, m, args, below, meth, c0, G, S0⟩ := I
  obtain ⟨hx, hb, hml, hown, hts, hE, -, -, hR0, -⟩ := cx
  intro S H locs la hS hbs hv hw1 hw2
  subst hR0
  exact va_mmin hx hb (by rw [hml, ← hlen, ← lc_len]; exact hv.1.symm) hown (hts _ hq) (hts _ hq1) (hts _ hq2) (hts _ hq3) (by show 1 ≤ d + 1; omega) (by rw [catA_sum]; show _ ≤ 64 * (d + 1); omega) (Nat.sub_le _ _) (Nat.sub_le _ _) hd (k S H locs la hS hbs hv hw1 ⟨trivial, hw2.2.2⟩)
