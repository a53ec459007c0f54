set_option maxRecDepth 100000
def ck (c : Nat) : Nat := if c = 17 then 14 else c
/-- kinds that are objects, read off the field heap -/
def ob (c : Nat) : Bool := (decide (c < 16) && decide (c ≠ 5) && decide (c ≠ 14)) || decide (c = 17)
theorem ob_wr {c : Nat} (h : ob c = true) : wr c = true := by
  unfold ob at h
  unfold wr
  rw [h]
  rfl
theorem ck_lt {c : Nat} (h : ob c = true) : ck c < 16 := by
  unfold ck
  simp only [ob, Bool.or_eq_true, Bool.and_eq_true, decide_eq_true_eq] at h
  split <;> omega
theorem cE_obj {G : GT} {S : HS} {c a : Nat} (h : ob c = true) : cE G S c a = .inr (ck c, (lay (ck c)).map (fun q => fv S q a)) := by
  simp only [ob, Bool.or_eq_true, Bool.and_eq_true, decide_eq_true_eq] at h
  unfold cE ck
  by_cases e : c = 17
  · subst e
    rfl
  · rw [if_pos (by omega), if_neg e]
/-- the field f, of this kind, owner, name, descriptor, stands in every class of the list -/
def FE (cs : List Nat) (kd f : Nat) (o nm ds : String) (fin : Bool) : Prop := ∀ c ∈ cs, ∃ (C : String) (T : u_T) (N k : Nat), ob c = true ∧ clW[ck c]? = some (C, T, N) ∧ k < N ∧ (lay (ck c))[k]? = some (kd, f) ∧ (T k).1 = o ∧ (T k).2.1 = nm ∧ (T k).2.2.1 = ds ∧ (T k).2.2.2 = fin
def LK (own : String) (idx : Nat) (ref nm ds : String) : Prop := Cond.fieldLink own idx ref nm ds ∈ lw_all ∨ ∃ host, Cond.fieldLinkNest own idx ref nm ds host ∈ lw_tbl
def SF (ref o nm ds : String) : Prop := ref = o ∨ Cond.sameField ref o nm ds ∈ lw_all
theorem lay_nd : ∀ c, c < 16 → (lay c).Nodup := by decide +kernel
theorem va_P.one {D : va_G} {cl : List vw_C} {q : Nat × va_E} {H : Heap} (h : va_at D cl q H) : va_P D cl [q] H := by
  intro k x hx
  have hz : k < 1 := (List.getElem?_eq_some_iff.mp hx).1
  rw [show k = 0 by omega] at hx
  cases hx
  exact h
theorem SF.use {args : Array Value} {s : State} {ref o nm ds : String} (h : SF ref o nm ds) (hts : ∀ w ∈ lw_all, w.before args s = true) : ∀ x, s.fieldFound? o nm ds = some x → s.fieldFound? ref nm ds = some x := by
  rcases h with rfl | h
  · exact fun _ h => h
  · exact u_same (hts _ h)
section WH
variable {p : Program} {l : Launch} {e : Env} {R : Room} {s : State} {m : MethodId} {args : Array Value} {below : List Frame} {meth : Method} {c : Code} {H : Heap} {locs : List Loc} {cells slots : Nat} {Q : State → Prop}
variable {cc : ByteArray} {pc : Nat} {la : Array Slot} {st : List Value} {G : GT} {own : String}
theorem w_getf {ci kk N idx a : Nat} {T : u_T} {C ref : String} {vs : List Value} {v : Value} (hx : p.tables.exec = Jvm.exec) (hb : c.code = cc) (hown : s.vm.findClass own = some m.cls) (hts : ∀ w ∈ lw_all, w.before args s = true) (hE : EnvT G s) (hcl : clW[ci]? = some (C, T, N)) (hkN : kk < N)
    (hat : va_at G.1 clW (a, .inr (ci, vs)) H) (hvv : vs[kk]? = some v) (hlk : LK own idx ref (T kk).2.1 (T kk).2.2.1) (hsf : SF ref (T kk).1 (T kk).2.1 (T kk).2.2.1) (hd : decode cc pc = .ok (.getfield idx, 3))
    (k : W p l e R s m args below meth c H locs cells slots Q (F0 m (pc + 3) la (v :: st))) : W p l e R s m args below meth c H locs cells slots Q (F0 m pc la (.ref a :: st)) := by
  obtain ⟨hin, hnm, hlen, ty, hty⟩ := cw_ok ci C T N hcl
  rcases hlk with hw | ⟨host, hw⟩
  · exact va_get (D := G.1) (cl := clW) (ci := ci) (C := C) (T := T) (N := N) (ref := ref) hx hb hts hin hown hE.1 (va_P.one hat) 0 rfl hcl kk hkN (hts _ hw) (hsf.use hts) hvv hd k
  · exact va_getN (D := G.1) (cl := clW) (ci := ci) (C := C) (T := T) (N := N) (ref := ref) (host := host) hx hb hts hin hown hE.1 (va_P.one hat) 0 rfl hcl kk hkN (va_Nw.use rfl (hE.2.1 _ hw rfl)) (hsf.use hts) hvv hd k
/-- one field of one object is written -/
theorem w_putf {ci kk N idx a : Nat} {T : u_T} {C ref : String} {vs : List Value} {v : Value} {ty : FieldType} {ini : Bool} (hx : p.tables.exec = Jvm.exec) (hb : c.code = cc) (hown : s.vm.findClass own = some m.cls) (hts : ∀ w ∈ lw_all, w.before args s = true) (hE : EnvT G s) (hini : ini = true → meth.name = "<init>") (hcl : clW[ci]? = some (C, T, N)) (hkN : kk < N)
    (hat : va_at G.1 clW (a, .inr (ci, vs)) H) (hkl : kk < vs.length) (hlk : LK own idx ref (T kk).2.1 (T kk).2.2.1) (hsf : SF ref (T kk).1 (T kk).2.1 (T kk).2.2.1) (hfin : (T kk).2.2.2 = false ∨ ((T kk).2.2.2 = true ∧ ini = true ∧ (T kk).1 = own ∧ Cond.fieldLink own idx ref (T kk).2.1 (T kk).2.2.1 ∈ lw_all))
    (hpd : parseFieldDescriptor (T kk).2.2.1 = some ty) (hn : narrow ty v = v) (hft : fits ty v = true) (hd : decode cc pc = .ok (.putfield idx, 3))
    (k : ∀ (H' : Heap) (i : Nat), H'.size = H.size → (∀ q, q ≠ a → H'[q]? = H[q]?) → va_at G.1 clW (a, .inr (ci, vs.set kk v)) H' → (MF H a → MF H' a) → W p l e R s m args below meth c H' (locs ++ [⟨a, i⟩]) cells slots Q (F0 m (pc + 3) la st)) : W p l e R s m args below meth c H locs cells slots Q (F0 m pc la (v :: .ref a :: st)) := by
  obtain ⟨hin, hnm, hlen, ty0, hty⟩ := cw_ok ci C T N hcl
  have hap := va_apart (own := own) hts hin ty0 hty hnm hE.1 hcl
  obtain ⟨r, g1, cell, q1, q2, q3, q4⟩ := va_P.one hat 0 _ rfl
  have hr0 : r = (C, T, N) := Option.some.inj (g1.symm.trans hcl)
  subst hr0
  obtain ⟨hS, hfc, kC, hkC, hkind⟩ := hE.1.1 ci _ hcl
  obtain ⟨cf, kf, fi, fd, hi, hsl⟩ := hS kk hkN
  have hsame := hsf.use hts
  have hlay0 := hts _ (hin _ (u_in_lay hkN))
  have hst := (u_facts hfc hkC (u_lays hts hin hkN) hi).1
  have fin2 : ∀ H' : Heap, H'[a]? = some (cell.setSlot fd.slot v) → H'.size = H.size → (∀ q, q ≠ a → H'[q]? = H[q]?) → W p l e R s m args below meth c H' (locs ++ [⟨a, fd.slot⟩]) cells slots Q (F0 m (pc + 3) la st) := by
    intro H' a1 a2 a3
    rw [hsl] at a1
    refine k H' _ a2 a3 ?_ (fun hmf cell' hc' => ?_)
    rotate_left
    · rw [a1] at hc'
      cases hc'
      exact hmf cell q1
    exact ⟨_, hcl, t_OB.to (V := updV (vp_V vs) kk v) ⟨_, a1, q2, q3, t_set q4 hap hkN v⟩ (fun j _ => vp_updV_set hkl v j)⟩
  unfold u_lay at hlay0
  rcases hfin with z | ⟨z, zi, zo, zw⟩
  · rw [if_neg (by rw [z]; decide)] at hlay0
    have h6 := u_store hfc hkC hkind hlay0 hi hpd hn hft
    rcases hlk with hw | ⟨host, hw⟩
    · exact W.putK hx hb (f := fd) ⟨hown, hts _ hw, ⟨_, _, _, hsame _ hi⟩, hst⟩ (by rw [q2]; exact h6) q1 q3 (by rw [hsl]; exact k2_hasslot (q4 kk hkN)) rfl rfl hd fin2
    · exact va_WputK hx hb (f := fd) hown (va_Nw.use rfl (hE.2.1 _ hw rfl)) (hsame _ hi) hst (by rw [q2]; exact h6) q1 q3 (by rw [hsl]; exact k2_hasslot (q4 kk hkN)) rfl rfl hd fin2
  · rw [if_pos z] at hlay0
    have hcf : m.cls = cf := by
      obtain ⟨_, _, c', _, _, _, -, -, hf', -, -, -, hown2, -⟩ := Cond.laysFinal_spec hlay0
      have e9 : c' = cf := by have := hi.symm.trans hf'; simp at this; exact this.1.symm
      rw [zo] at hown2
      rw [← e9]; exact Option.some.inj (hown.symm.trans hown2)
    have h6 := u_fits hfc hkC hkind (Or.inr hlay0) hi hpd hn hft
    exact W.putFinK hx hb hown (hts _ zw) (hsame _ hi) hst hcf (hini zi) (by rw [q2]; exact h6) q1 q3 (by rw [hsl]; exact k2_hasslot (q4 kk hkN)) rfl rfl hd fin2
end WH
theorem Bs.put {G : GT} {S0 S S' : HS} {H H' : Heap} {locs : List Loc} {a i : Nat} (h : Bs G S0 S H locs) (hr : Rep G S' H') (hz : gz G ≤ a) (hm : Mono S S') (h1 : hB S' = hB S) (h2 : hU S' = hU S) : Bs G S0 S' H' (locs ++ [⟨a, i⟩]) := by
  obtain ⟨b1, b2, b3, b4, b5⟩ := h
  refine ⟨hr, fun q hq => ?_, by rw [h1]; exact b3, by rw [h2]; exact b4, b5.tr hm⟩
  rcases List.mem_append.mp hq with z | z
  · exact b2 q z
  · rw [List.mem_singleton.mp z]
    exact hz
def fa (S : HS) (q : Nat × Nat) (a : Nat) : AV := match q.1 with
  | 0 => vI (hI S q.2 a)
  | 1 => vL (hL S q.2 a)
  | _ => vR (hR S q.2 a)
theorem fa_cv (S : HS) (q : Nat × Nat) (a : Nat) : cv (fa S q a) = fv S q a := by
  obtain ⟨q1, q2⟩ := q
  match q1 with
  | 0 => rfl
  | 1 => rfl
  | n + 2 => rfl
section YH
variable {I : Iv} {own : String} {cc : ByteArray} {nL : Nat} {ret : Option FieldType} {d : Nat} {hs : List (Nat × Nat × Nat × Nat)} {ini : Bool} {O : OA → HS → Prop} {pc : Nat} {ls : List (Option AV)} {st : List AV} {S : HS}
theorem y_getf {cs : List Nat} {kd f idx c a : Nat} {t : List Int32} {ref o nm ds : String} {fin : Bool} (cx : Cx I own cc nL ret d hs ini) (hF : FE cs kd f o nm ds fin) (hlk : LK own idx ref nm ds) (hsf : SF ref o nm ds) (hd : decode cc pc = .ok (.getfield idx, 3)) (hc : c ∈ cs) (k : Y Eq I O (pc + 3) ls (fa S (kd, f) a :: st) S) : Y Eq I O pc ls (vR (some (c, a, t)) :: st) S := by
  obtain ⟨C, T, N, kk, hob, hcl, hkN, hlay, e1, e2, e3, -⟩ := hF c hc
  obtain ⟨p, l, e, R, s, m, args, below, meth, c0, G, S0⟩ := I
  obtain ⟨hx, hb, hml, hown, hts, hE, -⟩ := cx
  intro S' H locs la hS hbs hv hw1 hw2
  subst hS
  have hat := (hbs.1.at hw2.1 (ob_wr hob)).2.2
  rw [cE_obj hob] at hat
  refine w_getf hx hb hown hts hE hcl hkN hat (v := fv S (kd, f) a) (by rw [List.getElem?_map, hlay]; rfl) (by rw [e2, e3]; exact hlk) (by rw [e1, e2, e3]; exact hsf) hd ?_
  rw [← fa_cv]
  refine k S H locs la rfl hbs hv hw1 ⟨?_, hw2.2⟩
  unfold fa
  split
  · trivial
  · trivial
  · exact hbs.1.2.2.2.2.1 _ _
theorem y_getI {cs : List Nat} {f idx c a : Nat} {t : List Int32} {ref o nm ds : String} {fin : Bool} (cx : Cx I own cc nL ret d hs ini) (hF : FE cs 0 f o nm ds fin) (hlk : LK own idx ref nm ds) (hsf : SF ref o nm ds) (hd : decode cc pc = .ok (.getfield idx, 3)) (hc : c ∈ cs) (k : Y Eq I O (pc + 3) ls (vI (hI S f a) :: st) S) : Y Eq I O pc ls (vR (some (c, a, t)) :: st) S := y_getf cx hF hlk hsf hd hc k
theorem y_getL {cs : List Nat} {f idx c a : Nat} {t : List Int32} {ref o nm ds : String} {fin : Bool} (cx : Cx I own cc nL ret d hs ini) (hF : FE cs 1 f o nm ds fin) (hlk : LK own idx ref nm ds) (hsf : SF ref o nm ds) (hd : decode cc pc = .ok (.getfield idx, 3)) (hc : c ∈ cs) (k : Y Eq I O (pc + 3) ls (vL (hL S f a) :: st) S) : Y Eq I O pc ls (vR (some (c, a, t)) :: st) S := y_getf cx hF hlk hsf hd hc k
theorem y_getR {cs : List Nat} {f idx c a : Nat} {t : List Int32} {ref o nm ds : String} {fin : Bool} (cx : Cx I own cc nL ret d hs ini) (hF : FE cs 2 f o nm ds fin) (hlk : LK own idx ref nm ds) (hsf : SF ref o nm ds) (hd : decode cc pc = .ok (.getfield idx, 3)) (hc : c ∈ cs) (k : Y Eq I O (pc + 3) ls (vR (hR S f a) :: st) S) : Y Eq I O pc ls (vR (some (c, a, t)) :: st) S := y_getf cx hF hlk hsf hd hc k
theorem y_putf {cs : List Nat} {kd f idx c a : Nat} {t : List Int32} {ref o nm ds : String} {fin : Bool} {v : AV} {ty : FieldType} (S' : HS) (cx : Cx I own cc nL ret d hs ini) (hF : FE cs kd f o nm ds fin) (hlk : LK own idx ref nm ds) (hsf : SF ref o nm ds) (hfin : fin = false ∨ (fin = true ∧ ini = true ∧ o = own ∧ Cond.fieldLink own idx ref nm ds ∈ lw_all)) (hd : decode cc pc = .ok (.putfield idx, 3)) (hc : c ∈ cs)
    (hpd : parseFieldDescriptor ds = some ty) (hn : narrow ty (cv v) = cv v) (hft : fits ty (cv v) = true)
    (hC' : ∀ b, hC S' b = hC S b) (hZ' : hZ S' = hZ S) (hB' : hB S' = hB S) (hU' : hU S' = hU S) (ho : ∀ b, b ≠ a → SD S S' b) (hR' : lv S v → (∀ g, lvR S (hR S g a)) → ∀ g, lvR S (hR S' g a)) (hN' : hN S' a = hN S a) (hP' : ∀ k, hP S' a k = hP S a k)
    (hv1 : fv S' (kd, f) a = cv v) (hv2 : ∀ q, q ∈ lay (ck c) → q ≠ (kd, f) → fv S' q a = fv S q a) (k : Y Eq I O (pc + 3) ls st S') : Y Eq I O pc ls (v :: vR (some (c, a, t)) :: st) S := by
  obtain ⟨C, T, N, kk, hob, hcl, hkN, hlay, e1, e2, e3, e4⟩ := hF c hc
  obtain ⟨p, l, e, R, s, m, args, below, meth, c0, G, S0⟩ := I
  obtain ⟨hx, hb, hml, hown, hts, hE, -, -, -, -, hini, -⟩ := cx
  intro S1 H locs la hS hbs hv hw1 hw2
  subst hS
  have hca : hC S a = some (c, t) := hw2.2.1
  obtain ⟨ht, hza, hat⟩ := hbs.1.at hca (ob_wr hob)
  rw [cE_obj hob] at hat
  have hkl : kk < (lay (ck c)).length := (List.getElem?_eq_some_iff.mp hlay).1
  have hlist : (lay (ck c)).map (fun q => fv S' q a) = ((lay (ck c)).map (fun q => fv S q a)).set kk (cv v) := by
    apply List.ext_getElem?
    intro j
    by_cases hj : j = kk
    · subst hj
      rw [List.getElem?_set_self (by rw [List.length_map]; exact hkl), List.getElem?_map, hlay]
      show some (fv S' (kd, f) a) = _
      rw [hv1]
    · rw [List.getElem?_set_ne (Ne.symm hj), List.getElem?_map, List.getElem?_map]
      cases hjj : (lay (ck c))[j]? with
      | none => rfl
      | some q =>
        show some (fv S' q a) = some (fv S q a)
        rw [hv2 q (List.mem_of_getElem? hjj) (fun z => hj ((List.getElem?_inj (List.getElem?_eq_some_iff.mp hjj).1 (lay_nd _ (ck_lt hob))).mp (by rw [hjj, hlay, z])))]
  refine w_putf hx hb hown hts hE hini hcl hkN hat (by rw [List.length_map]; exact hkl) (by rw [e2, e3]; exact hlk) (by rw [e1, e2, e3]; exact hsf) (by rw [e1, e2, e3, e4]; exact hfin) (by rw [e3]; exact hpd) hn hft hd ?_
  intro H' i a2 a3 hat' _
  rw [← hlist, ← cE_obj (G := G) hob] at hat'
  have hm : Mono S S' := fun b x hx => by rw [hC']; exact hx
  have hr' : Rep G S' H' := hbs.1.set hca hza hC' hZ' ho (hR' hw2.1 (fun g => hbs.1.2.2.2.2.1 g a)) (fun k => by rw [hP']; exact hbs.1.2.2.2.2.2.1 a k) a2 a3 (Or.inl ⟨ob_wr hob, ht, hza, hat'⟩)
  refine W.cs (cells' := hB S0 - hB S') (slots' := hU S0 - hU S') (by rw [hB']) (by rw [hU']) ?_
  exact k S' H' _ la rfl (hbs.put hr' hza hm hB' hU') hv (hw1.mono hm) (lvS.mono hm hw2.2.2)
theorem y_putI {cs : List Nat} {f idx c a : Nat} {t : List Int32} {ref o nm ds : String} {fin : Bool} {v : Int32} {ty : FieldType} (cx : Cx I own cc nL ret d hs ini) (hF : FE cs 0 f o nm ds fin) (hlk : LK own idx ref nm ds) (hsf : SF ref o nm ds) (hfin : fin = false ∨ (fin = true ∧ ini = true ∧ o = own ∧ Cond.fieldLink own idx ref nm ds ∈ lw_all)) (hd : decode cc pc = .ok (.putfield idx, 3)) (hc : c ∈ cs)
    (hpd : parseFieldDescriptor ds = some ty) (hn : narrow ty (.int v) = .int v ∧ fits ty (.int v) = true) (k : Y Eq I O (pc + 3) ls st (sI S f a v)) : Y Eq I O pc ls (vI v :: vR (some (c, a, t)) :: st) S := by
  refine y_putf (sI S f a v) cx hF hlk hsf hfin hd hc hpd hn.1 hn.2 (fun _ => rfl) rfl rfl rfl (fun b hb => ⟨fun g => ?_, fun _ => rfl, fun _ => rfl, rfl, fun _ => rfl, fun _ => rfl, fun _ => rfl⟩) (fun _ h => h) rfl (fun _ => rfl) ?_ (fun q _ hq => ?_) k
  · rw [hI_sI, if_neg (fun z => hb z.2)]
  · show Value.int (hI (sI S f a v) f a) = _
    rw [hI_sI, if_pos ⟨rfl, rfl⟩]
    rfl
  · obtain ⟨q1, q2⟩ := q
    unfold fv
    split
    · rename_i e0
      have e0 : q1 = 0 := e0
      rw [hI_sI, if_neg (fun z => hq (by rw [e0]; exact congrArg _ z.1))]
    · rfl
    · rfl
theorem y_putL {cs : List Nat} {f idx c a : Nat} {t : List Int32} {ref o nm ds : String} {fin : Bool} {v : Int64} (cx : Cx I own cc nL ret d hs ini) (hF : FE cs 1 f o nm ds fin) (hlk : LK own idx ref nm ds) (hsf : SF ref o nm ds) (hfin : fin = false ∨ (fin = true ∧ ini = true ∧ o = own ∧ Cond.fieldLink own idx ref nm ds ∈ lw_all)) (hd : decode cc pc = .ok (.putfield idx, 3)) (hc : c ∈ cs)
    (hpd : parseFieldDescriptor ds = some .long) (k : Y Eq I O (pc + 3) ls st (sL S f a v)) : Y Eq I O pc ls (vL v :: vR (some (c, a, t)) :: st) S := by
  refine y_putf (sL S f a v) cx hF hlk hsf hfin hd hc hpd rfl rfl (fun _ => rfl) rfl rfl rfl (fun b hb => ⟨fun _ => rfl, fun g => ?_, fun _ => rfl, rfl, fun _ => rfl, fun _ => rfl, fun _ => rfl⟩) (fun _ h => h) rfl (fun _ => rfl) ?_ (fun q _ hq => ?_) k
  · rw [hL_sL, if_neg (fun z => hb z.2)]
  · show Value.long (hL (sL S f a v) f a) = _
    rw [hL_sL, if_pos ⟨rfl, rfl⟩]
    rfl
  · obtain ⟨q1, q2⟩ := q
    unfold fv
    split
    · rfl
    · rename_i e0
      have e0 : q1 = 1 := e0
      rw [hL_sL, if_neg (fun z => hq (by rw [e0]; exact congrArg _ z.1))]
    · rfl
theorem lay_ok : ∀ c, c < 16 → ∀ q ∈ lay c, q.1 = 0 ∨ q.1 = 1 ∨ q.1 = 2 := by decide +kernel
theorem y_putR {cs : List Nat} {f idx c a : Nat} {t : List Int32} {ref o nm ds : String} {fin : Bool} {v : Rf} {ty : FieldType} (cx : Cx I own cc nL ret d hs ini) (hF : FE cs 2 f o nm ds fin) (hlk : LK own idx ref nm ds) (hsf : SF ref o nm ds) (hfin : fin = false ∨ (fin = true ∧ ini = true ∧ o = own ∧ Cond.fieldLink own idx ref nm ds ∈ lw_all)) (hd : decode cc pc = .ok (.putfield idx, 3)) (hc : c ∈ cs)
    (hpd : parseFieldDescriptor ds = some ty) (hty : (∃ n, ty = .object n) ∨ ∃ t, ty = .array t) (k : Y Eq I O (pc + 3) ls st (sR S f a v)) : Y Eq I O pc ls (vR v :: vR (some (c, a, t)) :: st) S := by
  have hob : ob c = true := (hF c hc).choose_spec.choose_spec.choose_spec.choose_spec.1
  refine y_putf (sR S f a v) cx hF hlk hsf hfin hd hc hpd (by rcases hty with ⟨n, rfl⟩ | ⟨n, rfl⟩ <;> cases v <;> rfl) (by rcases hty with ⟨n, rfl⟩ | ⟨n, rfl⟩ <;> cases v <;> rfl) (fun _ => rfl) rfl rfl rfl (fun b hb => ⟨fun _ => rfl, fun _ => rfl, fun g => ?_, rfl, fun _ => rfl, fun _ => rfl, fun _ => rfl⟩) (fun hl h g => ?_) rfl (fun _ => rfl) ?_ (fun q hm hq => ?_) k
  · rw [hR_sR, if_neg (fun z => hb z.2)]
  · rw [hR_sR]
    split
    · exact hl
    · exact h g
  · show cr (hR (sR S f a v) f a) = _
    rw [hR_sR, if_pos ⟨rfl, rfl⟩]
    rfl
  · obtain ⟨q1, q2⟩ := q
    have hq1 := lay_ok _ (ck_lt hob) _ hm
    unfold fv
    split
    · rfl
    · rfl
    · rename_i e0 e1
      have e2 : q1 = 2 := by
        rcases hq1 with z | z | z
        · exact absurd z e0
        · exact absurd z e1
        · exact z
      rw [hR_sR, if_neg (fun z => hq (by rw [e2]; exact congrArg _ z.1))]
end YH
