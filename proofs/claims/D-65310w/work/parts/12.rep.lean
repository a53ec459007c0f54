set_option maxRecDepth 100000
/-- what is fixed through a run: class numbers, array classes, the heap at the law's start, the String constants' addresses and their arrays' -/
abbrev GT : Type := va_G × (Nat → ClassId) × Heap × (Nat → Nat) × (Nat → Nat)
def gz (G : GT) : Nat := G.2.2.1.size
def gK (G : GT) : Nat → Nat := G.2.2.2.1
def gV (G : GT) : Nat → Nat := G.2.2.2.2
def gA (G : GT) : Nat → Prop := fun q => gz G ≤ q
def fv (S : HS) (q : Nat × Nat) (a : Nat) : Value := match q.1 with
  | 0 => .int (hI S q.2 a)
  | 1 => .long (hL S q.2 a)
  | _ => cr (hR S q.2 a)
/-- the cell that stands for an address of a kind -/
def cE (G : GT) (S : HS) (c a : Nat) : va_E :=
  if c < 16 then .inr (c, (lay c).map (fun q => fv S q a))
  else if c = 17 then .inr (14, (lay 14).map (fun q => fv S q a))
  else if c = 102 then .inl (G.2.1 2, hN S a, .inr (.inr (.inr (.inr (fun k => (hP S a k).map (fun q => q.2.1))))))
  else if c = 101 then .inl (G.2.1 1, hN S a, .inl (hY S a))
  else .inl (G.2.1 0, hN S a, .inl (hA S a))
def litT (j : Nat) : List Int32 := litByt.getD j []
def litB (j k : Nat) : Int32 := (litByt.getD j []).getD k 0
def litL (j : Nat) : Nat := (litByt.getD j []).length
/-- kinds whose cells are read off the field heap -/
def wr (c : Nat) : Bool := (decide (c < 16) && decide (c ≠ 5) && decide (c ≠ 14)) || decide (c = 17) || decide (c = 100) || decide (c = 101) || decide (c = 102)
/-- a text: letters of seven bits, not too many -/
def tok (t : List Int32) : Prop := t.length < 1000 ∧ ∀ b ∈ t, 0 ≤ b ∧ b ≤ 127
/-- String.hashCode -/
def hsh (t : List Int32) : Int32 := t.foldl (fun h b => 31 * h + b) 0
/-- the monitor of the object at a is free -/
def MF (H : Heap) (a : Nat) : Prop := ∀ cell : Cell, H[a]? = some cell → cell.monitor.owner = none ∧ cell.monitor.count = 0
/-- what a kind says of the machine's heap -/
def KC (G : GT) (S : HS) (H : Heap) (a c : Nat) (t : List Int32) : Prop :=
  (wr c = true ∧ t = [] ∧ gz G ≤ a ∧ va_at G.1 clW (a, cE G S c a) H) ∨
  (c = 5 ∧ t = [] ∧ gz G ≤ a ∧ MF H a ∧ ∃ w : List Value, w.length = 6 ∧ (hI S 99 a = 0 → w = [.null, .null, .null, .null, .null, .int 0]) ∧ va_at G.1 clW (a, .inr (5, w ++ [.int (hI S 52 a), .int (hI S 53 a)])) H) ∨
  (c = 14 ∧ gz G ≤ a ∧ ∃ (v : Nat) (h z : Int32), va_at G.1 clW (a, .inr (14, [.ref v, .int 0, .int h, .int z])) H ∧ hC S v = some (104, t) ∧ (h ≠ 0 → h = hsh t) ∧ (z ≠ 0 → hsh t = 0)) ∨
  (c = 104 ∧ gz G ≤ a ∧ tok t ∧ va_at G.1 clW (a, .inl (G.2.1 1, t.length, .inl (fun k => t.getD k 0))) H) ∨
  (c = 16 ∧ ∃ j, j < litN ∧ a = gK G j ∧ t = litT j) ∨
  (c = 103 ∧ ∃ j, j < litN ∧ a = gV G j ∧ t = litT j)
/-- a reference that names a cell of its kind and text -/
def lvR (S : HS) (r : Rf) : Prop := match r with
  | none => True
  | some q => hC S q.2.1 = some (q.1, q.2.2)
def lv (S : HS) (v : AV) : Prop := match v with
  | .inr (.inr r) => lvR S r
  | _ => True
def lvS (S : HS) : List AV → Prop
  | [] => True
  | v :: st => lv S v ∧ lvS S st
def lvL (S : HS) (ls : List (Option AV)) : Prop := ∀ (i : Nat) (v : AV), ls[i]? = some (some v) → lv S v
def Mono (S S' : HS) : Prop := ∀ a x, hC S a = some x → hC S' a = some x
theorem Mono.rf {S : HS} : Mono S S := fun _ _ h => h
theorem Mono.tr {S S1 S2 : HS} (h : Mono S S1) (h' : Mono S1 S2) : Mono S S2 := fun a x hx => h' a x (h a x hx)
theorem lvR.mono {S S' : HS} (h : Mono S S') {r : Rf} (k : lvR S r) : lvR S' r := by
  cases r with
  | none => trivial
  | some q => exact h _ _ k
theorem lv.mono {S S' : HS} (h : Mono S S') {v : AV} (k : lv S v) : lv S' v := by
  match v, k with
  | .inl x, _ => trivial
  | .inr (.inl x), _ => trivial
  | .inr (.inr r), k => exact lvR.mono h k
theorem lvS.mono {S S' : HS} (h : Mono S S') : ∀ {st : List AV}, lvS S st → lvS S' st
  | [], _ => trivial
  | _ :: _, k => ⟨lv.mono h k.1, lvS.mono h k.2⟩
theorem lvL.mono {S S' : HS} (h : Mono S S') {ls : List (Option AV)} (k : lvL S ls) : lvL S' ls := fun i v e => lv.mono h (k i v e)
def Rep (G : GT) (S : HS) (H : Heap) : Prop :=
  H.size = hZ S ∧ gz G ≤ H.size ∧ (∀ q : Nat, q < gz G → H[q]? = G.2.2.1[q]?) ∧
  (∀ a c t, hC S a = some (c, t) → a < hZ S ∧ KC G S H a c t) ∧ (∀ f a, lvR S (hR S f a)) ∧ (∀ a k, lvR S (hP S a k)) ∧
  ∀ j, j < litN → hC S (gK G j) = some (16, litT j) ∧ hC S (gV G j) = some (103, litT j)
/-- the same data at an address -/
def SD (S S' : HS) (b : Nat) : Prop := (∀ f, hI S' f b = hI S f b) ∧ (∀ f, hL S' f b = hL S f b) ∧ (∀ f, hR S' f b = hR S f b) ∧ hN S' b = hN S b ∧ (∀ k, hA S' b k = hA S b k) ∧ (∀ k, hY S' b k = hY S b k) ∧ ∀ k, hP S' b k = hP S b k
theorem cE_same {G : GT} {S S' : HS} {b d : Nat} (h : SD S S' b) : cE G S' d b = cE G S d b := by
  obtain ⟨o1, o2, o3, o4, o5, o6, o7⟩ := h
  unfold cE
  have e3 : (fun q => fv S' q b) = (fun q => fv S q b) := by
    funext q
    unfold fv
    rw [o1, o2, o3]
  have e4 : hP S' b = hP S b := funext o7
  have e5 : hA S' b = hA S b := funext o5
  have e6 : hY S' b = hY S b := funext o6
  rw [e3, e4, e5, e6, o4]
theorem KC.kept {G : GT} {S S' : HS} {H H' : Heap} {b d : Nat} {u : List Int32} (hd : SD S S' b) (hq : H'[b]? = H[b]?) (hm : Mono S S') (h : KC G S H b d u) : KC G S' H' b d u := by
  rcases h with ⟨h1, h2, h3, h4⟩ | ⟨h1, h2, h3, hmf, w, h4, hw0, h5⟩ | ⟨h1, h2, v, x, z, h3, h4, h5⟩ | ⟨h1, h2, h3, h4⟩ | h | h
  · exact Or.inl ⟨h1, h2, h3, by rw [cE_same hd]; exact h4.kept hq⟩
  · exact Or.inr (Or.inl ⟨h1, h2, h3, fun cell hc => hmf cell (by rw [← hq]; exact hc), w, h4, by rw [hd.1]; exact hw0, by rw [hd.1, hd.1]; exact h5.kept hq⟩)
  · exact Or.inr (Or.inr (Or.inl ⟨h1, h2, v, x, z, h3.kept hq, hm _ _ h4, h5⟩))
  · exact Or.inr (Or.inr (Or.inr (Or.inl ⟨h1, h2, h3, h4.kept hq⟩)))
  · exact Or.inr (Or.inr (Or.inr (Or.inr (Or.inl h))))
  · exact Or.inr (Or.inr (Or.inr (Or.inr (Or.inr h))))
theorem Rep.kc {G : GT} {S : HS} {H : Heap} (h : Rep G S H) {a c : Nat} {t : List Int32} (hc : hC S a = some (c, t)) : KC G S H a c t := (h.2.2.2.1 a c t hc).2
theorem Rep.lt {G : GT} {S : HS} {H : Heap} (h : Rep G S H) {a : Nat} {x : Nat × List Int32} (hc : hC S a = some x) : a < hZ S := (h.2.2.2.1 a x.1 x.2 hc).1
theorem Rep.at {G : GT} {S : HS} {H : Heap} (h : Rep G S H) {a c : Nat} {t : List Int32} (hc : hC S a = some (c, t)) (hw : wr c = true) : t = [] ∧ gz G ≤ a ∧ va_at G.1 clW (a, cE G S c a) H := by
  rcases h.kc hc with ⟨-, h2, h3, h4⟩ | ⟨h1, -⟩ | ⟨h1, -⟩ | ⟨h1, -⟩ | ⟨h1, -⟩ | ⟨h1, -⟩
  · exact ⟨h2, h3, h4⟩
  all_goals (subst h1; cases hw)
/-- one cell has changed -/
theorem Rep.set {G : GT} {S S' : HS} {H H1 : Heap} (h : Rep G S H) {a c : Nat} {t : List Int32} (hc : hC S a = some (c, t)) (hz : gz G ≤ a) (hC' : ∀ b, hC S' b = hC S b) (hZ' : hZ S' = hZ S)
    (ho : ∀ b, b ≠ a → SD S S' b) (hR' : ∀ f, lvR S (hR S' f a)) (hP' : ∀ k, lvR S (hP S' a k))
    (hs : H1.size = H.size) (hq : ∀ q : Nat, q ≠ a → H1[q]? = H[q]?) (ha : KC G S' H1 a c t) : Rep G S' H1 := by
  obtain ⟨r1, r2, r3, r4, r5, r6, r7⟩ := h
  have hm : Mono S S' := fun b x hx => by rw [hC']; exact hx
  refine ⟨by rw [hs, r1, hZ'], by rw [hs]; exact r2, fun q hlt => by rw [hq q (by omega)]; exact r3 q hlt, fun b d u hd => ?_, fun f b => ?_, fun b k => ?_, fun j hj => ?_⟩
  · rw [hC'] at hd
    rw [hZ']
    refine ⟨(r4 b d u hd).1, ?_⟩
    by_cases e : b = a
    · subst e
      cases hc.symm.trans hd
      exact ha
    · exact (r4 b d u hd).2.kept (ho b e) (hq b e) hm
  · by_cases e : b = a
    · subst e
      exact (hR' f).mono hm
    · rw [(ho b e).2.2.1]
      exact (r5 f b).mono hm
  · by_cases e : b = a
    · subst e
      exact (hP' k).mono hm
    · rw [(ho b e).2.2.2.2.2.2]
      exact (r6 b k).mono hm
  · rw [hC', hC']
    exact r7 j hj
/-- a cell has been made -/
theorem Rep.push {G : GT} {S S' : HS} {H H1 : Heap} (h : Rep G S H) {c : Nat} (hC' : ∀ b, hC S' b = if b = hZ S then some (c, []) else hC S b) (hZ' : hZ S' = hZ S + 1)
    (ho : ∀ b, b ≠ hZ S → SD S S' b) (hR' : ∀ f, hR S' f (hZ S) = none ∨ hR S' f (hZ S) = hR S f (hZ S)) (hP' : ∀ k, hP S' (hZ S) k = none ∨ hP S' (hZ S) k = hP S (hZ S) k)
    (hs : H1.size = H.size + 1) (hq : ∀ q : Nat, q < H.size → H1[q]? = H[q]?) (ha : KC G S' H1 (hZ S) c []) : Rep G S' H1 ∧ Mono S S' := by
  have hm : Mono S S' := fun b x hx => by rw [hC', if_neg (by have := h.lt hx; omega)]; exact hx
  refine ⟨?_, hm⟩
  obtain ⟨r1, r2, r3, r4, r5, r6, r7⟩ := h
  refine ⟨by rw [hs, r1, hZ'], by omega, fun q hlt => by rw [hq q (by omega)]; exact r3 q hlt, fun b d u hd => ?_, fun f b => ?_, fun b k => ?_, fun j hj => ?_⟩
  · rw [hC'] at hd
    rw [hZ']
    by_cases e : b = hZ S
    · rw [if_pos e] at hd
      cases hd
      subst e
      exact ⟨by omega, ha⟩
    · rw [if_neg e] at hd
      have := r4 b d u hd
      exact ⟨by omega, this.2.kept (ho b e) (hq b (by omega)) hm⟩
  · by_cases e : b = hZ S
    · subst e
      rcases hR' f with z | z
      · rw [z]; trivial
      · rw [z]; exact (r5 f _).mono hm
    · rw [(ho b e).2.2.1]
      exact (r5 f b).mono hm
  · by_cases e : b = hZ S
    · subst e
      rcases hP' k with z | z
      · rw [z]; trivial
      · rw [z]; exact (r6 _ k).mono hm
    · rw [(ho b e).2.2.2.2.2.2]
      exact (r6 b k).mono hm
  · exact ⟨hm _ _ (r7 j hj).1, hm _ _ (r7 j hj).2⟩
/-- the words that ride beside the lists: a nest mate's links, castable, declares -/
def nw : Cond → Bool
  | .fieldLinkNest .. => true
  | .methodLinkNest .. => true
  | .castable .. => true
  | .declares _ => true
  | .privateMethod _ => true
  | _ => false
theorem va_Nw.warmP {x : MethodName} {s U : State} (hW : s.WarmedH U.vm) (hZ : va_Nw (.privateMethod x) s) : va_Nw (.privateMethod x) U := va_tabs rfl (rfl : (s.setVm U.vm).vm = U.vm) (by rw [Cond.privateMethod_setVm hW.alike]; exact hZ)
theorem va_Nw.warm {w : Cond} (hw : nw w = true) {s U : State} (hW : s.WarmedH U.vm) (h : va_Nw w s) : va_Nw w U := by
  cases w <;> first | exact va_Nw.warmF hW h | exact va_Nw.warmM hW h | exact va_Nw.warmC hW h | exact va_Nw.warmD hW h | exact va_Nw.warmP hW h | (exact absurd hw Bool.false_ne_true)
def tysW (G : GT) : List (ClassId × FieldType) := [(G.2.1 0, .int), (G.2.1 1, .byte), (G.2.1 2, .object "ClassFileReader$Entry")]
/-- pairs of classes that are not castable: an instanceof that fails -/
def ncW : List (String × String) := [("ClassFileReader$Text", "ClassFileReader$Named"), ("ClassFileReader$Text", "ClassFileReader$Pair"), ("ClassFileReader$Text", "ClassFileReader$Constant"), ("ClassFileReader$Constant", "ClassFileReader$Text"), ("ClassFileReader$Constant", "ClassFileReader$Named"), ("ClassFileReader$Constant", "ClassFileReader$Pair"), ("ClassFileReader$Named", "ClassFileReader$Text"), ("ClassFileReader$Named", "ClassFileReader$Constant"), ("ClassFileReader$Named", "ClassFileReader$Pair"), ("ClassFileReader$Pair", "ClassFileReader$Text"), ("ClassFileReader$Pair", "ClassFileReader$Constant"), ("ClassFileReader$Pair", "ClassFileReader$Named")]
/-- a static field is laid, whatever else has become of the heap -/
def va_LS (G : GT) (o f d : String) (U : State) : Prop := ∀ (args : Array Value) (s' : State), s'.vm = U.vm → (∀ q : Nat, q < gz G → s'.heap[q]? = G.2.2.1[q]?) → (Cond.laysStatic o f d).before args s' = true
theorem va_LS.moved {G : GT} {o f d : String} {u U : State} (hvm : u.vm.Alike U.vm) (h : va_LS G o f d u) : va_LS G o f d U := by
  intro args s' hv hq
  have h1 := Cond.laysStatic_setVm (s := s'.setVm u.vm) (vm' := U.vm) hvm (h args (s'.setVm u.vm) rfl hq)
  have e : (s'.setVm u.vm).setVm U.vm = s' := by rw [← hv]; rfl
  rw [e] at h1
  exact h1
/-- what the tables say, all through a run -/
def EnvT (G : GT) (U : State) : Prop :=
  va_K G.1 clW (tysW G) U ∧ (∀ w ∈ lw_tbl, nw w = true → va_Nw w U) ∧
  (∀ j, j < litN → va_O "java/lang/String" (gK G j) (gA G) U G.2.2.1 ∧ va_OF "java/lang/String" "coder" "B" (.int 0) (gK G j) (gA G) U G.2.2.1 ∧ va_OF "java/lang/String" "value" "[B" (.ref (gV G j)) (gK G j) (gA G) U G.2.2.1 ∧ va_T .byte (gV G j) (litL j) (fun k => .int (litB j k)) (gA G) U G.2.2.1 ∧
    ∀ q, litKey[j]? = some q → vk_R q.1 q.2.1 q.2.2 (gK G j) U) ∧
  va_Z "java/lang/String" "COMPACT_STRINGS" "Z" (.int 1) (gA G) U G.2.2.1 ∧
  va_Zq "java/lang/Throwable" "UNASSIGNED_STACK" "[Ljava/lang/StackTraceElement;" (gA G) U G.2.2.1 ∧
  va_Zq "java/lang/Throwable" "SUPPRESSED_SENTINEL" "Ljava/util/List;" (gA G) U G.2.2.1 ∧
  va_Zq "jdk/internal/util/Preconditions" "SIOOBE_FORMATTER" "Ljava/util/function/BiFunction;" (gA G) U G.2.2.1 ∧
  va_AO "ClassFileReader$Entry" U ∧ (∀ q ∈ ncW, va_Nc q.1 q.2 U) ∧ va_LS G "java/lang/Throwable" "UNASSIGNED_STACK" "[Ljava/lang/StackTraceElement;" U ∧ va_LS G "java/lang/Throwable" "SUPPRESSED_SENTINEL" "Ljava/util/List;" U
theorem EnvT.moved {G : GT} {s U : State} (hW : s.WarmedH U.vm) (h : EnvT G s) : EnvT G U := by
  obtain ⟨h1, h2, h3, h4, h5, h6, h7, h8, h9, h10, h11⟩ := h
  refine ⟨va_K.moved hW.alike h1, fun w hw hn => (h2 w hw hn).warm hn hW, fun j hj => ?_, h4.moved hW.alike, h5.moved hW.alike, h6.moved hW.alike, h7.moved hW.alike, h8.moved hW.alike, fun q hq => (h9 q hq).moved hW.alike, h10.moved hW.alike, h11.moved hW.alike⟩
  obtain ⟨k1, k2, k3, k4, k5⟩ := h3 j hj
  exact ⟨k1.moved hW.alike, k2.moved hW.alike, k3.moved hW.alike, k4.moved hW.alike, fun q hq => (k5 q hq).warm hW⟩
