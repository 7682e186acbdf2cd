/-! Z: a thin layer over the kit's rows. E: the environment (class ids and slots, the start heap, array classes, the cache's boxes, strings, aux). -/
set_option maxRecDepth 100000
abbrev vwCl : List vw_C := [(RX1, TX1, 11), (RX2, TX2, 2), (RX3, TX3, 3), (RX4, TX4, 34), (RX5, TX5, 4), (RX6, TX6, 10), (RX7, TX7, 3), (RX8, TX8, 2), (RX9, TX5, 0), (RX10, TX10, 6), (RJ2, TJ2, 3), (RJ4, TJ4, 9), (RJ6, TJ6, 4), (RJ7, TJ7, 4), (RJ22, TJ22, 1), (RJ26, TJ26, 6), (RJ29, TJ29, 4)]
abbrev zE : Type := va_G × Heap × (Nat → ClassId) × (Nat → Nat) × (Nat → Nat) × (Nat → Nat) × (Nat → Nat)
def zTys (E : zE) : List (ClassId × FieldType) := [(E.2.2.1 0, .int), (E.2.2.1 1, .long), (E.2.2.1 2, .boolean), (E.2.2.1 3, .byte), (E.2.2.1 4, .object "java/lang/Object")]
def zB (E : zE) : Nat := E.2.1.size
/-- new cells: all that the start heap hasn't -/
def zNew (E : zE) : Nat → Prop := fun q => zB E ≤ q
/-- the start heap's cells stand as they were -/
def zOld (E : zE) (H : Heap) : Prop := zB E ≤ H.size ∧ ∀ q : Nat, q < zB E → H[q]? = E.2.1[q]?
/-- a new cell with what it holds -/
def zAt (E : zE) (H : Heap) (a : Nat) (e : va_E) : Prop := zB E ≤ a ∧ va_at E.1 vwCl (a, e) H
/-- an object to read, new or old -/
def zOb (E : zE) (H : Heap) (a ci : Nat) (fs : List Value) : Prop := ∃ cell : Cell, H[a]? = some cell ∧ cell.cls = E.1.1 ci ∧ cell.vm.isStatics = false ∧ cell.vm ≠ .unknown ∧ ∀ (k : Nat) (v : Value) (r : vw_C), vwCl[ci]? = some r → k < r.2.2 → fs[k]? = some v → cell.slots[E.1.2 ci k]? = some v
/-- an object of that class, new or old -/
def zIs (E : zE) (H : Heap) (a ci : Nat) : Prop := ∃ cell : Cell, H[a]? = some cell ∧ cell.cls = E.1.1 ci ∧ cell.vm.isStatics = false
theorem zOb.is {E : zE} {H : Heap} {a ci : Nat} {fs : List Value} (h : zOb E H a ci fs) : zIs E H a ci := by
  obtain ⟨cell, h1, h2, h3, -⟩ := h
  exact ⟨cell, h1, h2, h3⟩
theorem zAt.ob {E : zE} {H : Heap} {a ci : Nat} {fs : List Value} (h : zAt E H a (.inr (ci, fs))) : zOb E H a ci fs := by
  obtain ⟨-, r, h1, cell, h2, h3, h4, h5⟩ := h
  refine ⟨cell, h2, h3, (by rw [h4]; rfl), (by rw [h4]; exact fun z => nomatch z), fun k v r' hr hk hv => ?_⟩
  cases h1.symm.trans hr
  rw [h5 k hk]
  simp [vp_V, hv]
theorem zAt.is {E : zE} {H : Heap} {a ci : Nat} {fs : List Value} (h : zAt E H a (.inr (ci, fs))) : zIs E H a ci := h.ob.is
theorem zAt.lt {E : zE} {H : Heap} {a : Nat} {e : va_E} (h : zAt E H a e) : a < H.size := h.2.lt
theorem zAt.new {E : zE} {H : Heap} {a : Nat} {e : va_E} (h : zAt E H a e) : zB E ≤ a := h.1
theorem zIs.lt {E : zE} {H : Heap} {a ci : Nat} (h : zIs E H a ci) : a < H.size := by
  obtain ⟨cell, h1, -⟩ := h
  exact (Array.getElem?_eq_some_iff.mp h1).1
theorem zAt.kept {E : zE} {H H1 : Heap} {a : Nat} {e : va_E} (h : zAt E H a e) (hq : H1[a]? = H[a]?) : zAt E H1 a e := ⟨h.1, h.2.kept hq⟩
theorem zOb.kept {E : zE} {H H1 : Heap} {a ci : Nat} {fs : List Value} (h : zOb E H a ci fs) (hq : H1[a]? = H[a]?) : zOb E H1 a ci fs := by
  obtain ⟨cell, h1, h2⟩ := h
  exact ⟨cell, by rw [hq]; exact h1, h2⟩
theorem zIs.kept {E : zE} {H H1 : Heap} {a ci : Nat} (h : zIs E H a ci) (hq : H1[a]? = H[a]?) : zIs E H1 a ci := by
  obtain ⟨cell, h1, h2⟩ := h
  exact ⟨cell, by rw [hq]; exact h1, h2⟩
theorem zOb.old {E : zE} {H : Heap} {a ci : Nat} {fs : List Value} (h : zOb E E.2.1 a ci fs) (ho : zOld E H) : zOb E H a ci fs := by
  obtain ⟨cell, h1, h2⟩ := h
  exact ⟨cell, by rw [ho.2 a (Array.getElem?_eq_some_iff.mp h1).1]; exact h1, h2⟩
/-! the words that aren't in lw_all, and are kept all the same -/
def zkeep : Cond → Bool
  | .fieldLinkNest _ _ _ _ _ _ => true
  | .methodLinkNest _ _ _ _ => true
  | .castable _ _ => true
  | .publicMethod _ => true
  | .declares _ => true
  | .unhidden _ _ _ => true
  | .arrayOver (.object _) => true
  | .privateMethod _ => true
  | _ => false
theorem zkeep_warm {w : Cond} (h : zkeep w = true) {s U : State} (hW : s.WarmedH U.vm) (hw : va_Nw w s) : va_Nw w U := by
  cases w with
  | fieldLinkNest a i b n d hh => exact va_Nw.warmF hW hw
  | methodLinkNest a i x hh => exact va_Nw.warmM hW hw
  | castable a b => exact va_Nw.warmC hW hw
  | publicMethod x => exact va_tabs rfl (rfl : (s.setVm U.vm).vm = U.vm) (by rw [Cond.publicMethod_setVm hW.alike]; exact hw)
  | declares x => exact va_Nw.warmD hW hw
  | privateMethod x => exact Cond.privateMethod_warm hW hw
  | unhidden a b c => exact va_tabs rfl (rfl : (s.setVm U.vm).vm = U.vm) (by rw [Cond.unhidden_setVm hW.alike]; exact hw)
  | arrayOver t =>
    cases t with
    | object C => exact va_AO.moved hW.alike hw
    | _ => cases h
  | _ => cases h

/-- interface calls: the receiver's class, the interface's method, the method that runs -/
abbrev zIfs : List (String × MethodName × MethodName) := [
  ("java/util/ArrayList", ⟨"java/util/List", "size", "()I"⟩, ⟨"java/util/ArrayList", "size", "()I"⟩),
  ("java/util/ArrayList", ⟨"java/util/List", "get", "(I)Ljava/lang/Object;"⟩, ⟨"java/util/ArrayList", "get", "(I)Ljava/lang/Object;"⟩),
  ("java/util/ArrayList", ⟨"java/util/List", "add", "(Ljava/lang/Object;)Z"⟩, ⟨"java/util/ArrayList", "add", "(Ljava/lang/Object;)Z"⟩),
  ("java/util/TreeMap", ⟨"java/util/Map", "get", "(Ljava/lang/Object;)Ljava/lang/Object;"⟩, ⟨"java/util/TreeMap", "get", "(Ljava/lang/Object;)Ljava/lang/Object;"⟩),
  ("java/util/TreeMap", ⟨"java/util/Map", "put", "(Ljava/lang/Object;Ljava/lang/Object;)Ljava/lang/Object;"⟩, ⟨"java/util/TreeMap", "put", "(Ljava/lang/Object;Ljava/lang/Object;)Ljava/lang/Object;"⟩),
  ("java/util/TreeMap", ⟨"java/util/Map", "remove", "(Ljava/lang/Object;)Ljava/lang/Object;"⟩, ⟨"java/util/TreeMap", "remove", "(Ljava/lang/Object;)Ljava/lang/Object;"⟩),
  ("Holdtag$InState$1", ⟨"java/util/Iterator", "hasNext", "()Z"⟩, ⟨"Holdtag$InState$1", "hasNext", "()Z"⟩),
  ("Holdtag$InState$1", ⟨"java/util/Iterator", "next", "()Ljava/lang/Object;"⟩, ⟨"Holdtag$InState$1", "next", "()Ljava/lang/Object;"⟩),
  ("Holdtag$Earlier", ⟨"java/util/Comparator", "compare", "(Ljava/lang/Object;Ljava/lang/Object;)I"⟩, ⟨"Holdtag$Earlier", "compare", "(Ljava/lang/Object;Ljava/lang/Object;)I"⟩),
  ("java/lang/Integer", ⟨"java/lang/Comparable", "compareTo", "(Ljava/lang/Object;)I"⟩, ⟨"java/lang/Integer", "compareTo", "(Ljava/lang/Object;)I"⟩),
  ("Holdtag$Folder", ⟨"Holdtag$Numbered", "number", "()I"⟩, ⟨"Holdtag$Folder", "number", "()I"⟩),
  ("Holdtag$Tag", ⟨"Holdtag$Numbered", "number", "()I"⟩, ⟨"Holdtag$Tag", "number", "()I"⟩),
  ("Holdtag$Item", ⟨"Holdtag$Numbered", "number", "()I"⟩, ⟨"Holdtag$Item", "number", "()I"⟩),
  ("Holdtag$Hold", ⟨"Holdtag$Numbered", "number", "()I"⟩, ⟨"Holdtag$Hold", "number", "()I"⟩)]

/-- pairs that aren't castable: an exception of the first class isn't caught by a handler for the second -/
abbrev zNcs : List (String × String) := [("java/lang/IllegalStateException", "java/lang/IndexOutOfBoundsException"), ("java/lang/IllegalArgumentException", "java/lang/IndexOutOfBoundsException"), ("java/lang/IllegalStateException", "java/lang/IllegalArgumentException")]
/-- the literals: class, pool entry, text, number of the object -/
abbrev zStrs : List (String × Nat × String × Nat) := [("Holdtag$Tag", 24, "delete", 0), ("Holdtag$Tag", 26, "archive", 1), ("Holdtag$Tag", 28, "never", 2), ("Holdtag", 151, "delete", 0), ("Holdtag", 156, "archive", 1), ("Holdtag", 358, " end ", 3), ("Holdtag", 360, " held", 4), ("Holdtag", 362, "", 5), ("Holdtag$Numbered", 9, "in", 6), ("Holdtag$Numbered", 11, "archived", 7), ("Holdtag$Numbered", 13, "deleted", 8), ("Holdtag$Numbered", 15, "gone", 9)]
/-- the literals' bytes and hashes -/
def zStrB : List (List Int32) := [[100, 101, 108, 101, 116, 101], [97, 114, 99, 104, 105, 118, 101], [110, 101, 118, 101, 114], [32, 101, 110, 100, 32], [32, 104, 101, 108, 100], [], [105, 110], [97, 114, 99, 104, 105, 118, 101, 100], [100, 101, 108, 101, 116, 101, 100], [103, 111, 110, 101]]
def zStrH : List Int32 := [-1335458389, -748101438, 104712844, 32670405, 32751445, 0, 3365, -1716307998, 1550463001, 3178655]
def zStrZ : List Int32 := [0, 0, 0, 0, 0, 1, 0, 0, 0, 0]
/-- the statics that are read: class, name, descriptor, value -/
def zStat (E : zE) : List (String × String × String × Value) := [("java/util/ArrayList", "DEFAULTCAPACITY_EMPTY_ELEMENTDATA", "[Ljava/lang/Object;", .ref (E.2.2.2.2.2.2 0)), ("java/lang/String", "COMPACT_STRINGS", "Z", .int 1), ("java/lang/Integer$IntegerCache", "high", "I", .int 127), ("java/lang/Integer$IntegerCache", "cache", "[Ljava/lang/Integer;", .ref (E.2.2.2.2.2.2 1)), ("java/lang/Integer", "DigitTens", "[B", .ref (E.2.2.2.2.2.2 2)), ("java/lang/Integer", "DigitOnes", "[B", .ref (E.2.2.2.2.2.2 3))]
def zKN (E : zE) (U : State) : Prop :=
  va_K E.1 vwCl (zTys E) U ∧ (∀ w ∈ lw_tbl, zkeep w = true → va_Nw w U) ∧ (∀ q ∈ zIfs, va_Fw q.1 q.2.1 q.2.2 U) ∧ (∀ q ∈ zStrs, vk_R q.1 q.2.1 q.2.2.1 (E.2.2.2.2.1 q.2.2.2) U) ∧ (∀ q ∈ zNcs, va_Nc q.1 q.2 U) ∧
  (∀ q ∈ zStat E, va_Z q.1 q.2.1 q.2.2.1 q.2.2.2 (zNew E) U E.2.1) ∧ (vx_Zq Bundle.tN "UNASSIGNED_STACK" Bundle.steD (zNew E) U E.2.1 ∧ vx_Zq Bundle.tN "SUPPRESSED_SENTINEL" Bundle.listD (zNew E) U E.2.1 ∧ va_Zq "jdk/internal/util/Preconditions" "SIOOBE_FORMATTER" "Ljava/util/function/BiFunction;" (zNew E) U E.2.1) ∧
  (va_T (.object "java/lang/Object") (E.2.2.2.2.2.2 0) 0 (fun _ => .null) (zNew E) U E.2.1 ∧ va_T (.object "java/lang/Integer") (E.2.2.2.2.2.2 1) 256 (fun k => .ref (E.2.2.2.1 k)) (zNew E) U E.2.1 ∧
    va_T .byte (E.2.2.2.2.2.2 2) 100 (fun k => .int (nI (48 + k / 10))) (zNew E) U E.2.1 ∧ va_T .byte (E.2.2.2.2.2.2 3) 100 (fun k => .int (nI (48 + k % 10))) (zNew E) U E.2.1 ∧
    ∀ i : Nat, i < 10 → va_T .byte (E.2.2.2.2.2.1 i) (zStrB.getD i []).length (fun k => .int ((zStrB.getD i []).getD k 0)) (zNew E) U E.2.1) ∧
  (∀ k : Nat, k < 256 → zOb E E.2.1 (E.2.2.2.1 k) 14 [.int (vb_c k)]) ∧ (∀ i : Nat, i < 10 → zOb E E.2.1 (E.2.2.2.2.1 i) 13 [.ref (E.2.2.2.2.2.1 i), .int 0, .int (zStrH.getD i 0), .int (zStrZ.getD i 0)]) ∧
  (Cond.landsInDefault "Holdtag$Hold" ⟨"Holdtag$Numbered", "bit", "()I"⟩ ⟨"Holdtag$Numbered", "bit", "()I"⟩).before #[] U = true ∧ (Cond.interfaceMethod "Holdtag$Numbered" "Holdtag$Numbered" "bit" "()I").before #[] U = true ∧ va_Mi "[Ljava/lang/Object;" (E.2.2.2.2.2.2 4) U ∧ va_Nw (.methodLink "java/util/AbstractQueue" 20 ⟨"java/util/AbstractQueue", "poll", "()Ljava/lang/Object;"⟩) U ∧ va_Nw (.sameMethod "java/util/AbstractQueue" "java/util/Queue" "poll" "()Ljava/lang/Object;") U
theorem zIfs_cls : ∀ q ∈ zIfs, q.2.1.cls ≠ "java/lang/invoke/MethodHandle" ∧ q.2.1.cls ≠ "java/lang/invoke/VarHandle" := by decide +kernel
theorem zKN.warm {E : zE} {s U : State} (hW : s.WarmedH U.vm) (h : zKN E s) : zKN E U := by
  obtain ⟨h1, h2, h3, h4, h5, h6, ⟨h7, h8, h9⟩, ⟨g1, g2, g3, g4, g5⟩, k1, k2, k3, k4, k5, k6, k7⟩ := h
  have hv := hW.alike
  have tr : ∀ {c : Cond}, c.onTables = true → c.before #[] (s.setVm U.vm) = true → c.before #[] U = true := fun hc hh => va_tabs hc (rfl : (s.setVm U.vm).vm = U.vm) hh
  have hd : va_Nw (.declares ⟨"Holdtag$Numbered", "bit", "()I"⟩) s := h2 _ q1744 rfl
  obtain ⟨r, meth, hn, -⟩ := Cond.declares_spec hd
  have hnt : (⟨"Holdtag$Numbered", "bit", "()I"⟩ : MethodName).cls ≠ "java/lang/invoke/MethodHandle" ∧ (⟨"Holdtag$Numbered", "bit", "()I"⟩ : MethodName).cls ≠ "java/lang/invoke/VarHandle" := ⟨by decide, by decide⟩
  have hn2 : (s.setVm U.vm).methodNamed? ⟨"Holdtag$Numbered", "bit", "()I"⟩ = some r := by rw [State.methodNamed?_setVm hv]; exact hn
  have hf : (s.setVm U.vm).methodFound? "Holdtag$Numbered" "bit" "()I" = s.methodFound? "Holdtag$Numbered" "bit" "()I" := (State.methodFound?_of_named hn2 hnt).trans (State.methodFound?_of_named hn hnt).symm
  have hld : (Cond.landsInDefault "Holdtag$Hold" ⟨"Holdtag$Numbered", "bit", "()I"⟩ ⟨"Holdtag$Numbered", "bit", "()I"⟩).before #[] U = true := by
    have h9 := (Cond.landsInDefault_setVm (args := #[]) (args' := #[]) hv (cls := "Holdtag$Hold") (x := ⟨"Holdtag$Numbered", "bit", "()I"⟩) (y := ⟨"Holdtag$Numbered", "bit", "()I"⟩) hf).trans k3
    simp only [Cond.before, Cond.holds, Cond.value, State.vm_setVm] at h9 ⊢
    exact h9
  exact ⟨h1.moved hv, fun w hw hk => zkeep_warm hk hW (h2 w hw hk), fun q hq => (h3 q hq).moved (zIfs_cls q hq) hv, fun q hq => vk_R.warm hW (h4 q hq), fun q hq => (h5 q hq).moved hv, fun q hq => (h6 q hq).moved hv,
    ⟨h7.moved hv, h8.moved hv, h9.moved hv⟩, ⟨g1.moved hv, g2.moved hv, g3.moved hv, g4.moved hv, fun i hi => (g5 i hi).moved hv⟩, k1, k2,
    hld, tr rfl (by rw [Cond.interfaceMethod_setVm hv (r := r) hn ⟨by decide, by decide⟩]; exact k4), k5.moved hv, va_tabs rfl (rfl : (s.setVm U.vm).vm = U.vm) (Cond.methodLink_shiftedUp (State.Shifted.of_warmed hW) (owner := "java/util/Queue") k7 k6), va_tabs rfl (rfl : (s.setVm U.vm).vm = U.vm) (Cond.sameMethod_setVm hv (by decide) k7)⟩
theorem zKN.mir {E : zE} {U : State} (h : zKN E U) : va_Mi "[Ljava/lang/Object;" (E.2.2.2.2.2.2 4) U := h.2.2.2.2.2.2.2.2.2.2.2.2.1
theorem zKN.pol1 {E : zE} {U : State} (h : zKN E U) : va_Nw (.methodLink "java/util/AbstractQueue" 20 ⟨"java/util/AbstractQueue", "poll", "()Ljava/lang/Object;"⟩) U := h.2.2.2.2.2.2.2.2.2.2.2.2.2.1
theorem zKN.pol2 {E : zE} {U : State} (h : zKN E U) : va_Nw (.sameMethod "java/util/AbstractQueue" "java/util/Queue" "poll" "()Ljava/lang/Object;") U := h.2.2.2.2.2.2.2.2.2.2.2.2.2.2
theorem zKN.calling {E : zE} {U : State} {g : JFrame} {mk : MethodId} {a : Array Value} (h : zKN E U) : zKN E (U.calling g mk a) := zKN.warm (s := U) (show U.WarmedH (U.calling g mk a).vm from State.WarmedH.refl U) h
/-! the walk: κ holds the machine's fixed things and what the method owes (its post P, its post X when it throws, its locals' number, its cells and slots) -/
abbrev zC : Type := Program × Launch × Env × Room × State × MethodId × Array Value × List Frame × Method × Code × (Option Value → Heap → Prop) × (String → Heap → Prop) × Nat × Nat × Nat
/-- the locals by their places -/
def zlp : Nat → List (Option Value) → List (Nat × Value)
  | _, [] => []
  | i, none :: r => zlp (i + 1) r
  | i, some v :: r => (i, v) :: zlp (i + 1) r
def zget : List (Option Value) → Nat → Option Value
  | [], _ => none
  | x :: _, 0 => x
  | _ :: r, i + 1 => zget r i
def zset : List (Option Value) → Nat → Value → List (Option Value)
  | [], _, _ => []
  | _ :: r, 0, v => some v :: r
  | x :: r, i + 1, v => x :: zset r i v
/-- .. and no cell is lost since the state s -/
def zOS (E : zE) (s : State) (H : Heap) : Prop := zOld E H ∧ s.heap.size ≤ H.size
def zQc (E : zE) (P : Option Value → Heap → Prop) : Array Value → State → Outcome → State → Prop := fun _ st o t => ∃ v, o = .returned v ∧ P v t.heap ∧ zOS E st t.heap
def zXc (E : zE) (X : String → Heap → Prop) : String → State → State → Prop := fun C st t => X C t.heap ∧ zOS E st t.heap
/-- what holds all through a walk of the method y -/
def zOK (κ : zC) (E : zE) (d : Nat) (y : MethodName) (cc : ByteArray) (ret : Option FieldType) (hh : List (Nat × Nat × Nat × Nat)) (nL mc ms : Nat) (P : Option Value → Heap → Prop) (X : String → Heap → Prop) : Prop :=
  match κ with
  | (p, l, e, R, s, m, args, below, meth, c, P', X', nL', mc', ms') => p.tables.exec = Jvm.exec ∧ c.code = cc ∧ c.maxLocals = nL ∧ s.vm.findClass y.cls = some m.cls ∧ (∀ w ∈ lw_all, w.before args s = true) ∧ zKN E s ∧ meth.locks = false ∧ zOld E s.heap ∧ l.stackTraces = false ∧ meth.sig.returnType = ret ∧ meth.name = y.name ∧ c.exceptionTable.toList = tableOf hh ∧ R = ({ frames := d, cells := mc, slots := ms, locals := 40 * d } : Room) ∧ P' = P ∧ X' = X ∧ nL' = nL ∧ mc' = mc ∧ ms' = ms
/-- the machine comes to the method's end from here: heap H, k cells and n slots made, at pc, locals L, stack st -/
def zV (κ : zC) (E : zE) (H : Heap) (k n pc : Nat) (L : List (Option Value)) (st : List Value) : Prop :=
  match κ with
  | (p, l, e, R, s, m, args, below, meth, c, P, X, nL, mc, ms) => ∀ (ls : Array Slot) (locs : List Loc), lv_has ls nL (zlp 0 L) → (∀ q ∈ locs, zNew E q.base) → zOS E s H → W p l e R s m args below meth c H locs k n (vx_MQ below (zQc E P) (zXc E X) args s mc ms (zNew E)) (F0 m pc ls st)
/-- .. with an exception of class C at q on its way -/
def zT (κ : zC) (E : zE) (H : Heap) (k n pc : Nat) (L : List (Option Value)) (st : List Value) (C : String) (q : Nat) : Prop :=
  match κ with
  | (p, l, e, R, s, m, args, below, meth, c, P, X, nL, mc, ms) => ∀ (ls : Array Slot) (locs : List Loc) (ce : Cell), lv_has ls nL (zlp 0 L) → (∀ q ∈ locs, zNew E q.base) → zOS E s H → H[q]? = some ce → ce.vm = .none → s.vm.findClass C = some ce.cls → vx_W p l e R s m args below meth c H locs k n (vx_MQ below (zQc E P) (zXc E X) args s mc ms (zNew E)) (F0 m pc ls st) q
/-- A METHOD'S CONTRACT from the heap H with the arguments av: it returns with P, or throws with X -/
def zM (E : zE) (d : Nat) (y : MethodName) (ws : List Cond) (mc ms : Nat) (H : Heap) (av : List Value) (P : Option Value → Heap → Prop) (X : String → Heap → Prop) : Prop :=
  ∀ l : Launch, l.stackTraces = false → zOld E H → vx_Met l y ws ({ frames := d, cells := mc, slots := ms, locals := 40 * d } : Room) (fun v U => v = av.toArray ∧ U.heap = H ∧ zKN E U) (zQc E P) (zXc E X) mc ms (zNew E)
def zNX : String → Heap → Prop := fun _ _ => False
