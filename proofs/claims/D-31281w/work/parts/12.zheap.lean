/-! Z rows: the heap, calls; printed by gen/zheap.py -/
set_option maxRecDepth 100000
abbrev zI (E : zE) (t n : Nat) (f : Nat → Int32) : va_E := .inl (E.2.2.1 t, n, .inl f)
abbrev zJ (E : zE) (n : Nat) (f : Nat → Int64) : va_E := .inl (E.2.2.1 1, n, .inr (.inl f))
abbrev zQ (E : zE) (n : Nat) (f : Nat → Option Nat) : va_E := .inl (E.2.2.1 4, n, .inr (.inr (.inr (.inr f))))
/-- one cell is written -/
def zWr (E : zE) (H : Heap) (a : Nat) (x : va_E) (H1 : Heap) : Prop := zAt E H1 a x ∧ H1.size = H.size ∧ ∀ q : Nat, q ≠ a → H1[q]? = H[q]?
/-- one cell is made -/
def zMk (E : zE) (H : Heap) (q : Nat) (x : va_E) (H1 : Heap) : Prop := q = H.size ∧ zAt E H1 q x ∧ H1.size = H.size + 1 ∧ ∀ r : Nat, r < H.size → H1[r]? = H[r]?
theorem zOld.wr {E : zE} {H H1 : Heap} {a : Nat} (h : zOld E H) (ha : zB E ≤ a) (z : H1.size = H.size) (oq : ∀ q : Nat, q ≠ a → H1[q]? = H[q]?) : zOld E H1 :=
  ⟨by rw [z]; exact h.1, fun q hq => (oq q (by omega)).trans (h.2 q hq)⟩
theorem zOld.mk {E : zE} {H H1 : Heap} (h : zOld E H) (z : H1.size = H.size + 1) (oq : ∀ q : Nat, q < H.size → H1[q]? = H[q]?) : zOld E H1 :=
  ⟨by rw [z]; exact Nat.le_succ_of_le h.1, fun q hq => (oq q (Nat.lt_of_lt_of_le hq h.1)).trans (h.2 q hq)⟩
theorem zOS.wr {E : zE} {s : State} {H H1 : Heap} {a : Nat} (h : zOS E s H) (ha : zB E ≤ a) (z : H1.size = H.size) (oq : ∀ q : Nat, q ≠ a → H1[q]? = H[q]?) : zOS E s H1 := ⟨h.1.wr ha z oq, by rw [z]; exact h.2⟩
theorem zOS.mk {E : zE} {s : State} {H H1 : Heap} (h : zOS E s H) (z : H1.size = H.size + 1) (oq : ∀ q : Nat, q < H.size → H1[q]? = H[q]?) : zOS E s H1 := ⟨h.1.mk z oq, by rw [z]; exact Nat.le_succ_of_le h.2⟩
theorem zlocs {E : zE} {locs : List Loc} {a i : Nat} (h : ∀ q ∈ locs, zNew E q.base) (ha : zB E ≤ a) : ∀ q ∈ locs ++ [⟨a, i⟩], zNew E q.base := t_lc h ha
theorem zrf_nar (C : String) (r : Option Nat) : narrow (.object C) (va_rf r) = va_rf r := by cases r <;> rfl
theorem zrf_fit (C : String) (r : Option Nat) : fits (.object C) (va_rf r) = true := by cases r <;> rfl
theorem z_recv {E : zE} {s : State} {H : Heap} {a ci : Nat} {q : vw_C} (hK : zKN E s) (h : zIs E H a ci) (hc : vwCl[ci]? = some q) : ∃ cell : Cell, H[a]? = some cell ∧ cell.vm.isStatics = false ∧ s.vm.findClass q.1 = some cell.cls := by
  obtain ⟨cell, h1, h2, h3⟩ := h
  exact ⟨cell, h1, h3, by rw [h2]; exact (hK.1.1 ci q hc).2.1⟩
section ZH
variable {κ : zC} {E : zE} {d : Nat} {y : MethodName} {cc : ByteArray} {ret : Option FieldType} {hh : List (Nat × Nat × Nat × Nat)} {nL mc ms : Nat} {P : Option Value → Heap → Prop} {X : String → Heap → Prop} {H : Heap} {k n pc : Nat} {L : List (Option Value)} {st : List Value} {a : Nat}
theorem z_get (ok : zOK κ E d y cc ret hh nL mc ms P X) {ci j idx N : Nat} {C ref : String} {T : u_T} (hc : vwCl[ci]? = some (C, T, N)) (hin : ∀ w ∈ u_ws C T N, w ∈ lw_all) (hj : j < N) (hlink : Cond.fieldLink y.cls idx ref (T j).2.1 (T j).2.2.1 ∈ lw_all) (hsame : ref = (T j).1 ∨ Cond.sameField ref (T j).1 (T j).2.1 (T j).2.2.1 ∈ lw_all) {fs : List Value} {v : Value} (hob : zOb E H a ci fs) (hv : fs[j]? = some v) (dd : decode cc pc = .ok (.getfield idx, 3)) (kk : zV κ E H k n (pc + 3) L (v :: st)) : zV κ E H k n pc L (.ref a :: st) := by
  obtain ⟨p, l, e, R, s, m, args, below, meth, c, P', X', nL', mc', ms'⟩ := κ
  obtain ⟨hx, hb, hml, hown, hts, hKN, hlk, hho, hst, hrt, hnm, htab, hR, rfl, rfl, rfl, rfl, rfl⟩ := ok
  intro ls locs hl hlo ho
  obtain ⟨cell, q1, q2, q3, q4, q5⟩ := hob
  obtain ⟨hS, hfc, kC, hkC, hkind⟩ := hKN.1.1 ci _ hc
  obtain ⟨cf, kf, fi, f, hi, hsl⟩ := hS j hj
  have hsm : s.fieldFound? ref (T j).2.1 (T j).2.2.1 = some (cf, kf, fi, f) := by
    rcases hsame with h | h
    · rw [h]; exact hi
    · exact u_same (hts _ h) _ hi
  refine W.getf hx hb hown (hts _ hlink) hsm (u_facts hfc hkC (u_lays hts hin hj) hi).1 q1 q4 (v := v) ?_ rfl rfl dd (kk ls locs hl hlo ho)
  rw [hsl]
  exact q5 j v _ hc hj hv
theorem z_getN (ok : zOK κ E d y cc ret hh nL mc ms P X) {ci j idx N : Nat} {C ref : String} {T : u_T} (hc : vwCl[ci]? = some (C, T, N)) (hin : ∀ w ∈ u_ws C T N, w ∈ lw_all) (hj : j < N) {host : String} (hlink : Cond.fieldLinkNest y.cls idx ref (T j).2.1 (T j).2.2.1 host ∈ lw_tbl) (hsame : ref = (T j).1 ∨ Cond.sameField ref (T j).1 (T j).2.1 (T j).2.2.1 ∈ lw_all) {fs : List Value} {v : Value} (hob : zOb E H a ci fs) (hv : fs[j]? = some v) (dd : decode cc pc = .ok (.getfield idx, 3)) (kk : zV κ E H k n (pc + 3) L (v :: st)) : zV κ E H k n pc L (.ref a :: st) := by
  obtain ⟨p, l, e, R, s, m, args, below, meth, c, P', X', nL', mc', ms'⟩ := κ
  obtain ⟨hx, hb, hml, hown, hts, hKN, hlk, hho, hst, hrt, hnm, htab, hR, rfl, rfl, rfl, rfl, rfl⟩ := ok
  intro ls locs hl hlo ho
  obtain ⟨cell, q1, q2, q3, q4, q5⟩ := hob
  obtain ⟨hS, hfc, kC, hkC, hkind⟩ := hKN.1.1 ci _ hc
  obtain ⟨cf, kf, fi, f, hi, hsl⟩ := hS j hj
  have hsm : s.fieldFound? ref (T j).2.1 (T j).2.2.1 = some (cf, kf, fi, f) := by
    rcases hsame with h | h
    · rw [h]; exact hi
    · exact u_same (hts _ h) _ hi
  refine va_Wgetf hx hb hown (va_Nw.use rfl (hKN.2.1 _ hlink rfl)) hsm (u_facts hfc hkC (u_lays hts hin hj) hi).1 q1 q4 (v := v) ?_ rfl rfl dd (kk ls locs hl hlo ho)
  rw [hsl]
  exact q5 j v _ hc hj hv
theorem z_put (ok : zOK κ E d y cc ret hh nL mc ms P X) {ci j idx N : Nat} {C ref : String} {T : u_T} (hc : vwCl[ci]? = some (C, T, N)) (hin : ∀ w ∈ u_ws C T N, w ∈ lw_all) (ty0 : Nat → FieldType) (hty : ∀ k, k < N → parseFieldDescriptor (T k).2.2.1 = some (ty0 k)) (hnm0 : ∀ a, a < N → ∀ b, b < N → a ≠ b → (T a).2.1 ≠ (T b).2.1) (hj : j < N) (hlink : Cond.fieldLink y.cls idx ref (T j).2.1 (T j).2.2.1 ∈ lw_all) (hsame : ref = (T j).1 ∨ Cond.sameField ref (T j).1 (T j).2.1 (T j).2.2.1 ∈ lw_all) (hfin : (T j).2.2.2 = false) {ty : FieldType} {v : Value} (hd : parseFieldDescriptor (T j).2.2.1 = some ty) (hnr : narrow ty v = v) (hfit : fits ty v = true) {fs : List Value} (hat : zAt E H a (.inr (ci, fs))) (hlf : j < fs.length) (dd : decode cc pc = .ok (.putfield idx, 3)) (kk : ∀ H1, zWr E H a (.inr (ci, fs.set j v)) H1 → zV κ E H1 k n (pc + 3) L st) : zV κ E H k n pc L (v :: .ref a :: st) := by
  obtain ⟨p, l, e, R, s, m, args, below, meth, c, P', X', nL', mc', ms'⟩ := κ
  obtain ⟨hx, hb, hml, hown, hts, hKN, hlk, hho, hst, hrt, hnm, htab, hR, rfl, rfl, rfl, rfl, rfl⟩ := ok
  intro ls locs hl hlo ho
  have hap := va_apart (own := y.cls) hts hin ty0 hty hnm0 hKN.1 hc
  obtain ⟨hnew, r, h1, cell, q1, q2, q3, q4⟩ := hat
  have hr : r = (C, T, N) := Option.some.inj (h1.symm.trans hc)
  subst hr
  obtain ⟨hS, hfc, kC, hkC, hkind⟩ := hKN.1.1 ci _ hc
  obtain ⟨cf, kf, fi, f, hi, hsl⟩ := hS j hj
  have hlay := hts _ (hin _ (u_in_lay hj))
  unfold u_lay at hlay
  rw [if_neg (by rw [hfin]; decide)] at hlay
  have hst := (u_facts hfc hkC (u_lays hts hin hj) hi).1
  have hsm : s.fieldFound? ref (T j).2.1 (T j).2.2.1 = some (cf, kf, fi, f) := by
    rcases hsame with h | h
    · rw [h]; exact hi
    · exact u_same (hts _ h) _ hi
  have h6 := u_store hfc hkC hkind hlay hi hd hnr hfit
  refine W.putK hx hb (f := f) ⟨hown, (hts _ hlink), ⟨_, _, _, hsm⟩, hst⟩ (by rw [q2]; exact h6) q1 q3 (by rw [hsl]; exact k2_hasslot (q4 j hj)) rfl rfl dd fun H' e1 e2 e3 => ?_
  rw [hsl] at e1
  exact kk H' ⟨⟨hnew, _, hc, t_OB.to (V := updV (vp_V fs) j v) ⟨_, e1, q2, q3, t_set q4 hap hj v⟩ (fun i _ => vp_updV_set hlf v i)⟩, e2, e3⟩ ls _ hl (zlocs hlo hnew) (ho.wr hnew e2 e3)
theorem z_putN (ok : zOK κ E d y cc ret hh nL mc ms P X) {ci j idx N : Nat} {C ref : String} {T : u_T} (hc : vwCl[ci]? = some (C, T, N)) (hin : ∀ w ∈ u_ws C T N, w ∈ lw_all) (ty0 : Nat → FieldType) (hty : ∀ k, k < N → parseFieldDescriptor (T k).2.2.1 = some (ty0 k)) (hnm0 : ∀ a, a < N → ∀ b, b < N → a ≠ b → (T a).2.1 ≠ (T b).2.1) (hj : j < N) {host : String} (hlink : Cond.fieldLinkNest y.cls idx ref (T j).2.1 (T j).2.2.1 host ∈ lw_tbl) (hsame : ref = (T j).1 ∨ Cond.sameField ref (T j).1 (T j).2.1 (T j).2.2.1 ∈ lw_all) (hfin : (T j).2.2.2 = false) {ty : FieldType} {v : Value} (hd : parseFieldDescriptor (T j).2.2.1 = some ty) (hnr : narrow ty v = v) (hfit : fits ty v = true) {fs : List Value} (hat : zAt E H a (.inr (ci, fs))) (hlf : j < fs.length) (dd : decode cc pc = .ok (.putfield idx, 3)) (kk : ∀ H1, zWr E H a (.inr (ci, fs.set j v)) H1 → zV κ E H1 k n (pc + 3) L st) : zV κ E H k n pc L (v :: .ref a :: st) := by
  obtain ⟨p, l, e, R, s, m, args, below, meth, c, P', X', nL', mc', ms'⟩ := κ
  obtain ⟨hx, hb, hml, hown, hts, hKN, hlk, hho, hst, hrt, hnm, htab, hR, rfl, rfl, rfl, rfl, rfl⟩ := ok
  intro ls locs hl hlo ho
  have hap := va_apart (own := y.cls) hts hin ty0 hty hnm0 hKN.1 hc
  obtain ⟨hnew, r, h1, cell, q1, q2, q3, q4⟩ := hat
  have hr : r = (C, T, N) := Option.some.inj (h1.symm.trans hc)
  subst hr
  obtain ⟨hS, hfc, kC, hkC, hkind⟩ := hKN.1.1 ci _ hc
  obtain ⟨cf, kf, fi, f, hi, hsl⟩ := hS j hj
  have hlay := hts _ (hin _ (u_in_lay hj))
  unfold u_lay at hlay
  rw [if_neg (by rw [hfin]; decide)] at hlay
  have hst := (u_facts hfc hkC (u_lays hts hin hj) hi).1
  have hsm : s.fieldFound? ref (T j).2.1 (T j).2.2.1 = some (cf, kf, fi, f) := by
    rcases hsame with h | h
    · rw [h]; exact hi
    · exact u_same (hts _ h) _ hi
  have h6 := u_store hfc hkC hkind hlay hi hd hnr hfit
  refine va_WputK hx hb (f := f) hown (va_Nw.use rfl (hKN.2.1 _ hlink rfl)) hsm hst (by rw [q2]; exact h6) q1 q3 (by rw [hsl]; exact k2_hasslot (q4 j hj)) rfl rfl dd fun H' e1 e2 e3 => ?_
  rw [hsl] at e1
  exact kk H' ⟨⟨hnew, _, hc, t_OB.to (V := updV (vp_V fs) j v) ⟨_, e1, q2, q3, t_set q4 hap hj v⟩ (fun i _ => vp_updV_set hlf v i)⟩, e2, e3⟩ ls _ hl (zlocs hlo hnew) (ho.wr hnew e2 e3)
theorem z_putF (ok : zOK κ E d y cc ret hh nL mc ms P X) {ci j idx N : Nat} {C ref : String} {T : u_T} (hc : vwCl[ci]? = some (C, T, N)) (hin : ∀ w ∈ u_ws C T N, w ∈ lw_all) (ty0 : Nat → FieldType) (hty : ∀ k, k < N → parseFieldDescriptor (T k).2.2.1 = some (ty0 k)) (hnm0 : ∀ a, a < N → ∀ b, b < N → a ≠ b → (T a).2.1 ≠ (T b).2.1) (hj : j < N) (hlink : Cond.fieldLink y.cls idx ref (T j).2.1 (T j).2.2.1 ∈ lw_all) (hsame : ref = (T j).1 ∨ Cond.sameField ref (T j).1 (T j).2.1 (T j).2.2.1 ∈ lw_all) (hfin : (T j).2.2.2 = true) (hinit : y.name = "<init>") (hdecl : (T j).1 = y.cls) {ty : FieldType} {v : Value} (hd : parseFieldDescriptor (T j).2.2.1 = some ty) (hnr : narrow ty v = v) (hfit : fits ty v = true) {fs : List Value} (hat : zAt E H a (.inr (ci, fs))) (hlf : j < fs.length) (dd : decode cc pc = .ok (.putfield idx, 3)) (kk : ∀ H1, zWr E H a (.inr (ci, fs.set j v)) H1 → zV κ E H1 k n (pc + 3) L st) : zV κ E H k n pc L (v :: .ref a :: st) := by
  obtain ⟨p, l, e, R, s, m, args, below, meth, c, P', X', nL', mc', ms'⟩ := κ
  obtain ⟨hx, hb, hml, hown, hts, hKN, hlk, hho, hst, hrt, hnm, htab, hR, rfl, rfl, rfl, rfl, rfl⟩ := ok
  intro ls locs hl hlo ho
  have hap := va_apart (own := y.cls) hts hin ty0 hty hnm0 hKN.1 hc
  obtain ⟨hnew, r, h1, cell, q1, q2, q3, q4⟩ := hat
  have hr : r = (C, T, N) := Option.some.inj (h1.symm.trans hc)
  subst hr
  obtain ⟨hS, hfc, kC, hkC, hkind⟩ := hKN.1.1 ci _ hc
  obtain ⟨cf, kf, fi, f, hi, hsl⟩ := hS j hj
  have hlay := hts _ (hin _ (u_in_lay hj))
  unfold u_lay at hlay
  rw [if_pos hfin] at hlay
  have hst := (u_facts hfc hkC (u_lays hts hin hj) hi).1
  have hsm : s.fieldFound? ref (T j).2.1 (T j).2.2.1 = some (cf, kf, fi, f) := by
    rcases hsame with h | h
    · rw [h]; exact hi
    · exact u_same (hts _ h) _ hi
  have hcf : m.cls = cf := by
    obtain ⟨_, _, c', _, _, _, -, -, hf', -, -, -, hown2, -⟩ := Cond.laysFinal_spec hlay
    have e1 : c' = cf := by have := hi.symm.trans hf'; simp at this; exact this.1.symm
    rw [hdecl] at hown2
    rw [← e1]; exact Option.some.inj (hown.symm.trans hown2)
  have h6 := u_fits hfc hkC hkind (Or.inr hlay) hi hd hnr hfit
  refine W.putFinK hx hb hown (hts _ hlink) hsm hst hcf (hnm.trans hinit) (by rw [q2]; exact h6) q1 q3 (by rw [hsl]; exact k2_hasslot (q4 j hj)) rfl rfl dd fun H' e1 e2 e3 => ?_
  rw [hsl] at e1
  exact kk H' ⟨⟨hnew, _, hc, t_OB.to (V := updV (vp_V fs) j v) ⟨_, e1, q2, q3, t_set q4 hap hj v⟩ (fun i _ => vp_updV_set hlf v i)⟩, e2, e3⟩ ls _ hl (zlocs hlo hnew) (ho.wr hnew e2 e3)
theorem z_new (ok : zOK κ E d y cc ret hh nL mc ms P X) {ci idx N : Nat} {C : String} {T : u_T} (hc : vwCl[ci]? = some (C, T, N)) (hin : ∀ w ∈ u_ws C T N, w ∈ lw_all) (ty : Nat → FieldType) (hty : ∀ k, k < N → parseFieldDescriptor (T k).2.2.1 = some (ty k)) (hcl : Cond.classLink y.cls idx C ∈ lw_all) (hinst : Cond.instantiable C N ∈ lw_all) (hini : Cond.initialized C ∈ lw_all) {fs : List Value} (hfs : ∀ j, j < N → defaultValue (ty j) = vp_V fs j) (dd : decode cc pc = .ok (.new idx, 3)) (hk : k + 1 ≤ mc) (hn : n + N ≤ ms) (kk : ∀ q H1, zMk E H q (.inr (ci, fs)) H1 → zV κ E H1 (k + 1) (n + N) (pc + 3) L (.ref q :: st)) : zV κ E H k n pc L st := by
  obtain ⟨p, l, e, R, s, m, args, below, meth, c, P', X', nL', mc', ms'⟩ := κ
  obtain ⟨hx, hb, hml, hown, hts, hKN, hlk, hho, hst, hrt, hnm, htab, hR, rfl, rfl, rfl, rfl, rfl⟩ := ok
  intro ls locs hl hlo ho
  subst hR
  have hKn := hKN.1.1 ci _ hc
  refine W.newcK hx hb hown (hts _ hcl) (hts _ hinst) (hts _ hini) rfl dd hk hn hKn.2.1 rfl fun H1 kC hkC e1 z1 o1 => ?_
  exact kk H.size H1 ⟨rfl, ⟨ho.1.1, _, hc, (u_born ty hts hin hKn hkC e1 hty).to hfs⟩, z1, o1⟩ ls locs hl hlo (ho.mk z1 o1)
theorem z_objInit (ok : zOK κ E d y cc ret hh nL mc ms P X) {idx : Nat} (hlink : Cond.methodLink y.cls idx objectInit ∈ lw_all) (dd : decode cc pc = .ok (.invokespecial idx, 3)) (hd1 : 1 ≤ d) (kk : zV κ E H k n (pc + 3) L st) (hrm : (st.map fun v => v.category).sum ≤ 20 := by decide) : zV κ E H k n pc L (.ref a :: st) := by
  obtain ⟨p, l, e, R, s, m, args, below, meth, c, P', X', nL', mc', ms'⟩ := κ
  obtain ⟨hx, hb, hml, hown, hts, hKN, hlk, hho, hst, hrt, hnm, htab, hR, rfl, rfl, rfl, rfl, rfl⟩ := ok
  intro ls locs hl hlo ho
  subst hR
  exact W.objInit hx hb hown (hts _ hlink) (hts _ q105) (hts _ q106) rfl (by rw [hml]; exact hl.1) rfl dd hd1 (by show 2 * 0 + _ + 12 ≤ 40 * d; omega) (kk ls locs hl hlo ho)
theorem z_iald (ok : zOK κ E d y cc ret hh nL mc ms P X) {N j : Nat} {f : Nat → Int32} {i : Int32} (hat : zAt E H a (zI E 0 N f)) (hi : i = nI j) (hj : j < N) (dd : decode cc pc = .ok (.iaload, 1)) (kk : zV κ E H k n (pc + 1) L (.int (f j) :: st)) (hN : N < 2147483648 := by decide) : zV κ E H k n pc L (.int i :: .ref a :: st) := by
  obtain ⟨p, l, e, R, s, m, args, below, meth, c, P', X', nL', mc', ms'⟩ := κ
  obtain ⟨hx, hb, hml, hown, hts, hKN, hlk, hho, hst, hrt, hnm, htab, hR, rfl, rfl, rfl, rfl, rfl⟩ := ok
  intro ls locs hl hlo ho
  have hc : (nI j).toNatClampNeg = j := nI_clamp (by omega)
  have hin := vp_in_nI hj (show N < 2 ^ 31 by omega)
  rw [hi]
  refine W.iald (v := .int (f j)) hx hb hat.2 ((hKN.1.2 0 _ rfl).1 N (fun j => .int (f j))) (fun q => by cases q) (by show ¬ (nI j < 0 ∨ (arrV _ _ _).slots.size ≤ _); rw [arrV_size]; exact hin) (by show (arrV _ _ _).slots[_]? = _; rw [hc, arrV_read _ _ hj]) rfl rfl dd (kk ls locs hl hlo ho)
theorem z_bald (ok : zOK κ E d y cc ret hh nL mc ms P X) {N j : Nat} {f : Nat → Int32} {i : Int32} (hat : zAt E H a (zI E 3 N f)) (hi : i = nI j) (hj : j < N) (dd : decode cc pc = .ok (.baload, 1)) (kk : zV κ E H k n (pc + 1) L (.int (f j) :: st)) (hN : N < 2147483648 := by decide) : zV κ E H k n pc L (.int i :: .ref a :: st) := by
  obtain ⟨p, l, e, R, s, m, args, below, meth, c, P', X', nL', mc', ms'⟩ := κ
  obtain ⟨hx, hb, hml, hown, hts, hKN, hlk, hho, hst, hrt, hnm, htab, hR, rfl, rfl, rfl, rfl, rfl⟩ := ok
  intro ls locs hl hlo ho
  have hc : (nI j).toNatClampNeg = j := nI_clamp (by omega)
  have hin := vp_in_nI hj (show N < 2 ^ 31 by omega)
  rw [hi]
  refine W.bald (v := .int (f j)) hx hb hat.2 ((hKN.1.2 3 _ rfl).1 N (fun j => .int (f j))) (fun q => by cases q) (by show ¬ (nI j < 0 ∨ (arrV _ _ _).slots.size ≤ _); rw [arrV_size]; exact hin) (by show (arrV _ _ _).slots[_]? = _; rw [hc, arrV_read _ _ hj]) rfl rfl dd (kk ls locs hl hlo ho)
theorem z_zald (ok : zOK κ E d y cc ret hh nL mc ms P X) {N j : Nat} {f : Nat → Int32} {i : Int32} (hat : zAt E H a (zI E 2 N f)) (hi : i = nI j) (hj : j < N) (dd : decode cc pc = .ok (.baload, 1)) (kk : zV κ E H k n (pc + 1) L (.int (f j) :: st)) (hN : N < 2147483648 := by decide) : zV κ E H k n pc L (.int i :: .ref a :: st) := by
  obtain ⟨p, l, e, R, s, m, args, below, meth, c, P', X', nL', mc', ms'⟩ := κ
  obtain ⟨hx, hb, hml, hown, hts, hKN, hlk, hho, hst, hrt, hnm, htab, hR, rfl, rfl, rfl, rfl, rfl⟩ := ok
  intro ls locs hl hlo ho
  have hc : (nI j).toNatClampNeg = j := nI_clamp (by omega)
  have hin := vp_in_nI hj (show N < 2 ^ 31 by omega)
  rw [hi]
  refine W.zald (v := .int (f j)) hx hb hat.2 ((hKN.1.2 2 _ rfl).1 N (fun j => .int (f j))) (fun q => by cases q) (by show ¬ (nI j < 0 ∨ (arrV _ _ _).slots.size ≤ _); rw [arrV_size]; exact hin) (by show (arrV _ _ _).slots[_]? = _; rw [hc, arrV_read _ _ hj]) rfl rfl dd (kk ls locs hl hlo ho)
theorem z_lald (ok : zOK κ E d y cc ret hh nL mc ms P X) {N j : Nat} {f : Nat → Int64} {i : Int32} (hat : zAt E H a (zJ E N f)) (hi : i = nI j) (hj : j < N) (dd : decode cc pc = .ok (.laload, 1)) (kk : zV κ E H k n (pc + 1) L (.long (f j) :: st)) (hN : N < 2147483648 := by decide) : zV κ E H k n pc L (.int i :: .ref a :: st) := by
  obtain ⟨p, l, e, R, s, m, args, below, meth, c, P', X', nL', mc', ms'⟩ := κ
  obtain ⟨hx, hb, hml, hown, hts, hKN, hlk, hho, hst, hrt, hnm, htab, hR, rfl, rfl, rfl, rfl, rfl⟩ := ok
  intro ls locs hl hlo ho
  have hc : (nI j).toNatClampNeg = j := nI_clamp (by omega)
  have hin := vp_in_nI hj (show N < 2 ^ 31 by omega)
  rw [hi]
  refine W.lald (v := .long (f j)) hx hb hat.2 ((hKN.1.2 1 _ rfl).1 N (fun j => .long (f j))) (fun q => by cases q) (by show ¬ (nI j < 0 ∨ (arrV _ _ _).slots.size ≤ _); rw [arrV_size]; exact hin) (by show (arrV _ _ _).slots[_]? = _; rw [hc, arrV_read _ _ hj]) rfl rfl dd (kk ls locs hl hlo ho)
theorem z_aald (ok : zOK κ E d y cc ret hh nL mc ms P X) {N j : Nat} {f : Nat → Option Nat} {i : Int32} (hat : zAt E H a (zQ E N f)) (hi : i = nI j) (hj : j < N) (dd : decode cc pc = .ok (.aaload, 1)) (kk : zV κ E H k n (pc + 1) L (va_rf (f j) :: st)) (hN : N < 2147483648 := by decide) : zV κ E H k n pc L (.int i :: .ref a :: st) := by
  obtain ⟨p, l, e, R, s, m, args, below, meth, c, P', X', nL', mc', ms'⟩ := κ
  obtain ⟨hx, hb, hml, hown, hts, hKN, hlk, hho, hst, hrt, hnm, htab, hR, rfl, rfl, rfl, rfl, rfl⟩ := ok
  intro ls locs hl hlo ho
  have hc : (nI j).toNatClampNeg = j := nI_clamp (by omega)
  have hin := vp_in_nI hj (show N < 2 ^ 31 by omega)
  rw [hi]
  exact W.aald (v := va_rf (f j)) (ty := .object "java/lang/Object") hx hb hat.2 ((hKN.1.2 4 _ rfl).1 N (fun j => va_rf (f j))) rfl (fun q => by cases q) (by show ¬ (nI j < 0 ∨ (arrV _ _ _).slots.size ≤ _); rw [arrV_size]; exact hin) (by show (arrV _ _ _).slots[_]? = _; rw [hc, arrV_read _ _ hj]) rfl rfl dd (kk ls locs hl hlo ho)
theorem z_iast (ok : zOK κ E d y cc ret hh nL mc ms P X) {N j : Nat} {f : Nat → Int32} {i : Int32} {x : Int32} (hat : zAt E H a (zI E 0 N (f))) (hi : i = nI j) (hj : j < N) (dd : decode cc pc = .ok (.iastore, 1)) (kk : ∀ H1, zWr E H a (zI E 0 N (upd f j x)) H1 → zV κ E H1 k n (pc + 1) L st) (hN : N < 2147483648 := by decide) : zV κ E H k n pc L (.int x :: .int i :: .ref a :: st) := by
  obtain ⟨p, l, e, R, s, m, args, below, meth, c, P', X', nL', mc', ms'⟩ := κ
  obtain ⟨hx, hb, hml, hown, hts, hKN, hlk, hho, hst, hrt, hnm, htab, hR, rfl, rfl, rfl, rfl, rfl⟩ := ok
  intro ls locs hl hlo ho
  have hc : (nI j).toNatClampNeg = j := nI_clamp (by omega)
  have hin := vp_in_nI hj (show N < 2 ^ 31 by omega)
  rw [hi]
  refine W.iast hx hb hat.2 ((hKN.1.2 0 _ rfl).1 N (fun j => .int (f j))) (fun q => by cases q) (by show ¬ (nI j < 0 ∨ (arrV _ _ _).slots.size ≤ _); rw [arrV_size]; exact hin) rfl rfl dd fun H1 e1 z1 oq => ?_
  refine kk H1 ⟨⟨hat.1, ?_⟩, z1, oq⟩ ls _ hl (zlocs hlo hat.1) (ho.wr hat.1 z1 oq)
  show H1[a]? = some (vp_cell _ _)
  rw [e1]
  rw [vp_cell_i, vp_cell_i, arrV_store, hc]
  congr 2
  funext q
  by_cases hq : q = j
  · subst hq
    simp [updV, upd]
    try (first | rfl | (rw [← hw]; rfl) | exact hw)
  · simp [updV, upd, hq]
theorem z_bast (ok : zOK κ E d y cc ret hh nL mc ms P X) {N j : Nat} {f : Nat → Int32} {i : Int32} {x : Int32} {w : Int32} (hw : vp_nar .byte x = w) (hat : zAt E H a (zI E 3 N (f))) (hi : i = nI j) (hj : j < N) (dd : decode cc pc = .ok (.bastore, 1)) (kk : ∀ H1, zWr E H a (zI E 3 N (upd f j w)) H1 → zV κ E H1 k n (pc + 1) L st) (hN : N < 2147483648 := by decide) : zV κ E H k n pc L (.int x :: .int i :: .ref a :: st) := by
  obtain ⟨p, l, e, R, s, m, args, below, meth, c, P', X', nL', mc', ms'⟩ := κ
  obtain ⟨hx, hb, hml, hown, hts, hKN, hlk, hho, hst, hrt, hnm, htab, hR, rfl, rfl, rfl, rfl, rfl⟩ := ok
  intro ls locs hl hlo ho
  have hc : (nI j).toNatClampNeg = j := nI_clamp (by omega)
  have hin := vp_in_nI hj (show N < 2 ^ 31 by omega)
  rw [hi]
  refine W.bast hx hb hat.2 ((hKN.1.2 3 _ rfl).1 N (fun j => .int (f j))) (fun q => by cases q) (by show ¬ (nI j < 0 ∨ (arrV _ _ _).slots.size ≤ _); rw [arrV_size]; exact hin) rfl rfl dd fun H1 e1 z1 oq => ?_
  refine kk H1 ⟨⟨hat.1, ?_⟩, z1, oq⟩ ls _ hl (zlocs hlo hat.1) (ho.wr hat.1 z1 oq)
  show H1[a]? = some (vp_cell _ _)
  rw [e1]
  rw [vp_cell_i, vp_cell_i, arrV_store, hc]
  congr 2
  funext q
  by_cases hq : q = j
  · subst hq
    simp [updV, upd, vp_nar]
    try (first | rfl | (rw [← hw]; rfl) | exact hw)
  · simp [updV, upd, vp_nar, hq]
theorem z_zast (ok : zOK κ E d y cc ret hh nL mc ms P X) {N j : Nat} {f : Nat → Int32} {i : Int32} {x : Int32} {w : Int32} (hw : vp_nar .boolean x = w) (hat : zAt E H a (zI E 2 N (f))) (hi : i = nI j) (hj : j < N) (dd : decode cc pc = .ok (.bastore, 1)) (kk : ∀ H1, zWr E H a (zI E 2 N (upd f j w)) H1 → zV κ E H1 k n (pc + 1) L st) (hN : N < 2147483648 := by decide) : zV κ E H k n pc L (.int x :: .int i :: .ref a :: st) := by
  obtain ⟨p, l, e, R, s, m, args, below, meth, c, P', X', nL', mc', ms'⟩ := κ
  obtain ⟨hx, hb, hml, hown, hts, hKN, hlk, hho, hst, hrt, hnm, htab, hR, rfl, rfl, rfl, rfl, rfl⟩ := ok
  intro ls locs hl hlo ho
  have hc : (nI j).toNatClampNeg = j := nI_clamp (by omega)
  have hin := vp_in_nI hj (show N < 2 ^ 31 by omega)
  rw [hi]
  refine W.zast hx hb hat.2 ((hKN.1.2 2 _ rfl).1 N (fun j => .int (f j))) (fun q => by cases q) (by show ¬ (nI j < 0 ∨ (arrV _ _ _).slots.size ≤ _); rw [arrV_size]; exact hin) rfl rfl dd fun H1 e1 z1 oq => ?_
  refine kk H1 ⟨⟨hat.1, ?_⟩, z1, oq⟩ ls _ hl (zlocs hlo hat.1) (ho.wr hat.1 z1 oq)
  show H1[a]? = some (vp_cell _ _)
  rw [e1]
  rw [vp_cell_i, vp_cell_i, arrV_store, hc]
  congr 2
  funext q
  by_cases hq : q = j
  · subst hq
    simp [updV, upd, vp_nar]
    try (first | rfl | (rw [← hw]; rfl) | exact hw)
  · simp [updV, upd, vp_nar, hq]
theorem z_last (ok : zOK κ E d y cc ret hh nL mc ms P X) {N j : Nat} {f : Nat → Int64} {i : Int32} {x : Int64} (hat : zAt E H a (zJ E N (f))) (hi : i = nI j) (hj : j < N) (dd : decode cc pc = .ok (.lastore, 1)) (kk : ∀ H1, zWr E H a (zJ E N (vp_updL f j x)) H1 → zV κ E H1 k n (pc + 1) L st) (hN : N < 2147483648 := by decide) : zV κ E H k n pc L (.long x :: .int i :: .ref a :: st) := by
  obtain ⟨p, l, e, R, s, m, args, below, meth, c, P', X', nL', mc', ms'⟩ := κ
  obtain ⟨hx, hb, hml, hown, hts, hKN, hlk, hho, hst, hrt, hnm, htab, hR, rfl, rfl, rfl, rfl, rfl⟩ := ok
  intro ls locs hl hlo ho
  have hc : (nI j).toNatClampNeg = j := nI_clamp (by omega)
  have hin := vp_in_nI hj (show N < 2 ^ 31 by omega)
  rw [hi]
  refine W.last hx hb hat.2 ((hKN.1.2 1 _ rfl).1 N (fun j => .long (f j))) (fun q => by cases q) (by show ¬ (nI j < 0 ∨ (arrV _ _ _).slots.size ≤ _); rw [arrV_size]; exact hin) rfl rfl dd fun H1 e1 z1 oq => ?_
  refine kk H1 ⟨⟨hat.1, ?_⟩, z1, oq⟩ ls _ hl (zlocs hlo hat.1) (ho.wr hat.1 z1 oq)
  show H1[a]? = some (vp_cell _ _)
  rw [e1]
  rw [vp_cell_l, vp_cell_l, arrV_store, hc]
  congr 2
  funext q
  by_cases hq : q = j
  · subst hq
    simp [updV, vp_updL]
    try (first | rfl | (rw [← hw]; rfl) | exact hw)
  · simp [updV, vp_updL, hq]
/-- the object at v may lie in a row of java/lang/Object -/
def zAny (E : zE) (U : State) (H : Heap) (v : Nat) : Prop := va_Any "java/lang/Object" U H v
theorem zAny.of {s : State} {ci : Nat} {q : vw_C} (hK : zKN E s) (h : zIs E H a ci) (hc : vwCl[ci]? = some q) (hcast : Cond.castable q.1 "java/lang/Object" ∈ lw_tbl) : zAny E s H a := by
  obtain ⟨cell, h1, h2, h3⟩ := z_recv hK h hc
  obtain ⟨kC, hkC, -⟩ := Vm.findClass_spec h3
  exact ⟨cell, h1, h2, ⟨kC, hkC⟩, fun comp hcp => vb_asgC (hK.2.1 _ hcast rfl) comp _ hcp h3⟩
/-- classes whose objects lie in rows -/
def zLie (ci : Nat) : Prop := ∃ q : vw_C, vwCl[ci]? = some q ∧ Cond.castable q.1 "java/lang/Object" ∈ lw_tbl
theorem z_aast (ok : zOK κ E d y cc ret hh nL mc ms P X) {N j v ci : Nat} {f : Nat → Option Nat} {i : Int32} (hat : zAt E H a (zQ E N f)) (hi : i = nI j) (hj : j < N) (hv : zIs E H v ci) (hlie : zLie ci) (dd : decode cc pc = .ok (.aastore, 1)) (kk : ∀ H1, zWr E H a (zQ E N (va_up f j (some v))) H1 → zV κ E H1 k n (pc + 1) L st) (hN : N < 2147483648 := by decide) : zV κ E H k n pc L (.ref v :: .int i :: .ref a :: st) := by
  obtain ⟨p, l, e, R, s, m, args, below, meth, c, P', X', nL', mc', ms'⟩ := κ
  obtain ⟨hx, hb, hml, hown, hts, hKN, hlk, hho, hst, hrt, hnm, htab, hR, rfl, rfl, rfl, rfl, rfl⟩ := ok
  intro ls locs hl hlo ho
  have hc : (nI j).toNatClampNeg = j := nI_clamp (by omega)
  have hin := vp_in_nI hj (show N < 2 ^ 31 by omega)
  obtain ⟨q, hq1, hq2⟩ := hlie
  obtain ⟨cellV, g1, g3, ⟨kC, hkC⟩, hasg⟩ := zAny.of hKN hv hq1 hq2
  obtain ⟨kA, comp, k1, k2, k3, -⟩ := (hKN.1.2 4 _ rfl).2
  obtain ⟨kE, hkE, -⟩ := Vm.findClass_spec k3
  rw [hi]
  refine W.aast hx hb hat.2 (fun q h => by cases h) (fun h => by cases h) k1 k2 rfl hkE ⟨fun q => hin (Or.inl q), by show _ < (arrV _ _ _).slots.size; rw [arrV_size, hc]; exact hj⟩ g1 (fun q h => by rw [h] at g3; cases g3) hkC (hasg _ k3) rfl rfl dd fun H1 e1 z1 oq => ?_
  refine kk H1 ⟨⟨hat.1, ?_⟩, z1, oq⟩ ls _ hl (zlocs hlo hat.1) (ho.wr hat.1 z1 oq)
  show H1[a]? = some (vp_cell _ _)
  rw [e1]
  rw [vp_cell_q, vp_cell_q, arrV_store, hc]
  congr 2
  funext q
  by_cases hq : q = j
  · subst hq
    simp [updV, va_up, va_rf]
  · simp [updV, va_up, hq]
theorem z_aastN (ok : zOK κ E d y cc ret hh nL mc ms P X) {N j : Nat} {f : Nat → Option Nat} {i : Int32} (hat : zAt E H a (zQ E N f)) (hi : i = nI j) (hj : j < N) (dd : decode cc pc = .ok (.aastore, 1)) (kk : ∀ H1, zWr E H a (zQ E N (va_up f j none)) H1 → zV κ E H1 k n (pc + 1) L st) (hN : N < 2147483648 := by decide) : zV κ E H k n pc L (.null :: .int i :: .ref a :: st) := by
  obtain ⟨p, l, e, R, s, m, args, below, meth, c, P', X', nL', mc', ms'⟩ := κ
  obtain ⟨hx, hb, hml, hown, hts, hKN, hlk, hho, hst, hrt, hnm, htab, hR, rfl, rfl, rfl, rfl, rfl⟩ := ok
  intro ls locs hl hlo ho
  have hc : (nI j).toNatClampNeg = j := nI_clamp (by omega)
  have hin := vp_in_nI hj (show N < 2 ^ 31 by omega)
  rw [hi]
  refine va_WaastN hx hb hat.2 ((hKN.1.2 4 _ rfl).1 N (fun j => va_rf (f j))) (fun q => by cases q) (by show ¬ (nI j < 0 ∨ (arrV _ _ _).slots.size ≤ _); rw [arrV_size]; exact hin) rfl rfl dd fun H1 e1 z1 oq => ?_
  refine kk H1 ⟨⟨hat.1, ?_⟩, z1, oq⟩ ls _ hl (zlocs hlo hat.1) (ho.wr hat.1 z1 oq)
  show H1[a]? = some (vp_cell _ _)
  rw [e1]
  rw [vp_cell_q, vp_cell_q, arrV_store, hc]
  congr 2
  funext q
  by_cases hq : q = j
  · subst hq
    simp [updV, va_up, va_rf]
  · simp [updV, va_up, hq]
theorem z_alenI (ok : zOK κ E d y cc ret hh nL mc ms P X) {t N : Nat} {f : Nat → Int32} (ht : t = 0 ∨ t = 2 ∨ t = 3) (hat : zAt E H a (zI E t N f)) (dd : decode cc pc = .ok (.arraylength, 1)) (kk : zV κ E H k n (pc + 1) L (.int (nI N) :: st)) : zV κ E H k n pc L (.ref a :: st) := by
  obtain ⟨p, l, e, R, s, m, args, below, meth, c, P', X', nL', mc', ms'⟩ := κ
  obtain ⟨hx, hb, hml, hown, hts, hKN, hlk, hho, hst, hrt, hnm, htab, hR, rfl, rfl, rfl, rfl, rfl⟩ := ok
  intro ls locs hl hlo ho
  rcases ht with rfl | rfl | rfl
  · exact W.alen (n := nI N) hx hb hat.2 ((hKN.1.2 0 _ rfl).1 N (fun j => .int (f j))) (by show (vp_cell _ _).slots.size.toInt32 = _; rw [vp_cell_i, arrV_size] <;> rfl) rfl rfl dd (kk ls locs hl hlo ho)
  · exact W.alen (n := nI N) hx hb hat.2 ((hKN.1.2 2 _ rfl).1 N (fun j => .int (f j))) (by show (vp_cell _ _).slots.size.toInt32 = _; rw [vp_cell_i, arrV_size] <;> rfl) rfl rfl dd (kk ls locs hl hlo ho)
  · exact W.alen (n := nI N) hx hb hat.2 ((hKN.1.2 3 _ rfl).1 N (fun j => .int (f j))) (by show (vp_cell _ _).slots.size.toInt32 = _; rw [vp_cell_i, arrV_size] <;> rfl) rfl rfl dd (kk ls locs hl hlo ho)
theorem z_alenQ (ok : zOK κ E d y cc ret hh nL mc ms P X) {N : Nat} {f : Nat → Option Nat} (hat : zAt E H a (zQ E N f)) (dd : decode cc pc = .ok (.arraylength, 1)) (kk : zV κ E H k n (pc + 1) L (.int (nI N) :: st)) : zV κ E H k n pc L (.ref a :: st) := by
  obtain ⟨p, l, e, R, s, m, args, below, meth, c, P', X', nL', mc', ms'⟩ := κ
  obtain ⟨hx, hb, hml, hown, hts, hKN, hlk, hho, hst, hrt, hnm, htab, hR, rfl, rfl, rfl, rfl, rfl⟩ := ok
  intro ls locs hl hlo ho
  exact W.alen (n := nI N) hx hb hat.2 ((hKN.1.2 4 _ rfl).1 N (fun j => va_rf (f j))) (by show (vp_cell _ _).slots.size.toInt32 = _; rw [vp_cell_q, arrV_size] <;> rfl) rfl rfl dd (kk ls locs hl hlo ho)
theorem z_newI (ok : zOK κ E d y cc ret hh nL mc ms P X) {N : Nat} {i : Int32} (hcl : Cond.arrayClass .int ∈ lw_all) (hi : i = nI N) (dd : decode cc pc = .ok (.newarray .int, 2)) (hk : k + 1 ≤ mc) (hn : n + N ≤ ms) (kk : ∀ q H1, zMk E H q (zI E 0 N (fun _ => 0)) H1 → zV κ E H1 (k + 1) (n + N) (pc + 2) L (.ref q :: st)) (hi : i = nI N := by rfl) (hN : N < 67108864 := by decide) : zV κ E H k n pc L (.int i :: st) := by
  obtain ⟨p, l, e, R, s, m, args, below, meth, c, P', X', nL', mc', ms'⟩ := κ
  obtain ⟨hx, hb, hml, hown, hts, hKN, hlk, hho, hst, hrt, hnm, htab, hR, rfl, rfl, rfl, rfl, rfl⟩ := ok
  intro ls locs hl hlo ho
  subst hR
  have hc : (nI N).toNatClampNeg = N := nI_clamp (by omega)
  rw [hi]
  refine va_newaK (atype := .int) hx hb (hts _ hcl) rfl dd rfl (nI_pos (by omega)) hc (by show N * _ ≤ 536870912; simp only [newarray.typeOf, componentBytes]; omega) hk hn rfl fun H1 cA e1 z1 o1 hAr hNm => ?_
  have hcA : cA = E.2.2.1 0 := Option.some.inj (hNm.symm.trans (hKN.1.2 0 _ rfl).2)
  subst hcA
  exact kk H.size H1 ⟨rfl, ⟨ho.1.1, e1⟩, z1, o1⟩ ls locs hl hlo (ho.mk z1 o1)
theorem z_newZ (ok : zOK κ E d y cc ret hh nL mc ms P X) {N : Nat} {i : Int32} (hcl : Cond.arrayClass .boolean ∈ lw_all) (hi : i = nI N) (dd : decode cc pc = .ok (.newarray .boolean, 2)) (hk : k + 1 ≤ mc) (hn : n + N ≤ ms) (kk : ∀ q H1, zMk E H q (zI E 2 N (fun _ => 0)) H1 → zV κ E H1 (k + 1) (n + N) (pc + 2) L (.ref q :: st)) (hi : i = nI N := by rfl) (hN : N < 67108864 := by decide) : zV κ E H k n pc L (.int i :: st) := by
  obtain ⟨p, l, e, R, s, m, args, below, meth, c, P', X', nL', mc', ms'⟩ := κ
  obtain ⟨hx, hb, hml, hown, hts, hKN, hlk, hho, hst, hrt, hnm, htab, hR, rfl, rfl, rfl, rfl, rfl⟩ := ok
  intro ls locs hl hlo ho
  subst hR
  have hc : (nI N).toNatClampNeg = N := nI_clamp (by omega)
  rw [hi]
  refine va_newaK (atype := .boolean) hx hb (hts _ hcl) rfl dd rfl (nI_pos (by omega)) hc (by show N * _ ≤ 536870912; simp only [newarray.typeOf, componentBytes]; omega) hk hn rfl fun H1 cA e1 z1 o1 hAr hNm => ?_
  have hcA : cA = E.2.2.1 2 := Option.some.inj (hNm.symm.trans (hKN.1.2 2 _ rfl).2)
  subst hcA
  exact kk H.size H1 ⟨rfl, ⟨ho.1.1, e1⟩, z1, o1⟩ ls locs hl hlo (ho.mk z1 o1)
theorem z_newB (ok : zOK κ E d y cc ret hh nL mc ms P X) {N : Nat} {i : Int32} (hcl : Cond.arrayClass .byte ∈ lw_all) (hi : i = nI N) (dd : decode cc pc = .ok (.newarray .byte, 2)) (hk : k + 1 ≤ mc) (hn : n + N ≤ ms) (kk : ∀ q H1, zMk E H q (zI E 3 N (fun _ => 0)) H1 → zV κ E H1 (k + 1) (n + N) (pc + 2) L (.ref q :: st)) (hi : i = nI N := by rfl) (hN : N < 67108864 := by decide) : zV κ E H k n pc L (.int i :: st) := by
  obtain ⟨p, l, e, R, s, m, args, below, meth, c, P', X', nL', mc', ms'⟩ := κ
  obtain ⟨hx, hb, hml, hown, hts, hKN, hlk, hho, hst, hrt, hnm, htab, hR, rfl, rfl, rfl, rfl, rfl⟩ := ok
  intro ls locs hl hlo ho
  subst hR
  have hc : (nI N).toNatClampNeg = N := nI_clamp (by omega)
  rw [hi]
  refine va_newaK (atype := .byte) hx hb (hts _ hcl) rfl dd rfl (nI_pos (by omega)) hc (by show N * _ ≤ 536870912; simp only [newarray.typeOf, componentBytes]; omega) hk hn rfl fun H1 cA e1 z1 o1 hAr hNm => ?_
  have hcA : cA = E.2.2.1 3 := Option.some.inj (hNm.symm.trans (hKN.1.2 3 _ rfl).2)
  subst hcA
  exact kk H.size H1 ⟨rfl, ⟨ho.1.1, e1⟩, z1, o1⟩ ls locs hl hlo (ho.mk z1 o1)
theorem z_newJ (ok : zOK κ E d y cc ret hh nL mc ms P X) {N : Nat} {i : Int32} (hcl : Cond.arrayClass .long ∈ lw_all) (hi : i = nI N) (dd : decode cc pc = .ok (.newarray .long, 2)) (hk : k + 1 ≤ mc) (hn : n + N ≤ ms) (kk : ∀ q H1, zMk E H q (zJ E N (fun _ => 0)) H1 → zV κ E H1 (k + 1) (n + N) (pc + 2) L (.ref q :: st)) (hi : i = nI N := by rfl) (hN : N < 67108864 := by decide) : zV κ E H k n pc L (.int i :: st) := by
  obtain ⟨p, l, e, R, s, m, args, below, meth, c, P', X', nL', mc', ms'⟩ := κ
  obtain ⟨hx, hb, hml, hown, hts, hKN, hlk, hho, hst, hrt, hnm, htab, hR, rfl, rfl, rfl, rfl, rfl⟩ := ok
  intro ls locs hl hlo ho
  subst hR
  have hc : (nI N).toNatClampNeg = N := nI_clamp (by omega)
  rw [hi]
  refine va_newaK (atype := .long) hx hb (hts _ hcl) rfl dd rfl (nI_pos (by omega)) hc (by show N * _ ≤ 536870912; simp only [newarray.typeOf, componentBytes]; omega) hk hn rfl fun H1 cA e1 z1 o1 hAr hNm => ?_
  have hcA : cA = E.2.2.1 1 := Option.some.inj (hNm.symm.trans (hKN.1.2 1 _ rfl).2)
  subst hcA
  exact kk H.size H1 ⟨rfl, ⟨ho.1.1, e1⟩, z1, o1⟩ ls locs hl hlo (ho.mk z1 o1)
theorem z_newQ (ok : zOK κ E d y cc ret hh nL mc ms P X) {N idx : Nat} {i : Int32} (hcl : Cond.classLink y.cls idx "java/lang/Object" ∈ lw_all) (hi : i = nI N) (dd : decode cc pc = .ok (.anewarray idx, 3)) (hk : k + 1 ≤ mc) (hn : n + N ≤ ms) (kk : ∀ q H1, zMk E H q (zQ E N (fun _ => none)) H1 → zV κ E H1 (k + 1) (n + N) (pc + 3) L (.ref q :: st)) (hi : i = nI N := by rfl) (hN : N < 67108864 := by decide) : zV κ E H k n pc L (.int i :: st) := by
  obtain ⟨p, l, e, R, s, m, args, below, meth, c, P', X', nL', mc', ms'⟩ := κ
  obtain ⟨hx, hb, hml, hown, hts, hKN, hlk, hho, hst, hrt, hnm, htab, hR, rfl, rfl, rfl, rfl, rfl⟩ := ok
  intro ls locs hl hlo ho
  subst hR
  have hc : (nI N).toNatClampNeg = N := nI_clamp (by omega)
  rw [hi]
  refine W.anew hx hb hown (hts _ hcl) (va_AO.use (hKN.2.1 _ q298 rfl)) rfl dd rfl (nI_pos (by omega)) (by rw [hc]; omega) hk (by rw [hc]; exact hn) fun cA kA comp f1 f2 f3 f4 => ?_
  generalize hH1 : H.push ({ cls := cA, slots := Array.replicate (nI N).toNatClampNeg .null, vm := .none } : Cell) = H1
  have z1 : H1.size = H.size + 1 := by rw [← hH1, Array.size_push]
  have e1 : H1[H.size]? = some (arrV cA N (fun _ => .null)) := by rw [← hH1, Array.getElem?_push_size, ← arrV_new, hc]
  have o1 : ∀ q : Nat, q < H.size → H1[q]? = H[q]? := fun q hq => by rw [← hH1, Array.getElem?_push, if_neg (Nat.ne_of_lt hq)]
  obtain ⟨kA', comp', k1, k2, k3, k4⟩ := (hKN.1.2 4 _ rfl).2
  have hcA : cA = E.2.2.1 4 := Option.some.inj (f1.symm.trans k4)
  subst hcA
  rw [hc]
  exact kk H.size H1 ⟨rfl, ⟨ho.1.1, e1⟩, z1, o1⟩ ls locs hl hlo (ho.mk z1 o1)
theorem zS {E : zE} {H : Heap} {locs : List Loc} {s : State} (hho : zOld E s.heap) (ho : zOld E H) (hlo : ∀ q ∈ locs, zNew E q.base) : va_S (zNew E) E.2.1 H locs := ⟨ho.1, fun q hq _ => ho.2 q hq, hlo⟩
theorem z_gets (ok : zOK κ E d y cc ret hh nL mc ms P X) {i : Nat} {C nm ds ref : String} {v : Value} (hz : (C, nm, ds, v) ∈ zStat E) (hlink : Cond.fieldLink y.cls i ref nm ds ∈ lw_all) (hsame : ref = C) (dd : decode cc pc = .ok (.getstatic i, 3)) (kk : zV κ E H k n (pc + 3) L (v :: st)) : zV κ E H k n pc L st := by
  obtain ⟨p, l, e, R, s, m, args, below, meth, c, P', X', nL', mc', ms'⟩ := κ
  obtain ⟨hx, hb, hml, hown, hts, hKN, hlk, hho, hst, hrt, hnm, htab, hR, rfl, rfl, rfl, rfl, rfl⟩ := ok
  intro ls locs hl hlo ho
  subst hsame
  obtain ⟨cf, kf, fi, f, a, cell, h1, h2, h3, h4, h5, h6, h7, h8⟩ := hKN.2.2.2.2.2.1 _ hz
  exact W.gets hx hb hown (hts _ hlink) h1 h2 h3 h4 (by rw [ho.1.2 a (Array.getElem?_eq_some_iff.mp h5).1]; exact h5) (fun e => by rw [e] at h6; cases h6) h7 rfl dd (kk ls locs hl hlo ho)
theorem z_getsN (ok : zOK κ E d y cc ret hh nL mc ms P X) {i : Nat} {C nm ds ref host : String} {v : Value} (hz : (C, nm, ds, v) ∈ zStat E) (hlink : Cond.fieldLinkNest y.cls i ref nm ds host ∈ lw_tbl) (hsame : ref = C) (dd : decode cc pc = .ok (.getstatic i, 3)) (kk : zV κ E H k n (pc + 3) L (v :: st)) : zV κ E H k n pc L st := by
  obtain ⟨p, l, e, R, s, m, args, below, meth, c, P', X', nL', mc', ms'⟩ := κ
  obtain ⟨hx, hb, hml, hown, hts, hKN, hlk, hho, hst, hrt, hnm, htab, hR, rfl, rfl, rfl, rfl, rfl⟩ := ok
  intro ls locs hl hlo ho
  subst hsame
  obtain ⟨cf, kf, fi, f, a, cell, h1, h2, h3, h4, h5, h6, h7, h8⟩ := hKN.2.2.2.2.2.1 _ hz
  exact va_WgetsN hx hb hown (va_Nw.use rfl (hKN.2.1 _ hlink rfl)) h1 h2 h3 h4 (by rw [ho.1.2 a (Array.getElem?_eq_some_iff.mp h5).1]; exact h5) (fun e => by rw [e] at h6; cases h6) h7 rfl dd (kk ls locs hl hlo ho)
theorem z_getsQ (ok : zOK κ E d y cc ret hh nL mc ms P X) {i : Nat} (hlink : Cond.fieldLink y.cls i "jdk/internal/util/Preconditions" "SIOOBE_FORMATTER" "Ljava/util/function/BiFunction;" ∈ lw_all) (dd : decode cc pc = .ok (.getstatic i, 3)) (kk : ∀ r : Option Nat, zV κ E H k n (pc + 3) L (va_rf r :: st)) : zV κ E H k n pc L st := by
  obtain ⟨p, l, e, R, s, m, args, below, meth, c, P', X', nL', mc', ms'⟩ := κ
  obtain ⟨hx, hb, hml, hown, hts, hKN, hlk, hho, hst, hrt, hnm, htab, hR, rfl, rfl, rfl, rfl, rfl⟩ := ok
  intro ls locs hl hlo ho
  rcases hKN.2.2.2.2.2.2.1.2.2 with hz | ⟨t, hz⟩
  · obtain ⟨cf, kf, fi, f, a, cell, h1, h2, h3, h4, h5, h6, h7, h8⟩ := hz
    exact W.gets hx hb hown (hts _ hlink) h1 h2 h3 h4 (by rw [ho.1.2 a (Array.getElem?_eq_some_iff.mp h5).1]; exact h5) (fun e => by rw [e] at h6; cases h6) h7 rfl dd (kk none ls locs hl hlo ho)
  · obtain ⟨cf, kf, fi, f, a, cell, h1, h2, h3, h4, h5, h6, h7, h8⟩ := hz
    exact W.gets hx hb hown (hts _ hlink) h1 h2 h3 h4 (by rw [ho.1.2 a (Array.getElem?_eq_some_iff.mp h5).1]; exact h5) (fun e => by rw [e] at h6; cases h6) h7 rfl dd (kk (some t) ls locs hl hlo ho)
theorem z_cast (ok : zOK κ E d y cc ret hh nL mc ms P X) {idx ci : Nat} {nm : String} {q : vw_C} (hlink : Cond.classLink y.cls idx nm ∈ lw_all) (his : zIs E H a ci) (hc : vwCl[ci]? = some q) (hcs : q.1 = nm ∨ Cond.castable q.1 nm ∈ lw_tbl) (dd : decode cc pc = .ok (.checkcast idx, 3)) (kk : zV κ E H k n (pc + 3) L (.ref a :: st)) : zV κ E H k n pc L (.ref a :: st) := by
  obtain ⟨p, l, e, R, s, m, args, below, meth, c, P', X', nL', mc', ms'⟩ := κ
  obtain ⟨hx, hb, hml, hown, hts, hKN, hlk, hho, hst, hrt, hnm, htab, hR, rfl, rfl, rfl, rfl, rfl⟩ := ok
  intro ls locs hl hlo ho
  have hr := z_recv hKN his hc
  rcases hcs with h | h
  · exact va_castE hx hb hown (hts _ hlink) (by rw [← h]; exact hr) dd (kk ls locs hl hlo ho)
  · exact va_castY hx hb hown (hts _ hlink) (hKN.2.1 _ h rfl) hr dd (kk ls locs hl hlo ho)
theorem z_castN (ok : zOK κ E d y cc ret hh nL mc ms P X) {idx : Nat} (dd : decode cc pc = .ok (.checkcast idx, 3)) (kk : zV κ E H k n (pc + 3) L (.null :: st)) : zV κ E H k n pc L (.null :: st) := by
  obtain ⟨p, l, e, R, s, m, args, below, meth, c, P', X', nL', mc', ms'⟩ := κ
  obtain ⟨hx, hb, hml, hown, hts, hKN, hlk, hho, hst, hrt, hnm, htab, hR, rfl, rfl, rfl, rfl, rfl⟩ := ok
  intro ls locs hl hlo ho
  exact lv_castN hx hb dd (kk ls locs hl hlo ho)
theorem z_instY (ok : zOK κ E d y cc ret hh nL mc ms P X) {idx ci : Nat} {nm : String} {q : vw_C} (hlink : Cond.classLink y.cls idx nm ∈ lw_all) (his : zIs E H a ci) (hc : vwCl[ci]? = some q) (hcs : q.1 = nm ∨ Cond.castable q.1 nm ∈ lw_tbl) (dd : decode cc pc = .ok (.instanceof idx, 3)) (kk : zV κ E H k n (pc + 3) L (.int 1 :: st)) : zV κ E H k n pc L (.ref a :: st) := by
  obtain ⟨p, l, e, R, s, m, args, below, meth, c, P', X', nL', mc', ms'⟩ := κ
  obtain ⟨hx, hb, hml, hown, hts, hKN, hlk, hho, hst, hrt, hnm, htab, hR, rfl, rfl, rfl, rfl, rfl⟩ := ok
  intro ls locs hl hlo ho
  have hr := z_recv hKN his hc
  rcases hcs with h | h
  · exact va_instE hx hb hown (hts _ hlink) (by rw [← h]; exact hr) dd (kk ls locs hl hlo ho)
  · exact va_instY hx hb hown (hts _ hlink) (hKN.2.1 _ h rfl) hr dd (kk ls locs hl hlo ho)
end ZH
