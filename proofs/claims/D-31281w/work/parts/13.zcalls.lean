/-! Z rows: a method's head, calls, exceptions; printed by gen/zcalls.py -/
set_option maxRecDepth 100000
set_option maxHeartbeats 1000000 in
theorem z_of {E : zE} {d : Nat} {y : MethodName} {cc : ByteArray} {ret : Option FieldType} {nL mc ms : Nat} {H : Heap} {av : List Value} {P : Option Value → Heap → Prop} {X : String → Heap → Prop} (L0 : List (Option Value)) (hy : plainName y.cls = true) (hlen : (lg_sl av).length ≤ nL) (hL : lv_args 0 av = zlp 0 L0)
    (body : ∀ κ : zC, zOK κ E d y cc ret [] nL mc ms P X → zOld E H → zV κ E H 0 0 0 L0 []) : zM E d y (ws_ y cc nL ret) mc ms H av P X := by
  intro l hst hold
  refine vx_ofW (cc := cc) (maxL := nL) (ret := ret) hy rfl ?_
  intro p e s m args below meth c s₁ B hml hnone hv
  obtain ⟨rfl, rfl, hK⟩ := hv
  have hts := atoms_spec (ws := ws_ y cc nL ret) B.pre
  have hts : ∀ w ∈ lw_all, w.before _ s = true := fun w h => hts w (List.mem_cons_of_mem _ h)
  have hown : s.vm.findClass y.cls = some m.cls := findClass_of_methodNamed B.named
  have hl := lv_entry av (n := nL) hlen
  rw [lg_entry_eq]
  generalize (lg_sl av ++ List.replicate (nL - (lg_sl av).length) Slot.unset).toArray = ls at hl ⊢
  rw [hL] at hl
  have htab : c.exceptionTable.toList = tableOf [] := List.eq_nil_iff_forall_not_mem.mpr fun x hx => hnone x hx
  exact body (p, l, e, { frames := d, cells := mc, slots := ms, locals := 40 * d }, s, m, av.toArray, below, meth, c, P, X, nL, mc, ms) ⟨B.exec, B.bytes, hml, hown, hts, hK, B.notSynchronized, hold, hst, B.returns, (name_of_methodNamed B.named B.method).1, htab, rfl, rfl, rfl, rfl, rfl, rfl⟩ hold ls [] hl (fun q h => by cases h) ⟨hold, Nat.le_refl _⟩
set_option maxHeartbeats 1000000 in
theorem z_ofH {E : zE} {d : Nat} {y : MethodName} {cc : ByteArray} {ret : Option FieldType} {hh : List (Nat × Nat × Nat × Nat)} {nL mc ms : Nat} {H : Heap} {av : List Value} {P : Option Value → Heap → Prop} {X : String → Heap → Prop} (L0 : List (Option Value)) (hcw : Cond.codeWith y cc nL ret hh ∈ lw_all) (hy : plainName y.cls = true) (hlen : (lg_sl av).length ≤ nL) (hL : lv_args 0 av = zlp 0 L0)
    (body : ∀ κ : zC, zOK κ E d y cc ret hh nL mc ms P X → zOld E H → zV κ E H 0 0 0 L0 []) : zM E d y (wsW_ y cc nL ret hh) mc ms H av P X := by
  intro l hst hold
  refine vx_ofWH (cc := cc) (maxL := nL) (ret := ret) (hh := hh) hy rfl ?_
  intro p e s m args below meth c s₁ B hml hv
  obtain ⟨rfl, rfl, hK⟩ := hv
  have hts := atoms_spec (ws := wsW_ y cc nL ret hh) B.pre
  have hts : ∀ w ∈ lw_all, w.before _ s = true := fun w h => hts w (List.mem_cons_of_mem _ h)
  have hown : s.vm.findClass y.cls = some m.cls := findClass_of_methodNamed B.named
  have hl := lv_entry av (n := nL) hlen
  rw [lg_entry_eq]
  generalize (lg_sl av ++ List.replicate (nL - (lg_sl av).length) Slot.unset).toArray = ls at hl ⊢
  rw [hL] at hl
  exact body (p, l, e, { frames := d, cells := mc, slots := ms, locals := 40 * d }, s, m, av.toArray, below, meth, c, P, X, nL, mc, ms) ⟨B.exec, B.bytes, hml, hown, hts, hK, B.notSynchronized, hold, hst, B.returns, (name_of_methodNamed B.named B.method).1, vx_table (x := y) B (hts _ hcw), rfl, rfl, rfl, rfl, rfl, rfl⟩ hold ls [] hl (fun q h => by cases h) ⟨hold, Nat.le_refl _⟩
theorem z_fin {p : Program} {l : Launch} {e : Env} {R : Room} {s : State} {m : MethodId} {args : Array Value} {below : List Frame} {meth : Method} {c : Code} {P : Option Value → Heap → Prop} {X : String → Heap → Prop} {nL mc ms : Nat} {E : zE} {H : Heap} {locs : List Loc} {k n k' n' pc : Nat} {ls : Array Slot} {L : List (Option Value)} {st0 rest : List Value} {P' : Option Value → Heap → Prop} {X' : String → Heap → Prop} {a : Array Value}
    (hr : vx_Run p l e R s m args below meth c H locs k n k' n' (F0 m pc ls st0) rest (zQc E P' a) (zXc E X') (zNew E)) (hl : lv_has ls nL (zlp 0 L)) (hlo : ∀ q ∈ locs, zNew E q.base) (ho0 : zOS E s H)
    (kx : ∀ C q H1, X' C H1 → H.size ≤ H1.size → zT (p, l, e, R, s, m, args, below, meth, c, P, X, nL, mc, ms) E H1 (k + k') (n + n') pc L rest C q)
    (kk : ∀ v H1, P' v H1 → H.size ≤ H1.size → zV (p, l, e, R, s, m, args, below, meth, c, P, X, nL, mc, ms) E H1 (k + k') (n + n') (pc + 3) L (v.toList ++ rest)) : W p l e R s m args below meth c H locs k n (vx_MQ below (zQc E P) (zXc E X) args s mc ms (zNew E)) (F0 m pc ls st0) := by
  intro T hT X9
  rcases hr T hT X9 with ⟨v, st₀, t, T', L', h0, X', hL, e1, e2, ⟨v', hv, hp, ho⟩, st⟩ | ⟨q, st₀, t, T', L', C, ce, h0, X', hL, e1, e2, ⟨hx, ho⟩, hce, hcv, hcl, st⟩
  · cases hv
    obtain ⟨t2, a1, b1⟩ := kk v t.heap hp (by rw [← h0]; exact ho.2) ls (locs ++ L') hl (t_lL hlo hL) ⟨ho.1, Nat.le_trans ho0.2 (by rw [← h0]; exact ho.2)⟩ T' e1 X'
    exact ⟨t2, st t2 a1, b1⟩
  · obtain ⟨t2, a1, b1⟩ := kx C q t.heap hx (by rw [← h0]; exact ho.2) ls (locs ++ L') ce hl (t_lL hlo hL) ⟨ho.1, Nat.le_trans ho0.2 (by rw [← h0]; exact ho.2)⟩ hce hcv hcl T' e1 X'
    exact ⟨t2, st.trans a1, b1⟩
theorem z_fin5 {p : Program} {l : Launch} {e : Env} {R : Room} {s : State} {m : MethodId} {args : Array Value} {below : List Frame} {meth : Method} {c : Code} {P : Option Value → Heap → Prop} {X : String → Heap → Prop} {nL mc ms : Nat} {E : zE} {H : Heap} {locs : List Loc} {k n k' n' pc : Nat} {ls : Array Slot} {L : List (Option Value)} {st0 rest : List Value} {P' : Option Value → Heap → Prop} {X' : String → Heap → Prop} {a : Array Value}
    (hr : vx_Run5 p l e R s m args below meth c H locs k n k' n' (F0 m pc ls st0) rest (zQc E P' a) (zXc E X') (zNew E)) (hl : lv_has ls nL (zlp 0 L)) (hlo : ∀ q ∈ locs, zNew E q.base) (ho0 : zOS E s H)
    (kx : ∀ C q H1, X' C H1 → H.size ≤ H1.size → zT (p, l, e, R, s, m, args, below, meth, c, P, X, nL, mc, ms) E H1 (k + k') (n + n') pc L rest C q)
    (kk : ∀ v H1, P' v H1 → H.size ≤ H1.size → zV (p, l, e, R, s, m, args, below, meth, c, P, X, nL, mc, ms) E H1 (k + k') (n + n') (pc + 5) L (v.toList ++ rest)) : W p l e R s m args below meth c H locs k n (vx_MQ below (zQc E P) (zXc E X) args s mc ms (zNew E)) (F0 m pc ls st0) := by
  intro T hT X9
  rcases hr T hT X9 with ⟨v, st₀, t, T', L', h0, X', hL, e1, e2, ⟨v', hv, hp, ho⟩, st⟩ | ⟨q, st₀, t, T', L', C, ce, h0, X', hL, e1, e2, ⟨hx, ho⟩, hce, hcv, hcl, st⟩
  · cases hv
    obtain ⟨t2, a1, b1⟩ := kk v t.heap hp (by rw [← h0]; exact ho.2) ls (locs ++ L') hl (t_lL hlo hL) ⟨ho.1, Nat.le_trans ho0.2 (by rw [← h0]; exact ho.2)⟩ T' e1 X'
    exact ⟨t2, st t2 a1, b1⟩
  · obtain ⟨t2, a1, b1⟩ := kx C q t.heap hx (by rw [← h0]; exact ho.2) ls (locs ++ L') ce hl (t_lL hlo hL) ⟨ho.1, Nat.le_trans ho0.2 (by rw [← h0]; exact ho.2)⟩ hce hcv hcl T' e1 X'
    exact ⟨t2, st.trans a1, b1⟩
theorem zFB {E : zE} {av : List Value} {H : Heap} : FrameBlind (fun (v : Array Value) (U : State) => v = av.toArray ∧ U.heap = H ∧ zKN E U) := fun a U g mk h => ⟨h.1, h.2.1, h.2.2.calling⟩
theorem zPre {E : zE} {s : State} {H : Heap} {av : List Value} (hK : zKN E s) : ∀ U : State, U.heap = H → s.WarmedH U.vm → (fun (v : Array Value) (U : State) => v = av.toArray ∧ U.heap = H ∧ zKN E U) av.toArray U := fun U hU hW => ⟨rfl, hU, hK.warm hW⟩
/-- a continuation behind a callee that throws nothing -/
theorem zk_nx {κ : zC} {E : zE} {H : Heap} {k n pc : Nat} {L : List (Option Value)} {st : List Value} : ∀ (C : String) (q : Nat) (H1 : Heap), zNX C H1 → H.size ≤ H1.size → zT κ E H1 k n pc L st C q := fun _ _ _ h => h.elim
theorem sel_via {args : Array Value} {s : State} {C owner : String} {x y : MethodName} (ho : owner ≠ "java/lang/invoke/MethodHandle" ∧ owner ≠ "java/lang/invoke/VarHandle") (h1 : (Cond.sameMethod x.cls owner x.name x.desc).before args s = true) (h2 : (Cond.selects C ⟨owner, x.name, x.desc⟩ y).before args s = true) : (Cond.selects C x y).before args s = true := by
  obtain ⟨c, k, r, hc, hk, hi, hf, hn⟩ := Cond.sameMethod_found h1
  have e := State.methodFound?_of_named hn ho
  simp only [Cond.before, Cond.holds, Cond.value] at h2 ⊢
  rw [hf]
  rw [show s.methodFound? owner x.name x.desc = some r from e] at h2
  exact h2
theorem z_cwP {args : Array Value} {s : State} {R : Room} {own C owner : String} {index maxL mc ms : Nat} {x0 x : MethodName} {bytes : ByteArray} {rx : Option FieldType} {rm : Room} (n : Nat) (ht : ∀ w ∈ lw_all, w.before args s = true) (hT : GoodIn lw_all ([.selects C ⟨owner, x0.name, x0.desc⟩ x, .instanceMethod x, .initialized x.cls] ++ ws_ x bytes maxL rx)) (hrc : rm.cells = mc) (hrs : rm.slots = ms) (h1 : va_Nw (.methodLink own index x0) s) (h2 : va_Nw (.sameMethod x0.cls owner x0.name x0.desc) s)
    (hz : va_Nw (.declares ⟨owner, x0.name, x0.desc⟩) s) (hd : owner ≠ "java/lang/invoke/MethodHandle" ∧ owner ≠ "java/lang/invoke/VarHandle" ∧ (parseMethodDescriptor x0.desc).map (fun d => d.parameters.length) = some n) (hR : rm.frames + 1 ≤ R.frames ∧ 8 + (maxL + 11) + rm.locals ≤ R.locals) : va_CU R s args own C owner index x0 x bytes maxL rx (ws_ x bytes maxL rx) rm mc ms n := by
  have ok : ∀ w ∈ ([.selects C ⟨owner, x0.name, x0.desc⟩ x, .instanceMethod x, .initialized x.cls] : List Cond) ++ ws_ x bytes maxL rx, w.before args s = true := fun w h => ht w (hT w h).1
  have hG : GoodIn lw_all (ws_ x bytes maxL rx) := fun w h => hT w (List.mem_append_right _ h)
  have hc : Cond.code x bytes maxL rx ∈ ws_ x bytes maxL rx := List.mem_cons_self
  refine ⟨⟨hrc, hrs, hR.1, hR.2, pay_in ht hG, hc⟩, ht _ (hG _ hc).1, ok _ (by simp), ⟨hd.1, hd.2.1⟩, fun sig h => ?_, va_tabs rfl rfl h1, va_tabs rfl rfl h2, va_Decl.abs hz, sel_via ⟨hd.1, hd.2.1⟩ (va_tabs rfl rfl h2) (ok _ (by simp)), ok _ (by simp)⟩
  have h3 := hd.2.2
  rw [h] at h3
  exact (Option.some.inj h3).symm
theorem sel_priv {args : Array Value} {s : State} {C : String} {c : ClassId} {y : MethodName} (hc : s.vm.findClass C = some c) (hy : y.cls ≠ "java/lang/invoke/MethodHandle" ∧ y.cls ≠ "java/lang/invoke/VarHandle") (hp : va_Nw (.privateMethod y) s) (hs : (Cond.sameMethod y.cls y.cls y.name y.desc).before args s = true) (hi : (Cond.instanceMethod y).before args s = true) : (Cond.selects C y y).before args s = true := by
  obtain ⟨mk, methM, hnamed, hmethM, -, -⟩ := Cond.instanceMethod_spec hi
  obtain ⟨cy, ck, r, hcy, hck, hni, hf, hn⟩ := Cond.sameMethod_found hs
  have e : mk = r := Option.some.inj (hnamed.symm.trans hn)
  subst e
  have hcls : mk.cls = cy := Option.some.inj ((findClass_of_methodNamed hnamed).symm.trans hcy)
  have hpv : methM.isPrivate = true := by
    unfold va_Nw at hp
    simpa [Cond.before, Cond.holds, Cond.value, hnamed, hmethM] using hp
  have hsel : selectMethod {} s.vm c mk = .method mk := selectMethod_private hmethM hpv
  simp only [Cond.before, Cond.holds, Cond.value, hc, hf, hnamed, hsel, hcls, hck]
  simp
  exact hni
theorem z_cwR {args : Array Value} {s : State} {R : Room} {own C : String} {c : ClassId} {index maxL mc ms : Nat} {x : MethodName} {bytes : ByteArray} {rx : Option FieldType} {rm : Room} (n : Nat) (ht : ∀ w ∈ lw_all, w.before args s = true) (hT : GoodIn lw_all ([.methodLink own index x, .sameMethod x.cls x.cls x.name x.desc, .instanceMethod x, .initialized x.cls] ++ ws_ x bytes maxL rx)) (hrc : rm.cells = mc) (hrs : rm.slots = ms) (hc0 : s.vm.findClass C = some c) (hp : va_Nw (.privateMethod x) s)
    (hd : x.cls ≠ "java/lang/invoke/MethodHandle" ∧ x.cls ≠ "java/lang/invoke/VarHandle" ∧ (parseMethodDescriptor x.desc).map (fun d => d.parameters.length) = some n) (hR : rm.frames + 1 ≤ R.frames ∧ 8 + (maxL + 11) + rm.locals ≤ R.locals) : va_CU R s args own C x.cls index x x bytes maxL rx (ws_ x bytes maxL rx) rm mc ms n := by
  have ok : ∀ w ∈ ([.methodLink own index x, .sameMethod x.cls x.cls x.name x.desc, .instanceMethod x, .initialized x.cls] : List Cond) ++ ws_ x bytes maxL rx, w.before args s = true := fun w h => ht w (hT w h).1
  have hG : GoodIn lw_all (ws_ x bytes maxL rx) := fun w h => hT w (List.mem_append_right _ h)
  have hc : Cond.code x bytes maxL rx ∈ ws_ x bytes maxL rx := List.mem_cons_self
  refine ⟨⟨hrc, hrs, hR.1, hR.2, pay_in ht hG, hc⟩, ht _ (hG _ hc).1, ok _ (by simp), ⟨hd.1, hd.2.1⟩, fun sig h => ?_, ok _ (by simp), ok _ (by simp), va_Decl.of (ok _ (by simp)) (ht _ (hG _ hc).1), sel_priv hc0 ⟨hd.1, hd.2.1⟩ hp (ok _ (by simp)) (ok _ (by simp)), ok _ (by simp)⟩
  have h3 := hd.2.2
  rw [h] at h3
  exact (Option.some.inj h3).symm
section ZC
variable {κ : zC} {E : zE} {d : Nat} {y : MethodName} {cc : ByteArray} {ret : Option FieldType} {hh : List (Nat × Nat × Nat × Nat)} {nL mc ms : Nat} {P : Option Value → Heap → Prop} {X : String → Heap → Prop} {H : Heap} {k n pc : Nat} {L : List (Option Value)} {st : List Value}
variable {idx maxL d' mc' ms' b ci na : Nat} {x : MethodName} {bytes : ByteArray} {rx : Option FieldType} {As rest : List Value} {P' : Option Value → Heap → Prop} {X' : String → Heap → Prop} {C : String} {T : u_T} {N : Nat} {hx9 : List (Nat × Nat × Nat × Nat)}
theorem z_callV (ok : zOK κ E d y cc ret hh nL mc ms P X) (hM : zM E d' x (ws_ x bytes maxL rx) mc' ms' H (.ref b :: As) P' X') (hcl : vwCl[ci]? = some (C, T, N)) (hrecv : zIs E H b ci) (hG : GoodIn lw_all (wsV y.cls idx C x (ws_ x bytes maxL rx))) (hdd : x.cls = C ∧ x.cls ≠ "java/lang/invoke/MethodHandle" ∧ x.cls ≠ "java/lang/invoke/VarHandle" ∧ (parseMethodDescriptor x.desc).map (fun d => d.parameters.length) = some na) (hna : As.length = na) (hst0 : st = As.reverse ++ .ref b :: rest) (dd : decode cc pc = .ok (.invokevirtual idx, 3)) (hd1 : d' + 1 ≤ d) (hd2 : 19 + maxL + 40 * d' ≤ 40 * d) (hc1 : k + mc' ≤ mc) (hc2 : n + ms' ≤ ms) (hrm : (rest.map fun v => v.category).sum ≤ 8) (kx : ∀ C q H1, X' C H1 → H.size ≤ H1.size → zT κ E H1 (k + mc') (n + ms') pc L rest C q) (kk : ∀ v H1, P' v H1 → H.size ≤ H1.size → zV κ E H1 (k + mc') (n + ms') (pc + 3) L (v.toList ++ rest)) : zV κ E H k n pc L st := by
  obtain ⟨p, l, e, R, s, m, args, below, meth, c, P0, X0, nL0, mc0, ms0⟩ := κ
  obtain ⟨hx, hb, hml, hown, hts, hKN, hlk, hho, hst, hrt, hnm, htab, hR, rfl, rfl, rfl, rfl, rfl⟩ := ok
  intro ls locs hl hlo ho
  subst hR
  subst hst0
  refine z_fin (a := (Value.ref b :: As).toArray) ?_ hl hlo ho kx kk
  exact vx_runV (As := As) (rest := rest) (nL := nL0) ⟨hx, hb, hml, hown, hts⟩ (hM l hst ho.1) (cwV (rm := ({ frames := d', cells := mc', slots := ms', locals := 40 * d' } : Room)) na hts hG rfl rfl rfl hdd ⟨hd1, by show 8 + (maxL + 11) + 40 * d' ≤ 40 * d; omega⟩) ⟨zFB, z_recv hKN hrecv hcl, zPre hKN⟩ rfl (hna) hl.1 rfl (lv_room hrm) dd ⟨hc1, hc2⟩
theorem z_callVH (ok : zOK κ E d y cc ret hh nL mc ms P X) (hM : zM E d' x (wsW_ x bytes maxL rx hx9) mc' ms' H (.ref b :: As) P' X') (hcl : vwCl[ci]? = some (C, T, N)) (hrecv : zIs E H b ci) (hG : GoodIn lw_all (wsV y.cls idx C x (wsW_ x bytes maxL rx hx9))) (hdd : x.cls = C ∧ x.cls ≠ "java/lang/invoke/MethodHandle" ∧ x.cls ≠ "java/lang/invoke/VarHandle" ∧ (parseMethodDescriptor x.desc).map (fun d => d.parameters.length) = some na) (hna : As.length = na) (hst0 : st = As.reverse ++ .ref b :: rest) (dd : decode cc pc = .ok (.invokevirtual idx, 3)) (hd1 : d' + 1 ≤ d) (hd2 : 19 + maxL + 40 * d' ≤ 40 * d) (hc1 : k + mc' ≤ mc) (hc2 : n + ms' ≤ ms) (hrm : (rest.map fun v => v.category).sum ≤ 8) (kx : ∀ C q H1, X' C H1 → H.size ≤ H1.size → zT κ E H1 (k + mc') (n + ms') pc L rest C q) (kk : ∀ v H1, P' v H1 → H.size ≤ H1.size → zV κ E H1 (k + mc') (n + ms') (pc + 3) L (v.toList ++ rest)) : zV κ E H k n pc L st := by
  obtain ⟨p, l, e, R, s, m, args, below, meth, c, P0, X0, nL0, mc0, ms0⟩ := κ
  obtain ⟨hx, hb, hml, hown, hts, hKN, hlk, hho, hst, hrt, hnm, htab, hR, rfl, rfl, rfl, rfl, rfl⟩ := ok
  intro ls locs hl hlo ho
  subst hR
  subst hst0
  refine z_fin (a := (Value.ref b :: As).toArray) ?_ hl hlo ho kx kk
  exact vx_runVX (As := As) (rest := rest) (nL := nL0) ⟨hx, hb, hml, hown, hts⟩ (hM l hst ho.1) (vx_cwVW (rm := ({ frames := d', cells := mc', slots := ms', locals := 40 * d' } : Room)) na hts hG rfl rfl rfl hdd ⟨hd1, by show 8 + (maxL + 11) + 40 * d' ≤ 40 * d; omega⟩) ⟨zFB, z_recv hKN hrecv hcl, zPre hKN⟩ rfl (hna) hl.1 rfl (lv_room hrm) dd ⟨hc1, hc2⟩
theorem z_callU (ok : zOK κ E d y cc ret hh nL mc ms P X) (hM : zM E d' x (ws_ x bytes maxL rx) mc' ms' H (.ref b :: As) P' X') (hcl : vwCl[ci]? = some (C, T, N)) (hrecv : zIs E H b ci) {x0 : MethodName} {owner : String} (hG : GoodIn lw_all (va_wsU y.cls idx C owner x0 x (ws_ x bytes maxL rx))) (hyx : x = ⟨owner, x0.name, x0.desc⟩) (hdd : owner ≠ "java/lang/invoke/MethodHandle" ∧ owner ≠ "java/lang/invoke/VarHandle" ∧ (parseMethodDescriptor x0.desc).map (fun d => d.parameters.length) = some na) (hna : As.length = na) (hst0 : st = As.reverse ++ .ref b :: rest) (dd : decode cc pc = .ok (.invokevirtual idx, 3)) (hd1 : d' + 1 ≤ d) (hd2 : 19 + maxL + 40 * d' ≤ 40 * d) (hc1 : k + mc' ≤ mc) (hc2 : n + ms' ≤ ms) (hrm : (rest.map fun v => v.category).sum ≤ 8) (kx : ∀ C q H1, X' C H1 → H.size ≤ H1.size → zT κ E H1 (k + mc') (n + ms') pc L rest C q) (kk : ∀ v H1, P' v H1 → H.size ≤ H1.size → zV κ E H1 (k + mc') (n + ms') (pc + 3) L (v.toList ++ rest)) : zV κ E H k n pc L st := by
  obtain ⟨p, l, e, R, s, m, args, below, meth, c, P0, X0, nL0, mc0, ms0⟩ := κ
  obtain ⟨hx, hb, hml, hown, hts, hKN, hlk, hho, hst, hrt, hnm, htab, hR, rfl, rfl, rfl, rfl, rfl⟩ := ok
  intro ls locs hl hlo ho
  subst hR
  subst hst0
  refine z_fin (a := (Value.ref b :: As).toArray) ?_ hl hlo ho kx kk
  exact vx_runU (As := As) (rest := rest) (nL := nL0) (C := C) (owner := owner) ⟨hx, hb, hml, hown, hts⟩ (hM l hst ho.1) (va_cwU (rm := ({ frames := d', cells := mc', slots := ms', locals := 40 * d' } : Room)) na hts hG rfl rfl rfl hyx hdd ⟨hd1, by show 8 + (maxL + 11) + 40 * d' ≤ 40 * d; omega⟩) ⟨zFB, z_recv hKN hrecv hcl, zPre hKN⟩ rfl (hna) hl.1 rfl (lv_room hrm) dd ⟨hc1, hc2⟩
theorem z_callA (ok : zOK κ E d y cc ret hh nL mc ms P X) (hM : zM E d' x (ws_ x bytes maxL rx) mc' ms' H (.ref b :: As) P' X') (hcl : vwCl[ci]? = some (C, T, N)) (hrecv : zIs E H b ci) {x0 : MethodName} {owner : String} (hG : GoodIn lw_all (va_wsU y.cls idx C owner x0 x (ws_ x bytes maxL rx))) (hz : Cond.declares ⟨owner, x0.name, x0.desc⟩ ∈ lw_tbl) (hdd : owner ≠ "java/lang/invoke/MethodHandle" ∧ owner ≠ "java/lang/invoke/VarHandle" ∧ (parseMethodDescriptor x0.desc).map (fun d => d.parameters.length) = some na) (hna : As.length = na) (hst0 : st = As.reverse ++ .ref b :: rest) (dd : decode cc pc = .ok (.invokevirtual idx, 3)) (hd1 : d' + 1 ≤ d) (hd2 : 19 + maxL + 40 * d' ≤ 40 * d) (hc1 : k + mc' ≤ mc) (hc2 : n + ms' ≤ ms) (hrm : (rest.map fun v => v.category).sum ≤ 8) (kx : ∀ C q H1, X' C H1 → H.size ≤ H1.size → zT κ E H1 (k + mc') (n + ms') pc L rest C q) (kk : ∀ v H1, P' v H1 → H.size ≤ H1.size → zV κ E H1 (k + mc') (n + ms') (pc + 3) L (v.toList ++ rest)) : zV κ E H k n pc L st := by
  obtain ⟨p, l, e, R, s, m, args, below, meth, c, P0, X0, nL0, mc0, ms0⟩ := κ
  obtain ⟨hx, hb, hml, hown, hts, hKN, hlk, hho, hst, hrt, hnm, htab, hR, rfl, rfl, rfl, rfl, rfl⟩ := ok
  intro ls locs hl hlo ho
  subst hR
  subst hst0
  refine z_fin (a := (Value.ref b :: As).toArray) ?_ hl hlo ho kx kk
  exact vx_runU (As := As) (rest := rest) (nL := nL0) (C := C) (owner := owner) ⟨hx, hb, hml, hown, hts⟩ (hM l hst ho.1) (va_cwA (rm := ({ frames := d', cells := mc', slots := ms', locals := 40 * d' } : Room)) na hts hG rfl rfl rfl (hKN.2.1 _ hz rfl) hdd ⟨hd1, by show 8 + (maxL + 11) + 40 * d' ≤ 40 * d; omega⟩) ⟨zFB, z_recv hKN hrecv hcl, zPre hKN⟩ rfl (hna) hl.1 rfl (lv_room hrm) dd ⟨hc1, hc2⟩
theorem z_callP (ok : zOK κ E d y cc ret hh nL mc ms P X) (hM : zM E d' x (ws_ x bytes maxL rx) mc' ms' H (.ref b :: As) P' X') (hcl : vwCl[ci]? = some (C, T, N)) (hrecv : zIs E H b ci) {x0 : MethodName} {owner : String} (hl1 : ∀ U : State, zKN E U → va_Nw (.methodLink y.cls idx x0) U) (hl2 : ∀ U : State, zKN E U → va_Nw (.sameMethod x0.cls owner x0.name x0.desc) U) (hG : GoodIn lw_all ([.selects C ⟨owner, x0.name, x0.desc⟩ x, .instanceMethod x, .initialized x.cls] ++ ws_ x bytes maxL rx)) (hz : Cond.declares ⟨owner, x0.name, x0.desc⟩ ∈ lw_tbl) (hdd : owner ≠ "java/lang/invoke/MethodHandle" ∧ owner ≠ "java/lang/invoke/VarHandle" ∧ (parseMethodDescriptor x0.desc).map (fun d => d.parameters.length) = some na) (hna : As.length = na) (hst0 : st = As.reverse ++ .ref b :: rest) (dd : decode cc pc = .ok (.invokevirtual idx, 3)) (hd1 : d' + 1 ≤ d) (hd2 : 19 + maxL + 40 * d' ≤ 40 * d) (hc1 : k + mc' ≤ mc) (hc2 : n + ms' ≤ ms) (hrm : (rest.map fun v => v.category).sum ≤ 8) (kx : ∀ C q H1, X' C H1 → H.size ≤ H1.size → zT κ E H1 (k + mc') (n + ms') pc L rest C q) (kk : ∀ v H1, P' v H1 → H.size ≤ H1.size → zV κ E H1 (k + mc') (n + ms') (pc + 3) L (v.toList ++ rest)) : zV κ E H k n pc L st := by
  obtain ⟨p, l, e, R, s, m, args, below, meth, c, P0, X0, nL0, mc0, ms0⟩ := κ
  obtain ⟨hx, hb, hml, hown, hts, hKN, hlk, hho, hst, hrt, hnm, htab, hR, rfl, rfl, rfl, rfl, rfl⟩ := ok
  intro ls locs hl hlo ho
  subst hR
  subst hst0
  refine z_fin (a := (Value.ref b :: As).toArray) ?_ hl hlo ho kx kk
  exact vx_runU (As := As) (rest := rest) (nL := nL0) (C := C) (owner := owner) ⟨hx, hb, hml, hown, hts⟩ (hM l hst ho.1) (z_cwP na hts hG (rm := ({ frames := d', cells := mc', slots := ms', locals := 40 * d' } : Room)) rfl rfl (hl1 _ hKN) (hl2 _ hKN) (hKN.2.1 _ hz rfl) hdd ⟨hd1, by show 8 + (maxL + 11) + 40 * d' ≤ 40 * d; omega⟩) ⟨zFB, z_recv hKN hrecv hcl, zPre hKN⟩ rfl (hna) hl.1 rfl (lv_room hrm) dd ⟨hc1, hc2⟩
theorem z_callR (ok : zOK κ E d y cc ret hh nL mc ms P X) (hM : zM E d' x (ws_ x bytes maxL rx) mc' ms' H (.ref b :: As) P' X') (hcl : vwCl[ci]? = some (C, T, N)) (hrecv : zIs E H b ci) (hpr : Cond.privateMethod x ∈ lw_tbl) (hG : GoodIn lw_all ([.methodLink y.cls idx x, .sameMethod x.cls x.cls x.name x.desc, .instanceMethod x, .initialized x.cls] ++ ws_ x bytes maxL rx)) (hdd : x.cls ≠ "java/lang/invoke/MethodHandle" ∧ x.cls ≠ "java/lang/invoke/VarHandle" ∧ (parseMethodDescriptor x.desc).map (fun d => d.parameters.length) = some na) (hna : As.length = na) (hst0 : st = As.reverse ++ .ref b :: rest) (dd : decode cc pc = .ok (.invokevirtual idx, 3)) (hd1 : d' + 1 ≤ d) (hd2 : 19 + maxL + 40 * d' ≤ 40 * d) (hc1 : k + mc' ≤ mc) (hc2 : n + ms' ≤ ms) (hrm : (rest.map fun v => v.category).sum ≤ 8) (kx : ∀ C q H1, X' C H1 → H.size ≤ H1.size → zT κ E H1 (k + mc') (n + ms') pc L rest C q) (kk : ∀ v H1, P' v H1 → H.size ≤ H1.size → zV κ E H1 (k + mc') (n + ms') (pc + 3) L (v.toList ++ rest)) : zV κ E H k n pc L st := by
  obtain ⟨p, l, e, R, s, m, args, below, meth, c, P0, X0, nL0, mc0, ms0⟩ := κ
  obtain ⟨hx, hb, hml, hown, hts, hKN, hlk, hho, hst, hrt, hnm, htab, hR, rfl, rfl, rfl, rfl, rfl⟩ := ok
  intro ls locs hl hlo ho
  subst hR
  subst hst0
  refine z_fin (a := (Value.ref b :: As).toArray) ?_ hl hlo ho kx kk
  exact vx_runU (As := As) (rest := rest) (nL := nL0) (C := C) (owner := x.cls) ⟨hx, hb, hml, hown, hts⟩ (hM l hst ho.1) (z_cwR na hts hG (rm := ({ frames := d', cells := mc', slots := ms', locals := 40 * d' } : Room)) rfl rfl (hKN.1.1 ci _ hcl).2.1 (hKN.2.1 _ hpr rfl) hdd ⟨hd1, by show 8 + (maxL + 11) + 40 * d' ≤ 40 * d; omega⟩) ⟨zFB, z_recv hKN hrecv hcl, zPre hKN⟩ rfl (hna) hl.1 rfl (lv_room hrm) dd ⟨hc1, hc2⟩
theorem z_callO (ok : zOK κ E d y cc ret hh nL mc ms P X) (hM : zM E d' x (ws_ x bytes maxL rx) mc' ms' H (.ref b :: As) P' X') (hcl : vwCl[ci]? = some (C, T, N)) (hrecv : zIs E H b ci) {x0 : MethodName} {owner : String} (hG : GoodIn lw_all (va_wsO y.cls idx C owner x0 x (ws_ x bytes maxL rx))) {b0 : ByteArray} {m0 : Nat} {r0 : Option FieldType} (h0 : Cond.code ⟨owner, x0.name, x0.desc⟩ b0 m0 r0 ∈ lw_all) (hdd : owner ≠ "java/lang/invoke/MethodHandle" ∧ owner ≠ "java/lang/invoke/VarHandle" ∧ (parseMethodDescriptor x0.desc).map (fun d => d.parameters.length) = some na) (hna : As.length = na) (hst0 : st = As.reverse ++ .ref b :: rest) (dd : decode cc pc = .ok (.invokevirtual idx, 3)) (hd1 : d' + 1 ≤ d) (hd2 : 19 + maxL + 40 * d' ≤ 40 * d) (hc1 : k + mc' ≤ mc) (hc2 : n + ms' ≤ ms) (hrm : (rest.map fun v => v.category).sum ≤ 8) (kx : ∀ C q H1, X' C H1 → H.size ≤ H1.size → zT κ E H1 (k + mc') (n + ms') pc L rest C q) (kk : ∀ v H1, P' v H1 → H.size ≤ H1.size → zV κ E H1 (k + mc') (n + ms') (pc + 3) L (v.toList ++ rest)) : zV κ E H k n pc L st := by
  obtain ⟨p, l, e, R, s, m, args, below, meth, c, P0, X0, nL0, mc0, ms0⟩ := κ
  obtain ⟨hx, hb, hml, hown, hts, hKN, hlk, hho, hst, hrt, hnm, htab, hR, rfl, rfl, rfl, rfl, rfl⟩ := ok
  intro ls locs hl hlo ho
  subst hR
  subst hst0
  refine z_fin (a := (Value.ref b :: As).toArray) ?_ hl hlo ho kx kk
  exact vx_runU (As := As) (rest := rest) (nL := nL0) (C := C) (owner := owner) ⟨hx, hb, hml, hown, hts⟩ (hM l hst ho.1) (va_cwO (rm := ({ frames := d', cells := mc', slots := ms', locals := 40 * d' } : Room)) na hts hG rfl rfl rfl h0 hdd ⟨hd1, by show 8 + (maxL + 11) + 40 * d' ≤ 40 * d; omega⟩) ⟨zFB, z_recv hKN hrecv hcl, zPre hKN⟩ rfl (hna) hl.1 rfl (lv_room hrm) dd ⟨hc1, hc2⟩
theorem z_callS (ok : zOK κ E d y cc ret hh nL mc ms P X) (hM : zM E d' x (ws_ x bytes maxL rx) mc' ms' H As P' X') (hG : GoodIn lw_all (va_wsS y.cls idx x (ws_ x bytes maxL rx))) (hdd : x.cls ≠ "java/lang/invoke/MethodHandle" ∧ x.cls ≠ "java/lang/invoke/VarHandle" ∧ (parseMethodDescriptor x.desc).map (fun d => d.parameters.length) = some na) (hna : As.length = na) (hst0 : st = As.reverse ++ rest) (dd : decode cc pc = .ok (.invokestatic idx, 3)) (hd1 : d' + 1 ≤ d) (hd2 : 19 + maxL + 40 * d' ≤ 40 * d) (hc1 : k + mc' ≤ mc) (hc2 : n + ms' ≤ ms) (hrm : (rest.map fun v => v.category).sum ≤ 8) (kx : ∀ C q H1, X' C H1 → H.size ≤ H1.size → zT κ E H1 (k + mc') (n + ms') pc L rest C q) (kk : ∀ v H1, P' v H1 → H.size ≤ H1.size → zV κ E H1 (k + mc') (n + ms') (pc + 3) L (v.toList ++ rest)) : zV κ E H k n pc L st := by
  obtain ⟨p, l, e, R, s, m, args, below, meth, c, P0, X0, nL0, mc0, ms0⟩ := κ
  obtain ⟨hx, hb, hml, hown, hts, hKN, hlk, hho, hst, hrt, hnm, htab, hR, rfl, rfl, rfl, rfl, rfl⟩ := ok
  intro ls locs hl hlo ho
  subst hR
  subst hst0
  refine z_fin (a := As.toArray) ?_ hl hlo ho kx kk
  exact vx_runS (As := As) (rest := rest) (nL := nL0) ⟨hx, hb, hml, hown, hts⟩ (hM l hst ho.1) (va_cwS (rm := ({ frames := d', cells := mc', slots := ms', locals := 40 * d' } : Room)) na hts hG rfl rfl rfl hdd ⟨hd1, by show 8 + (maxL + 11) + 40 * d' ≤ 40 * d; omega⟩) ⟨zFB, zPre hKN⟩ rfl (hna) hl.1 rfl (lv_room hrm) dd ⟨hc1, hc2⟩
theorem z_callSH (ok : zOK κ E d y cc ret hh nL mc ms P X) (hM : zM E d' x (wsW_ x bytes maxL rx hx9) mc' ms' H As P' X') (hG : GoodIn lw_all (va_wsS y.cls idx x (wsW_ x bytes maxL rx hx9))) (hdd : x.cls ≠ "java/lang/invoke/MethodHandle" ∧ x.cls ≠ "java/lang/invoke/VarHandle" ∧ (parseMethodDescriptor x.desc).map (fun d => d.parameters.length) = some na) (hna : As.length = na) (hst0 : st = As.reverse ++ rest) (dd : decode cc pc = .ok (.invokestatic idx, 3)) (hd1 : d' + 1 ≤ d) (hd2 : 19 + maxL + 40 * d' ≤ 40 * d) (hc1 : k + mc' ≤ mc) (hc2 : n + ms' ≤ ms) (hrm : (rest.map fun v => v.category).sum ≤ 8) (kx : ∀ C q H1, X' C H1 → H.size ≤ H1.size → zT κ E H1 (k + mc') (n + ms') pc L rest C q) (kk : ∀ v H1, P' v H1 → H.size ≤ H1.size → zV κ E H1 (k + mc') (n + ms') (pc + 3) L (v.toList ++ rest)) : zV κ E H k n pc L st := by
  obtain ⟨p, l, e, R, s, m, args, below, meth, c, P0, X0, nL0, mc0, ms0⟩ := κ
  obtain ⟨hx, hb, hml, hown, hts, hKN, hlk, hho, hst, hrt, hnm, htab, hR, rfl, rfl, rfl, rfl, rfl⟩ := ok
  intro ls locs hl hlo ho
  subst hR
  subst hst0
  refine z_fin (a := As.toArray) ?_ hl hlo ho kx kk
  exact vx_runSX (As := As) (rest := rest) (nL := nL0) ⟨hx, hb, hml, hown, hts⟩ (hM l hst ho.1) (vx_cwSW (rm := ({ frames := d', cells := mc', slots := ms', locals := 40 * d' } : Room)) na hts hG rfl rfl rfl hdd ⟨hd1, by show 8 + (maxL + 11) + 40 * d' ≤ 40 * d; omega⟩) ⟨zFB, zPre hKN⟩ rfl (hna) hl.1 rfl (lv_room hrm) dd ⟨hc1, hc2⟩
theorem z_callI (ok : zOK κ E d y cc ret hh nL mc ms P X) (hM : zM E d' x (ws_ x bytes maxL none) mc' ms' H (.ref b :: As) P' X') (hG : GoodIn lw_all (ws_ x bytes maxL none)) (hini : Cond.initialized x.cls ∈ lw_all) (hlk9 : Cond.methodLink y.cls idx x ∈ lw_all) (hin : Cond.instanceMethod x ∈ lw_all) (hnm1 : x.name = "<init>") (hdd : x.cls ≠ "java/lang/invoke/MethodHandle" ∧ x.cls ≠ "java/lang/invoke/VarHandle" ∧ (parseMethodDescriptor x.desc).map (fun d => d.parameters.length) = some na) (hna : As.length = na) (hst0 : st = As.reverse ++ .ref b :: rest) (dd : decode cc pc = .ok (.invokespecial idx, 3)) (hd1 : d' + 1 ≤ d) (hd2 : 19 + maxL + 40 * d' ≤ 40 * d) (hc1 : k + mc' ≤ mc) (hc2 : n + ms' ≤ ms) (hrm : (rest.map fun v => v.category).sum ≤ 8) (kx : ∀ C q H1, X' C H1 → H.size ≤ H1.size → zT κ E H1 (k + mc') (n + ms') pc L rest C q) (kk : ∀ v H1, P' v H1 → H.size ≤ H1.size → zV κ E H1 (k + mc') (n + ms') (pc + 3) L (v.toList ++ rest)) : zV κ E H k n pc L st := by
  obtain ⟨p, l, e, R, s, m, args, below, meth, c, P0, X0, nL0, mc0, ms0⟩ := κ
  obtain ⟨hx, hb, hml, hown, hts, hKN, hlk, hho, hst, hrt, hnm, htab, hR, rfl, rfl, rfl, rfl, rfl⟩ := ok
  intro ls locs hl hlo ho
  subst hR
  subst hst0
  refine z_fin (a := (Value.ref b :: As).toArray) ?_ hl hlo ho kx kk
  exact vx_runI (As := As) (rest := rest) (nL := nL0) ⟨hx, hb, hml, hown, hts⟩ (hM l hst ho.1) (cwI (rm := ({ frames := d', cells := mc', slots := ms', locals := 40 * d' } : Room)) na hts hG rfl rfl rfl (hts _ hini) (hts _ hlk9) (hts _ hin) hnm1 hdd ⟨hd1, by show 8 + (maxL + 11) + 40 * d' ≤ 40 * d; omega⟩) ⟨zFB, zPre hKN⟩ rfl (hna) hl.1 rfl (lv_room hrm) dd ⟨hc1, hc2⟩
theorem z_callIN (ok : zOK κ E d y cc ret hh nL mc ms P X) (hM : zM E d' x (ws_ x bytes maxL none) mc' ms' H (.ref b :: As) P' X') {host : String} (hG : GoodIn lw_all (ws_ x bytes maxL none)) (hini : Cond.initialized x.cls ∈ lw_all) (hlk9 : Cond.methodLinkNest y.cls idx x host ∈ lw_tbl) (hin : Cond.instanceMethod x ∈ lw_all) (hnm1 : x.name = "<init>") (hdd : x.cls ≠ "java/lang/invoke/MethodHandle" ∧ x.cls ≠ "java/lang/invoke/VarHandle" ∧ (parseMethodDescriptor x.desc).map (fun d => d.parameters.length) = some na) (hna : As.length = na) (hst0 : st = As.reverse ++ .ref b :: rest) (dd : decode cc pc = .ok (.invokespecial idx, 3)) (hd1 : d' + 1 ≤ d) (hd2 : 19 + maxL + 40 * d' ≤ 40 * d) (hc1 : k + mc' ≤ mc) (hc2 : n + ms' ≤ ms) (hrm : (rest.map fun v => v.category).sum ≤ 8) (kx : ∀ C q H1, X' C H1 → H.size ≤ H1.size → zT κ E H1 (k + mc') (n + ms') pc L rest C q) (kk : ∀ v H1, P' v H1 → H.size ≤ H1.size → zV κ E H1 (k + mc') (n + ms') (pc + 3) L (v.toList ++ rest)) : zV κ E H k n pc L st := by
  obtain ⟨p, l, e, R, s, m, args, below, meth, c, P0, X0, nL0, mc0, ms0⟩ := κ
  obtain ⟨hx, hb, hml, hown, hts, hKN, hlk, hho, hst, hrt, hnm, htab, hR, rfl, rfl, rfl, rfl, rfl⟩ := ok
  intro ls locs hl hlo ho
  subst hR
  subst hst0
  refine z_fin (a := (Value.ref b :: As).toArray) ?_ hl hlo ho kx kk
  exact vx_runIN (As := As) (rest := rest) (nL := nL0) (host := host) ⟨hx, hb, hml, hown, hts⟩ (hM l hst ho.1) ⟨va_cnB (rm := ({ frames := d', cells := mc', slots := ms', locals := 40 * d' } : Room)) na hts hG rfl rfl rfl (hKN.2.1 _ hlk9 rfl) (hts _ hini) hdd ⟨hd1, by show 8 + (maxL + 11) + 40 * d' ≤ 40 * d; omega⟩, hnm1, hts _ hin⟩ ⟨zFB, zPre hKN⟩ rfl (hna) hl.1 rfl (lv_room hrm) dd ⟨hc1, hc2⟩
theorem z_callSU (ok : zOK κ E d y cc ret hh nL mc ms P X) (hM : zM E d' x (ws_ x bytes maxL rx) mc' ms' H (.ref b :: As) P' X') (hcl : vwCl[ci]? = some (C, T, N)) (hrecv : zIs E H b ci) (hG : GoodIn lw_all (va_wsSU y.cls idx x (ws_ x bytes maxL rx))) (hdd : x.name ≠ "<init>" ∧ (parseMethodDescriptor x.desc).map (fun d => d.parameters.length) = some na) (hna : As.length = na) (hst0 : st = As.reverse ++ .ref b :: rest) (dd : decode cc pc = .ok (.invokespecial idx, 3)) (hd1 : d' + 1 ≤ d) (hd2 : 19 + maxL + 40 * d' ≤ 40 * d) (hc1 : k + mc' ≤ mc) (hc2 : n + ms' ≤ ms) (hrm : (rest.map fun v => v.category).sum ≤ 8) (kx : ∀ C q H1, X' C H1 → H.size ≤ H1.size → zT κ E H1 (k + mc') (n + ms') pc L rest C q) (kk : ∀ v H1, P' v H1 → H.size ≤ H1.size → zV κ E H1 (k + mc') (n + ms') (pc + 3) L (v.toList ++ rest)) : zV κ E H k n pc L st := by
  obtain ⟨p, l, e, R, s, m, args, below, meth, c, P0, X0, nL0, mc0, ms0⟩ := κ
  obtain ⟨hx, hb, hml, hown, hts, hKN, hlk, hho, hst, hrt, hnm, htab, hR, rfl, rfl, rfl, rfl, rfl⟩ := ok
  intro ls locs hl hlo ho
  subst hR
  subst hst0
  refine z_fin (a := (Value.ref b :: As).toArray) ?_ hl hlo ho kx kk
  exact vx_runSU (As := As) (rest := rest) (nL := nL0) (C := C) (hKN.1.1 ci _ hcl).2 ⟨hx, hb, hml, hown, hts⟩ (hM l hst ho.1) (va_cwSU (rm := ({ frames := d', cells := mc', slots := ms', locals := 40 * d' } : Room)) na hts hG rfl rfl rfl hdd ⟨hd1, by show 8 + (maxL + 11) + 40 * d' ≤ 40 * d; omega⟩) ⟨zFB, z_recv hKN hrecv hcl, zPre hKN⟩ rfl (hna) hl.1 rfl (lv_room hrm) dd ⟨hc1, hc2⟩
theorem z_callF (ok : zOK κ E d y cc ret hh nL mc ms P X) (hM : zM E d' x (ws_ x bytes maxL rx) mc' ms' H (.ref b :: As) P' X') (hcl : vwCl[ci]? = some (C, T, N)) (hrecv : zIs E H b ci) {x0 : MethodName} {cnt : Nat} (hF : (C, x0, x) ∈ zIfs) (hG : GoodIn lw_all (va_wsF y.cls idx C x0 x (ws_ x bytes maxL rx))) (hdd : x0.cls ≠ "java/lang/invoke/MethodHandle" ∧ x0.cls ≠ "java/lang/invoke/VarHandle" ∧ (parseMethodDescriptor x0.desc).map (fun d => d.parameters.length) = some na) (hna : As.length = na) (hst0 : st = As.reverse ++ .ref b :: rest) (dd : decode cc pc = .ok (.invokeinterface idx cnt, 5)) (hd1 : d' + 1 ≤ d) (hd2 : 19 + maxL + 40 * d' ≤ 40 * d) (hc1 : k + mc' ≤ mc) (hc2 : n + ms' ≤ ms) (hrm : (rest.map fun v => v.category).sum ≤ 8) (kx : ∀ C q H1, X' C H1 → H.size ≤ H1.size → zT κ E H1 (k + mc') (n + ms') pc L rest C q) (kk : ∀ v H1, P' v H1 → H.size ≤ H1.size → zV κ E H1 (k + mc') (n + ms') (pc + 5) L (v.toList ++ rest)) : zV κ E H k n pc L st := by
  obtain ⟨p, l, e, R, s, m, args, below, meth, c, P0, X0, nL0, mc0, ms0⟩ := κ
  obtain ⟨hx, hb, hml, hown, hts, hKN, hlk, hho, hst, hrt, hnm, htab, hR, rfl, rfl, rfl, rfl, rfl⟩ := ok
  intro ls locs hl hlo ho
  subst hR
  subst hst0
  refine z_fin5 (a := (Value.ref b :: As).toArray) ?_ hl hlo ho kx kk
  exact vx_runF (As := As) (rest := rest) (nL := nL0) (C := C) (hKN.1.1 ci _ hcl).2 ⟨hx, hb, hml, hown, hts⟩ (hM l hst ho.1) (va_cwF (rm := ({ frames := d', cells := mc', slots := ms', locals := 40 * d' } : Room)) na hts hG rfl rfl rfl (hKN.2.2.1 _ hF) hdd ⟨hd1, by show 8 + (maxL + 11) + 40 * d' ≤ 40 * d; omega⟩) ⟨zFB, z_recv hKN hrecv hcl, zPre hKN⟩ rfl (hna) hl.1 rfl (lv_room hrm) dd ⟨hc1, hc2⟩
theorem z_callFH (ok : zOK κ E d y cc ret hh nL mc ms P X) (hM : zM E d' x (wsW_ x bytes maxL rx hx9) mc' ms' H (.ref b :: As) P' X') (hcl : vwCl[ci]? = some (C, T, N)) (hrecv : zIs E H b ci) {x0 : MethodName} {cnt : Nat} (hF : (C, x0, x) ∈ zIfs) (hG : GoodIn lw_all (va_wsF y.cls idx C x0 x (wsW_ x bytes maxL rx hx9))) (hdd : x0.cls ≠ "java/lang/invoke/MethodHandle" ∧ x0.cls ≠ "java/lang/invoke/VarHandle" ∧ (parseMethodDescriptor x0.desc).map (fun d => d.parameters.length) = some na) (hna : As.length = na) (hst0 : st = As.reverse ++ .ref b :: rest) (dd : decode cc pc = .ok (.invokeinterface idx cnt, 5)) (hd1 : d' + 1 ≤ d) (hd2 : 19 + maxL + 40 * d' ≤ 40 * d) (hc1 : k + mc' ≤ mc) (hc2 : n + ms' ≤ ms) (hrm : (rest.map fun v => v.category).sum ≤ 8) (kx : ∀ C q H1, X' C H1 → H.size ≤ H1.size → zT κ E H1 (k + mc') (n + ms') pc L rest C q) (kk : ∀ v H1, P' v H1 → H.size ≤ H1.size → zV κ E H1 (k + mc') (n + ms') (pc + 5) L (v.toList ++ rest)) : zV κ E H k n pc L st := by
  obtain ⟨p, l, e, R, s, m, args, below, meth, c, P0, X0, nL0, mc0, ms0⟩ := κ
  obtain ⟨hx, hb, hml, hown, hts, hKN, hlk, hho, hst, hrt, hnm, htab, hR, rfl, rfl, rfl, rfl, rfl⟩ := ok
  intro ls locs hl hlo ho
  subst hR
  subst hst0
  refine z_fin5 (a := (Value.ref b :: As).toArray) ?_ hl hlo ho kx kk
  exact vx_runFW (As := As) (rest := rest) (nL := nL0) (C := C) (hKN.1.1 ci _ hcl).2 ⟨hx, hb, hml, hown, hts⟩ (hM l hst ho.1) (va_cwFW (rm := ({ frames := d', cells := mc', slots := ms', locals := 40 * d' } : Room)) na hts hG rfl rfl rfl (hKN.2.2.1 _ hF) hdd ⟨hd1, by show 8 + (maxL + 11) + 40 * d' ≤ 40 * d; omega⟩) ⟨zFB, z_recv hKN hrecv hcl, zPre hKN⟩ rfl (hna) hl.1 rfl (lv_room hrm) dd ⟨hc1, hc2⟩
/-- an exception leaves: no handler covers -/
theorem z_out (ok : zOK κ E d y cc ret hh nL mc ms P X) {C : String} {q : Nat} (hpass : ∀ z ∈ tableOf hh, covers z pc = false ∨ (z.catchType ≠ 0 ∧ ∃ nm : String, Cond.classLink y.cls z.catchType nm ∈ lw_all ∧ (C, nm) ∈ zNcs)) (hX : X C H) (hk : k ≤ mc) (hn : n ≤ ms) : zT κ E H k n pc L st C q := by
  obtain ⟨p, l, e, R, s, m, args, below, meth, c, P0, X0, nL0, mc0, ms0⟩ := κ
  obtain ⟨hx, hb, hml, hown, hts, hKN, hlk, hho, hst, hrt, hnm, htab, hR, rfl, rfl, rfl, rfl, rfl⟩ := ok
  intro ls locs ce hl hlo ho hce hcv hcl
  refine vx_outP hown hlk (fun z hz => ?_) hce hcv hcl (fun t ht ha => ⟨by rw [ht]; exact hX, by rw [ht]; exact ho⟩) hlo hk hn
  rw [htab] at hz
  rcases hpass z hz with h | ⟨h1, nm, h2, h3⟩
  · exact Or.inl h
  · exact Or.inr ⟨h1, nm, hts _ h2, hKN.2.2.2.2.1 _ h3⟩
/-- .. with no handlers at all -/
theorem z_out0 (ok : zOK κ E d y cc ret [] nL mc ms P X) {C : String} {q : Nat} (hX : X C H) (hk : k ≤ mc) (hn : n ≤ ms) : zT κ E H k n pc L st C q := z_out ok (fun z hz => by cases hz) hX hk hn
/-- an exception is caught -/
theorem z_catch (ok : zOK κ E d y cc ret hh nL mc ms P X) {C nm : String} {q : Nat} (pre : List ExceptionTableEntry) (xe : ExceptionTableEntry) (suf : List ExceptionTableEntry) (hsplit : tableOf hh = pre ++ xe :: suf) (hpass : ∀ z ∈ pre, covers z pc = false ∨ (z.catchType ≠ 0 ∧ ∃ nm : String, Cond.classLink y.cls z.catchType nm ∈ lw_all ∧ (C, nm) ∈ zNcs)) (hcov : covers xe pc = true) (h0 : xe.catchType ≠ 0) (hlink : Cond.classLink y.cls xe.catchType nm ∈ lw_all) (hcast : Cond.castable C nm ∈ lw_tbl) (kk : zV κ E H k n xe.handlerPc L [.ref q]) : zT κ E H k n pc L st C q := by
  obtain ⟨p, l, e, R, s, m, args, below, meth, c, P0, X0, nL0, mc0, ms0⟩ := κ
  obtain ⟨hx, hb, hml, hown, hts, hKN, hlk, hho, hst, hrt, hnm, htab, hR, rfl, rfl, rfl, rfl, rfl⟩ := ok
  intro ls locs ce hl hlo ho hce hcv hcl
  refine vx_catch hown pre xe suf (htab.trans hsplit) (fun z hz => ?_) hcov h0 (hts _ hlink) (va_Nw.use rfl (hKN.2.1 _ hcast rfl)) hce hcv hcl (kk ls locs hl hlo ho)
  rcases hpass z hz with h | ⟨h1, nm, h2, h3⟩
  · exact Or.inl h
  · exact Or.inr ⟨h1, nm, hts _ h2, hKN.2.2.2.2.1 _ h3⟩
/-- 'throw new C()' where no handler covers it -/
theorem z_throw0 (ok : zOK κ E d y cc ret [] nL mc ms P X) {C : String} {names : List String} {ik ic : Nat} (hcls : Bundle.fit C = true) (hnames : ∀ n ∈ names, Bundle.fit n = true) (hk : Cond.classLink y.cls ik C ∈ lw_all) (hini : Cond.initialized C ∈ lw_all) (hat : ∀ w ∈ vx_at0 y.cls ic C names, w ∈ lw_tbl ∧ (w ∈ lw_all ∨ (zkeep w = true ∧ w.onTables = true))) (hgood : ∀ w ∈ Cond.classLink y.cls ik C :: Cond.initialized C :: vx_at0 y.cls ic C names, vx_ot w = true)
    (d0 : decode cc pc = .ok (.new ik, 3)) (d3 : decode cc (pc + 3) = .ok (.dup, 1)) (d4 : decode cc (pc + 4) = .ok (.invokespecial ic, 3)) (d7 : decode cc (pc + 7) = .ok (.athrow, 1)) (hf1 : names.length + 3 < d) (hf2 : (st.map fun v => v.category).sum + (13 * (names.length + 1) + 42) ≤ 40 * d) (hc1 : k + 1 ≤ mc) (hc2 : n + 6 ≤ ms)
    (hX : ∀ H1 : Heap, H.size ≤ H1.size → (∀ q : Nat, q < H.size → H1[q]? = H[q]?) → X C H1) : zV κ E H k n pc L st := by
  obtain ⟨p, l, e, R, s, m, args, below, meth, c, P0, X0, nL0, mc0, ms0⟩ := κ
  obtain ⟨hx, hb, hml, hown, hts, hKN, hlk, hho, hst, hrt, hnm, htab, hR, rfl, rfl, rfl, rfl, rfl⟩ := ok
  intro ls locs hl hlo ho
  subst hR
  have hq : ∀ w ∈ vx_at0 y.cls ic C names, w.before args s = true := fun w hw => by
    obtain ⟨h1, h2 | h2⟩ := hat w hw
    · exact hts w h2
    · exact va_tabs h2.2 (rfl : s.vm = s.vm) (hKN.2.1 w h1 h2.1)
  obtain ⟨h7, h8, -⟩ := hKN.2.2.2.2.2.2.1
  have hkp : ∀ a : Nat, a < E.2.1.size → ¬ zNew E a → s.heap[a]? = E.2.1[a]? := fun a ha _ => hho.2 a ha
  refine vx_throw0 (A := zNew E) hx hb hst hown hcls hnames (hts _ hk) (hts _ hini) hq hgood (h7.kept hkp) (h8.kept hkp) ⟨ho.2, fun q h1 h2 => ?_, hlo⟩ (by rw [hml]; exact hl.1) d0 d3 d4 d7 (fun z hz => by rw [htab] at hz; cases hz) hf1 hf2 hc1 hc2 hlk (fun t ha hz hq => ⟨hX t.heap hz hq, ?_⟩) hlo hc1 hc2
  · have h3 : q < zB E := Nat.not_le.mp h2
    rw [ho.1.2 q h3, hho.2 q h3]
  · exact ⟨⟨Nat.le_trans ho.1.1 hz, fun q h3 => (hq q (Nat.lt_of_lt_of_le h3 ho.1.1)).trans (ho.1.2 q h3)⟩, Nat.le_trans ho.2 hz⟩
end ZC
