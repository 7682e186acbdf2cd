/-! Z rows: System.arraycopy, class objects, tables -/
set_option maxRecDepth 100000
theorem nn_clamp {z : Int32} (hz : ¬ z < 0) : z.toInt = (z.toNatClampNeg : Int) := by
  have hz0 : (0 : Int) ≤ z.toInt := by
    have := Int32.not_lt.mp hz
    simpa using Int32.le_iff_toInt_le.mp this
  show z.toInt = ((z.toInt.toNat : Nat) : Int)
  omega
theorem cpW : nativeFrameWords "java/lang/System" "arraycopy" 5 ≤ 9 := by decide
section ZMO
variable {κ : zC} {E : zE} {d : Nat} {y : MethodName} {cc : ByteArray} {ret : Option FieldType} {hh : List (Nat × Nat × Nat × Nat)} {nL mc ms : Nat} {P : Option Value → Heap → Prop} {X : String → Heap → Prop} {H : Heap} {k n pc : Nat} {L : List (Option Value)} {st : List Value} {a : Nat}
theorem z_copyQ (ok : zOK κ E d y cc ret hh nL mc ms P X) {idx a0 n0 n1 sp dp N ci : Nat} {f g : Nat → Option Nat} {isp idp iN : Int32} (hlink : Cond.methodLink y.cls idx arraycopyName ∈ lw_all) (hat0 : zAt E H a0 (zQ E n0 f)) (hat : zAt E H a (zQ E n1 g)) (hs : isp = nI sp) (hd : idp = nI dp) (hn : iN = nI N) (b1 : sp + N ≤ n0) (b2 : dp + N ≤ n1) (hel : ∀ i, i < N → ∀ r, f (sp + i) = some r → zIs E H r ci) (hlie : zLie ci) (dd : decode cc pc = .ok (.invokestatic idx, 3)) (hdp : 1 ≤ d)
    (kk : ∀ H1, zWr E H a (zQ E n1 (va_cpy f g sp dp N)) H1 → zV κ E H1 k n (pc + 3) L st) (hrm : (st.map fun v => v.category).sum ≤ 20 := by first | exact Nat.le_of_ble_eq_true rfl | (simp [va_rf_cat]; done)) (q0 : n0 < 2147483648 := by decide) (q1 : n1 < 2147483648 := by decide) : zV κ E H k n pc L (.int iN :: .int idp :: .ref a :: .int isp :: .ref a0 :: st) := by
  obtain ⟨p, l, e, R, s, m, args, below, meth, c, P', X', nL', mc', ms'⟩ := κ
  obtain ⟨hx, hb, hml, hown, hts, hKN, hlk, hho, hst, hrt, hnm, htab, hR, rfl, rfl, rfl, rfl, rfl⟩ := ok
  intro ls locs hl hlo ho T hT X9
  subst hR
  have e1 : isp.toNatClampNeg = sp := by rw [hs]; exact nI_clamp (by omega)
  have e2 : idp.toNatClampNeg = dp := by rw [hd]; exact nI_clamp (by omega)
  have e3 : iN.toNatClampNeg = N := by rw [hn]; exact nI_clamp (by omega)
  have p1 : ¬ isp < 0 := by rw [hs]; exact nI_pos (by omega)
  have p2 : ¬ idp < 0 := by rw [hd]; exact nI_pos (by omega)
  have p3 : ¬ iN < 0 := by rw [hn]; exact nI_pos (by omega)
  have hc0 : H[a0]? = some (vp_cell (E.2.2.1 4) (n0, .inr (.inr (.inr (.inr f))))) := hat0.2
  have hc1 : H[a]? = some (vp_cell (E.2.2.1 4) (n1, .inr (.inr (.inr (.inr g))))) := hat.2
  obtain ⟨-, k0, hk0, cm0, hkk0⟩ := (hKN.1.2 4 _ rfl).1 n0 (fun j => va_rf (f j))
  obtain ⟨-, k1, hk1, cm1, hkk1⟩ := (hKN.1.2 4 _ rfl).1 n1 (fun j => va_rf (g j))
  obtain ⟨lq, hlq1, hlq2⟩ := hlie
  have hw := cpW
  obtain ⟨vm', X2, step⟩ := X9.arraycopy hx hown (hts _ hlink) (hts _ q305) (hts _ q304) (hts _ q69) (src := a0) (dst := a) (cs := vp_cell (E.2.2.1 4) (n0, .inr (.inr (.inr (.inr f))))) (cd := vp_cell (E.2.2.1 4) (n1, .inr (.inr (.inr (.inr g))))) (srcPos := isp) (destPos := idp) (n := iN) (by rw [hT]; exact hc0) (by rw [hT]; exact hc1)
    (fun _ h => by cases h) (fun _ h => by cases h) (fun h => by cases h) (fun h => by cases h) hk0 hk1 hkk0 hkk1 rfl p1 p2 p3
    (by rw [nn_clamp p1, nn_clamp p3, e1, e3]; show ¬ _ > ((arrV (E.2.2.1 4) n0 (fun j => va_rf (f j))).slots.size : Int); rw [arrV_size]; omega)
    (by rw [nn_clamp p2, nn_clamp p3, e2, e3]; show ¬ _ > ((arrV (E.2.2.1 4) n1 (fun j => va_rf (g j))).slots.size : Int); rw [arrV_size]; omega)
    (fun vm₁ hal i hi => by
      rw [e3] at hi
      have er : (vp_cell (E.2.2.1 4) (n0, .inr (.inr (.inr (.inr f))))).slots.getD (isp.toNatClampNeg + i) .null = va_rf (f (sp + i)) := by
        rw [e1]
        show (arrV (E.2.2.1 4) n0 (fun j => va_rf (f j))).slots.getD _ _ = _
        rw [Array.getD_eq_getD_getElem?, arrV_read _ _ (by omega)]
        rfl
      rw [er]
      cases hy : f (sp + i) with
      | none => exact ⟨rfl, trivial⟩
      | some r =>
        obtain ⟨cellV, g1, g2, ⟨kC, hkC⟩, hasg⟩ := zAny.of hKN (hel i hi r hy) hlq1 hlq2
        obtain ⟨kA, comp, r1, r2, r3, -⟩ := (hKN.1.2 4 _ rfl).2
        cases hk1.symm.trans r1
        cases hkk1.symm.trans r2
        obtain ⟨kE, hkE, -⟩ := Vm.findClass_spec r3
        obtain ⟨kC', hkC', -⟩ := hal.2.2 _ _ hkC
        obtain ⟨kE', hkE', -⟩ := hal.2.2 _ _ hkE
        refine ⟨rfl, cellV, (show T.heap[r]? = some cellV by rw [hT]; exact g1), (fun q h => by rw [h] at g2; cases g2), ⟨kC', hkC'⟩, ?_, ?_⟩
        · exact ⟨kE', hkE'⟩
        · show vm₁.assignable _ _ = true
          rw [hal.assignable]
          exact hasg _ r3)
    (g := F0 m pc ls (.int iN :: .int idp :: .ref a :: .int isp :: .ref a0 :: st)) rfl (by rw [hml]; exact hl.1) (rest := st) rfl (by rw [hb]; exact dd) (by show 1 ≤ d; exact hdp) (by show 2 * 0 + _ + _ ≤ 40 * d; omega)
  have e4 : copied (vp_cell (E.2.2.1 4) (n0, .inr (.inr (.inr (.inr f))))) (vp_cell (E.2.2.1 4) (n1, .inr (.inr (.inr (.inr g))))) isp idp iN = vp_cell (E.2.2.1 4) (n1, .inr (.inr (.inr (.inr (va_cpy f g sp dp N))))) := by
    have := va_copied (sp := isp.toNatClampNeg) (dp := idp.toNatClampNeg) (n := iN.toNatClampNeg) (fun z => va_rf z) (E.2.2.1 4) (E.2.2.1 4) (n0 := n0) (n1 := n1) f g (by omega)
    rw [vp_cell_q, vp_cell_q, vp_cell_q]
    rw [e1, e2, e3] at this
    rw [← this]
    simp only [copied, e1, e2, e3]
  rw [e4] at X2 step
  have hlt : a < H.size := (Array.getElem?_eq_some_iff.mp hc1).1
  have hheap : ((T.setVm vm').setCell a (vp_cell (E.2.2.1 4) (n1, .inr (.inr (.inr (.inr (va_cpy f g sp dp N))))))).heap = H.setIfInBounds a (vp_cell (E.2.2.1 4) (n1, .inr (.inr (.inr (.inr (va_cpy f g sp dp N)))))) := by rw [← hT]; rfl
  have oq : ∀ q : Nat, q ≠ a → (H.setIfInBounds a (vp_cell (E.2.2.1 4) (n1, .inr (.inr (.inr (.inr (va_cpy f g sp dp N)))))))[q]? = H[q]? := fun q hq => by simp [Array.getElem?_setIfInBounds, Ne.symm hq]
  have hz : (H.setIfInBounds a (vp_cell (E.2.2.1 4) (n1, .inr (.inr (.inr (.inr (va_cpy f g sp dp N))))))).size = H.size := by simp
  obtain ⟨t, a1, b3⟩ := kk _ ⟨⟨hat.1, show (H.setIfInBounds a _)[a]? = some _ by simp [Array.getElem?_setIfInBounds, hlt]⟩, hz, oq⟩ ls _ hl (fun q hq => by
      rcases List.mem_append.mp hq with h | h
      · exact hlo q h
      · obtain ⟨z, -, hz⟩ := List.mem_map.mp h
        rw [← hz]
        exact hat.1) (ho.wr hat.1 hz oq) _ hheap X2
  exact ⟨t, step t a1, b3⟩
/-- getClass() of an Object[] -/
theorem z_getC (ok : zOK κ E d y cc ret hh nL mc ms P X) {idx N : Nat} {f : Nat → Option Nat} (hlink : Cond.methodLink y.cls idx ⟨"java/lang/Object", "getClass", "()Ljava/lang/Class;"⟩ ∈ lw_all) (hat : zAt E H a (zQ E N f)) (dd : decode cc pc = .ok (.invokevirtual idx, 3)) (hdp : 1 ≤ d) (kk : zV κ E H k n (pc + 3) L (.ref (E.2.2.2.2.2.2 4) :: st)) (hrm : (st.map fun v => v.category).sum ≤ 20 := by first | exact Nat.le_of_ble_eq_true rfl | (simp [va_rf_cat]; done)) : zV κ E H k n pc L (.ref a :: st) := by
  obtain ⟨p, l, e, R, s, m, args, below, meth, c, P', X', nL', mc', ms'⟩ := κ
  obtain ⟨hx, hb, hml, hown, hts, hKN, hlk, hho, hst, hrt, hnm, htab, hR, rfl, rfl, rfl, rfl, rfl⟩ := ok
  intro ls locs hl hlo ho
  subst hR
  have hM := zKN.mir hKN
  exact va_getC hx hb (by rw [hml]; exact hl.1.symm) hown (hts _ hlink) (va_Nw.use rfl (hKN.2.1 _ q2298 rfl)) (hts _ q2297) (hts _ q266) (hts _ q293) hM ⟨_, hat.2, rfl, va_nmO (hKN.1.2 4 _ rfl).2 rfl⟩ hdp (by show _ ≤ 40 * d; omega) dd (kk ls locs hl hlo ho)
theorem z_ldcM (ok : zOK κ E d y cc ret hh nL mc ms P X) {i : Nat} (hlink : Cond.classLink y.cls i "[Ljava/lang/Object;" ∈ lw_all) (dd : decode cc pc = .ok (.ldc i, 2)) (kk : zV κ E H k n (pc + 2) L (.ref (E.2.2.2.2.2.2 4) :: st)) : zV κ E H k n pc L st := by
  obtain ⟨p, l, e, R, s, m, args, below, meth, c, P', X', nL', mc', ms'⟩ := κ
  obtain ⟨hx, hb, hml, hown, hts, hKN, hlk, hho, hst, hrt, hnm, htab, hR, rfl, rfl, rfl, rfl, rfl⟩ := ok
  intro ls locs hl hlo ho
  exact va_ldcM hx hb hown (hts _ hlink) (zKN.mir hKN) dd (kk ls locs hl hlo ho)
theorem z_copyB (ok : zOK κ E d y cc ret hh nL mc ms P X) {idx a0 n0 n1 sp dp N : Nat} {f g : Nat → Int32} {isp idp iN : Int32} (hlink : Cond.methodLink y.cls idx arraycopyName ∈ lw_all) (hat0 : zAt E H a0 (zI E 3 n0 f)) (hat : zAt E H a (zI E 3 n1 g)) (hs : isp = nI sp) (hd : idp = nI dp) (hn : iN = nI N) (b1 : sp + N ≤ n0) (b2 : dp + N ≤ n1) (hfit : ∀ i, i < N → fits .byte (.int (f (sp + i))) = true) (dd : decode cc pc = .ok (.invokestatic idx, 3)) (hdp : 1 ≤ d)
    (kk : ∀ H1, zWr E H a (zI E 3 n1 (va_cpy f g sp dp N)) H1 → zV κ E H1 k n (pc + 3) L st) (hrm : (st.map fun v => v.category).sum ≤ 20 := by first | exact Nat.le_of_ble_eq_true rfl | (simp [va_rf_cat]; done)) (q0 : n0 < 2147483648 := by decide) (q1 : n1 < 2147483648 := by decide) : zV κ E H k n pc L (.int iN :: .int idp :: .ref a :: .int isp :: .ref a0 :: st) := by
  obtain ⟨p, l, e, R, s, m, args, below, meth, c, P', X', nL', mc', ms'⟩ := κ
  obtain ⟨hx, hb, hml, hown, hts, hKN, hlk, hho, hst, hrt, hnm, htab, hR, rfl, rfl, rfl, rfl, rfl⟩ := ok
  intro ls locs hl hlo ho T hT X9
  subst hR
  have e1 : isp.toNatClampNeg = sp := by rw [hs]; exact nI_clamp (by omega)
  have e2 : idp.toNatClampNeg = dp := by rw [hd]; exact nI_clamp (by omega)
  have e3 : iN.toNatClampNeg = N := by rw [hn]; exact nI_clamp (by omega)
  have p1 : ¬ isp < 0 := by rw [hs]; exact nI_pos (by omega)
  have p2 : ¬ idp < 0 := by rw [hd]; exact nI_pos (by omega)
  have p3 : ¬ iN < 0 := by rw [hn]; exact nI_pos (by omega)
  have hc1 : H[a]? = some (vp_cell (E.2.2.1 3) (n1, .inl g)) := hat.2
  obtain ⟨-, k1, hk1, cm1, hkk1⟩ := (hKN.1.2 3 _ rfl).1 n1 (fun j => .int (g j))
  obtain ⟨scr, hc0, hs6, k0, hk0, ⟨cm0, hkk0⟩, hs3, hs4, hs5⟩ : ∃ scr : Cell, H[a0]? = some scr ∧ (∀ q, scr.vm ≠ .statics q) ∧ ∃ k0, s.vm.classes[scr.cls]? = some k0 ∧ (∃ cm0, k0.kind = .array cm0 .byte) ∧ scr.vm ≠ .unknown ∧ n0 ≤ scr.slots.size ∧ ∀ j, j < n0 → scr.slots[j]? = some (.int (f j)) := by
    obtain ⟨-, k0, hk0, cm0, hkk0⟩ := (hKN.1.2 3 _ rfl).1 n0 (fun j => .int (f j))
    exact ⟨vp_cell (E.2.2.1 3) (n0, .inl f), hat0.2, (fun _ h => by cases h), k0, hk0, ⟨cm0, hkk0⟩, (fun h => by cases h), by rw [vp_cell_i, arrV_size]; exact Nat.le_refl _, fun j hj => by rw [vp_cell_i, arrV_read _ _ hj]⟩
  have hw := cpW
  obtain ⟨vm', X2, step⟩ := X9.arraycopy hx hown (hts _ hlink) (hts _ q305) (hts _ q304) (hts _ q69) (src := a0) (dst := a) (cs := scr) (cd := vp_cell (E.2.2.1 3) (n1, .inl g)) (srcPos := isp) (destPos := idp) (n := iN) (by rw [hT]; exact hc0) (by rw [hT]; exact hc1)
    hs6 (fun _ h => by cases h) hs3 (fun h => by cases h) hk0 hk1 hkk0 hkk1 (by simp [refKind]) p1 p2 p3
    (by rw [nn_clamp p1, nn_clamp p3, e1, e3]; omega)
    (by rw [nn_clamp p2, nn_clamp p3, e2, e3]; show ¬ _ > ((arrV (E.2.2.1 3) n1 (fun j => .int (g j))).slots.size : Int); rw [arrV_size]; omega)
    (fun vm₁ _ i hi => by
      rw [e3] at hi
      have er : scr.slots.getD (isp.toNatClampNeg + i) .null = .int (f (sp + i)) := by
        rw [e1, Array.getD_eq_getD_getElem?, hs5 _ (by omega)]
        rfl
      rw [er]
      exact ⟨hfit i hi, trivial⟩)
    (g := F0 m pc ls (.int iN :: .int idp :: .ref a :: .int isp :: .ref a0 :: st)) rfl (by rw [hml]; exact hl.1) (rest := st) rfl (by rw [hb]; exact dd) (by show 1 ≤ d; exact hdp) (by show 2 * 0 + _ + _ ≤ 40 * d; omega)
  have e4 : copied scr (vp_cell (E.2.2.1 3) (n1, .inl g)) isp idp iN = vp_cell (E.2.2.1 3) (n1, .inl (va_cpy f g sp dp N)) := by
    have := va_copiedX (sp := isp.toNatClampNeg) (dp := idp.toNatClampNeg) (n := iN.toNatClampNeg) (fun z => Value.int z) scr (E.2.2.1 3) (n0 := n0) (n1 := n1) f g hs5 (by omega)
    rw [vp_cell_i, vp_cell_i]
    rw [e1, e2, e3] at this
    rw [← this]
    simp only [copied, e1, e2, e3]
  rw [e4] at X2 step
  have hlt : a < H.size := (Array.getElem?_eq_some_iff.mp hc1).1
  have hheap : ((T.setVm vm').setCell a (vp_cell (E.2.2.1 3) (n1, .inl (va_cpy f g sp dp N)))).heap = H.setIfInBounds a (vp_cell (E.2.2.1 3) (n1, .inl (va_cpy f g sp dp N))) := by rw [← hT]; rfl
  have oq : ∀ q : Nat, q ≠ a → (H.setIfInBounds a (vp_cell (E.2.2.1 3) (n1, .inl (va_cpy f g sp dp N))))[q]? = H[q]? := fun q hq => by simp [Array.getElem?_setIfInBounds, Ne.symm hq]
  have hz : (H.setIfInBounds a (vp_cell (E.2.2.1 3) (n1, .inl (va_cpy f g sp dp N)))).size = H.size := by simp
  obtain ⟨t, a1, b3⟩ := kk _ ⟨⟨hat.1, show (H.setIfInBounds a _)[a]? = some _ by simp [Array.getElem?_setIfInBounds, hlt]⟩, hz, oq⟩ ls _ hl (fun q hq => by
      rcases List.mem_append.mp hq with h | h
      · exact hlo q h
      · obtain ⟨z, -, hz⟩ := List.mem_map.mp h
        rw [← hz]
        exact hat.1) (ho.wr hat.1 hz oq) _ hheap X2
  exact ⟨t, step t a1, b3⟩
theorem z_copyT (ok : zOK κ E d y cc ret hh nL mc ms P X) {idx a0 n0 n1 sp dp N : Nat} {f g : Nat → Int32} {isp idp iN : Int32} (hlink : Cond.methodLink y.cls idx arraycopyName ∈ lw_all) (hat0 : ∀ U : State, zKN E U → va_T .byte a0 n0 (fun j => .int (f j)) (zNew E) U E.2.1) (hat : zAt E H a (zI E 3 n1 g)) (hs : isp = nI sp) (hd : idp = nI dp) (hn : iN = nI N) (b1 : sp + N ≤ n0) (b2 : dp + N ≤ n1) (hfit : ∀ i, i < N → fits .byte (.int (f (sp + i))) = true) (dd : decode cc pc = .ok (.invokestatic idx, 3)) (hdp : 1 ≤ d)
    (kk : ∀ H1, zWr E H a (zI E 3 n1 (va_cpy f g sp dp N)) H1 → zV κ E H1 k n (pc + 3) L st) (hrm : (st.map fun v => v.category).sum ≤ 20 := by first | exact Nat.le_of_ble_eq_true rfl | (simp [va_rf_cat]; done)) (q0 : n0 < 2147483648 := by decide) (q1 : n1 < 2147483648 := by decide) : zV κ E H k n pc L (.int iN :: .int idp :: .ref a :: .int isp :: .ref a0 :: st) := by
  obtain ⟨p, l, e, R, s, m, args, below, meth, c, P', X', nL', mc', ms'⟩ := κ
  obtain ⟨hx, hb, hml, hown, hts, hKN, hlk, hho, hst, hrt, hnm, htab, hR, rfl, rfl, rfl, rfl, rfl⟩ := ok
  intro ls locs hl hlo ho T hT X9
  subst hR
  have e1 : isp.toNatClampNeg = sp := by rw [hs]; exact nI_clamp (by omega)
  have e2 : idp.toNatClampNeg = dp := by rw [hd]; exact nI_clamp (by omega)
  have e3 : iN.toNatClampNeg = N := by rw [hn]; exact nI_clamp (by omega)
  have p1 : ¬ isp < 0 := by rw [hs]; exact nI_pos (by omega)
  have p2 : ¬ idp < 0 := by rw [hd]; exact nI_pos (by omega)
  have p3 : ¬ iN < 0 := by rw [hn]; exact nI_pos (by omega)
  have hc1 : H[a]? = some (vp_cell (E.2.2.1 3) (n1, .inl g)) := hat.2
  obtain ⟨-, k1, hk1, cm1, hkk1⟩ := (hKN.1.2 3 _ rfl).1 n1 (fun j => .int (g j))
  obtain ⟨scr, hc0, hs6, k0, hk0, ⟨cm0, hkk0⟩, hs3, hs4, hs5⟩ : ∃ scr : Cell, H[a0]? = some scr ∧ (∀ q, scr.vm ≠ .statics q) ∧ ∃ k0, s.vm.classes[scr.cls]? = some k0 ∧ (∃ cm0, k0.kind = .array cm0 .byte) ∧ scr.vm ≠ .unknown ∧ n0 ≤ scr.slots.size ∧ ∀ j, j < n0 → scr.slots[j]? = some (.int (f j)) := by
    obtain ⟨cell, h1, ⟨h2, k0, hk0, cm0, hkk0⟩, h3, h4, -, h5, h6⟩ := hat0 s hKN
    refine ⟨cell, ?_, h2, k0, hk0, ⟨cm0, hkk0⟩, h3, h4, h5⟩
    rw [ho.1.2 a0 (Nat.not_le.mp h6)]
    exact h1
  have hw := cpW
  obtain ⟨vm', X2, step⟩ := X9.arraycopy hx hown (hts _ hlink) (hts _ q305) (hts _ q304) (hts _ q69) (src := a0) (dst := a) (cs := scr) (cd := vp_cell (E.2.2.1 3) (n1, .inl g)) (srcPos := isp) (destPos := idp) (n := iN) (by rw [hT]; exact hc0) (by rw [hT]; exact hc1)
    hs6 (fun _ h => by cases h) hs3 (fun h => by cases h) hk0 hk1 hkk0 hkk1 (by simp [refKind]) p1 p2 p3
    (by rw [nn_clamp p1, nn_clamp p3, e1, e3]; omega)
    (by rw [nn_clamp p2, nn_clamp p3, e2, e3]; show ¬ _ > ((arrV (E.2.2.1 3) n1 (fun j => .int (g j))).slots.size : Int); rw [arrV_size]; omega)
    (fun vm₁ _ i hi => by
      rw [e3] at hi
      have er : scr.slots.getD (isp.toNatClampNeg + i) .null = .int (f (sp + i)) := by
        rw [e1, Array.getD_eq_getD_getElem?, hs5 _ (by omega)]
        rfl
      rw [er]
      exact ⟨hfit i hi, trivial⟩)
    (g := F0 m pc ls (.int iN :: .int idp :: .ref a :: .int isp :: .ref a0 :: st)) rfl (by rw [hml]; exact hl.1) (rest := st) rfl (by rw [hb]; exact dd) (by show 1 ≤ d; exact hdp) (by show 2 * 0 + _ + _ ≤ 40 * d; omega)
  have e4 : copied scr (vp_cell (E.2.2.1 3) (n1, .inl g)) isp idp iN = vp_cell (E.2.2.1 3) (n1, .inl (va_cpy f g sp dp N)) := by
    have := va_copiedX (sp := isp.toNatClampNeg) (dp := idp.toNatClampNeg) (n := iN.toNatClampNeg) (fun z => Value.int z) scr (E.2.2.1 3) (n0 := n0) (n1 := n1) f g hs5 (by omega)
    rw [vp_cell_i, vp_cell_i]
    rw [e1, e2, e3] at this
    rw [← this]
    simp only [copied, e1, e2, e3]
  rw [e4] at X2 step
  have hlt : a < H.size := (Array.getElem?_eq_some_iff.mp hc1).1
  have hheap : ((T.setVm vm').setCell a (vp_cell (E.2.2.1 3) (n1, .inl (va_cpy f g sp dp N)))).heap = H.setIfInBounds a (vp_cell (E.2.2.1 3) (n1, .inl (va_cpy f g sp dp N))) := by rw [← hT]; rfl
  have oq : ∀ q : Nat, q ≠ a → (H.setIfInBounds a (vp_cell (E.2.2.1 3) (n1, .inl (va_cpy f g sp dp N))))[q]? = H[q]? := fun q hq => by simp [Array.getElem?_setIfInBounds, Ne.symm hq]
  have hz : (H.setIfInBounds a (vp_cell (E.2.2.1 3) (n1, .inl (va_cpy f g sp dp N)))).size = H.size := by simp
  obtain ⟨t, a1, b3⟩ := kk _ ⟨⟨hat.1, show (H.setIfInBounds a _)[a]? = some _ by simp [Array.getElem?_setIfInBounds, hlt]⟩, hz, oq⟩ ls _ hl (fun q hq => by
      rcases List.mem_append.mp hq with h | h
      · exact hlo q h
      · obtain ⟨z, -, hz⟩ := List.mem_map.mp h
        rw [← hz]
        exact hat.1) (ho.wr hat.1 hz oq) _ hheap X2
  exact ⟨t, step t a1, b3⟩
/-- the arrays that the start heap holds, to read -/
theorem z_tlen (ok : zOK κ E d y cc ret hh nL mc ms P X) {ty : FieldType} {N : Nat} {f : Nat → Value} (hat : ∀ U : State, zKN E U → va_T ty a N f (zNew E) U E.2.1) (dd : decode cc pc = .ok (.arraylength, 1)) (kk : zV κ E H k n (pc + 1) L (.int (nI N) :: st)) : zV κ E H k n pc L (.ref a :: st) := by
  obtain ⟨p, l, e, R, s, m, args, below, meth, c, P', X', nL', mc', ms'⟩ := κ
  obtain ⟨hx, hb, hml, hown, hts, hKN, hlk, hho, hst, hrt, hnm, htab, hR, rfl, rfl, rfl, rfl, rfl⟩ := ok
  intro ls locs hl hlo ho
  obtain ⟨cell, h1, h2, h3, h4, h7, h5, h6⟩ := hat s hKN
  exact W.alen (n := nI N) hx hb (by rw [ho.1.2 a (Nat.not_le.mp h6)]; exact h1) h2 h7 rfl rfl dd (kk ls locs hl hlo ho)
theorem z_tbald (ok : zOK κ E d y cc ret hh nL mc ms P X) {N j : Nat} {f : Nat → Int32} {i : Int32} (hat : ∀ U : State, zKN E U → va_T .byte a N (fun k => .int (f k)) (zNew E) U E.2.1) (hi : i = nI j) (hj : j < N) (dd : decode cc pc = .ok (.baload, 1)) (kk : zV κ E H k n (pc + 1) L (.int (f j) :: st)) (hN : N < 2147483648 := by decide) : zV κ E H k n pc L (.int i :: .ref a :: st) := by
  obtain ⟨p, l, e, R, s, m, args, below, meth, c, P', X', nL', mc', ms'⟩ := κ
  obtain ⟨hx, hb, hml, hown, hts, hKN, hlk, hho, hst, hrt, hnm, htab, hR, rfl, rfl, rfl, rfl, rfl⟩ := ok
  intro ls locs hl hlo ho
  have hc : (nI j).toNatClampNeg = j := nI_clamp (by omega)
  have hp : ¬ nI j < 0 := nI_pos (by omega)
  obtain ⟨cell, h1, h2, h3, h4, h7, h5, h6⟩ := hat s hKN
  rw [hi]
  exact W.bald (v := .int (f j)) hx hb (by rw [ho.1.2 a (Nat.not_le.mp h6)]; exact h1) h2 h3 (by rw [hc]; exact fun z => z.elim hp (fun z => by omega)) (by rw [hc]; exact h5 j hj) rfl rfl dd (kk ls locs hl hlo ho)
theorem z_taald (ok : zOK κ E d y cc ret hh nL mc ms P X) {C : String} {N j : Nat} {f : Nat → Nat} {i : Int32} (hat : ∀ U : State, zKN E U → va_T (.object C) a N (fun k => .ref (f k)) (zNew E) U E.2.1) (hi : i = nI j) (hj : j < N) (dd : decode cc pc = .ok (.aaload, 1)) (kk : zV κ E H k n (pc + 1) L (.ref (f j) :: st)) (hN : N < 2147483648 := by decide) : zV κ E H k n pc L (.int i :: .ref a :: st) := by
  obtain ⟨p, l, e, R, s, m, args, below, meth, c, P', X', nL', mc', ms'⟩ := κ
  obtain ⟨hx, hb, hml, hown, hts, hKN, hlk, hho, hst, hrt, hnm, htab, hR, rfl, rfl, rfl, rfl, rfl⟩ := ok
  intro ls locs hl hlo ho
  have hc : (nI j).toNatClampNeg = j := nI_clamp (by omega)
  have hp : ¬ nI j < 0 := nI_pos (by omega)
  obtain ⟨cell, h1, h2, h3, h4, h7, h5, h6⟩ := hat s hKN
  rw [hi]
  exact W.aald (v := .ref (f j)) (ty := .object C) hx hb (by rw [ho.1.2 a (Nat.not_le.mp h6)]; exact h1) h2 rfl h3 (by rw [hc]; exact fun z => z.elim hp (fun z => by omega)) (by rw [hc]; exact h5 j hj) rfl rfl dd (kk ls locs hl hlo ho)
end ZMO
theorem zKN.t0 {E : zE} {U : State} (h : zKN E U) : va_T (.object "java/lang/Object") (E.2.2.2.2.2.2 0) 0 (fun _ => .null) (zNew E) U E.2.1 := h.2.2.2.2.2.2.2.1.1
theorem zKN.t1 {E : zE} {U : State} (h : zKN E U) : va_T (.object "java/lang/Integer") (E.2.2.2.2.2.2 1) 256 (fun k => .ref (E.2.2.2.1 k)) (zNew E) U E.2.1 := h.2.2.2.2.2.2.2.1.2.1
theorem zKN.t2 {E : zE} {U : State} (h : zKN E U) : va_T .byte (E.2.2.2.2.2.2 2) 100 (fun k => .int (nI (48 + k / 10))) (zNew E) U E.2.1 := h.2.2.2.2.2.2.2.1.2.2.1
theorem zKN.t3 {E : zE} {U : State} (h : zKN E U) : va_T .byte (E.2.2.2.2.2.2 3) 100 (fun k => .int (nI (48 + k % 10))) (zNew E) U E.2.1 := h.2.2.2.2.2.2.2.1.2.2.2.1
theorem zKN.ts {E : zE} {U : State} (h : zKN E U) {i : Nat} (hi : i < 10) : va_T .byte (E.2.2.2.2.2.1 i) (zStrB.getD i []).length (fun k => .int ((zStrB.getD i []).getD k 0)) (zNew E) U E.2.1 := h.2.2.2.2.2.2.2.1.2.2.2.2 i hi
theorem zKN.box {E : zE} {U : State} (h : zKN E U) {k : Nat} (hk : k < 256) : zOb E E.2.1 (E.2.2.2.1 k) 14 [.int (vb_c k)] := h.2.2.2.2.2.2.2.2.1 k hk
theorem zKN.str {E : zE} {U : State} (h : zKN E U) {i : Nat} (hi : i < 10) : zOb E E.2.1 (E.2.2.2.2.1 i) 13 [.ref (E.2.2.2.2.2.1 i), .int 0, .int (zStrH.getD i 0), .int (zStrZ.getD i 0)] := h.2.2.2.2.2.2.2.2.2.1 i hi
/-- what the start heap holds, told in a walk -/
theorem zOK.kn {κ : zC} {E : zE} {d : Nat} {y : MethodName} {cc : ByteArray} {ret : Option FieldType} {hh : List (Nat × Nat × Nat × Nat)} {nL mc ms : Nat} {P : Option Value → Heap → Prop} {X : String → Heap → Prop} (ok : zOK κ E d y cc ret hh nL mc ms P X) : ∃ U : State, zKN E U := by
  obtain ⟨p, l, e, R, s, m, args, below, meth, c, P', X', nL', mc', ms'⟩ := κ
  exact ⟨s, ok.2.2.2.2.2.1⟩
theorem mxC : prog_28_method_65_code = Lib.Math.max.code := by decide +kernel
theorem mnC : prog_28_method_69_code = Lib.Math.min.code := by decide +kernel
theorem z_mmax {κ : zC} {E : zE} {d : Nat} {y : MethodName} {cc : ByteArray} {ret : Option FieldType} {hh : List (Nat × Nat × Nat × Nat)} {nL mc ms : Nat} {P : Option Value → Heap → Prop} {X : String → Heap → Prop} {H : Heap} {k n pc : Nat} {L : List (Option Value)} {st : List Value} (ok : zOK κ E d y cc ret hh nL mc ms P X) {idx : Nat} {u v : Int32} (hlink : Cond.methodLink y.cls idx Lib.Math.max.name ∈ lw_all) (dd : decode cc pc = .ok (.invokestatic idx, 3)) (hdp : 1 ≤ d) (hk : k ≤ mc) (hn : n ≤ ms) (kk : zV κ E H k n (pc + 3) L (.int (if u < v then v else u) :: st)) (hrm : (st.map fun v => v.category).sum ≤ 20 := by first | exact Nat.le_of_ble_eq_true rfl | (simp [va_rf_cat]; done)) : zV κ E H k n pc L (.int v :: .int u :: st) := by
  obtain ⟨p, l, e, R, s, m, args, below, meth, c, P', X', nL', mc', ms'⟩ := κ
  obtain ⟨hx, hb, hml, hown, hts, hKN, hlk, hho, hst, hrt, hnm, htab, hR, rfl, rfl, rfl, rfl, rfl⟩ := ok
  intro ls locs hl hlo ho
  subst hR
  exact va_mmax hx hb (by rw [hml]; exact hl.1.symm) hown (hts _ hlink) (hts _ q256) (hts _ q67) (by have := hts _ q257; rw [mxC] at this; exact this) hdp (by show _ ≤ 40 * d; omega) hk hn dd (kk ls locs hl hlo ho)
theorem z_mmin {κ : zC} {E : zE} {d : Nat} {y : MethodName} {cc : ByteArray} {ret : Option FieldType} {hh : List (Nat × Nat × Nat × Nat)} {nL mc ms : Nat} {P : Option Value → Heap → Prop} {X : String → Heap → Prop} {H : Heap} {k n pc : Nat} {L : List (Option Value)} {st : List Value} (ok : zOK κ E d y cc ret hh nL mc ms P X) {idx : Nat} {u v : Int32} (hlink : Cond.methodLink y.cls idx Lib.Math.min.name ∈ lw_all) (dd : decode cc pc = .ok (.invokestatic idx, 3)) (hdp : 1 ≤ d) (hk : k ≤ mc) (hn : n ≤ ms) (kk : zV κ E H k n (pc + 3) L (.int (if v < u then v else u) :: st)) (hrm : (st.map fun v => v.category).sum ≤ 20 := by first | exact Nat.le_of_ble_eq_true rfl | (simp [va_rf_cat]; done)) : zV κ E H k n pc L (.int v :: .int u :: st) := by
  obtain ⟨p, l, e, R, s, m, args, below, meth, c, P', X', nL', mc', ms'⟩ := κ
  obtain ⟨hx, hb, hml, hown, hts, hKN, hlk, hho, hst, hrt, hnm, htab, hR, rfl, rfl, rfl, rfl, rfl⟩ := ok
  intro ls locs hl hlo ho
  subst hR
  exact va_mmin hx hb (by rw [hml]; exact hl.1.symm) hown (hts _ hlink) (hts _ q301) (hts _ q67) (by have := hts _ q302; rw [mnC] at this; exact this) hdp (by show _ ≤ 40 * d; omega) hk hn dd (kk ls locs hl hlo ho)
