/-! walks of StringBuilder, printed by gen/sb.py -/
set_option maxRecDepth 100000
set_option maxHeartbeats 4000000 in
set_option maxRecDepth 100000 in
theorem m_J5_isLatin1 {E : zE} {H : Heap} {b : Nat} {f0 f2 f3 : Value} (h : zOb E H b 12 [f0, .int 0, f2, f3]) : zM E 2 yJ5_isLatin1 (ws_ yJ5_isLatin1 cJ5_isLatin1 1 (some .boolean)) 0 0 H [.ref b] (zR H (.int 1)) zNX := by
  refine z_of [some (.ref b)] pn_J5 (Nat.le_of_ble_eq_true rfl) rfl (fun κ ok ho => ?_)
  refine z_gets ok zst_1 q188 rfl dJ5_isLatin1_0 ?_
  refine z_ifeq (tgt := 17) ok dJ5_isLatin1_3 (by decide) (fun c3 => absurd c3 (by decide)) (fun _ => ?_)
  refine z_aload_n ok dJ5_isLatin1_6 rfl ?_
  refine g_J5_22 ok h dJ5_isLatin1_7 ?_
  refine z_ifne (tgt := 17) ok dJ5_isLatin1_10 (by decide) (fun c10 => absurd c10 (fun z => z rfl)) (fun _ => ?_)
  refine z_iconst ok dJ5_isLatin1_13 zic_1 ?_
  refine z_goto (tgt := 18) ok dJ5_isLatin1_14 (by decide) ?_
  exact z_zret ok dJ5_isLatin1_18 rfl (zR_i rfl)
set_option maxHeartbeats 4000000 in
set_option maxRecDepth 100000 in
theorem m_J7_coder {E : zE} {H : Heap} {b : Nat} {f0 f2 f3 : Value} (h : zOb E H b 13 [f0, .int 0, f2, f3]) : zM E 2 yJ7_coder (ws_ yJ7_coder cJ7_coder 1 (some .byte)) 0 0 H [.ref b] (zR H (.int 0)) zNX := by
  refine z_of [some (.ref b)] pn_J7 (Nat.le_of_ble_eq_true rfl) rfl (fun κ ok ho => ?_)
  refine z_gets ok zst_1 q711 rfl dJ7_coder_0 ?_
  refine z_ifeq (tgt := 13) ok dJ7_coder_3 (by decide) (fun c3 => absurd c3 (by decide)) (fun _ => ?_)
  refine z_aload_n ok dJ7_coder_6 rfl ?_
  refine g_J7_15 ok h dJ7_coder_7 ?_
  refine z_goto (tgt := 14) ok dJ7_coder_10 (by decide) ?_
  exact z_zret ok dJ7_coder_14 rfl (zR_i rfl)
set_option maxHeartbeats 4000000 in
set_option maxRecDepth 100000 in
theorem m_J7_length {E : zE} {H : Heap} {b a N : Nat} {f : Nat → Int32} {f2 f3 : Value} (h : zOb E H b 13 [.ref a, .int 0, f2, f3]) (ht : ∀ U : State, zKN E U → va_T .byte a N (fun k => .int (f k)) (zNew E) U E.2.1) (hN : N < 100) : zM E 3 yJ7_length (ws_ yJ7_length cJ7_length 1 (some .int)) 0 0 H [.ref b] (zR H (.int (nI N))) zNX := by
  refine z_of [some (.ref b)] pn_J7 (Nat.le_of_ble_eq_true rfl) rfl (fun κ ok ho => ?_)
  refine z_aload_n ok dJ7_length_0 rfl ?_
  refine g_J7_9 ok h dJ7_length_1 ?_
  refine z_tlen ok ht dJ7_length_4 ?_
  refine z_aload_n ok dJ7_length_5 rfl ?_
  refine v_J7_335 ok (m_J7_coder h) h.is dJ7_length_6 zk_nx (zk_R ?_)
  refine z_ishr ok dJ7_length_9 ?_
  rw [nI_sh0 (by omega)]
  exact z_iret ok dJ7_length_10 (zR_i rfl)
set_option maxHeartbeats 4000000 in
set_option maxRecDepth 100000 in
theorem m_J23_canEncode {E : zE} {H : Heap} (c : Int32) (hc : ¬ 255 < c) : zM E 2 yJ23_canEncode (ws_ yJ23_canEncode cJ23_canEncode 1 (some .boolean)) 0 0 H [.int c] (zR H (.int 1)) zNX := by
  refine z_of [some (.int c)] pn_J23 (Nat.le_of_ble_eq_true rfl) rfl (fun κ ok ho => ?_)
  refine z_iload_n ok dJ23_canEncode_0 rfl ?_
  refine z_sipush ok dJ23_canEncode_1 zsc_255 ?_
  refine z_icmpgt (tgt := 11) ok dJ23_canEncode_4 (by decide) (fun c4 => absurd c4 hc) (fun _ => ?_)
  refine z_iconst ok dJ23_canEncode_7 zic_1 ?_
  refine z_goto (tgt := 12) ok dJ23_canEncode_8 (by decide) ?_
  exact z_zret ok dJ23_canEncode_12 rfl (zR_i rfl)
set_option maxHeartbeats 4000000 in
set_option maxRecDepth 100000 in
theorem m_J5_length {E : zE} {H : Heap} {b : Nat} {f0 f1 f2 : Value} {s : Int32} (h : zOb E H b 12 [f0, f1, f2, .int s]) : zM E 2 yJ5_length (ws_ yJ5_length cJ5_length 1 (some .int)) 0 0 H [.ref b] (zR H (.int s)) zNX := by
  refine z_of [some (.ref b)] pn_J5 (Nat.le_of_ble_eq_true rfl) rfl (fun κ ok ho => ?_)
  refine z_aload_n ok dJ5_length_0 rfl ?_
  refine g_J5_79 ok h dJ5_length_1 ?_
  exact z_iret ok dJ5_length_4 (zR_i rfl)
set_option maxHeartbeats 4000000 in
set_option maxRecDepth 100000 in
theorem m_J6_length {E : zE} {H : Heap} {b : Nat} {f0 f1 f2 : Value} {s : Int32} (h : zOb E H b 12 [f0, f1, f2, .int s]) : zM E 3 yJ6_length (ws_ yJ6_length cJ6_length 1 (some .int)) 0 0 H [.ref b] (zR H (.int s)) zNX := by
  refine z_of [some (.ref b)] pn_J6 (Nat.le_of_ble_eq_true rfl) rfl (fun κ ok ho => ?_)
  refine z_aload_n ok dJ6_length_0 rfl ?_
  refine v_J6_343_j6 ok (m_J5_length h) h.is dJ6_length_1 zk_nx (zk_R ?_)
  exact z_iret ok dJ6_length_4 (zR_i rfl)
set_option maxHeartbeats 4000000 in
set_option maxRecDepth 100000 in
theorem m_J11_copyOf_3 {E : zE} {H : Heap} {a n0 N : Nat} {f : Nat → Int32} (h : zAt E H a (zI E 3 n0 f)) (hN : n0 < N) (hN2 : N < 1000000) (hf : ∀ k, fits .byte (.int (f k)) = true) : zM E 3 yJ11_copyOf_3 (ws_ yJ11_copyOf_3 cJ11_copyOf_3 3 (some (.array .byte))) 1 N H [.ref a, .int (nI N)] (zRg (fun w H1 => ∃ q, w = .ref q ∧ zMk E H q (zI E 3 N (va_cpy f (fun _ => 0) 0 0 n0)) H1)) zNX := by
  refine z_of [some (.ref a), some (.int (nI N)), none] pn_J11 (Nat.le_of_ble_eq_true rfl) rfl (fun κ ok ho => ?_)
  refine z_iload_n ok dJ11_copyOf_3_0 rfl ?_
  refine z_aload_n ok dJ11_copyOf_3_1 rfl ?_
  refine z_alenI ok (Or.inr (Or.inr rfl)) h dJ11_copyOf_3_2 ?_
  refine z_icmpne (tgt := 14) ok dJ11_copyOf_3_3 (by decide) (fun _ => ?_) (fun c3 => absurd c3 (fun z => by have := (nI_eq (by omega) (by omega)).mp z; omega))
  refine z_iload_n ok dJ11_copyOf_3_14 rfl ?_
  refine z_newB (N := N) ok q211 rfl dJ11_copyOf_3_15 (by omega) (by omega) (fun q15 H15 w15 => ?_) rfl (by omega)
  have h9 := h.kept (w15.2.2.2 a h.lt)
  refine z_astore_2 ok dJ11_copyOf_3_17 ?_
  refine z_aload_n ok dJ11_copyOf_3_18 rfl ?_
  refine z_iconst ok dJ11_copyOf_3_19 zic_0 ?_
  refine z_aload_n ok dJ11_copyOf_3_20 rfl ?_
  refine z_iconst ok dJ11_copyOf_3_21 zic_0 ?_
  refine z_aload_n ok dJ11_copyOf_3_22 rfl ?_
  refine z_alenI ok (Or.inr (Or.inr rfl)) h9 dJ11_copyOf_3_23 ?_
  refine z_iload_n ok dJ11_copyOf_3_24 rfl ?_
  refine z_mmin ok q300 dJ11_copyOf_3_25 (by omega) (by omega) (by omega) ?_
  rw [nI_min (by omega) (by omega), Nat.min_eq_left (by omega)]
  refine z_copyB (sp := 0) (dp := 0) ok q303 h9 w15.2.1 nI_0.symm nI_0.symm rfl (by omega) (by omega) (fun i hi => hf _) dJ11_copyOf_3_28 (by omega) (fun H9 w9 => ?_) (by exact Nat.le_of_ble_eq_true rfl) (by omega) (by omega)
  refine z_aload_n ok dJ11_copyOf_3_31 rfl ?_
  exact z_aret ok dJ11_copyOf_3_32 ⟨_, rfl, _, rfl, w15.wr w9⟩
set_option maxHeartbeats 4000000 in
set_option maxRecDepth 100000 in
theorem m_J5_newCapacity {E : zE} {H : Heap} {b a min : Nat} {f : Nat → Int32} {f2 f3 : Value} (h : zOb E H b 12 [.ref a, .int 0, f2, f3]) (ha : zAt E H a (zI E 3 16 f)) (hm : 16 < min ∧ min ≤ 34) : zM E 4 yJ5_newCapacity (ws_ yJ5_newCapacity cJ5_newCapacity 6 (some .int)) 0 0 H [.ref b, .int (nI min)] (zR H (.int (nI 34))) zNX := by
  refine z_of [some (.ref b), some (.int (nI min)), none, none, none, none] pn_J5 (Nat.le_of_ble_eq_true rfl) rfl (fun κ ok ho => ?_)
  obtain ⟨m1, m2⟩ := hm
  refine z_aload_n ok dJ5_newCapacity_0 rfl ?_
  refine g_J5_15 ok h dJ5_newCapacity_1 ?_
  refine z_alenI ok (Or.inr (Or.inr rfl)) ha dJ5_newCapacity_4 ?_
  refine z_istore_2 ok dJ5_newCapacity_5 ?_
  refine z_iload_n ok dJ5_newCapacity_6 rfl ?_
  refine z_aload_n ok dJ5_newCapacity_7 rfl ?_
  refine g_J5_22 ok h dJ5_newCapacity_8 ?_
  refine z_ishl ok dJ5_newCapacity_11 ?_
  rw [nI_shl0 (by omega)]
  refine z_istore_3 ok dJ5_newCapacity_12 ?_
  refine z_iload_n ok dJ5_newCapacity_13 rfl ?_
  refine z_iload_n ok dJ5_newCapacity_14 rfl ?_
  refine z_isub ok dJ5_newCapacity_15 ?_
  rw [pk_sub (by omega)]
  refine z_istore_4 ok dJ5_newCapacity_16 ?_
  refine z_iload_n ok dJ5_newCapacity_18 rfl ?_
  refine z_iload ok dJ5_newCapacity_19 rfl ?_
  refine z_iload_n ok dJ5_newCapacity_21 rfl ?_
  refine z_iconst ok dJ5_newCapacity_22 zic_2 ?_
  refine z_aload_n ok dJ5_newCapacity_23 rfl ?_
  refine g_J5_22 ok h dJ5_newCapacity_24 ?_
  refine z_ishl ok dJ5_newCapacity_27 ?_
  refine z_iadd ok dJ5_newCapacity_28 ?_
  rw [show nI 16 + (2 <<< ((0 : Int32) &&& 31)) = nI 18 by decide]
  refine v_J5_114 ok (m_J9_newLength _ _ _ (by omega) (by omega)) dJ5_newCapacity_29 zk_nx (zk_R ?_)
  rw [show 16 + max (min - 16) 18 = 34 by omega]
  refine z_istore_5 ok dJ5_newCapacity_32 ?_
  refine z_iload ok dJ5_newCapacity_34 rfl ?_
  refine z_ldc ok q1050 dJ5_newCapacity_36 ?_
  refine z_icmpne (tgt := 51) ok dJ5_newCapacity_38 (by decide) (fun _ => ?_) (fun c38 => absurd c38 (by decide))
  refine z_iload ok dJ5_newCapacity_51 rfl ?_
  refine z_aload_n ok dJ5_newCapacity_53 rfl ?_
  refine g_J5_22 ok h dJ5_newCapacity_54 ?_
  refine z_ishr ok dJ5_newCapacity_57 ?_
  rw [nI_sh0 (by omega)]
  exact z_iret ok dJ5_newCapacity_58 (zR_i rfl)
set_option maxHeartbeats 4000000 in
set_option maxRecDepth 100000 in
theorem m_J5_ensureCapacityInternal {E : zE} {H : Heap} {b a cap min n : Nat} {cnt ml : Int32} {f : Nat → Int32} (h : SBr E H b a cap cnt ml f) (hm : min ≤ 34) (hn : n ≤ cap) : zM E 5 yJ5_ensureCapacityInternal (ws_ yJ5_ensureCapacityInternal cJ5_ensureCapacityInternal 3 none) 1 34 H [.ref b, .int (nI min)] (zRv (SBe E H b a cnt ml n min f)) zNX := by
  refine z_of [some (.ref b), some (.int (nI min)), none] pn_J5 (Nat.le_of_ble_eq_true rfl) rfl (fun κ ok ho => ?_)
  obtain ⟨h1, h2, h3, h4, h5⟩ := h
  have hcap : cap ≤ 34 := by omega
  refine z_aload_n ok dJ5_ensureCapacityInternal_0 rfl ?_
  refine g_J5_15 ok h1.ob dJ5_ensureCapacityInternal_1 ?_
  refine z_alenI ok (Or.inr (Or.inr rfl)) h2 dJ5_ensureCapacityInternal_4 ?_
  refine z_aload_n ok dJ5_ensureCapacityInternal_5 rfl ?_
  refine g_J5_22 ok h1.ob dJ5_ensureCapacityInternal_6 ?_
  refine z_ishr ok dJ5_ensureCapacityInternal_9 ?_
  rw [nI_sh0 (by omega)]
  refine z_istore_2 ok dJ5_ensureCapacityInternal_10 ?_
  refine z_iload_n ok dJ5_ensureCapacityInternal_11 rfl ?_
  refine z_iload_n ok dJ5_ensureCapacityInternal_12 rfl ?_
  refine z_isub ok dJ5_ensureCapacityInternal_13 ?_
  refine z_ifle (tgt := 38) ok dJ5_ensureCapacityInternal_14 (by decide) (fun c14 => ?_) (fun c14 => ?_)
  · have hle : min ≤ cap := Nat.le_of_not_lt fun z => absurd c14 (Int32.not_le.mpr ((nI_subs (by omega) (by omega)).2.mpr z))
    exact z_vret ok dJ5_ensureCapacityInternal_38 (by first | exact ⟨rfl, a, cap, f, ⟨h1, h2, h3, h4, h5⟩, hle, fun _ _ => rfl, Or.inl rfl, Nat.le_refl _, fun _ _ _ _ => rfl⟩ | exact ⟨rfl, q9, 34, _, ⟨w35.1, w9.2.1.kept (w35.2.2 q9 (h1.ne (Nat.le_of_eq w9.1.symm))), h1.ne (Nat.le_of_eq w9.1.symm), Or.inr rfl, cpy_fit h5⟩, hm, fun k hk => cpy_i (by omega), Or.inr (Nat.le_of_eq w9.1.symm), by rw [w35.2.1, w9.2.2.1]; omega, fun r q1 q2 q3 => (w35.2.2 r q2).trans (w9.2.2.2 r q1)⟩)
  · have hlt : cap < min := (nI_subs (by omega) (by omega)).2.mp (Int32.not_le.mp c14)
    have hc : cap = 16 := by omega
    subst hc
    refine z_aload_n ok dJ5_ensureCapacityInternal_17 rfl ?_
    refine z_aload_n ok dJ5_ensureCapacityInternal_18 rfl ?_
    refine g_J5_15 ok h1.ob dJ5_ensureCapacityInternal_19 ?_
    refine z_aload_n ok dJ5_ensureCapacityInternal_22 rfl ?_
    refine z_iload_n ok dJ5_ensureCapacityInternal_23 rfl ?_
    refine v_J5_104_j6 ok (m_J5_newCapacity h1.ob h2 ⟨hlt, hm⟩) h1.is dJ5_ensureCapacityInternal_24 zk_nx (zk_R ?_)
    refine z_aload_n ok dJ5_ensureCapacityInternal_27 rfl ?_
    refine g_J5_22 ok h1.ob dJ5_ensureCapacityInternal_28 ?_
    refine z_ishl ok dJ5_ensureCapacityInternal_31 ?_
    rw [nI_shl0 (by omega)]
    refine v_J5_108 ok (m_J11_copyOf_3 h2 (by omega) (by omega) h5) dJ5_ensureCapacityInternal_32 zk_nx (zk_Rg (fun v9 H9 h9 _ => ?_))
    obtain ⟨q9, rfl, w9⟩ := h9
    refine p_J5_15 ok (h1.kept (w9.2.2.2 b h1.lt)) dJ5_ensureCapacityInternal_35 (fun H35 w35 => ?_)
    exact z_vret ok dJ5_ensureCapacityInternal_38 (by first | exact ⟨rfl, a, cap, f, ⟨h1, h2, h3, h4, h5⟩, hle, fun _ _ => rfl, Or.inl rfl, Nat.le_refl _, fun _ _ _ _ => rfl⟩ | exact ⟨rfl, q9, 34, _, ⟨w35.1, w9.2.1.kept (w35.2.2 q9 (h1.ne (Nat.le_of_eq w9.1.symm))), h1.ne (Nat.le_of_eq w9.1.symm), Or.inr rfl, cpy_fit h5⟩, hm, fun k hk => cpy_i (by omega), Or.inr (Nat.le_of_eq w9.1.symm), by rw [w35.2.1, w9.2.2.1]; omega, fun r q1 q2 q3 => (w35.2.2 r q2).trans (w9.2.2.2 r q1)⟩)
set_option maxHeartbeats 4000000 in
set_option maxRecDepth 100000 in
theorem m_J5_append_3 {E : zE} {H : Heap} {b a : Nat} {l : List Int32} (c : Int32) (h : SB E H b a l) (hc : ¬ 255 < c) (hc2 : c.toInt8.toInt32 = c) (hl : l.length < 34) : zM E 6 yJ5_append_3 (ws_ yJ5_append_3 cJ5_append_3 2 (some (.object "java/lang/AbstractStringBuilder"))) 1 34 H [.ref b, .int c] (zRw (.ref b) (SBa E H b a (l ++ [c]))) zNX := by
  refine z_of [some (.ref b), some (.int c)] pn_J5 (Nat.le_of_ble_eq_true rfl) rfl (fun κ ok ho => ?_)
  obtain ⟨ml, cap, f, hr, hlc, hf⟩ := h.r
  refine z_aload_n ok dJ5_append_3_0 rfl ?_
  refine z_aload_n ok dJ5_append_3_1 rfl ?_
  refine g_J5_79 ok hr.1.ob dJ5_append_3_2 ?_
  refine z_iconst ok dJ5_append_3_5 zic_1 ?_
  refine z_iadd ok dJ5_append_3_6 ?_
  rw [nI_1]
  refine v_J5_100_j6 ok (m_J5_ensureCapacityInternal (n := l.length) hr (by omega) hlc) hr.1.is dJ5_append_3_7 zk_nx (zk_Rv (fun H9 h9 _ => ?_))
  obtain ⟨a9, cap9, f9, g1, g2, g3, g4, g5, g6⟩ := h9
  have g1b := g1.1
  have g1a := g1.2.1
  have hab := g1.2.2.1
  have hcap9 : cap9 ≤ 34 := by have := g1.2.2.2.1; omega
  refine z_aload_n ok dJ5_append_3_10 rfl ?_
  refine v_J5_83_j6 ok (m_J5_isLatin1 g1b.ob) g1b.is dJ5_append_3_11 zk_nx (zk_R ?_)
  refine z_ifeq (tgt := 45) ok dJ5_append_3_14 (by decide) (fun c14 => absurd c14 (by decide)) (fun _ => ?_)
  refine z_iload_n ok dJ5_append_3_17 rfl ?_
  refine v_J5_191 ok (m_J23_canEncode c hc) dJ5_append_3_18 zk_nx (zk_R ?_)
  refine z_ifeq (tgt := 45) ok dJ5_append_3_21 (by decide) (fun c21 => absurd c21 (by decide)) (fun _ => ?_)
  refine z_aload_n ok dJ5_append_3_24 rfl ?_
  refine g_J5_15 ok g1b.ob dJ5_append_3_25 ?_
  refine z_aload_n ok dJ5_append_3_28 rfl ?_
  refine z_dup ok dJ5_append_3_29 ?_
  refine g_J5_79 ok g1b.ob dJ5_append_3_30 ?_
  refine z_dup_x1 ok dJ5_append_3_33 ?_
  refine z_iconst ok dJ5_append_3_34 zic_1 ?_
  refine z_iadd ok dJ5_append_3_35 ?_
  rw [nI_1]
  refine p_J5_79 ok g1b dJ5_append_3_36 (fun H36 w36 => ?_)
  refine z_iload_n ok dJ5_append_3_39 rfl ?_
  refine z_i2b ok dJ5_append_3_40 ?_
  refine z_bast ok (by rw [vp_nar_byte, hc2, hc2]) (g1a.kept (w36.2.2 a9 hab)) rfl (show l.length < cap9 by omega) dJ5_append_3_41 (fun H41 w41 => ?_) (by omega)
  refine z_goto (tgt := 75) ok dJ5_append_3_42 (by decide) ?_
  refine z_aload_n ok dJ5_append_3_75 rfl ?_
  exact z_aret ok dJ5_append_3_76 ⟨rfl, SBe.app2 (l2 := [c]) g1 (by omega) g3 g4 g5 g6 w36 w41 hf (fun k hk => pk_un (by omega)) upd_one (upd_fit g1.2.2.2.2 hc2)⟩
set_option maxHeartbeats 4000000 in
set_option maxRecDepth 100000 in
theorem m_J22_stringSize {E : zE} {H : Heap} {n : Nat} (hn : n < 1000000) : zM E 2 yJ22_stringSize (ws_ yJ22_stringSize cJ22_stringSize 4 (some .int)) 0 0 H [.int (nI n)] (zR H (.int (nI (mTop n + 1)))) zNX := by
  refine z_of [some (.int (nI n)), none, none, none] pn_J22 (Nat.le_of_ble_eq_true rfl) rfl (fun κ ok ho => ?_)
  have h6 := mTop_le n
  have k1 : ∀ (t i : Nat), mTop n + 1 - i < t → 1 ≤ i → i ≤ mTop n + 1 → zV κ E H 0 0 16 [some (.int (-(nI n))), some (.int 0), some (.int (-(nI (10 ^ i)))), some (.int (nI i))] [] := by
    intro t
    induction t with
    | zero => intro i h1; omega
    | succ t ih =>
      intro i h1 h2 h3
      have hp : 10 ^ i ≤ 10 ^ 6 := Nat.pow_le_pow_right (by decide) (by omega)
      refine z_iload_n ok dJ22_stringSize_16 rfl ?_
      refine z_bipush ok dJ22_stringSize_17 zbc_10 ?_
      refine z_icmpge (tgt := 42) ok dJ22_stringSize_19 (by decide) (fun c19 => absurd c19 (fun z => absurd ((nI_leI (a := 10) (by omega) (by omega)).mp z) (by omega))) (fun _ => ?_)
      refine z_iload_n ok dJ22_stringSize_22 rfl ?_
      refine z_iload_n ok dJ22_stringSize_23 rfl ?_
      refine z_icmple (tgt := 31) ok dJ22_stringSize_24 (by decide) (fun c24 => ?_) (fun c24 => ?_)
      · rw [neg_leI (by omega) (by omega)] at c24
        have hi : i ≤ mTop n := by
          rcases Nat.lt_or_ge (mTop n) i with q | q
          · have e : i = mTop n + 1 := by omega
            have g := mTop_lt hn
            rw [Nat.div_lt_iff_lt_mul (Nat.pow_pos (by decide))] at g
            rw [e, Nat.pow_succ] at c24
            omega
          · exact q
        refine z_bipush ok dJ22_stringSize_31 zbc_10 ?_
        refine z_iload_n ok dJ22_stringSize_33 rfl ?_
        refine z_imul ok dJ22_stringSize_34 ?_
        rw [neg_mul10, show 10 * 10 ^ i = 10 ^ (i + 1) by rw [Nat.pow_succ, Nat.mul_comm]]
        refine z_istore_2 ok dJ22_stringSize_35 ?_
        refine z_iinc_3 ok dJ22_stringSize_36 (zinc1 _) ?_
        refine z_goto (tgt := 16) ok dJ22_stringSize_39 (by decide) ?_
        exact ih (i + 1) (by omega) (by omega) (by omega)
      · rw [neg_leI (by omega) (by omega)] at c24
        have hi : i = mTop n + 1 := by
          rcases Nat.lt_or_ge i (mTop n + 1) with q | q
          · have g := mTop_gt hn (p := i - 1) (by omega)
            rw [Nat.le_div_iff_mul_le (Nat.pow_pos (by decide)), Nat.mul_comm, ← Nat.pow_succ, show (i - 1).succ = i by omega] at g
            exact absurd g c24
          · omega
        refine z_iload_n ok dJ22_stringSize_27 rfl ?_
        refine z_iload_n ok dJ22_stringSize_28 rfl ?_
        refine z_iadd ok dJ22_stringSize_29 ?_
        rw [hi]
        exact z_iret ok dJ22_stringSize_30 (zR_i (by simp))
  refine z_iconst ok dJ22_stringSize_0 zic_1 ?_
  refine z_istore_1 ok dJ22_stringSize_1 ?_
  refine z_iload_n ok dJ22_stringSize_2 rfl ?_
  refine z_iflt (tgt := 11) ok dJ22_stringSize_3 (by decide) (fun c3 => absurd c3 (nI_pos (by omega))) (fun _ => ?_)
  refine z_iconst ok dJ22_stringSize_6 zic_0 ?_
  refine z_istore_1 ok dJ22_stringSize_7 ?_
  refine z_iload_n ok dJ22_stringSize_8 rfl ?_
  refine z_ineg ok dJ22_stringSize_9 ?_
  refine z_istore_0 ok dJ22_stringSize_10 ?_
  refine z_bipush ok dJ22_stringSize_11 zbc_m10 ?_
  refine z_istore_2 ok dJ22_stringSize_13 ?_
  refine z_iconst ok dJ22_stringSize_14 zic_1 ?_
  refine z_istore_3 ok dJ22_stringSize_15 ?_
  exact k1 (mTop n + 1) 1 (by omega) (by omega) (by omega)
set_option maxHeartbeats 4000000 in
set_option maxRecDepth 100000 in
theorem m_J22_getChars {E : zE} {H : Heap} {n p a cap : Nat} {f : Nat → Int32} (ha : zAt E H a (zI E 3 cap f)) (hn : n < 1000000) (hp : mTop n + 1 ≤ p) (hc : p ≤ cap) (hcap : cap ≤ 34) (hf : ∀ k, fits .byte (.int (f k)) = true) : zM E 2 yJ22_getChars (ws_ yJ22_getChars cJ22_getChars 7 (some .int)) 0 0 H [.int (nI n), .int (nI p), .ref a] (zRg (fun w H1 => (∃ z : Int32, w = .int z) ∧ ∃ f', zWr E H a (zI E 3 cap f') H1 ∧ GC f p n f' ∧ ∀ k, fits .byte (.int (f' k)) = true)) zNX := by
  refine z_of [some (.int (nI n)), some (.int (nI p)), some (.ref a), none, none, none, none] pn_J22 (Nat.le_of_ble_eq_true rfl) rfl (fun κ ok ho => ?_)
  have h6 := mTop_le n
  have k1 : ∀ (t m q : Nat) (f1 : Nat → Int32) (H1 : Heap), m < 100 ^ (t + 1) → m < 1000000 → mTop m + 1 ≤ q → q ≤ cap → zWr E H a (zI E 3 cap f1) H1 → (∀ f2, GC f1 q m f2 → GC f p n f2) → (∀ k, fits .byte (.int (f1 k)) = true) → zV κ E H1 0 0 22 [some (.int (-(nI m))), some (.int (nI p)), some (.ref a), none, none, some (.int (nI q)), some (.int 0)] [] := by
    intro t
    induction t with
    | zero =>
      intro m q f1 H1 g1 g2 g3 g4 g5 g6 g7
      have g1 : m < 100 := by simpa using g1
      refine z_iload_n ok dJ22_getChars_22 rfl ?_
      refine z_bipush ok dJ22_getChars_23 zbc_m100 ?_
      refine z_icmpgt (tgt := 72) ok dJ22_getChars_25 (by decide) (fun _ => ?_) (fun c25 => absurd (by rw [show (-100 : Int32) = -(nI 100) by decide, neg_ltI (by omega) (by omega)]; exact g1) c25)
      refine z_aload_n ok dJ22_getChars_72 rfl ?_
      refine z_iinc_5 ok dJ22_getChars_73 (dec1 (by omega)) ?_
      refine z_iload ok dJ22_getChars_76 rfl ?_
      refine z_gets ok zst_5 q1124 rfl dJ22_getChars_78 ?_
      refine z_iload_n ok dJ22_getChars_81 rfl ?_
      refine z_ineg ok dJ22_getChars_82 ?_
      rw [neg_neg1]
      refine z_tbald ok (fun U hU => zKN.t3 hU) rfl (show m < 100 by omega) dJ22_getChars_83 ?_
      refine z_bast ok (by rw [vp_nar_byte, dig_fit (by omega)]) g5.1 rfl (show q - 1 < cap by omega) dJ22_getChars_84 (fun H84 w84 => ?_) (by omega)
      refine z_iload_n ok dJ22_getChars_85 rfl ?_
      refine z_bipush ok dJ22_getChars_86 zbc_m9 ?_
      refine z_icmpge (tgt := 104) ok dJ22_getChars_88 (by decide) (fun c88 => ?_) (fun c88 => ?_)
      · rw [show (-9 : Int32) = -(nI 9) by decide, neg_leI (by omega) (by omega)] at c88
        have hw9 := g5.tr w84
        have ee := GC.one (f := f1) (q := q) (m := m) (by omega) (by omega)
        have hf9 := upd_fit (n := q - 1) g7 (dig_fit (d := m % 10) (by omega))
        refine z_iload ok dJ22_getChars_104 rfl ?_
        refine z_ifeq (tgt := 118) ok dJ22_getChars_106 (by decide) (fun _ => ?_) (fun c106 => absurd rfl c106)
        refine z_iload ok dJ22_getChars_118 rfl ?_
        exact z_iret ok dJ22_getChars_120 ⟨_, rfl, ⟨_, rfl⟩, _, hw9, g6 _ ee, hf9⟩
      · rw [show (-9 : Int32) = -(nI 9) by decide, neg_leI (by omega) (by omega)] at c88
        have hq2 : 2 ≤ q := by
          have e : mTop m = 1 := by
            unfold mTop
            rw [if_neg (by omega), if_pos (by omega)]
          omega
        refine z_aload_n ok dJ22_getChars_91 rfl ?_
        refine z_iinc_5 ok dJ22_getChars_92 (dec1 (by omega)) ?_
        refine z_iload ok dJ22_getChars_95 rfl ?_
        refine z_gets ok zst_4 q1126 rfl dJ22_getChars_97 ?_
        refine z_iload_n ok dJ22_getChars_100 rfl ?_
        refine z_ineg ok dJ22_getChars_101 ?_
        rw [neg_neg1]
        refine z_tbald ok (fun U hU => zKN.t2 hU) rfl (show m < 100 by omega) dJ22_getChars_102 ?_
        refine z_bast ok (by rw [vp_nar_byte, dig_fit (by omega)]) w84.1 rfl (show q - 1 - 1 < cap by omega) dJ22_getChars_103 (fun H103 w103 => ?_) (by omega)
        have hw9 := (g5.tr w84).tr w103
        have ee := GC.two (f := f1) (q := q) (m := m) (by omega) (by omega) hq2
        have hf9 := upd_fit (n := q - 1 - 1) (upd_fit (n := q - 1) g7 (dig_fit (d := m % 10) (by omega))) (dig_fit (d := m / 10) (by omega))
        refine z_iload ok dJ22_getChars_104 rfl ?_
        refine z_ifeq (tgt := 118) ok dJ22_getChars_106 (by decide) (fun _ => ?_) (fun c106 => absurd rfl c106)
        refine z_iload ok dJ22_getChars_118 rfl ?_
        exact z_iret ok dJ22_getChars_120 ⟨_, rfl, ⟨_, rfl⟩, _, hw9, g6 _ ee, hf9⟩
    | succ t ih =>
      intro m q f1 H1 g1 g2 g3 g4 g5 g6 g7
      refine z_iload_n ok dJ22_getChars_22 rfl ?_
      refine z_bipush ok dJ22_getChars_23 zbc_m100 ?_
      refine z_icmpgt (tgt := 72) ok dJ22_getChars_25 (by decide) (fun c25 => ?_) (fun c25 => ?_)
      · rw [show (-100 : Int32) = -(nI 100) by decide, neg_ltI (by omega) (by omega)] at c25
        refine z_aload_n ok dJ22_getChars_72 rfl ?_
        refine z_iinc_5 ok dJ22_getChars_73 (dec1 (by omega)) ?_
        refine z_iload ok dJ22_getChars_76 rfl ?_
        refine z_gets ok zst_5 q1124 rfl dJ22_getChars_78 ?_
        refine z_iload_n ok dJ22_getChars_81 rfl ?_
        refine z_ineg ok dJ22_getChars_82 ?_
        rw [neg_neg1]
        refine z_tbald ok (fun U hU => zKN.t3 hU) rfl (show m < 100 by omega) dJ22_getChars_83 ?_
        refine z_bast ok (by rw [vp_nar_byte, dig_fit (by omega)]) g5.1 rfl (show q - 1 < cap by omega) dJ22_getChars_84 (fun H84 w84 => ?_) (by omega)
        refine z_iload_n ok dJ22_getChars_85 rfl ?_
        refine z_bipush ok dJ22_getChars_86 zbc_m9 ?_
        refine z_icmpge (tgt := 104) ok dJ22_getChars_88 (by decide) (fun c88 => ?_) (fun c88 => ?_)
        · rw [show (-9 : Int32) = -(nI 9) by decide, neg_leI (by omega) (by omega)] at c88
          have hw9 := g5.tr w84
          have ee := GC.one (f := f1) (q := q) (m := m) (by omega) (by omega)
          have hf9 := upd_fit (n := q - 1) g7 (dig_fit (d := m % 10) (by omega))
          refine z_iload ok dJ22_getChars_104 rfl ?_
          refine z_ifeq (tgt := 118) ok dJ22_getChars_106 (by decide) (fun _ => ?_) (fun c106 => absurd rfl c106)
          refine z_iload ok dJ22_getChars_118 rfl ?_
          exact z_iret ok dJ22_getChars_120 ⟨_, rfl, ⟨_, rfl⟩, _, hw9, g6 _ ee, hf9⟩
        · rw [show (-9 : Int32) = -(nI 9) by decide, neg_leI (by omega) (by omega)] at c88
          have hq2 : 2 ≤ q := by
            have e : mTop m = 1 := by
              unfold mTop
              rw [if_neg (by omega), if_pos (by omega)]
            omega
          refine z_aload_n ok dJ22_getChars_91 rfl ?_
          refine z_iinc_5 ok dJ22_getChars_92 (dec1 (by omega)) ?_
          refine z_iload ok dJ22_getChars_95 rfl ?_
          refine z_gets ok zst_4 q1126 rfl dJ22_getChars_97 ?_
          refine z_iload_n ok dJ22_getChars_100 rfl ?_
          refine z_ineg ok dJ22_getChars_101 ?_
          rw [neg_neg1]
          refine z_tbald ok (fun U hU => zKN.t2 hU) rfl (show m < 100 by omega) dJ22_getChars_102 ?_
          refine z_bast ok (by rw [vp_nar_byte, dig_fit (by omega)]) w84.1 rfl (show q - 1 - 1 < cap by omega) dJ22_getChars_103 (fun H103 w103 => ?_) (by omega)
          have hw9 := (g5.tr w84).tr w103
          have ee := GC.two (f := f1) (q := q) (m := m) (by omega) (by omega) hq2
          have hf9 := upd_fit (n := q - 1 - 1) (upd_fit (n := q - 1) g7 (dig_fit (d := m % 10) (by omega))) (dig_fit (d := m / 10) (by omega))
          refine z_iload ok dJ22_getChars_104 rfl ?_
          refine z_ifeq (tgt := 118) ok dJ22_getChars_106 (by decide) (fun _ => ?_) (fun c106 => absurd rfl c106)
          refine z_iload ok dJ22_getChars_118 rfl ?_
          exact z_iret ok dJ22_getChars_120 ⟨_, rfl, ⟨_, rfl⟩, _, hw9, g6 _ ee, hf9⟩
      · rw [show (-100 : Int32) = -(nI 100) by decide, neg_ltI (by omega) (by omega)] at c25
        have e9 := mTop_100 (m := m) (by omega) g2
        refine z_iload_n ok dJ22_getChars_28 rfl ?_
        refine z_bipush ok dJ22_getChars_29 zbc_100 ?_
        refine z_idiv ok dJ22_getChars_31 (by decide) ?_
        rw [neg_div (by omega)]
        refine z_istore_3 ok dJ22_getChars_32 ?_
        refine z_iload_n ok dJ22_getChars_33 rfl ?_
        refine z_bipush ok dJ22_getChars_34 zbc_100 ?_
        refine z_imul ok dJ22_getChars_36 ?_
        refine z_iload_n ok dJ22_getChars_37 rfl ?_
        refine z_isub ok dJ22_getChars_38 ?_
        rw [neg_rem g2]
        refine z_istore_4 ok dJ22_getChars_39 ?_
        refine z_iload_n ok dJ22_getChars_41 rfl ?_
        refine z_istore_0 ok dJ22_getChars_42 ?_
        refine z_aload_n ok dJ22_getChars_43 rfl ?_
        refine z_iinc_5 ok dJ22_getChars_44 (dec1 (by omega)) ?_
        refine z_iload ok dJ22_getChars_47 rfl ?_
        refine z_gets ok zst_5 q1124 rfl dJ22_getChars_49 ?_
        refine z_iload ok dJ22_getChars_52 rfl ?_
        refine z_tbald ok (fun U hU => zKN.t3 hU) rfl (show m % 100 < 100 by omega) dJ22_getChars_54 ?_
        refine z_bast ok (by rw [vp_nar_byte, dig_fit (by omega)]) g5.1 rfl (show q - 1 < cap by omega) dJ22_getChars_55 (fun H55 w55 => ?_) (by omega)
        refine z_aload_n ok dJ22_getChars_56 rfl ?_
        refine z_iinc_5 ok dJ22_getChars_57 (dec1 (by omega)) ?_
        refine z_iload ok dJ22_getChars_60 rfl ?_
        refine z_gets ok zst_4 q1126 rfl dJ22_getChars_62 ?_
        refine z_iload ok dJ22_getChars_65 rfl ?_
        refine z_tbald ok (fun U hU => zKN.t2 hU) rfl (show m % 100 < 100 by omega) dJ22_getChars_67 ?_
        refine z_bast ok (by rw [vp_nar_byte, dig_fit (by omega)]) w55.1 rfl (show q - 1 - 1 < cap by omega) dJ22_getChars_68 (fun H68 w68 => ?_) (by omega)
        refine z_goto (tgt := 22) ok dJ22_getChars_69 (by decide) ?_
        refine zV.drop zdrop7 (ih (m / 100) (q - 1 - 1) _ H68 ?_ (by omega) (by omega) (by omega) ((g5.tr w55).tr w68) (fun f2 h2 => g6 f2 (GC.step (by omega) g2 g3 h2)) (upd_fit (upd_fit g7 (dig_fit (by omega))) (dig_fit (by omega))))
        rw [Nat.pow_succ] at g1
        omega
  refine z_iload_n ok dJ22_getChars_0 rfl ?_
  refine z_istore_5 ok dJ22_getChars_1 ?_
  refine z_iload_n ok dJ22_getChars_3 rfl ?_
  refine z_ifge (tgt := 11) ok dJ22_getChars_4 (by decide) (fun _ => ?_) (fun c4 => absurd (by rw [← nI_0, nI_leI (by omega) (by omega)]; omega) c4)
  refine z_iconst ok dJ22_getChars_11 zic_0 ?_
  refine z_istore_6 ok dJ22_getChars_12 ?_
  refine z_iload ok dJ22_getChars_14 rfl ?_
  refine z_ifne (tgt := 22) ok dJ22_getChars_16 (by decide) (fun c16 => absurd c16 (by decide)) (fun _ => ?_)
  refine z_iload_n ok dJ22_getChars_19 rfl ?_
  refine z_ineg ok dJ22_getChars_20 ?_
  refine z_istore_0 ok dJ22_getChars_21 ?_
  exact k1 2 n p f H (by simpa using hn) hn hp hc (zWr.rf ha) (fun _ h => h) hf
set_option maxHeartbeats 4000000 in
set_option maxRecDepth 100000 in
theorem m_J5_append_2 {E : zE} {H : Heap} {b a : Nat} {l : List Int32} {n : Nat} (h : SB E H b a l) (hn : n < 1000000) (hl : l.length + (mNum n).length ≤ 34) : zM E 6 yJ5_append_2 (ws_ yJ5_append_2 cJ5_append_2 4 (some (.object "java/lang/AbstractStringBuilder"))) 1 34 H [.ref b, .int (nI n)] (zRw (.ref b) (SBa E H b a (l ++ mNum n))) zNX := by
  refine z_of [some (.ref b), some (.int (nI n)), none, none] pn_J5 (Nat.le_of_ble_eq_true rfl) rfl (fun κ ok ho => ?_)
  obtain ⟨ml, cap, f, hr, hlc, hf⟩ := h.r
  have hll : (mNum n).length = mTop n + 1 := mDigs_len n _
  have hm6 := mTop_le n
  refine z_aload_n ok dJ5_append_2_0 rfl ?_
  refine g_J5_79 ok hr.1.ob dJ5_append_2_1 ?_
  refine z_istore_2 ok dJ5_append_2_4 ?_
  refine z_iload_n ok dJ5_append_2_5 rfl ?_
  refine z_iload_n ok dJ5_append_2_6 rfl ?_
  refine v_J5_245 ok (m_J22_stringSize hn) dJ5_append_2_7 zk_nx (zk_R ?_)
  refine z_iadd ok dJ5_append_2_10 ?_
  rw [nI_add]
  refine z_istore_3 ok dJ5_append_2_11 ?_
  refine z_aload_n ok dJ5_append_2_12 rfl ?_
  refine z_iload_n ok dJ5_append_2_13 rfl ?_
  refine v_J5_100_j6 ok (m_J5_ensureCapacityInternal (n := l.length) hr (by omega) hlc) hr.1.is dJ5_append_2_14 zk_nx (zk_Rv (fun H9 h9 _ => ?_))
  obtain ⟨a9, cap9, f9, g1, g2, g3, g4, g5, g6⟩ := h9
  have g1b := g1.1
  have g1a := g1.2.1
  have hab := g1.2.2.1
  have hcap9 : cap9 ≤ 34 := by have := g1.2.2.2.1; omega
  refine z_aload_n ok dJ5_append_2_17 rfl ?_
  refine v_J5_83_j6 ok (m_J5_isLatin1 g1b.ob) g1b.is dJ5_append_2_18 zk_nx (zk_R ?_)
  refine z_ifeq (tgt := 37) ok dJ5_append_2_21 (by decide) (fun c21 => absurd c21 (by decide)) (fun _ => ?_)
  refine z_iload_n ok dJ5_append_2_24 rfl ?_
  refine z_iload_n ok dJ5_append_2_25 rfl ?_
  refine z_aload_n ok dJ5_append_2_26 rfl ?_
  refine g_J5_15 ok g1b.ob dJ5_append_2_27 ?_
  refine v_J5_248 ok (m_J22_getChars g1a hn (by omega) (by omega) hcap9 g1.2.2.2.2) dJ5_append_2_30 zk_nx (zk_Rg (fun v8 H8 h8 _ => ?_))
  obtain ⟨⟨z8, rfl⟩, f8, w8, e8, x8⟩ := h8
  refine z_pop ok dJ5_append_2_33 ?_
  refine z_goto (tgt := 48) ok dJ5_append_2_34 (by decide) ?_
  refine z_aload_n ok dJ5_append_2_48 rfl ?_
  refine z_iload_n ok dJ5_append_2_49 rfl ?_
  refine p_J5_79 ok (g1b.kept (w8.2.2 b (Ne.symm hab))) dJ5_append_2_50 (fun H50 w50 => ?_)
  refine z_aload_n ok dJ5_append_2_53 rfl ?_
  exact z_aret ok dJ5_append_2_54 ⟨rfl, SBe.app (l2 := mNum n) (f2 := f8) (min := l.length + (mTop n + 1)) g1 g2 (by omega) g3 g4 g5 g6 w8 (by rw [hll]; exact w50) hf (GC.text e8).1 (GC.text e8).2 x8⟩
set_option maxHeartbeats 4000000 in
set_option maxRecDepth 100000 in
theorem m_J7_getBytes {E : zE} {H : Heap} {a cap i s ba : Nat} {l : List Int32} {f : Nat → Int32} (hs : zSt E H s ba l) (ha : zAt E H a (zI E 3 cap f)) (hi : i + l.length ≤ cap) (hc : cap ≤ 34) : zM E 3 yJ7_getBytes (ws_ yJ7_getBytes cJ7_getBytes 4 none) 0 0 H [.ref s, .ref a, .int (nI i), .int 0] (zRv (zWr E H a (zI E 3 cap (va_cpy (fun k => l.getD k 0) f 0 i l.length)))) zNX := by
  refine z_of [some (.ref s), some (.ref a), some (.int (nI i)), some (.int 0)] pn_J7 (Nat.le_of_ble_eq_true rfl) rfl (fun κ ok ho => ?_)
  have hsf := fun k => hs.fit (k := k)
  obtain ⟨⟨f2, f3, h1⟩, h2, h3, -⟩ := hs
  refine z_aload_n ok dJ7_getBytes_0 rfl ?_
  refine v_J7_335 ok (m_J7_coder h1) h1.is dJ7_getBytes_1 zk_nx (zk_R ?_)
  refine z_iload_n ok dJ7_getBytes_4 rfl ?_
  refine z_icmpne (tgt := 28) ok dJ7_getBytes_5 (by decide) (fun c5 => absurd c5 (fun z => z rfl)) (fun _ => ?_)
  refine z_aload_n ok dJ7_getBytes_8 rfl ?_
  refine g_J7_9 ok h1 dJ7_getBytes_9 ?_
  refine z_iconst ok dJ7_getBytes_12 zic_0 ?_
  refine z_aload_n ok dJ7_getBytes_13 rfl ?_
  refine z_iload_n ok dJ7_getBytes_14 rfl ?_
  refine z_iload_n ok dJ7_getBytes_15 rfl ?_
  refine z_ishl ok dJ7_getBytes_16 ?_
  rw [nI_shl0 (by omega)]
  refine z_aload_n ok dJ7_getBytes_17 rfl ?_
  refine g_J7_9 ok h1 dJ7_getBytes_18 ?_
  refine z_tlen ok h2 dJ7_getBytes_21 ?_
  refine z_copyT (sp := 0) (dp := i) ok q1109 h2 ha nI_0.symm rfl rfl (by omega) (by omega) (fun k hk => by rw [Nat.zero_add]; exact hsf k hk) dJ7_getBytes_22 (by omega) (fun H9 w9 => ?_) (by exact Nat.le_of_ble_eq_true rfl) (by omega) (by omega)
  refine z_goto (tgt := 43) ok dJ7_getBytes_25 (by decide) ?_
  exact z_vret ok dJ7_getBytes_43 ⟨rfl, w9⟩
set_option maxHeartbeats 4000000 in
set_option maxRecDepth 100000 in
theorem m_J5_inflateIfNeededFor {E : zE} {H : Heap} {b s : Nat} {f0 f2 f3 g0 g2 g3 : Value} (h : zOb E H b 12 [f0, .int 0, f2, f3]) (hs : zOb E H s 13 [g0, .int 0, g2, g3]) : zM E 3 yJ5_inflateIfNeededFor (ws_ yJ5_inflateIfNeededFor cJ5_inflateIfNeededFor 2 none) 0 0 H [.ref b, .ref s] (zRv (fun H1 => H1 = H)) zNX := by
  refine z_of [some (.ref b), some (.ref s)] pn_J5 (Nat.le_of_ble_eq_true rfl) rfl (fun κ ok ho => ?_)
  refine z_gets ok zst_1 q188 rfl dJ5_inflateIfNeededFor_0 ?_
  refine z_ifeq (tgt := 21) ok dJ5_inflateIfNeededFor_3 (by decide) (fun c3 => absurd c3 (by decide)) (fun _ => ?_)
  refine z_aload_n ok dJ5_inflateIfNeededFor_6 rfl ?_
  refine g_J5_22 ok h dJ5_inflateIfNeededFor_7 ?_
  refine z_aload_n ok dJ5_inflateIfNeededFor_10 rfl ?_
  refine v_J5_40 ok (m_J7_coder hs) hs.is dJ5_inflateIfNeededFor_11 zk_nx (zk_R ?_)
  refine z_icmpeq (tgt := 21) ok dJ5_inflateIfNeededFor_14 (by decide) (fun _ => ?_) (fun c14 => absurd rfl c14)
  exact z_vret ok dJ5_inflateIfNeededFor_21 ⟨rfl, rfl⟩
set_option maxHeartbeats 4000000 in
set_option maxRecDepth 100000 in
theorem m_J5_putStringAt {E : zE} {H : Heap} {b a cap i s ba : Nat} {l : List Int32} {f : Nat → Int32} {f2 f3 : Value} (hs : zSt E H s ba l) (h : zOb E H b 12 [.ref a, .int 0, f2, f3]) (ha : zAt E H a (zI E 3 cap f)) (hi : i + l.length ≤ cap) (hc : cap ≤ 34) : zM E 4 yJ5_putStringAt (ws_ yJ5_putStringAt cJ5_putStringAt 3 none) 0 0 H [.ref b, .int (nI i), .ref s] (zRv (zWr E H a (zI E 3 cap (va_cpy (fun k => l.getD k 0) f 0 i l.length)))) zNX := by
  refine z_of [some (.ref b), some (.int (nI i)), some (.ref s)] pn_J5 (Nat.le_of_ble_eq_true rfl) rfl (fun κ ok ho => ?_)
  have hs0 := hs
  obtain ⟨⟨g2, g3, h1⟩, hh⟩ := hs0
  refine z_aload_n ok dJ5_putStringAt_0 rfl ?_
  refine z_aload_n ok dJ5_putStringAt_1 rfl ?_
  refine v_J5_397_j6 ok (m_J5_inflateIfNeededFor h h1) h.is dJ5_putStringAt_2 zk_nx (zk_Rv (fun H9 e9 _ => ?_))
  subst e9
  refine z_aload_n ok dJ5_putStringAt_5 rfl ?_
  refine z_aload_n ok dJ5_putStringAt_6 rfl ?_
  refine g_J5_15 ok h dJ5_putStringAt_7 ?_
  refine z_iload_n ok dJ5_putStringAt_10 rfl ?_
  refine z_aload_n ok dJ5_putStringAt_11 rfl ?_
  refine g_J5_22 ok h dJ5_putStringAt_12 ?_
  refine v_J5_399 ok (m_J7_getBytes hs ha hi hc) h1.is dJ5_putStringAt_15 zk_nx (zk_Rv (fun H9 w9 _ => ?_))
  exact z_vret ok dJ5_putStringAt_18 ⟨rfl, w9⟩
set_option maxHeartbeats 4000000 in
set_option maxRecDepth 100000 in
theorem m_J5_append {E : zE} {H : Heap} {b a s ba : Nat} {l l2 : List Int32} (h : SB E H b a l) (hs : zSt E H s ba l2) (hsn : s < zB E) (hl : l.length + l2.length ≤ 34) : zM E 6 yJ5_append (ws_ yJ5_append cJ5_append 3 (some (.object "java/lang/AbstractStringBuilder"))) 1 34 H [.ref b, .ref s] (zRw (.ref b) (SBa E H b a (l ++ l2))) zNX := by
  refine z_of [some (.ref b), some (.ref s), none] pn_J5 (Nat.le_of_ble_eq_true rfl) rfl (fun κ ok ho => ?_)
  obtain ⟨ml, cap, f, hr, hlc, hf⟩ := h.r
  have hs0 := hs
  obtain ⟨⟨t2, t3, hs1⟩, hs2, hs3, -⟩ := hs0
  have hb0 := hr.1.new
  have ha0 := hr.2.1.new
  refine z_aload_n ok dJ5_append_0 rfl ?_
  refine z_ifnonnullR (tgt := 9) ok dJ5_append_1 (by decide) ?_
  refine z_aload_n ok dJ5_append_9 rfl ?_
  refine v_J5_32 ok (m_J7_length hs1 hs2 (by omega)) hs1.is dJ5_append_10 zk_nx (zk_R ?_)
  refine z_istore_2 ok dJ5_append_13 ?_
  refine z_aload_n ok dJ5_append_14 rfl ?_
  refine z_aload_n ok dJ5_append_15 rfl ?_
  refine g_J5_79 ok hr.1.ob dJ5_append_16 ?_
  refine z_iload_n ok dJ5_append_19 rfl ?_
  refine z_iadd ok dJ5_append_20 ?_
  rw [nI_add]
  refine v_J5_100_j6 ok (m_J5_ensureCapacityInternal (n := l.length) hr (by omega) hlc) hr.1.is dJ5_append_21 zk_nx (zk_Rv (fun H9 h9 _ => ?_))
  obtain ⟨a9, cap9, f9, g1, g2, g3, g4, g5, g6⟩ := h9
  have g1b := g1.1
  have g1a := g1.2.1
  have hab := g1.2.2.1
  have hcap9 : cap9 ≤ 34 := by have := g1.2.2.2.1; omega
  have hs9 := hs.kept (g6 s hs1.is.lt (by omega) (by omega))
  refine z_aload_n ok dJ5_append_24 rfl ?_
  refine z_aload_n ok dJ5_append_25 rfl ?_
  refine g_J5_79 ok g1b.ob dJ5_append_26 ?_
  refine z_aload_n ok dJ5_append_29 rfl ?_
  refine v_J5_208_j6 ok (m_J5_putStringAt hs9 g1b.ob g1a (by omega) hcap9) g1b.is dJ5_append_30 zk_nx (zk_Rv (fun H8 w8 _ => ?_))
  have g8 := g1b.kept (w8.2.2 b (Ne.symm hab))
  refine z_aload_n ok dJ5_append_33 rfl ?_
  refine z_dup ok dJ5_append_34 ?_
  refine g_J5_79 ok g8.ob dJ5_append_35 ?_
  refine z_iload_n ok dJ5_append_38 rfl ?_
  refine z_iadd ok dJ5_append_39 ?_
  rw [nI_add]
  refine p_J5_79 ok g8 dJ5_append_40 (fun H40 w40 => ?_)
  refine z_aload_n ok dJ5_append_43 rfl ?_
  exact z_aret ok dJ5_append_44 ⟨rfl, SBe.app (l2 := l2) (min := l.length + l2.length) g1 g2 rfl g3 g4 g5 g6 w8 w40 hf (fun k hk => pk_cpy_out (Or.inl hk)) (fun k hk => cpy_at hk) (cpy_fit2 (fun k hk => hs.fit hk) g1.2.2.2.2)⟩
set_option maxHeartbeats 4000000 in
set_option maxRecDepth 100000 in
theorem m_J6_append {E : zE} {H : Heap} {b a s ba : Nat} {l l2 : List Int32} (h : SB E H b a l) (hs : zSt E H s ba l2) (hsn : s < zB E) (hl : l.length + l2.length ≤ 34) : zM E 7 yJ6_append (ws_ yJ6_append cJ6_append 2 (some (.object "java/lang/StringBuilder"))) 1 34 H [.ref b, .ref s] (zRw (.ref b) (SBa E H b a (l ++ l2))) zNX := by
  refine z_of [some (.ref b), some (.ref s)] pn_J6 (Nat.le_of_ble_eq_true rfl) rfl (fun κ ok ho => ?_)
  have hbi : zIs E H b 12 := by obtain ⟨ml, cap, f, h1, hh⟩ := h; exact h1.is
  refine z_aload_n ok dJ6_append_0 rfl ?_
  refine z_aload_n ok dJ6_append_1 rfl ?_
  refine v_J6_29_j6 ok (m_J5_append h hs hsn hl) hbi dJ6_append_2 zk_nx (zk_Rw (fun H9 h9 _ => ?_))
  refine z_pop ok dJ6_append_5 ?_
  refine z_aload_n ok dJ6_append_6 rfl ?_
  exact z_aret ok dJ6_append_7 ⟨rfl, h9⟩
set_option maxHeartbeats 4000000 in
set_option maxRecDepth 100000 in
theorem m_J6_append_2 {E : zE} {H : Heap} {b a : Nat} {l : List Int32} {n : Nat} (h : SB E H b a l) (hn : n < 1000000) (hl : l.length + (mNum n).length ≤ 34) : zM E 7 yJ6_append_2 (ws_ yJ6_append_2 cJ6_append_2 2 (some (.object "java/lang/StringBuilder"))) 1 34 H [.ref b, .int (nI n)] (zRw (.ref b) (SBa E H b a (l ++ mNum n))) zNX := by
  refine z_of [some (.ref b), some (.int (nI n))] pn_J6 (Nat.le_of_ble_eq_true rfl) rfl (fun κ ok ho => ?_)
  have hbi : zIs E H b 12 := by obtain ⟨ml, cap, f, h1, hh⟩ := h; exact h1.is
  refine z_aload_n ok dJ6_append_2_0 rfl ?_
  refine z_iload_n ok dJ6_append_2_1 rfl ?_
  refine v_J6_53_j6 ok (m_J5_append_2 h hn hl) hbi dJ6_append_2_2 zk_nx (zk_Rw (fun H9 h9 _ => ?_))
  refine z_pop ok dJ6_append_2_5 ?_
  refine z_aload_n ok dJ6_append_2_6 rfl ?_
  exact z_aret ok dJ6_append_2_7 ⟨rfl, h9⟩
set_option maxHeartbeats 4000000 in
set_option maxRecDepth 100000 in
theorem m_J6_append_3 {E : zE} {H : Heap} {b a : Nat} {l : List Int32} (c : Int32) (h : SB E H b a l) (hc : ¬ 255 < c) (hc2 : c.toInt8.toInt32 = c) (hl : l.length < 34) : zM E 7 yJ6_append_3 (ws_ yJ6_append_3 cJ6_append_3 2 (some (.object "java/lang/StringBuilder"))) 1 34 H [.ref b, .int c] (zRw (.ref b) (SBa E H b a (l ++ [c]))) zNX := by
  refine z_of [some (.ref b), some (.int c)] pn_J6 (Nat.le_of_ble_eq_true rfl) rfl (fun κ ok ho => ?_)
  have hbi : zIs E H b 12 := by obtain ⟨ml, cap, f, h1, hh⟩ := h; exact h1.is
  refine z_aload_n ok dJ6_append_3_0 rfl ?_
  refine z_iload_n ok dJ6_append_3_1 rfl ?_
  refine v_J6_50_j6 ok (m_J5_append_3 c h hc hc2 hl) hbi dJ6_append_3_2 zk_nx (zk_Rw (fun H9 h9 _ => ?_))
  refine z_pop ok dJ6_append_3_5 ?_
  refine z_aload_n ok dJ6_append_3_6 rfl ?_
  exact z_aret ok dJ6_append_3_7 ⟨rfl, h9⟩
set_option maxHeartbeats 4000000 in
set_option maxRecDepth 100000 in
theorem m_J5_setLength {E : zE} {H : Heap} {b a : Nat} {l : List Int32} (h : SB E H b a l) (hl : l.length ≤ 34) : zM E 6 yJ5_setLength (ws_ yJ5_setLength cJ5_setLength 2 none) 1 34 H [.ref b, .int 0] (zRv (SBa E H b a [])) zNX := by
  refine z_of [some (.ref b), some (.int 0)] pn_J5 (Nat.le_of_ble_eq_true rfl) rfl (fun κ ok ho => ?_)
  obtain ⟨ml, cap, f, hr, hlc, hf⟩ := h.r
  refine z_iload_n ok dJ5_setLength_0 rfl ?_
  refine z_ifge (tgt := 13) ok dJ5_setLength_1 (by decide) (fun _ => ?_) (fun c1 => absurd (by decide) c1)
  refine z_aload_n ok dJ5_setLength_13 rfl ?_
  refine z_iload_n ok dJ5_setLength_14 rfl ?_
  refine v_J5_100_j6 ok (m_J5_ensureCapacityInternal (n := l.length) (min := 0) hr (by omega) hlc) hr.1.is dJ5_setLength_15 zk_nx (zk_Rv (fun H9 h9 _ => ?_))
  obtain ⟨a9, cap9, f9, g1, g2, g3, g4, g5, g6⟩ := h9
  have g1b := g1.1
  have g1a := g1.2.1
  have hab := g1.2.2.1
  have hcap9 : cap9 ≤ 34 := by have := g1.2.2.2.1; omega
  refine z_aload_n ok dJ5_setLength_18 rfl ?_
  refine g_J5_79 ok g1b.ob dJ5_setLength_19 ?_
  refine z_iload_n ok dJ5_setLength_22 rfl ?_
  refine z_icmpge (tgt := 63) ok dJ5_setLength_23 (by decide) (fun _ => ?_) (fun c23 => absurd (by rw [← nI_0, nI_leI (by omega) (by omega)]; omega) c23)
  refine z_aload_n ok dJ5_setLength_63 rfl ?_
  refine g_J5_79 ok g1b.ob dJ5_setLength_64 ?_
  refine z_iload_n ok dJ5_setLength_67 rfl ?_
  refine z_icmple (tgt := 76) ok dJ5_setLength_68 (by decide) (fun c68 => ?_) (fun c68 => ?_)
  · have hz0 : l.length = 0 := by
      rw [← nI_0, nI_leI (by omega) (by omega)] at c68
      omega
    refine z_aload_n ok dJ5_setLength_76 rfl ?_
    refine z_iload_n ok dJ5_setLength_77 rfl ?_
    refine p_J5_79 ok (by first | exact w73.1 | exact g1b) dJ5_setLength_78 (fun H78 w78 => ?_)
    exact z_vret ok dJ5_setLength_81 (by first | exact ⟨rfl, SBe.cut g1 g3 g4 g5 g6 (w73.tr w78)⟩ | exact ⟨rfl, SBe.cut g1 g3 g4 g5 g6 w78⟩)
  · refine z_aload_n ok dJ5_setLength_71 rfl ?_
    refine z_iconst ok dJ5_setLength_72 zic_1 ?_
    refine p_J5_73 ok g1b dJ5_setLength_73 (fun H73 w73 => ?_)
    refine z_aload_n ok dJ5_setLength_76 rfl ?_
    refine z_iload_n ok dJ5_setLength_77 rfl ?_
    refine p_J5_79 ok (by first | exact w73.1 | exact g1b) dJ5_setLength_78 (fun H78 w78 => ?_)
    exact z_vret ok dJ5_setLength_81 (by first | exact ⟨rfl, SBe.cut g1 g3 g4 g5 g6 (w73.tr w78)⟩ | exact ⟨rfl, SBe.cut g1 g3 g4 g5 g6 w78⟩)
set_option maxHeartbeats 4000000 in
set_option maxRecDepth 100000 in
theorem m_J6_setLength {E : zE} {H : Heap} {b a : Nat} {l : List Int32} (h : SB E H b a l) (hl : l.length ≤ 34) : zM E 7 yJ6_setLength (ws_ yJ6_setLength cJ6_setLength 2 none) 1 34 H [.ref b, .int 0] (zRv (SBa E H b a [])) zNX := by
  refine z_of [some (.ref b), some (.int 0)] pn_J6 (Nat.le_of_ble_eq_true rfl) rfl (fun κ ok ho => ?_)
  have hbi : zIs E H b 12 := by obtain ⟨ml, cap, f, h1, hh⟩ := h; exact h1.is
  refine z_aload_n ok dJ6_setLength_0 rfl ?_
  refine z_iload_n ok dJ6_setLength_1 rfl ?_
  refine v_J6_333_j6 ok (m_J5_setLength h hl) hbi dJ6_setLength_2 zk_nx (zk_Rv (fun H9 h9 _ => ?_))
  exact z_vret ok dJ6_setLength_5 ⟨rfl, h9⟩
set_option maxHeartbeats 4000000 in
set_option maxRecDepth 100000 in
theorem m_J7_checkIndex {E : zE} {H : Heap} {i n : Nat} (hi : i < n) (hn : n < 1000000) : zM E 4 yJ7_checkIndex (ws_ yJ7_checkIndex cJ7_checkIndex 2 none) 0 0 H [.int (nI i), .int (nI n)] (zRv (fun H1 => H1 = H)) zNX := by
  refine z_of [some (.int (nI i)), some (.int (nI n))] pn_J7 (Nat.le_of_ble_eq_true rfl) rfl (fun κ ok ho => ?_)
  refine z_iload_n ok dJ7_checkIndex_0 rfl ?_
  refine z_iload_n ok dJ7_checkIndex_1 rfl ?_
  refine z_getsQ ok q386 dJ7_checkIndex_2 (fun r9 => ?_)
  refine v_J7_1059 ok (m_J18_checkIndex r9 hi hn) dJ7_checkIndex_5 zk_nx (zk_R ?_)
  refine z_pop ok dJ7_checkIndex_8 ?_
  exact z_vret ok dJ7_checkIndex_9 ⟨rfl, rfl⟩
set_option maxHeartbeats 4000000 in
set_option maxRecDepth 100000 in
theorem m_J5_charAt {E : zE} {H : Heap} {b a : Nat} {l : List Int32} {i : Nat} (h : SB E H b a l) (hi : i < l.length) (hl : l.length ≤ 34) : zM E 5 yJ5_charAt (ws_ yJ5_charAt cJ5_charAt 5 (some .char)) 0 0 H [.ref b, .int (nI i)] (zRw (.int ((l.getD i 0 &&& 255).toUInt32 % 65536).toInt32) (fun H1 => H1 = H)) zNX := by
  refine z_of [some (.ref b), some (.int (nI i)), none, none, none] pn_J5 (Nat.le_of_ble_eq_true rfl) rfl (fun κ ok ho => ?_)
  obtain ⟨ml, cap, f, hr, hlc, hf⟩ := h.r
  have hcap9 : cap ≤ 34 := by have := hr.2.2.2.1; omega
  refine z_aload_n ok dJ5_charAt_0 rfl ?_
  refine g_J5_22 ok hr.1.ob dJ5_charAt_1 ?_
  refine z_istore_2 ok dJ5_charAt_4 ?_
  refine z_aload_n ok dJ5_charAt_5 rfl ?_
  refine g_J5_15 ok hr.1.ob dJ5_charAt_6 ?_
  refine z_astore_3 ok dJ5_charAt_9 ?_
  refine z_aload_n ok dJ5_charAt_10 rfl ?_
  refine g_J5_79 ok hr.1.ob dJ5_charAt_11 ?_
  refine z_aload_n ok dJ5_charAt_14 rfl ?_
  refine z_alenI ok (Or.inr (Or.inr rfl)) hr.2.1 dJ5_charAt_15 ?_
  refine z_iload_n ok dJ5_charAt_16 rfl ?_
  refine z_ishr ok dJ5_charAt_17 ?_
  rw [nI_sh0 (by omega)]
  refine z_mmin ok q382 dJ5_charAt_18 (by omega) (by omega) (by omega) ?_
  rw [nI_min (by omega) (by omega), Nat.min_eq_left hlc]
  refine z_istore_4 ok dJ5_charAt_21 ?_
  refine z_iload_n ok dJ5_charAt_23 rfl ?_
  refine z_iload ok dJ5_charAt_24 rfl ?_
  refine v_J5_144 ok (m_J7_checkIndex hi (by omega)) dJ5_charAt_26 zk_nx (zk_Rv (fun H9 e9 _ => ?_))
  subst e9
  refine z_iload_n ok dJ5_charAt_29 rfl ?_
  refine z_ifne (tgt := 42) ok dJ5_charAt_30 (by decide) (fun c30 => absurd c30 (fun z => z rfl)) (fun _ => ?_)
  refine z_aload_n ok dJ5_charAt_33 rfl ?_
  refine z_iload_n ok dJ5_charAt_34 rfl ?_
  refine z_bald ok hr.2.1 rfl (show i < cap by omega) dJ5_charAt_35 ?_ (by omega)
  rw [hf i hi]
  refine z_sipush ok dJ5_charAt_36 zsc_255 ?_
  refine z_iand ok dJ5_charAt_39 ?_
  refine z_i2c ok dJ5_charAt_40 ?_
  exact z_zret ok dJ5_charAt_41 (pk_nc _) ⟨rfl, rfl⟩
set_option maxHeartbeats 4000000 in
set_option maxRecDepth 100000 in
theorem m_J5_init {E : zE} {H : Heap} {b : Nat} (h : zAt E H b (.inr (12, [.null, .int 0, .int 0, .int 0]))) : zM E 3 yJ5_init (ws_ yJ5_init cJ5_init 2 none) 1 16 H [.ref b, .int 16] (zRv (SBn E H b)) zNX := by
  refine z_of [some (.ref b), some (.int 16)] pn_J5 (Nat.le_of_ble_eq_true rfl) rfl (fun κ ok ho => ?_)
  refine z_aload_n ok dJ5_init_0 rfl ?_
  refine z_objInit ok q187 dJ5_init_1 (by omega) ?_
  refine z_gets ok zst_1 q188 rfl dJ5_init_4 ?_
  refine z_ifeq (tgt := 25) ok dJ5_init_7 (by decide) (fun c7 => absurd c7 (by decide)) (fun _ => ?_)
  refine z_aload_n ok dJ5_init_10 rfl ?_
  refine z_iload_n ok dJ5_init_11 rfl ?_
  refine z_newB (N := 16) ok q211 rfl dJ5_init_12 (by omega) (by omega) (fun q12 H12 w12 => ?_)
  refine p_J5_15 ok (h.kept (w12.2.2.2 b h.lt)) dJ5_init_14 (fun H14 w14 => ?_)
  refine z_aload_n ok dJ5_init_17 rfl ?_
  refine z_iconst ok dJ5_init_18 zic_0 ?_
  refine p_J5_22 ok w14.1 dJ5_init_19 (fun H19 w19 => ?_)
  refine z_goto (tgt := 38) ok dJ5_init_22 (by decide) ?_
  exact z_vret ok dJ5_init_38 ⟨rfl, q12, w12.1, ⟨0, 16, _, w19.1, (w12.2.1.kept (w14.2.2 q12 (h.ne (Nat.le_of_eq w12.1.symm)))).kept (w19.2.2 q12 (h.ne (Nat.le_of_eq w12.1.symm))), h.ne (Nat.le_of_eq w12.1.symm), Nat.zero_le _, Or.inl rfl, fun _ => fit0, fun k hk => absurd hk (Nat.not_lt_zero _)⟩, by rw [w19.2.1, w14.2.1, w12.2.2.1], fun r q1 q2 => (w19.2.2 r q2).trans ((w14.2.2 r q2).trans (w12.2.2.2 r q1))⟩
set_option maxHeartbeats 4000000 in
set_option maxRecDepth 100000 in
theorem m_J6_init {E : zE} {H : Heap} {b : Nat} (h : zAt E H b (.inr (12, [.null, .int 0, .int 0, .int 0]))) : zM E 4 yJ6_init (ws_ yJ6_init cJ6_init 1 none) 1 16 H [.ref b] (zRv (SBn E H b)) zNX := by
  refine z_of [some (.ref b)] pn_J6 (Nat.le_of_ble_eq_true rfl) rfl (fun κ ok ho => ?_)
  refine z_aload_n ok dJ6_init_0 rfl ?_
  refine z_bipush ok dJ6_init_1 zbc_16 ?_
  refine v_J6_1 ok (m_J5_init h) dJ6_init_3 zk_nx (zk_Rv (fun H9 h9 _ => ?_))
  exact z_vret ok dJ6_init_6 ⟨rfl, h9⟩
set_option maxHeartbeats 4000000 in
set_option maxRecDepth 100000 in
theorem m_J7_hashCode {E : zE} {H : Heap} {s : Nat} {f0 f1 f3 : Value} {x : Int32} (h : zOb E H s 13 [f0, f1, .int x, f3]) (hx : ¬ x = 0) : zM E 2 yJ7_hashCode (ws_ yJ7_hashCode cJ7_hashCode 2 (some .int)) 0 0 H [.ref s] (zR H (.int x)) zNX := by
  refine z_of [some (.ref s), none] pn_J7 (Nat.le_of_ble_eq_true rfl) rfl (fun κ ok ho => ?_)
  refine z_aload_n ok dJ7_hashCode_0 rfl ?_
  refine g_J7_19 ok h dJ7_hashCode_1 ?_
  refine z_istore_1 ok dJ7_hashCode_4 ?_
  refine z_iload_n ok dJ7_hashCode_5 rfl ?_
  refine z_ifne (tgt := 58) ok dJ7_hashCode_6 (by decide) (fun _ => ?_) (fun c6 => absurd c6 hx)
  refine z_iload_n ok dJ7_hashCode_58 rfl ?_
  exact z_iret ok dJ7_hashCode_59 (zR_i rfl)
set_option maxHeartbeats 4000000 in
set_option maxRecDepth 100000 in
theorem m_J7_equals {E : zE} {H : Heap} {s : Nat}  : zM E 2 yJ7_equals (ws_ yJ7_equals cJ7_equals 3 (some .boolean)) 0 0 H [.ref s, .ref s] (zR H (.int 1)) zNX := by
  refine z_of [some (.ref s), some (.ref s), none] pn_J7 (Nat.le_of_ble_eq_true rfl) rfl (fun κ ok ho => ?_)
  refine z_aload_n ok dJ7_equals_0 rfl ?_
  refine z_aload_n ok dJ7_equals_1 rfl ?_
  refine z_acmpne (rx := some _) (ry := some _) (tgt := 7) ok dJ7_equals_2 (by decide) (fun c2 => absurd rfl c2) (fun _ => ?_)
  refine z_iconst ok dJ7_equals_5 zic_1 ?_
  exact z_zret ok dJ7_equals_6 rfl (zR_i rfl)
