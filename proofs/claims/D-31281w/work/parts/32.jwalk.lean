/-! walks of the JDK, printed by gen/jdk.py -/
set_option maxRecDepth 100000
set_option maxHeartbeats 4000000 in
set_option maxRecDepth 100000 in
theorem m_J9_newLength {E : zE} {H : Heap} (a b c : Nat) (h : a + max b c < 1000000) (h0 : 0 < a + max b c) : zM E 3 yJ9_newLength (ws_ yJ9_newLength cJ9_newLength 4 (some .int)) 0 0 H [.int (nI a), .int (nI b), .int (nI c)] (zR H (.int (nI (a + max b c)))) zNX := by
  refine z_of [some (.int (nI a)), some (.int (nI b)), some (.int (nI c)), none] pn_J9 (Nat.le_of_ble_eq_true rfl) rfl (fun κ ok ho => ?_)
  refine z_iload_n ok dJ9_newLength_0 rfl ?_
  refine z_iload_n ok dJ9_newLength_1 rfl ?_
  refine z_iload_n ok dJ9_newLength_2 rfl ?_
  refine z_mmax ok q255 dJ9_newLength_3 (by omega) (by omega) (by omega) ?_
  rw [nI_max (by omega) (by omega)]
  refine z_iadd ok dJ9_newLength_6 ?_
  rw [nI_add]
  refine z_istore_3 ok dJ9_newLength_7 ?_
  refine z_iconst ok dJ9_newLength_8 zic_0 ?_
  refine z_iload_n ok dJ9_newLength_9 rfl ?_
  refine z_icmpge (tgt := 21) ok dJ9_newLength_10 (by decide) (fun c10 => absurd c10 (nI_nle0 h0 (by omega))) (fun _ => ?_)
  refine z_iload_n ok dJ9_newLength_13 rfl ?_
  refine z_ldc ok q258 dJ9_newLength_14 ?_
  refine z_icmpgt (tgt := 21) ok dJ9_newLength_16 (by decide) (fun c16 => absurd c16 (by rw [show (2147483639 : Int32) = nI 2147483639 from rfl, nI_ltI (by omega) (by omega)]; omega)) (fun _ => ?_)
  refine z_iload_n ok dJ9_newLength_19 rfl ?_
  exact z_iret ok dJ9_newLength_20 (zR_i rfl)
set_option maxHeartbeats 4000000 in
set_option maxRecDepth 100000 in
theorem m_J11_copyOf_2 {E : zE} {H : Heap} (a n0 N ci : Nat) (f : Nat → Option Nat) (h : zAt E H a (zQ E n0 f)) (hN : n0 ≤ N) (hN2 : N < 1000000) (hel : ∀ i, i < n0 → ∀ r, f i = some r → zIs E H r ci) (hlie : zLie ci) : zM E 4 yJ11_copyOf_2 (ws_ yJ11_copyOf_2 cJ11_copyOf_2 4 (some (.array (.object "java/lang/Object")))) 1 N H [.ref a, .int (nI N), .ref (E.2.2.2.2.2.2 4)] (zRg (fun w H1 => ∃ q, w = .ref q ∧ zMk E H q (zQ E N (va_cpy f (fun _ => none) 0 0 n0)) H1)) zNX := by
  refine z_of [some (.ref a), some (.int (nI N)), some (.ref (E.2.2.2.2.2.2 4)), none] pn_J11 (Nat.le_of_ble_eq_true rfl) rfl (fun κ ok ho => ?_)
  refine z_aload_n ok dJ11_copyOf_2_0 rfl ?_
  refine z_ldcM ok q297 dJ11_copyOf_2_1 ?_
  refine z_acmpne (rx := some _) (ry := some _) (tgt := 13) ok dJ11_copyOf_2_3 (by decide) (fun c3 => absurd rfl c3) (fun _ => ?_)
  refine z_iload_n ok dJ11_copyOf_2_6 rfl ?_
  refine z_newQ (N := N) ok q299 rfl dJ11_copyOf_2_7 (by omega) (by omega) (fun q7 H7 w7 => ?_) rfl (by omega)
  have h9 := h.kept (w7.2.2.2 a h.lt)
  refine z_goto (tgt := 24) ok dJ11_copyOf_2_10 (by decide) ?_
  refine z_astore_3 ok dJ11_copyOf_2_24 ?_
  refine z_aload_n ok dJ11_copyOf_2_25 rfl ?_
  refine z_iconst ok dJ11_copyOf_2_26 zic_0 ?_
  refine z_aload_n ok dJ11_copyOf_2_27 rfl ?_
  refine z_iconst ok dJ11_copyOf_2_28 zic_0 ?_
  refine z_aload_n ok dJ11_copyOf_2_29 rfl ?_
  refine z_alenQ ok h9 dJ11_copyOf_2_30 ?_
  refine z_iload_n ok dJ11_copyOf_2_31 rfl ?_
  refine z_mmin ok q300 dJ11_copyOf_2_32 (by omega) (by omega) (by omega) ?_
  rw [nI_min (by omega) (by omega), Nat.min_eq_left hN]
  refine z_copyQ (sp := 0) (dp := 0) (ci := ci) ok q303 h9 w7.2.1 nI_0.symm nI_0.symm rfl (by omega) (by omega) (fun i hi r hr => (hel i hi r (by simpa using hr)).kept (w7.2.2.2 r (hel i hi r (by simpa using hr)).lt)) hlie dJ11_copyOf_2_35 (by omega) (fun H9 w9 => ?_) (by exact Nat.le_of_ble_eq_true rfl) (by omega) (by omega)
  refine z_aload_n ok dJ11_copyOf_2_38 rfl ?_
  exact z_aret ok dJ11_copyOf_2_39 ⟨_, rfl, _, rfl, w7.wr w9⟩
set_option maxHeartbeats 4000000 in
set_option maxRecDepth 100000 in
theorem m_J11_copyOf {E : zE} {H : Heap} (a n0 N ci : Nat) (f : Nat → Option Nat) (h : zAt E H a (zQ E n0 f)) (hN : n0 ≤ N) (hN2 : N < 1000000) (hel : ∀ i, i < n0 → ∀ r, f i = some r → zIs E H r ci) (hlie : zLie ci) : zM E 5 yJ11_copyOf (ws_ yJ11_copyOf cJ11_copyOf 2 (some (.array (.object "java/lang/Object")))) 1 N H [.ref a, .int (nI N)] (zRg (fun w H1 => ∃ q, w = .ref q ∧ zMk E H q (zQ E N (va_cpy f (fun _ => none) 0 0 n0)) H1)) zNX := by
  refine z_of [some (.ref a), some (.int (nI N))] pn_J11 (Nat.le_of_ble_eq_true rfl) rfl (fun κ ok ho => ?_)
  refine z_aload_n ok dJ11_copyOf_0 rfl ?_
  refine z_iload_n ok dJ11_copyOf_1 rfl ?_
  refine z_aload_n ok dJ11_copyOf_2 rfl ?_
  refine z_getC ok q265 h dJ11_copyOf_3 (by omega) ?_
  refine v_J11_300 ok (m_J11_copyOf_2 a n0 N ci f h hN hN2 hel hlie) dJ11_copyOf_6 zk_nx (zk_Rg (fun w9 H9 h9 _ => ?_))
  obtain ⟨q9, rfl, h9⟩ := h9
  exact z_aret ok dJ11_copyOf_9 ⟨_, rfl, _, rfl, h9⟩
set_option maxHeartbeats 4000000 in
set_option maxRecDepth 100000 in
theorem m_J2_size {E : zE} {H : Heap} {l : Nat} {f0 f1 : Value} {s : Int32} (h : zOb E H l 10 [f0, f1, .int s]) : zM E 2 yJ2_size (ws_ yJ2_size cJ2_size 1 (some .int)) 0 0 H [.ref l] (zR H (.int s)) zNX := by
  refine z_of [some (.ref l)] pn_J2 (Nat.le_of_ble_eq_true rfl) rfl (fun κ ok ho => ?_)
  refine z_aload_n ok dJ2_size_0 rfl ?_
  refine g_J2_48 ok h dJ2_size_1 ?_
  exact z_iret ok dJ2_size_4 (zR_i rfl)
set_option maxHeartbeats 4000000 in
set_option maxRecDepth 100000 in
theorem m_J2_elementData {E : zE} {H : Heap} {l e cap j r : Nat} {f0 f2 : Value} {f : Nat → Option Nat} (h : zOb E H l 10 [f0, .ref e, f2]) (he : zAt E H e (zQ E cap f)) (hj : j < cap) (hc : cap ≤ 60) (hr : f j = some r) : zM E 2 yJ2_elementData (ws_ yJ2_elementData cJ2_elementData 2 (some (.object "java/lang/Object"))) 0 0 H [.ref l, .int (nI j)] (zR H (.ref r)) zNX := by
  refine z_of [some (.ref l), some (.int (nI j))] pn_J2 (Nat.le_of_ble_eq_true rfl) rfl (fun κ ok ho => ?_)
  refine z_aload_n ok dJ2_elementData_0 rfl ?_
  refine g_J2_9 ok h dJ2_elementData_1 ?_
  refine z_iload_n ok dJ2_elementData_4 rfl ?_
  refine z_aald ok he rfl hj dJ2_elementData_5 ?_ (by omega)
  rw [hr]
  exact z_aret ok dJ2_elementData_6 ⟨rfl, rfl⟩
set_option maxHeartbeats 4000000 in
set_option maxRecDepth 100000 in
theorem m_J18_checkIndex {E : zE} {H : Heap} {j n : Nat} (r : Option Nat) (hj : j < n) (hn : n < 1000000) : zM E 2 yJ18_checkIndex (ws_ yJ18_checkIndex cJ18_checkIndex 3 (some .int)) 0 0 H [.int (nI j), .int (nI n), va_rf r] (zR H (.int (nI j))) zNX := by
  refine z_of [some (.int (nI j)), some (.int (nI n)), some (va_rf r)] pn_J18 (by cases r <;> exact Nat.le_of_ble_eq_true rfl) (by cases r <;> rfl) (fun κ ok ho => ?_)
  refine z_iload_n ok dJ18_checkIndex_0 rfl ?_
  refine z_iflt (tgt := 9) ok dJ18_checkIndex_1 (by decide) (fun c1 => absurd c1 (nI_pos (by omega))) (fun _ => ?_)
  refine z_iload_n ok dJ18_checkIndex_4 rfl ?_
  refine z_iload_n ok dJ18_checkIndex_5 rfl ?_
  refine z_icmplt (tgt := 16) ok dJ18_checkIndex_6 (by decide) (fun _ => ?_) (fun c6 => absurd (nI_lt hj (by omega)) c6)
  refine z_iload_n ok dJ18_checkIndex_16 rfl ?_
  exact z_iret ok dJ18_checkIndex_17 (zR_i rfl)
set_option maxHeartbeats 4000000 in
set_option maxRecDepth 100000 in
theorem m_J17_checkIndex {E : zE} {H : Heap} {j n : Nat} (hj : j < n) (hn : n < 1000000) : zM E 3 yJ17_checkIndex (ws_ yJ17_checkIndex cJ17_checkIndex 2 (some .int)) 0 0 H [.int (nI j), .int (nI n)] (zR H (.int (nI j))) zNX := by
  refine z_of [some (.int (nI j)), some (.int (nI n))] pn_J17 (Nat.le_of_ble_eq_true rfl) rfl (fun κ ok ho => ?_)
  refine z_iload_n ok dJ17_checkIndex_0 rfl ?_
  refine z_iload_n ok dJ17_checkIndex_1 rfl ?_
  refine z_null ok dJ17_checkIndex_2 ?_
  refine v_J17_105 ok (m_J18_checkIndex none hj hn) dJ17_checkIndex_3 zk_nx (zk_R ?_)
  exact z_iret ok dJ17_checkIndex_6 (zR_i rfl)
set_option maxHeartbeats 4000000 in
set_option maxRecDepth 100000 in
theorem m_J2_get {E : zE} {H : Heap} {l e cap n j r : Nat} {mc : Int32} {f : Nat → Option Nat} (h : AL E H l mc e cap n f) (hj : j < n) (hr : f j = some r) : zM E 4 yJ2_get (ws_ yJ2_get cJ2_get 2 (some (.object "java/lang/Object"))) 0 0 H [.ref l, .int (nI j)] (zR H (.ref r)) zNX := by
  refine z_of [some (.ref l), some (.int (nI j))] pn_J2 (Nat.le_of_ble_eq_true rfl) rfl (fun κ ok ho => ?_)
  have hc := h.2.1
  have hc2 := h.2.2.1
  refine z_iload_n ok dJ2_get_0 rfl ?_
  refine z_aload_n ok dJ2_get_1 rfl ?_
  refine g_J2_48 ok h.at.ob dJ2_get_2 ?_
  refine v_J2_118 ok (m_J17_checkIndex hj (by omega)) dJ2_get_5 zk_nx (zk_R ?_)
  refine z_pop ok dJ2_get_8 ?_
  refine z_aload_n ok dJ2_get_9 rfl ?_
  refine z_iload_n ok dJ2_get_10 rfl ?_
  refine v_J2_123 ok (m_J2_elementData h.at.ob (h.arr (by omega)) (by omega) hc2 hr) h.at.is dJ2_get_11 zk_nx (zk_R ?_)
  exact z_aret ok dJ2_get_14 ⟨rfl, rfl⟩
set_option maxHeartbeats 4000000 in
set_option maxRecDepth 100000 in
theorem m_J2_grow_2 {E : zE} {H : Heap} {l e cap n ci : Nat} {mc : Int32} {f : Nat → Option Nat} (h : AL E H l mc e cap n f) (hfull : n = cap) (hn40 : n < 40) (hel : ∀ i, i < n → ∀ r, f i = some r → zIs E H r ci) (hlie : zLie ci) : zM E 7 yJ2_grow_2 (ws_ yJ2_grow_2 cJ2_grow_2 4 (some (.array (.object "java/lang/Object")))) 1 60 H [.ref l, .int (nI (n + 1))] (zRg (fun w H1 => ∃ q, w = .ref q ∧ ALg E H l mc n f q H1)) zNX := by
  refine z_of [some (.ref l), some (.int (nI (n + 1))), none, none] pn_J2 (Nat.le_of_ble_eq_true rfl) rfl (fun κ ok ho => ?_)
  obtain ⟨h1, h2, h3, h4⟩ := h
  rcases h4 with ⟨h4, h5⟩ | ⟨h4, h5, h6⟩
  · have hn : n = 0 := by omega
    subst hn
    subst h5
    subst h4
    refine z_aload_n ok dJ2_grow_2_0 rfl ?_
    refine g_J2_9 ok h1.ob dJ2_grow_2_1 ?_
    refine z_tlen ok (fun U hU => zKN.t0 hU) dJ2_grow_2_4 ?_
    refine z_istore_2 ok dJ2_grow_2_5 ?_
    refine z_iload_n ok dJ2_grow_2_6 rfl ?_
    refine z_ifgt (tgt := 20) ok dJ2_grow_2_7 (by decide) (fun c7 => absurd c7 (by decide)) (fun _ => ?_)
    refine z_aload_n ok dJ2_grow_2_10 rfl ?_
    refine g_J2_9 ok h1.ob dJ2_grow_2_11 ?_
    refine z_gets ok zst_0 q125 rfl dJ2_grow_2_14 ?_
    refine z_acmpeq (rx := some _) (ry := some _) (tgt := 45) ok dJ2_grow_2_17 (by decide) (fun _ => ?_) (fun c17 => absurd rfl c17)
    refine z_aload_n ok dJ2_grow_2_45 rfl ?_
    refine z_bipush ok dJ2_grow_2_46 zbc_10 ?_
    refine z_iload_n ok dJ2_grow_2_48 rfl ?_
    refine z_mmax ok q306 dJ2_grow_2_49 (by omega) (by omega) (by omega) ?_
    rw [show (if (10 : Int32) < nI 1 then nI 1 else 10) = nI 10 by decide]
    refine z_newQ (N := 10) ok q307 rfl dJ2_grow_2_52 (by omega) (by omega) (fun q52 H52 w52 => ?_)
    refine z_dup_x1 ok dJ2_grow_2_55 ?_
    refine p_J2_9 ok (h1.kept (w52.2.2.2 l h1.lt)) dJ2_grow_2_56 (fun H56 w56 => ?_)
    exact z_aret ok dJ2_grow_2_59 ⟨_, rfl, _, rfl, ALg.mk0 (Or.inr h1.lt) w52 w56 (by omega) (by omega) (fun i hi => by omega)⟩
  · have hn : n = cap := by omega
    refine z_aload_n ok dJ2_grow_2_0 rfl ?_
    refine g_J2_9 ok h1.ob dJ2_grow_2_1 ?_
    refine z_alenQ ok h6 dJ2_grow_2_4 ?_
    refine z_istore_2 ok dJ2_grow_2_5 ?_
    refine z_iload_n ok dJ2_grow_2_6 rfl ?_
    refine z_ifgt (tgt := 20) ok dJ2_grow_2_7 (by decide) (fun _ => ?_) (fun c7 => absurd (nI_0lt (by omega) (by omega)) c7)
    refine z_iload_n ok dJ2_grow_2_20 rfl ?_
    refine z_iload_n ok dJ2_grow_2_21 rfl ?_
    refine z_iload_n ok dJ2_grow_2_22 rfl ?_
    refine z_isub ok dJ2_grow_2_23 ?_
    rw [pk_sub (by omega)]
    refine z_iload_n ok dJ2_grow_2_24 rfl ?_
    refine z_iconst ok dJ2_grow_2_25 zic_1 ?_
    refine z_ishr ok dJ2_grow_2_26 ?_
    rw [nI_half (by omega)]
    refine v_J2_73 ok (m_J9_newLength _ _ _ (by omega) (by omega)) dJ2_grow_2_27 zk_nx (zk_R ?_)
    refine z_istore_3 ok dJ2_grow_2_30 ?_
    refine z_aload_n ok dJ2_grow_2_31 rfl ?_
    refine z_aload_n ok dJ2_grow_2_32 rfl ?_
    refine g_J2_9 ok h1.ob dJ2_grow_2_33 ?_
    refine z_iload_n ok dJ2_grow_2_36 rfl ?_
    refine v_J2_66 ok (m_J11_copyOf _ cap _ ci f h6 (by omega) (by omega) (fun i hi r hr => hel i (by omega) r hr) hlie) dJ2_grow_2_37 zk_nx (zk_Rg (fun w9 H9 h9 _ => ?_))
    obtain ⟨q9, rfl, w9⟩ := h9
    refine z_dup_x1 ok dJ2_grow_2_40 ?_
    refine p_J2_9 ok (h1.kept (w9.2.2.2 l h1.lt)) dJ2_grow_2_41 (fun H41 w41 => ?_)
    exact z_aret ok dJ2_grow_2_44 ⟨_, rfl, _, rfl, ALg.mk0 (Or.inr h1.lt) w9 w41 (by omega) (by omega) (fun i hi => cpy_n (by omega))⟩
set_option maxHeartbeats 4000000 in
set_option maxRecDepth 100000 in
theorem m_J2_grow {E : zE} {H : Heap} {l e cap n ci : Nat} {mc : Int32} {f : Nat → Option Nat} (h : AL E H l mc e cap n f) (hfull : n = cap) (hn40 : n < 40) (hel : ∀ i, i < n → ∀ r, f i = some r → zIs E H r ci) (hlie : zLie ci) : zM E 8 yJ2_grow (ws_ yJ2_grow cJ2_grow 1 (some (.array (.object "java/lang/Object")))) 1 60 H [.ref l] (zRg (fun w H1 => ∃ q, w = .ref q ∧ ALg E H l mc n f q H1)) zNX := by
  refine z_of [some (.ref l)] pn_J2 (Nat.le_of_ble_eq_true rfl) rfl (fun κ ok ho => ?_)
  refine z_aload_n ok dJ2_grow_0 rfl ?_
  refine z_aload_n ok dJ2_grow_1 rfl ?_
  refine g_J2_48 ok h.at.ob dJ2_grow_2 ?_
  refine z_iconst ok dJ2_grow_5 zic_1 ?_
  refine z_iadd ok dJ2_grow_6 ?_
  rw [nI_1]
  refine v_J2_69 ok (m_J2_grow_2 h hfull hn40 hel hlie) h.at.is dJ2_grow_7 zk_nx (zk_Rg (fun w9 H9 h9 _ => ?_))
  obtain ⟨q9, rfl, h9⟩ := h9
  exact z_aret ok dJ2_grow_10 ⟨_, rfl, _, rfl, h9⟩
set_option maxHeartbeats 4000000 in
set_option maxRecDepth 100000 in
theorem m_J2_add_2 {E : zE} {H : Heap} {l e cap n ci x : Nat} {mc : Int32} {f : Nat → Option Nat} (h : AL E H l mc e cap n f) (hxl : x ≠ l) (hn40 : n < 40) (hx : zIs E H x ci) (hel : ∀ i, i < n → ∀ r, f i = some r → zIs E H r ci) (hlie : zLie ci) : zM E 9 yJ2_add_2 (ws_ yJ2_add_2 cJ2_add_2 4 none) 1 60 H [.ref l, .ref x, .ref e, .int (nI n)] (zRv (ALa E H l e n f x)) zNX := by
  refine z_of [some (.ref l), some (.ref x), some (.ref e), some (.int (nI n))] pn_J2 (Nat.le_of_ble_eq_true rfl) rfl (fun κ ok ho => ?_)
  obtain ⟨h1, h2, h3, h4⟩ := h
  have k1 : ∀ (H1 : Heap) (k s e1 cap1 : Nat) (f1 : Nat → Option Nat), k ≤ 1 → s ≤ 60 → zAt E H1 l (ALo mc e1 n) → zAt E H1 e1 (zQ E cap1 f1) → n < cap1 → cap1 ≤ 60 → e1 ≠ l → zIs E H1 x ci → (∀ i, i < n → f1 i = f i) → H.size ≤ H1.size → (e1 = e ∨ H.size ≤ e1) → (∀ r : Nat, r < H.size → r ≠ l → H1[r]? = H[r]?) → zV κ E H1 k s 11 [some (.ref l), some (.ref x), some (.ref e1), some (.int (nI n))] [] := by
    intro H1 k s e1 cap1 f1 hk hs g1 g2 g3 g4 g5 g6 g7 g8 g9 g10
    refine z_aload_n ok dJ2_add_2_11 rfl ?_
    refine z_iload_n ok dJ2_add_2_12 rfl ?_
    refine z_aload_n ok dJ2_add_2_13 rfl ?_
    refine z_aast ok g2 rfl g3 g6 hlie dJ2_add_2_14 (fun H14 w14 => ?_) (by omega)
    refine z_aload_n ok dJ2_add_2_15 rfl ?_
    refine z_iload_n ok dJ2_add_2_16 rfl ?_
    refine z_iconst ok dJ2_add_2_17 zic_1 ?_
    refine z_iadd ok dJ2_add_2_18 ?_
    rw [nI_1]
    refine p_J2_48 ok (g1.kept (w14.2.2 l (Ne.symm g5))) dJ2_add_2_19 (fun H19 w19 => ?_)
    exact z_vret ok dJ2_add_2_22 ⟨rfl, ALa.mk w14 w19 g3 g4 g5 g7 g8 g9 g10 h1.lt⟩
  rcases h4 with ⟨h4, h5⟩ | ⟨h4, h5, h6⟩
  · have hn : n = 0 := by omega
    subst h5
    refine z_iload_n ok dJ2_add_2_0 rfl ?_
    refine z_aload_n ok dJ2_add_2_1 rfl ?_
    refine z_tlen ok (fun U hU => zKN.t0 hU) dJ2_add_2_2 ?_
    refine z_icmpne (tgt := 11) ok dJ2_add_2_3 (by decide) (fun c3 => absurd c3 (fun z => z (by rw [hn]))) (fun _ => ?_)
    refine z_aload_n ok dJ2_add_2_6 rfl ?_
    refine v_J2_129 ok (m_J2_grow (f := f) ⟨h1, h2, h3, Or.inl ⟨h4, rfl⟩⟩ (by omega) hn40 hel hlie) h1.is dJ2_add_2_7 zk_nx (zk_Rg (fun w9 H9 h9 _ => ?_))
    obtain ⟨q9, rfl, cap9, f9, a1, a2, a3, a4, a5, a6, a7, a8⟩ := h9
    refine z_astore_2 ok dJ2_add_2_10 ?_
    exact k1 H9 _ _ q9 cap9 f9 (by omega) (by omega) a1 a2 a3 a4 (by have := h1.lt; omega) (hx.kept (a8 x hx.lt hxl)) a5 (by omega) (Or.inr (by omega)) a8
  · refine z_iload_n ok dJ2_add_2_0 rfl ?_
    refine z_aload_n ok dJ2_add_2_1 rfl ?_
    refine z_alenQ ok h6 dJ2_add_2_2 ?_
    refine z_icmpne (tgt := 11) ok dJ2_add_2_3 (by decide) (fun c3 => ?_) (fun c3 => ?_)
    · have hlt : n < cap := by
        rcases Nat.lt_or_ge n cap with q | q
        · exact q
        · exact absurd (by rw [show n = cap by omega]) c3
      first | exact k1 H _ _ e cap f (by omega) (by omega) h1 h6 hlt h3 h5 hx (fun _ _ => rfl) (Nat.le_refl _) (Or.inl rfl) (fun _ _ _ => rfl) | exact k1 H9 _ _ q9 cap9 f9 (by omega) (by omega) a1 a2 a3 a4 (by have := h1.lt; omega) (hx.kept (a8 x hx.lt hxl)) a5 (by omega) (Or.inr (by omega)) a8
    · have hn : n = cap := (nI_eq (by omega) (by omega)).mp c3
      refine z_aload_n ok dJ2_add_2_6 rfl ?_
      refine v_J2_129 ok (m_J2_grow (f := f) ⟨h1, h2, h3, Or.inr ⟨h4, h5, h6⟩⟩ (by omega) hn40 hel hlie) h1.is dJ2_add_2_7 zk_nx (zk_Rg (fun w9 H9 h9 _ => ?_))
      obtain ⟨q9, rfl, cap9, f9, a1, a2, a3, a4, a5, a6, a7, a8⟩ := h9
      refine z_astore_2 ok dJ2_add_2_10 ?_
      first | exact k1 H _ _ e cap f (by omega) (by omega) h1 h6 hlt h3 h5 hx (fun _ _ => rfl) (Nat.le_refl _) (Or.inl rfl) (fun _ _ _ => rfl) | exact k1 H9 _ _ q9 cap9 f9 (by omega) (by omega) a1 a2 a3 a4 (by have := h1.lt; omega) (hx.kept (a8 x hx.lt hxl)) a5 (by omega) (Or.inr (by omega)) a8
set_option maxHeartbeats 4000000 in
set_option maxRecDepth 100000 in
theorem m_J2_add {E : zE} {H : Heap} {l e cap n ci x : Nat} {mc : Int32} {f : Nat → Option Nat} (h : AL E H l mc e cap n f) (hxl : x ≠ l) (hn40 : n < 40) (hx : zIs E H x ci) (hel : ∀ i, i < n → ∀ r, f i = some r → zIs E H r ci) (hlie : zLie ci) (hnl : ∀ i, i < n → ∀ r, f i = some r → r ≠ l) : zM E 10 yJ2_add (ws_ yJ2_add cJ2_add 2 (some .boolean)) 1 60 H [.ref l, .ref x] (zRw (.int 1) (ALa E H l e n f x)) zNX := by
  refine z_of [some (.ref l), some (.ref x)] pn_J2 (Nat.le_of_ble_eq_true rfl) rfl (fun κ ok ho => ?_)
  refine z_aload_n ok dJ2_add_0 rfl ?_
  refine z_dup ok dJ2_add_1 ?_
  refine g_J2_63 ok h.at.ob dJ2_add_2 ?_
  refine z_iconst ok dJ2_add_5 zic_1 ?_
  refine z_iadd ok dJ2_add_6 ?_
  refine p_J2_63 ok h.at dJ2_add_7 (fun H7 w7 => ?_)
  replace h := h.mod w7 hel hnl
  refine z_aload_n ok dJ2_add_10 rfl ?_
  refine z_aload_n ok dJ2_add_11 rfl ?_
  refine z_aload_n ok dJ2_add_12 rfl ?_
  refine g_J2_9 ok h.1.at.ob dJ2_add_13 ?_
  refine z_aload_n ok dJ2_add_16 rfl ?_
  refine g_J2_48 ok h.1.at.ob dJ2_add_17 ?_
  refine v_J2_131 ok (m_J2_add_2 h.1 hxl hn40 (hx.kept (w7.2.2 x hxl)) h.2 hlie) h.1.at.is dJ2_add_20 zk_nx (zk_Rv (fun H9 h9 _ => ?_))
  refine z_iconst ok dJ2_add_23 zic_1 ?_
  exact z_zret ok dJ2_add_24 rfl ⟨rfl, h9.pre w7⟩
set_option maxHeartbeats 4000000 in
set_option maxRecDepth 100000 in
theorem m_J0_init {E : zE} {H : Heap} {l : Nat}  : zM E 2 yJ0_init (ws_ yJ0_init cJ0_init 1 none) 0 0 H [.ref l] (zRv (fun H1 => H1 = H)) zNX := by
  refine z_of [some (.ref l)] pn_J0 (Nat.le_of_ble_eq_true rfl) rfl (fun κ ok ho => ?_)
  refine z_aload_n ok dJ0_init_0 rfl ?_
  refine z_objInit ok q124 dJ0_init_1 (by omega) ?_
  exact z_vret ok dJ0_init_4 ⟨rfl, rfl⟩
set_option maxHeartbeats 4000000 in
set_option maxRecDepth 100000 in
theorem m_J1_init {E : zE} {H : Heap} {l : Nat} {f0 f1 f2 : Value} (h : zAt E H l (.inr (10, [f0, f1, f2]))) : zM E 3 yJ1_init (ws_ yJ1_init cJ1_init 1 none) 0 0 H [.ref l] (zRv (zWr E H l (.inr (10, [.int 0, f1, f2])))) zNX := by
  refine z_of [some (.ref l)] pn_J1 (Nat.le_of_ble_eq_true rfl) rfl (fun κ ok ho => ?_)
  refine z_aload_n ok dJ1_init_0 rfl ?_
  refine v_J1_1 ok m_J0_init dJ1_init_1 zk_nx (zk_Rv (fun H9 h9 _ => ?_))
  subst h9
  refine z_aload_n ok dJ1_init_4 rfl ?_
  refine z_iconst ok dJ1_init_5 zic_0 ?_
  refine p_J1_7 ok h dJ1_init_6 (fun H6 w6 => ?_)
  exact z_vret ok dJ1_init_9 ⟨rfl, w6⟩
set_option maxHeartbeats 4000000 in
set_option maxRecDepth 100000 in
theorem m_J2_init {E : zE} {H : Heap} {l : Nat} {f0 f1 : Value} (h : zAt E H l (.inr (10, [f0, f1, .int 0]))) : zM E 4 yJ2_init (ws_ yJ2_init cJ2_init 1 none) 0 0 H [.ref l] (zRv (zWr E H l (ALo 0 (E.2.2.2.2.2.2 0) 0))) zNX := by
  refine z_of [some (.ref l)] pn_J2 (Nat.le_of_ble_eq_true rfl) rfl (fun κ ok ho => ?_)
  refine z_aload_n ok dJ2_init_0 rfl ?_
  refine v_J2_1 ok (m_J1_init h) dJ2_init_1 zk_nx (zk_Rv (fun H9 h9 _ => ?_))
  refine z_aload_n ok dJ2_init_4 rfl ?_
  refine z_gets ok zst_0 q125 rfl dJ2_init_5 ?_
  refine p_J2_9 ok h9.1 dJ2_init_8 (fun H8 w8 => ?_)
  exact z_vret ok dJ2_init_11 ⟨rfl, h9.tr w8⟩
set_option maxHeartbeats 4000000 in
set_option maxRecDepth 100000 in
theorem m_J21_init {E : zE} {H : Heap} {l : Nat}  : zM E 2 yJ21_init (ws_ yJ21_init cJ21_init 1 none) 0 0 H [.ref l] (zRv (fun H1 => H1 = H)) zNX := by
  refine z_of [some (.ref l)] pn_J21 (Nat.le_of_ble_eq_true rfl) rfl (fun κ ok ho => ?_)
  refine z_aload_n ok dJ21_init_0 rfl ?_
  refine z_objInit ok q637 dJ21_init_1 (by omega) ?_
  exact z_vret ok dJ21_init_4 ⟨rfl, rfl⟩
set_option maxHeartbeats 4000000 in
set_option maxRecDepth 100000 in
theorem m_J22_init {E : zE} {H : Heap} {l : Nat} {f0 : Value} {x : Int32} (h : zAt E H l (.inr (14, [f0]))) : zM E 3 yJ22_init (ws_ yJ22_init cJ22_init 2 none) 0 0 H [.ref l, .int x] (zRv (zWr E H l (.inr (14, [.int x])))) zNX := by
  refine z_of [some (.ref l), some (.int x)] pn_J22 (Nat.le_of_ble_eq_true rfl) rfl (fun κ ok ho => ?_)
  refine z_aload_n ok dJ22_init_0 rfl ?_
  refine v_J22_202 ok m_J21_init dJ22_init_1 zk_nx (zk_Rv (fun H9 h9 _ => ?_))
  subst h9
  refine z_aload_n ok dJ22_init_4 rfl ?_
  refine z_iload_n ok dJ22_init_5 rfl ?_
  refine p_J22_205 ok rfl h dJ22_init_6 (fun H6 w6 => ?_)
  exact z_vret ok dJ22_init_9 ⟨rfl, w6⟩
set_option maxHeartbeats 4000000 in
set_option maxRecDepth 100000 in
theorem m_J22_valueOfC {E : zE} {H : Heap} {x : Nat} (hx : x < 128) : zM E 4 yJ22_valueOf (ws_ yJ22_valueOf cJ22_valueOf 1 (some (.object "java/lang/Integer"))) 0 0 H [.int (nI x)] (zR H (.ref (E.2.2.2.1 (128 + x)))) zNX := by
  refine z_of [some (.int (nI x))] pn_J22 (Nat.le_of_ble_eq_true rfl) rfl (fun κ ok ho => ?_)
  refine z_iload_n ok dJ22_valueOf_0 rfl ?_
  refine z_bipush ok dJ22_valueOf_1 zbc_m128 ?_
  refine z_icmplt (tgt := 23) ok dJ22_valueOf_3 (by decide) (fun c3 => absurd c3 (fun z => absurd z (by rw [Int32.lt_iff_toInt_lt, nI_toInt (by omega)]; first | (simp; done) | (simp; omega)))) (fun _ => ?_)
  refine z_iload_n ok dJ22_valueOf_6 rfl ?_
  refine z_gets ok zst_2 q625 rfl dJ22_valueOf_7 ?_
  refine z_icmpgt (tgt := 23) ok dJ22_valueOf_10 (by decide) (fun c10 => absurd c10 (fun z => absurd ((nI_ltI (a := 127) (by omega) (by omega)).mp z) (by omega))) (fun _ => ?_)
  refine z_gets ok zst_3 q627 rfl dJ22_valueOf_13 ?_
  refine z_iload_n ok dJ22_valueOf_16 rfl ?_
  refine z_sipush ok dJ22_valueOf_17 zsc_128 ?_
  refine z_iadd ok dJ22_valueOf_20 ?_
  rw [show (128 : Int32) = nI 128 from rfl, nI_add, Nat.add_comm x 128]
  refine z_taald ok (fun U hU => zKN.t1 hU) rfl (by omega) dJ22_valueOf_21 ?_
  exact z_aret ok dJ22_valueOf_22 ⟨rfl, rfl⟩
set_option maxHeartbeats 4000000 in
set_option maxRecDepth 100000 in
theorem m_J22_valueOfN {E : zE} {H : Heap} {x : Nat} (hx : 128 ≤ x) (hx2 : x < 1000000) : zM E 4 yJ22_valueOf (ws_ yJ22_valueOf cJ22_valueOf 1 (some (.object "java/lang/Integer"))) 1 1 H [.int (nI x)] (zRg (fun w H1 => ∃ q, w = .ref q ∧ zMk E H q (.inr (14, [.int (nI x)])) H1)) zNX := by
  refine z_of [some (.int (nI x))] pn_J22 (Nat.le_of_ble_eq_true rfl) rfl (fun κ ok ho => ?_)
  refine z_iload_n ok dJ22_valueOf_0 rfl ?_
  refine z_bipush ok dJ22_valueOf_1 zbc_m128 ?_
  refine z_icmplt (tgt := 23) ok dJ22_valueOf_3 (by decide) (fun c3 => absurd c3 (fun z => absurd z (by rw [Int32.lt_iff_toInt_lt, nI_toInt (by omega)]; first | (simp; done) | (simp; omega)))) (fun _ => ?_)
  refine z_iload_n ok dJ22_valueOf_6 rfl ?_
  refine z_gets ok zst_2 q625 rfl dJ22_valueOf_7 ?_
  refine z_icmpgt (tgt := 23) ok dJ22_valueOf_10 (by decide) (fun _ => ?_) (fun c10 => absurd ((nI_ltI (a := 127) (by omega) (by omega)).mpr (by omega)) c10)
  refine n_J22_1 ok dJ22_valueOf_23 (fun q23 H23 w23 => ?_)
  refine z_dup ok dJ22_valueOf_26 ?_
  refine z_iload_n ok dJ22_valueOf_27 rfl ?_
  refine v_J22_199 ok (m_J22_init w23.2.1) dJ22_valueOf_28 zk_nx (zk_Rv (fun H9 h9 _ => ?_))
  exact z_aret ok dJ22_valueOf_31 ⟨_, rfl, _, rfl, w23.wr h9⟩
set_option maxHeartbeats 4000000 in
set_option maxRecDepth 100000 in
theorem m_J22_intValue {E : zE} {H : Heap} {l : Nat} {x : Int32} (h : zOb E H l 14 [.int x]) : zM E 2 yJ22_intValue (ws_ yJ22_intValue cJ22_intValue 1 (some .int)) 0 0 H [.ref l] (zR H (.int x)) zNX := by
  refine z_of [some (.ref l)] pn_J22 (Nat.le_of_ble_eq_true rfl) rfl (fun κ ok ho => ?_)
  refine z_aload_n ok dJ22_intValue_0 rfl ?_
  refine g_J22_205 ok h dJ22_intValue_1 ?_
  exact z_iret ok dJ22_intValue_4 (zR_i rfl)
set_option maxHeartbeats 4000000 in
set_option maxRecDepth 100000 in
theorem m_J22_compare {E : zE} {H : Heap} (x y : Int32)  : zM E 2 yJ22_compare (ws_ yJ22_compare cJ22_compare 2 (some .int)) 0 0 H [.int x, .int y] (zR H (.int (mCmp x y))) zNX := by
  refine z_of [some (.int x), some (.int y)] pn_J22 (Nat.le_of_ble_eq_true rfl) rfl (fun κ ok ho => ?_)
  refine z_iload_n ok dJ22_compare_0 rfl ?_
  refine z_iload_n ok dJ22_compare_1 rfl ?_
  refine z_icmpge (tgt := 9) ok dJ22_compare_2 (by decide) (fun c2 => ?_) (fun c2 => ?_)
  · have hxy : ¬ x < y := Int32.not_lt.mpr c2
    refine z_iload_n ok dJ22_compare_9 rfl ?_
    refine z_iload_n ok dJ22_compare_10 rfl ?_
    refine z_icmpne (tgt := 18) ok dJ22_compare_11 (by decide) (fun c11 => ?_) (fun c11 => ?_)
    · refine z_iconst ok dJ22_compare_18 zic_1 ?_
      exact z_iret ok dJ22_compare_19 (zR_i (by simp_all [mCmp]))
    · refine z_iconst ok dJ22_compare_14 zic_0 ?_
      refine z_goto (tgt := 19) ok dJ22_compare_15 (by decide) ?_
      exact z_iret ok dJ22_compare_19 (zR_i (by simp_all [mCmp]))
  · refine z_iconst ok dJ22_compare_5 zic_m1 ?_
    have hxy : x < y := Int32.not_le.mp c2
    refine z_goto (tgt := 19) ok dJ22_compare_6 (by decide) ?_
    exact z_iret ok dJ22_compare_19 (zR_i (by simp_all [mCmp]))
set_option maxHeartbeats 4000000 in
set_option maxRecDepth 100000 in
theorem m_J22_compareTo_2 {E : zE} {H : Heap} {l l2 : Nat} {x y : Int32} (h : zOb E H l 14 [.int x]) (h2 : zOb E H l2 14 [.int y]) : zM E 3 yJ22_compareTo_2 (ws_ yJ22_compareTo_2 cJ22_compareTo_2 2 (some .int)) 0 0 H [.ref l, .ref l2] (zR H (.int (mCmp x y))) zNX := by
  refine z_of [some (.ref l), some (.ref l2)] pn_J22 (Nat.le_of_ble_eq_true rfl) rfl (fun κ ok ho => ?_)
  refine z_aload_n ok dJ22_compareTo_2_0 rfl ?_
  refine g_J22_205 ok h dJ22_compareTo_2_1 ?_
  refine z_aload_n ok dJ22_compareTo_2_4 rfl ?_
  refine g_J22_205 ok h2 dJ22_compareTo_2_5 ?_
  refine v_J22_259 ok (m_J22_compare _ _) dJ22_compareTo_2_8 zk_nx (zk_R ?_)
  exact z_iret ok dJ22_compareTo_2_11 (zR_i rfl)
set_option maxHeartbeats 4000000 in
set_option maxRecDepth 100000 in
theorem m_J22_compareTo {E : zE} {H : Heap} {l l2 : Nat} {x y : Int32} (h : zOb E H l 14 [.int x]) (h2 : zOb E H l2 14 [.int y]) : zM E 4 yJ22_compareTo (ws_ yJ22_compareTo cJ22_compareTo 2 (some .int)) 0 0 H [.ref l, .ref l2] (zR H (.int (mCmp x y))) zNX := by
  refine z_of [some (.ref l), some (.ref l2)] pn_J22 (Nat.le_of_ble_eq_true rfl) rfl (fun κ ok ho => ?_)
  refine z_aload_n ok dJ22_compareTo_0 rfl ?_
  refine z_aload_n ok dJ22_compareTo_1 rfl ?_
  refine z_cast ok q629 h2.is (ci := 14) rfl (Or.inl rfl) dJ22_compareTo_2 ?_
  refine v_J22_284 ok (m_J22_compareTo_2 h h2) h.is dJ22_compareTo_5 zk_nx (zk_R ?_)
  exact z_iret ok dJ22_compareTo_8 (zR_i rfl)
set_option maxHeartbeats 4000000 in
set_option maxRecDepth 100000 in
theorem m_X9_compare_2 {E : zE} {H : Heap} {c a b : Nat} {i1 i2 g1 g2 : Int32} {p1 q1 r1 s1 t1 u1 v1 w1 p2 q2 r2 s2 t2 u2 v2 w2 : Value} (h1 : zOb E H a 5 [.int i1, p1, q1, r1, s1, t1, u1, v1, w1, .int g1]) (h2 : zOb E H b 5 [.int i2, p2, q2, r2, s2, t2, u2, v2, w2, .int g2]) : zM E 2 yX9_compare_2 (ws_ yX9_compare_2 cX9_compare_2 3 (some .int)) 0 0 H [.ref c, .ref a, .ref b] (zR H (.int (mEar g1 i1 g2 i2))) zNX := by
  refine z_of [some (.ref c), some (.ref a), some (.ref b)] pn_X9 (Nat.le_of_ble_eq_true rfl) rfl (fun κ ok ho => ?_)
  refine z_aload_n ok dX9_compare_2_0 rfl ?_
  refine g_X9_7 ok h1 dX9_compare_2_1 ?_
  refine z_aload_n ok dX9_compare_2_4 rfl ?_
  refine g_X9_7 ok h2 dX9_compare_2_5 ?_
  refine z_icmpeq (tgt := 23) ok dX9_compare_2_8 (by decide) (fun c8 => ?_) (fun c8 => ?_)
  · refine z_aload_n ok dX9_compare_2_23 rfl ?_
    refine g_X9_13 ok h1 dX9_compare_2_24 ?_
    refine z_aload_n ok dX9_compare_2_27 rfl ?_
    refine g_X9_13 ok h2 dX9_compare_2_28 ?_
    refine z_isub ok dX9_compare_2_31 ?_
    exact z_iret ok dX9_compare_2_32 (zR_i (by simp [mEar, c8]))
  · refine z_aload_n ok dX9_compare_2_11 rfl ?_
    refine g_X9_7 ok h1 dX9_compare_2_12 ?_
    refine z_aload_n ok dX9_compare_2_15 rfl ?_
    refine g_X9_7 ok h2 dX9_compare_2_16 ?_
    refine z_isub ok dX9_compare_2_19 ?_
    refine z_goto (tgt := 32) ok dX9_compare_2_20 (by decide) ?_
    exact z_iret ok dX9_compare_2_32 (zR_i (by simp [mEar, c8]))
set_option maxHeartbeats 4000000 in
set_option maxRecDepth 100000 in
theorem m_X9_compare {E : zE} {H : Heap} {c a b k1 k2 : Nat} (hc : zIs E H c 8) (h1 : zKey E H a k1) (h2 : zKey E H b k2) : zM E 3 yX9_compare (ws_ yX9_compare cX9_compare 3 (some .int)) 0 0 H [.ref c, .ref a, .ref b] (zCmp H k1 k2) zNX := by
  refine z_of [some (.ref c), some (.ref a), some (.ref b)] pn_X9 (Nat.le_of_ble_eq_true rfl) rfl (fun κ ok ho => ?_)
  obtain ⟨p1, q1, r1, s1, t1, u1, v1, w1, i1, g1, a1, rfl, a2, a3⟩ := h1
  obtain ⟨p2, q2, r2, s2, t2, u2, v2, w2, i2, g2, b1, rfl, b2, b3⟩ := h2
  refine z_aload_n ok dX9_compare_0 rfl ?_
  refine z_aload_n ok dX9_compare_1 rfl ?_
  refine z_cast ok q670 a1.is (ci := 5) rfl (Or.inl rfl) dX9_compare_2 ?_
  refine z_aload_n ok dX9_compare_5 rfl ?_
  refine z_cast ok q670 b1.is (ci := 5) rfl (Or.inl rfl) dX9_compare_6 ?_
  refine v_X9_16 ok (m_X9_compare_2 a1 b1) hc dX9_compare_9 zk_nx (zk_R ?_)
  exact z_iret ok dX9_compare_12 ⟨_, rfl, rfl, mEar_k a2 b2 a3 b3⟩
set_option maxHeartbeats 4000000 in
set_option maxRecDepth 100000 in
theorem m_X9_init {E : zE} {H : Heap} {l : Nat}  : zM E 2 yX9_init (ws_ yX9_init cX9_init 1 none) 0 0 H [.ref l] (zRv (fun H1 => H1 = H)) zNX := by
  refine z_of [some (.ref l)] pn_X9 (Nat.le_of_ble_eq_true rfl) rfl (fun κ ok ho => ?_)
  refine z_aload_n ok dX9_init_0 rfl ?_
  refine z_objInit ok q1544 dX9_init_1 (by omega) ?_
  exact z_vret ok dX9_init_4 ⟨rfl, rfl⟩
set_option maxHeartbeats 4000000 in
set_option maxRecDepth 100000 in
theorem m_J29_siftUpUsingComparator {E : zE} {H : Heap} {e c x cap n k : Nat} (K a : Nat → Nat) (f : Nat → Option Nat) (he : zAt E H e (zQ E cap f)) (hcap : n ≤ cap) (hcap2 : cap < 1000000) (hk : k < n) (hc : zIs E H c 8) (hce : c ≠ e) (hx : zKey E H x (K x)) (hxe : x ≠ e) (hf : qFh n k a f) (hK : ∀ j, j < n → j ≠ k → zKey E H (a j) (K (a j))) (hne : ∀ j, j < n → j ≠ k → a j ≠ e) : zM E 5 yJ29_siftUpUsingComparator (ws_ yJ29_siftUpUsingComparator cJ29_siftUpUsingComparator 6 none) 0 0 H [.int (nI k), .ref x, .ref e, .ref c] (zRv (qOut E H e cap n f (qUp K x k k a))) zNX := by
  refine z_of [some (.int (nI k)), some (.ref x), some (.ref e), some (.ref c), none, none] pn_J29 (Nat.le_of_ble_eq_true rfl) rfl (fun κ ok ho => ?_)
  have k1 : ∀ (t k1 : Nat) (a1 : Nat → Nat) (f1 : Nat → Option Nat) (H1 : Heap), k1 ≤ t → k1 < n → qUp K x t k1 a1 = qUp K x k k a → zWr E H e (zQ E cap f1) H1 → qFh n k1 a1 f1 → qRest n f f1 → (∀ j, j < n → j ≠ k1 → ∃ j', j' < n ∧ j' ≠ k ∧ a1 j = a j') → zV κ E H1 0 0 0 [some (.int (nI k1)), some (.ref x), some (.ref e), some (.ref c), none, none] [] := by
    intro t
    induction t with
    | zero =>
      intro k1 a1 f1 H1 g1 g2 g3 g4 g5 g6 g7
      have e0 : k1 = 0 := by omega
      subst e0
      refine z_iload_n ok dJ29_siftUpUsingComparator_0 rfl ?_
      refine z_ifle (tgt := 43) ok dJ29_siftUpUsingComparator_1 (by decide) (fun _ => ?_) (fun c1 => absurd (by decide) c1)
      refine z_aload_n ok dJ29_siftUpUsingComparator_43 rfl ?_
      refine z_iload_n ok dJ29_siftUpUsingComparator_44 rfl ?_
      refine z_aload_n ok dJ29_siftUpUsingComparator_45 rfl ?_
      refine z_aast ok g4.1 rfl (show 0 < cap by omega) (hx.is.kept (g4.2.2 x hxe)) (⟨_, rfl, q2282⟩ : zLie 5) dJ29_siftUpUsingComparator_46 (fun H46 w46 => ?_) (by omega)
      rw [qUp] at g3
      exact z_vret ok dJ29_siftUpUsingComparator_47 ⟨rfl, _, g4.tr w46, by rw [← g3]; exact g5.fill, g6.up g2⟩
    | succ t ih =>
      intro k1 a1 f1 H1 g1 g2 g3 g4 g5 g6 g7
      refine z_iload_n ok dJ29_siftUpUsingComparator_0 rfl ?_
      refine z_ifle (tgt := 43) ok dJ29_siftUpUsingComparator_1 (by decide) (fun c1 => ?_) (fun c1 => ?_)
      · have e0 : k1 = 0 := by
          rcases Nat.eq_zero_or_pos k1 with q | q
          · exact q
          · exact absurd c1 (nI_nle0 q (by omega))
        rw [qUp, if_pos e0] at g3
        refine z_aload_n ok dJ29_siftUpUsingComparator_43 rfl ?_
        refine z_iload_n ok dJ29_siftUpUsingComparator_44 rfl ?_
        refine z_aload_n ok dJ29_siftUpUsingComparator_45 rfl ?_
        refine z_aast ok g4.1 rfl (show k1 < cap by omega) (hx.is.kept (g4.2.2 x hxe)) (⟨_, rfl, q2282⟩ : zLie 5) dJ29_siftUpUsingComparator_46 (fun H46 w46 => ?_) (by omega)
        exact z_vret ok dJ29_siftUpUsingComparator_47 ⟨rfl, _, g4.tr w46, by rw [← g3]; exact g5.fill, g6.up g2⟩
      · have e0 : 0 < k1 := nI_par (by omega) c1
        rw [qUp, if_neg (by omega)] at g3
        obtain ⟨j1, b1, b2, b3⟩ := g7 ((k1 - 1) / 2) (by omega) (by omega)
        have hb := (hK j1 b1 b2).kept (g4.2.2 _ (hne j1 b1 b2))
        rw [← b3] at hb
        have hbe : a1 ((k1 - 1) / 2) ≠ e := by rw [b3]; exact hne j1 b1 b2
        refine z_iload_n ok dJ29_siftUpUsingComparator_4 rfl ?_
        refine z_iconst ok dJ29_siftUpUsingComparator_5 zic_1 ?_
        refine z_isub ok dJ29_siftUpUsingComparator_6 ?_
        rw [show (1 : Int32) = nI 1 from rfl, pk_sub (by omega)]
        refine z_iconst ok dJ29_siftUpUsingComparator_7 zic_1 ?_
        refine z_iushr ok dJ29_siftUpUsingComparator_8 ?_
        rw [nI_ush (by omega)]
        refine z_istore_4 ok dJ29_siftUpUsingComparator_9 ?_
        refine z_aload_n ok dJ29_siftUpUsingComparator_11 rfl ?_
        refine z_iload ok dJ29_siftUpUsingComparator_12 rfl ?_
        refine z_aald ok g4.1 rfl (show (k1 - 1) / 2 < cap by omega) dJ29_siftUpUsingComparator_14 ?_ (by omega)
        rw [g5 ((k1 - 1) / 2) (by omega) (by omega)]
        change zV κ E H1 _ _ _ _ [.ref (a1 ((k1 - 1) / 2))]
        refine z_astore_5 ok dJ29_siftUpUsingComparator_15 ?_
        refine z_aload_n ok dJ29_siftUpUsingComparator_17 rfl ?_
        refine z_aload_n ok dJ29_siftUpUsingComparator_18 rfl ?_
        refine z_aload ok dJ29_siftUpUsingComparator_19 rfl ?_
        refine v_J29_149_x9 ok (m_X9_compare (hc.kept (g4.2.2 c hce)) (hx.kept (g4.2.2 x hxe)) hb) (hc.kept (g4.2.2 c hce)) dJ29_siftUpUsingComparator_21 zk_nx (zk_Cmp (fun cv h1 h2 => ?_))
        refine z_iflt (tgt := 32) ok dJ29_siftUpUsingComparator_26 (by decide) (fun c26 => ?_) (fun c26 => ?_)
        · rw [if_pos (h1.mp c26)] at g3
          refine z_aload_n ok dJ29_siftUpUsingComparator_32 rfl ?_
          refine z_iload_n ok dJ29_siftUpUsingComparator_33 rfl ?_
          refine z_aload ok dJ29_siftUpUsingComparator_34 rfl ?_
          refine z_aast ok g4.1 rfl (show k1 < cap by omega) hb.is (⟨_, rfl, q2282⟩ : zLie 5) dJ29_siftUpUsingComparator_36 (fun H36 w36 => ?_) (by omega)
          refine z_iload ok dJ29_siftUpUsingComparator_37 rfl ?_
          refine z_istore_0 ok dJ29_siftUpUsingComparator_39 ?_
          refine z_goto (tgt := 0) ok dJ29_siftUpUsingComparator_40 (by decide) ?_
          exact (zV.drop zdrop6 (ih ((k1 - 1) / 2) _ _ H36 (by omega) (by omega) g3 (g4.tr w36) g5.move (g6.up g2) (fun j q1 q2 => by
            by_cases q : j = k1
            · subst q
              exact ⟨j1, b1, b2, by simp [ua, b3]⟩
            · simp only [ua, if_neg q]
              exact g7 j q1 q)))
        · rw [if_neg (fun z => c26 (h1.mpr z))] at g3
          refine z_goto (tgt := 43) ok dJ29_siftUpUsingComparator_29 (by decide) ?_
          refine z_aload_n ok dJ29_siftUpUsingComparator_43 rfl ?_
          refine z_iload_n ok dJ29_siftUpUsingComparator_44 rfl ?_
          refine z_aload_n ok dJ29_siftUpUsingComparator_45 rfl ?_
          refine z_aast ok g4.1 rfl (show k1 < cap by omega) (hx.is.kept (g4.2.2 x hxe)) (⟨_, rfl, q2282⟩ : zLie 5) dJ29_siftUpUsingComparator_46 (fun H46 w46 => ?_) (by omega)
          exact z_vret ok dJ29_siftUpUsingComparator_47 ⟨rfl, _, g4.tr w46, by rw [← g3]; exact g5.fill, g6.up g2⟩
  exact k1 k k a f H (Nat.le_refl _) hk rfl (zWr.rf he) hf (fun _ _ => rfl) (fun j q1 q2 => ⟨j, q1, q2, rfl⟩)
set_option maxHeartbeats 4000000 in
set_option maxRecDepth 100000 in
theorem m_J29_siftDownUsingComparator {E : zE} {H : Heap} {e c x cap n k : Nat} (K a : Nat → Nat) (f : Nat → Option Nat) (he : zAt E H e (zQ E cap f)) (hcap : n ≤ cap) (hcap2 : cap < 1000000) (hk : k < n) (hc : zIs E H c 8) (hce : c ≠ e) (hx : zKey E H x (K x)) (hxe : x ≠ e) (hf : qFh n k a f) (hK : ∀ j, j < n → j ≠ k → zKey E H (a j) (K (a j))) (hne : ∀ j, j < n → j ≠ k → a j ≠ e) : zM E 5 yJ29_siftDownUsingComparator (ws_ yJ29_siftDownUsingComparator cJ29_siftDownUsingComparator 9 none) 0 0 H [.int (nI k), .ref x, .ref e, .int (nI n), .ref c] (zRv (qOut E H e cap n f (qDn K x n n k a))) zNX := by
  refine z_of [some (.int (nI k)), some (.ref x), some (.ref e), some (.int (nI n)), some (.ref c), none, none, none, none] pn_J29 (Nat.le_of_ble_eq_true rfl) rfl (fun κ ok ho => ?_)
  have k1 : ∀ (t k1 : Nat) (a1 : Nat → Nat) (f1 : Nat → Option Nat) (H1 : Heap), n ≤ k1 + t → k1 < n → qDn K x n t k1 a1 = qDn K x n n k a → zWr E H e (zQ E cap f1) H1 → qFh n k1 a1 f1 → qRest n f f1 → (∀ j, j < n → j ≠ k1 → ∃ j', j' < n ∧ j' ≠ k ∧ a1 j = a j') → zV κ E H1 0 0 5 [some (.int (nI k1)), some (.ref x), some (.ref e), some (.int (nI n)), some (.ref c), some (.int (nI (n / 2))), none, none, none] [] := by
    intro t
    induction t with
    | zero =>
      intro k1 a1 f1 H1 g1 g2
      omega
    | succ t ih =>
      intro k1 a1 f1 H1 g1 g2 g3 g4 g5 g6 g7
      rw [qDn] at g3
      have hkey : ∀ j, j < n → j ≠ k1 → zKey E H1 (a1 j) (K (a1 j)) ∧ a1 j ≠ e := by
        intro j q1 q2
        obtain ⟨j1, b1, b2, b3⟩ := g7 j q1 q2
        rw [b3]
        exact ⟨(hK j1 b1 b2).kept (g4.2.2 _ (hne j1 b1 b2)), hne j1 b1 b2⟩
      have hcc := hc.kept (g4.2.2 c hce)
      have hxx := hx.kept (g4.2.2 x hxe)
      have k61 : ¬ n / 2 ≤ k1 → ∀ ch : Nat, qCh K n k1 a1 = ch → zV κ E H1 0 0 61 [some (.int (nI k1)), some (.ref x), some (.ref e), some (.int (nI n)), some (.ref c), some (.int (nI (n / 2))), some (.int (nI ch)), some (.ref (a1 ch)), some (.int (nI (2 * k1 + 1 + 1)))] [] := by
        intro q0 ch hch
        rw [if_neg q0, hch] at g3
        have hcn : ch < n ∧ (ch - 1) / 2 = k1 ∧ k1 < ch := by
          rw [← hch]
          unfold qCh
          split <;> omega
        obtain ⟨d1, d2⟩ := hkey ch hcn.1 (by omega)
        refine z_aload ok dJ29_siftDownUsingComparator_61 rfl ?_
        refine z_aload_n ok dJ29_siftDownUsingComparator_63 rfl ?_
        refine z_aload ok dJ29_siftDownUsingComparator_64 rfl ?_
        refine v_J29_149_x9 ok (m_X9_compare hcc hxx d1) hcc dJ29_siftDownUsingComparator_66 zk_nx (zk_Cmp (fun cv h1 h2 => ?_))
        refine z_ifgt (tgt := 77) ok dJ29_siftDownUsingComparator_71 (by decide) (fun c71 => ?_) (fun c71 => ?_)
        · rw [if_pos (h2.mp c71)] at g3
          refine z_aload_n ok dJ29_siftDownUsingComparator_77 rfl ?_
          refine z_iload_n ok dJ29_siftDownUsingComparator_78 rfl ?_
          refine z_aload ok dJ29_siftDownUsingComparator_79 rfl ?_
          refine z_aast ok g4.1 rfl (show k1 < cap by omega) d1.is (⟨_, rfl, q2282⟩ : zLie 5) dJ29_siftDownUsingComparator_81 (fun H81 w81 => ?_) (by omega)
          refine z_iload ok dJ29_siftDownUsingComparator_82 rfl ?_
          refine z_istore_0 ok dJ29_siftDownUsingComparator_84 ?_
          refine z_goto (tgt := 5) ok dJ29_siftDownUsingComparator_85 (by decide) ?_
          exact (zV.drop zdrop9 (ih ch _ _ H81 (by omega) hcn.1 g3 (g4.tr w81) g5.move (g6.up g2) (fun j q1 q2 => by
            by_cases q : j = k1
            · subst q
              obtain ⟨j1, b1, b2, b3⟩ := g7 ch hcn.1 (by omega)
              exact ⟨j1, b1, b2, by simp [ua, b3]⟩
            · simp only [ua, if_neg q]
              exact g7 j q1 q)))
        · rw [if_neg (fun z => c71 (h2.mpr z))] at g3
          refine z_goto (tgt := 88) ok dJ29_siftDownUsingComparator_74 (by decide) ?_
          refine z_aload_n ok dJ29_siftDownUsingComparator_88 rfl ?_
          refine z_iload_n ok dJ29_siftDownUsingComparator_89 rfl ?_
          refine z_aload_n ok dJ29_siftDownUsingComparator_90 rfl ?_
          refine z_aast ok g4.1 rfl (show k1 < cap by omega) hxx.is (⟨_, rfl, q2282⟩ : zLie 5) dJ29_siftDownUsingComparator_91 (fun H91 w91 => ?_) (by omega)
          exact z_vret ok dJ29_siftDownUsingComparator_92 ⟨rfl, _, g4.tr w91, by rw [← g3]; exact g5.fill, g6.up g2⟩
      refine z_iload_n ok dJ29_siftDownUsingComparator_5 rfl ?_
      refine z_iload ok dJ29_siftDownUsingComparator_6 rfl ?_
      refine z_icmpge (tgt := 88) ok dJ29_siftDownUsingComparator_8 (by decide) (fun c8 => ?_) (fun c8 => ?_)
      · rw [nI_leI (by omega) (by omega)] at c8
        rw [if_pos c8] at g3
        refine z_aload_n ok dJ29_siftDownUsingComparator_88 rfl ?_
        refine z_iload_n ok dJ29_siftDownUsingComparator_89 rfl ?_
        refine z_aload_n ok dJ29_siftDownUsingComparator_90 rfl ?_
        refine z_aast ok g4.1 rfl (show k1 < cap by omega) hxx.is (⟨_, rfl, q2282⟩ : zLie 5) dJ29_siftDownUsingComparator_91 (fun H91 w91 => ?_) (by omega)
        exact z_vret ok dJ29_siftDownUsingComparator_92 ⟨rfl, _, g4.tr w91, by rw [← g3]; exact g5.fill, g6.up g2⟩
      · rw [nI_leI (by omega) (by omega)] at c8
        obtain ⟨d1, d2⟩ := hkey (2 * k1 + 1) (by omega) (by omega)
        refine z_iload_n ok dJ29_siftDownUsingComparator_11 rfl ?_
        refine z_iconst ok dJ29_siftDownUsingComparator_12 zic_1 ?_
        refine z_ishl ok dJ29_siftDownUsingComparator_13 ?_
        rw [nI_shl1 (by omega)]
        refine z_iconst ok dJ29_siftDownUsingComparator_14 zic_1 ?_
        refine z_iadd ok dJ29_siftDownUsingComparator_15 ?_
        rw [nI_1]
        refine z_istore_6 ok dJ29_siftDownUsingComparator_16 ?_
        refine z_aload_n ok dJ29_siftDownUsingComparator_18 rfl ?_
        refine z_iload ok dJ29_siftDownUsingComparator_19 rfl ?_
        refine z_aald ok g4.1 rfl (show 2 * k1 + 1 < cap by omega) dJ29_siftDownUsingComparator_21 ?_ (by omega)
        rw [g5 (2 * k1 + 1) (by omega) (by omega)]
        change zV κ E H1 _ _ _ _ (.ref (a1 (2 * k1 + 1)) :: _)
        refine z_astore_7 ok dJ29_siftDownUsingComparator_22 ?_
        refine z_iload ok dJ29_siftDownUsingComparator_24 rfl ?_
        refine z_iconst ok dJ29_siftDownUsingComparator_26 zic_1 ?_
        refine z_iadd ok dJ29_siftDownUsingComparator_27 ?_
        rw [nI_1]
        refine z_istore_8 ok dJ29_siftDownUsingComparator_28 ?_
        refine z_iload ok dJ29_siftDownUsingComparator_30 rfl ?_
        refine z_iload_n ok dJ29_siftDownUsingComparator_32 rfl ?_
        refine z_icmpge (tgt := 61) ok dJ29_siftDownUsingComparator_33 (by decide) (fun c33 => ?_) (fun c33 => ?_)
        · rw [nI_leI (by omega) (by omega)] at c33
          first | exact k61 c8 (2 * k1 + 1) (if_neg (fun z => by omega)) | exact k61 c8 (2 * k1 + 1) (if_neg (fun z => hlt z.2)) | exact k61 c8 (2 * k1 + 1 + 1) (if_pos ⟨by omega, hlt⟩)
        · rw [nI_leI (by omega) (by omega)] at c33
          obtain ⟨d3, d4⟩ := hkey (2 * k1 + 1 + 1) (by omega) (by omega)
          refine z_aload ok dJ29_siftDownUsingComparator_36 rfl ?_
          refine z_aload ok dJ29_siftDownUsingComparator_38 rfl ?_
          refine z_aload_n ok dJ29_siftDownUsingComparator_40 rfl ?_
          refine z_iload ok dJ29_siftDownUsingComparator_41 rfl ?_
          refine z_aald ok g4.1 rfl (show 2 * k1 + 1 + 1 < cap by omega) dJ29_siftDownUsingComparator_43 ?_ (by omega)
          rw [g5 (2 * k1 + 1 + 1) (by omega) (by omega)]
          change zV κ E H1 _ _ _ _ (.ref (a1 (2 * k1 + 1 + 1)) :: _)
          refine v_J29_149_x9 ok (m_X9_compare hcc d1 d3) hcc dJ29_siftDownUsingComparator_44 zk_nx (zk_Cmp (fun cv h1 h2 => ?_))
          refine z_ifle (tgt := 61) ok dJ29_siftDownUsingComparator_49 (by decide) (fun c49 => ?_) (fun c49 => ?_)
          · have hlt := fun z => Int32.not_lt.mpr c49 (h2.mpr z)
            first | exact k61 c8 (2 * k1 + 1) (if_neg (fun z => by omega)) | exact k61 c8 (2 * k1 + 1) (if_neg (fun z => hlt z.2)) | exact k61 c8 (2 * k1 + 1 + 1) (if_pos ⟨by omega, hlt⟩)
          · have hlt := h2.mp (Int32.not_le.mp c49)
            refine z_aload_n ok dJ29_siftDownUsingComparator_52 rfl ?_
            refine z_iload ok dJ29_siftDownUsingComparator_53 rfl ?_
            refine z_dup ok dJ29_siftDownUsingComparator_55 ?_
            refine z_istore_6 ok dJ29_siftDownUsingComparator_56 ?_
            refine z_aald ok g4.1 rfl (show 2 * k1 + 1 + 1 < cap by omega) dJ29_siftDownUsingComparator_58 ?_ (by omega)
            rw [g5 (2 * k1 + 1 + 1) (by omega) (by omega)]
            change zV κ E H1 _ _ _ _ (.ref (a1 (2 * k1 + 1 + 1)) :: _)
            refine z_astore_7 ok dJ29_siftDownUsingComparator_59 ?_
            first | exact k61 c8 (2 * k1 + 1) (if_neg (fun z => by omega)) | exact k61 c8 (2 * k1 + 1) (if_neg (fun z => hlt z.2)) | exact k61 c8 (2 * k1 + 1 + 1) (if_pos ⟨by omega, hlt⟩)
  refine z_iload_n ok dJ29_siftDownUsingComparator_0 rfl ?_
  refine z_iconst ok dJ29_siftDownUsingComparator_1 zic_1 ?_
  refine z_iushr ok dJ29_siftDownUsingComparator_2 ?_
  rw [nI_ush (by omega)]
  refine z_istore_5 ok dJ29_siftDownUsingComparator_3 ?_
  exact k1 n k a f H (by omega) hk rfl (zWr.rf he) hf (fun _ _ => rfl) (fun j q1 q2 => ⟨j, q1, q2, rfl⟩)
set_option maxHeartbeats 4000000 in
set_option maxRecDepth 100000 in
theorem m_J29_siftUp {E : zE} {H : Heap} {p e c x cap n k : Nat} {f1 f3 : Value} (K a : Nat → Nat) (f : Nat → Option Nat) (hp : zOb E H p 16 [.ref e, f1, .ref c, f3]) (he : zAt E H e (zQ E cap f)) (hcap : n ≤ cap) (hcap2 : cap < 1000000) (hk : k < n) (hc : zIs E H c 8) (hce : c ≠ e) (hx : zKey E H x (K x)) (hxe : x ≠ e) (hf : qFh n k a f) (hK : ∀ j, j < n → j ≠ k → zKey E H (a j) (K (a j))) (hne : ∀ j, j < n → j ≠ k → a j ≠ e) : zM E 6 yJ29_siftUp (ws_ yJ29_siftUp cJ29_siftUp 3 none) 0 0 H [.ref p, .int (nI k), .ref x] (zRv (qOut E H e cap n f (qUp K x k k a))) zNX := by
  refine z_of [some (.ref p), some (.int (nI k)), some (.ref x)] pn_J29 (Nat.le_of_ble_eq_true rfl) rfl (fun κ ok ho => ?_)
  refine z_aload_n ok dJ29_siftUp_0 rfl ?_
  refine g_J29_21 ok hp dJ29_siftUp_1 ?_
  refine z_ifnullR ok dJ29_siftUp_4 ?_
  refine z_iload_n ok dJ29_siftUp_7 rfl ?_
  refine z_aload_n ok dJ29_siftUp_8 rfl ?_
  refine z_aload_n ok dJ29_siftUp_9 rfl ?_
  refine g_J29_17 ok hp dJ29_siftUp_10 ?_
  refine z_aload_n ok dJ29_siftUp_13 rfl ?_
  refine g_J29_21 ok hp dJ29_siftUp_14 ?_
  refine v_J29_136 ok (m_J29_siftUpUsingComparator K a f he hcap hcap2 hk hc hce hx hxe hf hK hne) dJ29_siftUp_17 zk_nx (zk_Rv (fun H9 h9 _ => ?_))
  refine z_goto (tgt := 32) ok dJ29_siftUp_20 (by decide) ?_
  exact z_vret ok dJ29_siftUp_32 ⟨rfl, h9⟩
set_option maxHeartbeats 4000000 in
set_option maxRecDepth 100000 in
theorem m_J29_grow {E : zE} {H : Heap} {p e c n : Nat} {md : Int32} {f : Nat → Option Nat} (hp : zAt E H p (.inr (16, [.ref e, .int (nI n), .ref c, .int md]))) (he : zAt E H e (zQ E n f)) (hn : 1 ≤ n ∧ n < 60) (hel : ∀ i, i < n → ∀ r, f i = some r → zIs E H r 5) : zM E 6 yJ29_grow (ws_ yJ29_grow cJ29_grow 4 none) 1 (2 * n + 2) H [.ref p, .int (nI (n + 1))] (zRv (PQg E H p n c md f)) zNX := by
  refine z_of [some (.ref p), some (.int (nI (n + 1))), none, none] pn_J29 (Nat.le_of_ble_eq_true rfl) rfl (fun κ ok ho => ?_)
  obtain ⟨n1, n2⟩ := hn
  refine z_aload_n ok dJ29_grow_0 rfl ?_
  refine g_J29_17 ok hp.ob dJ29_grow_1 ?_
  refine z_alenQ ok he dJ29_grow_4 ?_
  refine z_istore_2 ok dJ29_grow_5 ?_
  refine z_iload_n ok dJ29_grow_6 rfl ?_
  refine z_iload_n ok dJ29_grow_7 rfl ?_
  refine z_iload_n ok dJ29_grow_8 rfl ?_
  refine z_isub ok dJ29_grow_9 ?_
  rw [pk_sub (by omega)]
  refine z_iload_n ok dJ29_grow_10 rfl ?_
  refine z_bipush ok dJ29_grow_11 zbc_64 ?_
  refine z_icmpge (tgt := 22) ok dJ29_grow_13 (by decide) (fun c13 => absurd c13 (fun z => absurd ((nI_leI (a := 64) (by omega) (by omega)).mp z) (by omega))) (fun _ => ?_)
  refine z_iload_n ok dJ29_grow_16 rfl ?_
  refine z_iconst ok dJ29_grow_17 zic_2 ?_
  refine z_iadd ok dJ29_grow_18 ?_
  rw [show (2 : Int32) = nI 2 from rfl, nI_add]
  refine z_goto (tgt := 25) ok dJ29_grow_19 (by decide) ?_
  refine v_J29_80 ok (m_J9_newLength _ _ _ (by omega) (by omega)) dJ29_grow_25 zk_nx (zk_R ?_)
  rw [show n + max (n + 1 - n) (n + 2) = 2 * n + 2 by omega]
  refine z_istore_3 ok dJ29_grow_28 ?_
  refine z_aload_n ok dJ29_grow_29 rfl ?_
  refine z_aload_n ok dJ29_grow_30 rfl ?_
  refine g_J29_17 ok hp.ob dJ29_grow_31 ?_
  refine z_iload_n ok dJ29_grow_34 rfl ?_
  refine v_J29_86 ok (m_J11_copyOf _ n _ 5 f he (by omega) (by omega) hel (⟨_, rfl, q2282⟩ : zLie 5)) dJ29_grow_35 zk_nx (zk_Rg (fun w9 H9 h9 _ => ?_))
  obtain ⟨q9, rfl, w9⟩ := h9
  refine p_J29_17 ok (hp.kept (w9.2.2.2 p hp.lt)) dJ29_grow_38 (fun H38 w38 => ?_)
  exact z_vret ok dJ29_grow_41 ⟨rfl, q9, _, w9.1, w38.1, w9.2.1.kept (w38.2.2 q9 (by have := hp.lt; have := w9.1; omega)), fun i hi => cpy_n hi, by rw [w38.2.1, w9.2.2.1], fun r h1 h2 => (w38.2.2 r h2).trans (w9.2.2.2 r h1)⟩
set_option maxHeartbeats 4000000 in
set_option maxRecDepth 100000 in
theorem m_J29_offerA {E : zE} {H : Heap} {lo p cap n x : Nat} {K : Nat → Nat} {S : Nat → Prop} (h : PQ E H lo p cap n K S) (hx : zKey E H x (K x)) (hxl : x < lo) (hxS : ¬ S x) (hlt : n < cap) : zM E 8 yJ29_offer (ws_ yJ29_offer cJ29_offer 3 (some .boolean)) 0 0 H [.ref p, .ref x] (zRw (.int 1) (PQa E H lo p cap n x K S)) zNX := by
  refine z_of [some (.ref p), some (.ref x), none] pn_J29 (Nat.le_of_ble_eq_true rfl) rfl (fun κ ok ho => ?_)
  obtain ⟨e, c, md, a, f, h1, h2, h3, ⟨a1, a2, a3, a4, a5, a6, a7, a8⟩, h5, h6, h7, h8⟩ := h
  refine z_aload_n ok dJ29_offer_0 rfl ?_
  refine z_ifnonnullR (tgt := 12) ok dJ29_offer_1 (by decide) ?_
  refine z_aload_n ok dJ29_offer_12 rfl ?_
  refine z_dup ok dJ29_offer_13 ?_
  refine g_J29_93 ok h1.ob dJ29_offer_14 ?_
  refine z_iconst ok dJ29_offer_17 zic_1 ?_
  refine z_iadd ok dJ29_offer_18 ?_
  refine p_J29_93 ok h1 dJ29_offer_19 (fun H19 w19 => ?_)
  refine z_aload_n ok dJ29_offer_22 rfl ?_
  refine g_J29_58 ok w19.1.ob dJ29_offer_23 ?_
  refine z_istore_2 ok dJ29_offer_26 ?_
  refine z_iload_n ok dJ29_offer_27 rfl ?_
  refine z_aload_n ok dJ29_offer_28 rfl ?_
  refine g_J29_17 ok w19.1.ob dJ29_offer_29 ?_
  refine z_alenQ ok (h2.kept (w19.2.2 e a6)) dJ29_offer_32 ?_
  refine z_icmplt (tgt := 43) ok dJ29_offer_33 (by decide) (fun _ => ?_) (fun c33 => absurd (nI_lt hlt (by omega)) c33)
  refine z_aload_n ok dJ29_offer_43 rfl ?_
  refine z_iload_n ok dJ29_offer_44 rfl ?_
  refine z_aload_n ok dJ29_offer_45 rfl ?_
  refine v_J29_100 ok (m_J29_siftUp (n := n + 1) K a f w19.1.ob (h2.kept (w19.2.2 e a6)) (by omega) (by omega) (by omega) (h3.kept (w19.2.2 c a8)) a7 (hx.kept (w19.2.2 x (by omega))) (by omega) (fun j q1 q2 => h5 j (by omega)) (fun j q1 q2 => by have q3 := h8 _ ((h7.1 _).mpr ⟨j, by omega, rfl⟩); exact q3.1.kept (w19.2.2 _ (by omega))) (fun j q1 q2 => by have q3 := h8 _ ((h7.1 _).mpr ⟨j, by omega, rfl⟩); omega)) w19.1.is dJ29_offer_46 zk_nx (zk_Rv (fun H9 h9 _ => ?_))
  refine z_aload_n ok dJ29_offer_49 rfl ?_
  refine z_iload_n ok dJ29_offer_50 rfl ?_
  refine z_iconst ok dJ29_offer_51 zic_1 ?_
  refine z_iadd ok dJ29_offer_52 ?_
  rw [nI_1]
  refine p_J29_58 ok (w19.1.kept (h9.choose_spec.1.2.2 p (Ne.symm a6))) dJ29_offer_53 (fun H53 w53 => ?_)
  refine z_iconst ok dJ29_offer_56 zic_1 ?_
  exact z_zret ok dJ29_offer_57 rfl ⟨rfl, PQ.took h9 w53 (h3.kept (w19.2.2 c a8)) ⟨hlt, a2, a3, a4, a5, a6, a7, a8⟩ h6 h7 hxS (fun r hr => by rcases hr with rfl | hr; exact ⟨hx.kept (w19.2.2 r (by omega)), hxl⟩; exact ⟨(h8 r hr).1.kept (w19.2.2 r (by have := (h8 r hr).2; omega)), (h8 r hr).2⟩) (Nat.le_of_eq w19.2.1.symm) (fun r hr => w19.2.2 r (by omega))⟩
set_option maxHeartbeats 4000000 in
set_option maxRecDepth 100000 in
theorem m_J29_offerB {E : zE} {H : Heap} {lo p cap n x : Nat} {K : Nat → Nat} {S : Nat → Prop} (h : PQ E H lo p cap n K S) (hx : zKey E H x (K x)) (hxl : x < lo) (hxS : ¬ S x) (hfull : n = cap) (hn1 : 1 ≤ n) (hn : n < 60) (hlo : lo ≤ H.size) : zM E 8 yJ29_offer (ws_ yJ29_offer cJ29_offer 3 (some .boolean)) 1 (2 * n + 2) H [.ref p, .ref x] (zRw (.int 1) (PQa E H lo p (2 * n + 2) n x K S)) zNX := by
  refine z_of [some (.ref p), some (.ref x), none] pn_J29 (Nat.le_of_ble_eq_true rfl) rfl (fun κ ok ho => ?_)
  subst hfull
  obtain ⟨e, c, md, a, f, h1, h2, h3, ⟨a1, a2, a3, a4, a5, a6, a7, a8⟩, h5, h6, h7, h8⟩ := h
  refine z_aload_n ok dJ29_offer_0 rfl ?_
  refine z_ifnonnullR (tgt := 12) ok dJ29_offer_1 (by decide) ?_
  refine z_aload_n ok dJ29_offer_12 rfl ?_
  refine z_dup ok dJ29_offer_13 ?_
  refine g_J29_93 ok h1.ob dJ29_offer_14 ?_
  refine z_iconst ok dJ29_offer_17 zic_1 ?_
  refine z_iadd ok dJ29_offer_18 ?_
  refine p_J29_93 ok h1 dJ29_offer_19 (fun H19 w19 => ?_)
  refine z_aload_n ok dJ29_offer_22 rfl ?_
  refine g_J29_58 ok w19.1.ob dJ29_offer_23 ?_
  refine z_istore_2 ok dJ29_offer_26 ?_
  refine z_iload_n ok dJ29_offer_27 rfl ?_
  refine z_aload_n ok dJ29_offer_28 rfl ?_
  refine g_J29_17 ok w19.1.ob dJ29_offer_29 ?_
  refine z_alenQ ok (h2.kept (w19.2.2 e a6)) dJ29_offer_32 ?_
  refine z_icmplt (tgt := 43) ok dJ29_offer_33 (by decide) (fun c33 => absurd c33 (nI_nlt (by omega) (by omega))) (fun _ => ?_)
  refine z_aload_n ok dJ29_offer_36 rfl ?_
  refine z_iload_n ok dJ29_offer_37 rfl ?_
  refine z_iconst ok dJ29_offer_38 zic_1 ?_
  refine z_iadd ok dJ29_offer_39 ?_
  rw [nI_1]
  refine v_J29_96 ok (m_J29_grow w19.1 (h2.kept (w19.2.2 e a6)) ⟨hn1, hn⟩ (fun i hi r hr => by rw [h5 i hi] at hr; cases hr; have q3 := h8 _ ((h7.1 _).mpr ⟨i, by omega, rfl⟩); exact (q3.1.is).kept (w19.2.2 _ (by omega)))) w19.1.is dJ29_offer_40 zk_nx (zk_Rv (fun H8 h8g _ => ?_))
  obtain ⟨q, f8, b1, b2, b3, b4, b5, b6⟩ := h8g
  have l19 := w19.2.1
  have hfr : ∀ r : Nat, r < lo → H8[r]? = H[r]? := fun r hr => (b6 r (by have := h1.lt; omega) (by omega)).trans (w19.2.2 r (by omega))
  have hc8 : zIs E H8 c 8 := (h3.kept (w19.2.2 c a8)).kept (b6 c (by have := h3.lt; omega) a8)
  have hk8 : ∀ r, r = x ∨ S r → zKey E H8 r (K r) ∧ r < lo := fun r hr => by
    rcases hr with rfl | hr
    · exact ⟨hx.kept (hfr r hxl), hxl⟩
    · exact ⟨(h8 r hr).1.kept (hfr r (h8 r hr).2), (h8 r hr).2⟩
  have lp := h1.lt
  have lc := h3.lt
  refine z_aload_n ok dJ29_offer_43 rfl ?_
  refine z_iload_n ok dJ29_offer_44 rfl ?_
  refine z_aload_n ok dJ29_offer_45 rfl ?_
  refine v_J29_100 ok (m_J29_siftUp (n := n + 1) K a f8 b2.ob b3 (by omega) (by omega) (by omega) hc8 (by omega) (hk8 x (Or.inl rfl)).1 (by omega) (fun j q1 q2 => (b4 j (by omega)).trans (h5 j (by omega))) (fun j q1 q2 => (hk8 _ (Or.inr ((h7.1 _).mpr ⟨j, by omega, rfl⟩))).1) (fun j q1 q2 => by have := (hk8 _ (Or.inr ((h7.1 (a j)).mpr ⟨j, by omega, rfl⟩))).2; omega)) b2.is dJ29_offer_46 zk_nx (zk_Rv (fun H9 h9 _ => ?_))
  refine z_aload_n ok dJ29_offer_49 rfl ?_
  refine z_iload_n ok dJ29_offer_50 rfl ?_
  refine z_iconst ok dJ29_offer_51 zic_1 ?_
  refine z_iadd ok dJ29_offer_52 ?_
  rw [nI_1]
  refine p_J29_58 ok (b2.kept (h9.choose_spec.1.2.2 p (by omega))) dJ29_offer_53 (fun H53 w53 => ?_)
  refine z_iconst ok dJ29_offer_56 zic_1 ?_
  exact z_zret ok dJ29_offer_57 rfl ⟨rfl, PQ.took h9 w53 hc8 ⟨by omega, by omega, a3, by omega, a5, by omega, by omega, a8⟩ h6 h7 hxS hk8 (by omega) hfr⟩
set_option maxHeartbeats 4000000 in
set_option maxRecDepth 100000 in
theorem m_J29_addA {E : zE} {H : Heap} {lo p cap n x : Nat} {K : Nat → Nat} {S : Nat → Prop} (h : PQ E H lo p cap n K S) (hx : zKey E H x (K x)) (hxl : x < lo) (hxS : ¬ S x) (hlt : n < cap) : zM E 9 yJ29_add (ws_ yJ29_add cJ29_add 2 (some .boolean)) 0 0 H [.ref p, .ref x] (zRw (.int 1) (PQa E H lo p cap n x K S)) zNX := by
  refine z_of [some (.ref p), some (.ref x)] pn_J29 (Nat.le_of_ble_eq_true rfl) rfl (fun κ ok ho => ?_)
  have hpi : zIs E H p 16 := by obtain ⟨e, c, md, a, f, h1, hh⟩ := h; exact h1.is
  refine z_aload_n ok dJ29_add_0 rfl ?_
  refine z_aload_n ok dJ29_add_1 rfl ?_
  refine v_J29_89 ok (m_J29_offerA h hx hxl hxS hlt) hpi dJ29_add_2 zk_nx (zk_Rw (fun H9 h9 _ => ?_))
  exact z_zret ok dJ29_add_5 rfl ⟨rfl, h9⟩
set_option maxHeartbeats 4000000 in
set_option maxRecDepth 100000 in
theorem m_J29_addB {E : zE} {H : Heap} {lo p cap n x : Nat} {K : Nat → Nat} {S : Nat → Prop} (h : PQ E H lo p cap n K S) (hx : zKey E H x (K x)) (hxl : x < lo) (hxS : ¬ S x) (hfull : n = cap) (hn1 : 1 ≤ n) (hn : n < 60) (hlo : lo ≤ H.size) : zM E 9 yJ29_add (ws_ yJ29_add cJ29_add 2 (some .boolean)) 1 (2 * n + 2) H [.ref p, .ref x] (zRw (.int 1) (PQa E H lo p (2 * n + 2) n x K S)) zNX := by
  refine z_of [some (.ref p), some (.ref x)] pn_J29 (Nat.le_of_ble_eq_true rfl) rfl (fun κ ok ho => ?_)
  have hpi : zIs E H p 16 := by obtain ⟨e, c, md, a, f, h1, hh⟩ := h; exact h1.is
  refine z_aload_n ok dJ29_add_0 rfl ?_
  refine z_aload_n ok dJ29_add_1 rfl ?_
  refine v_J29_89 ok (m_J29_offerB h hx hxl hxS hfull hn1 hn hlo) hpi dJ29_add_2 zk_nx (zk_Rw (fun H9 h9 _ => ?_))
  exact z_zret ok dJ29_add_5 rfl ⟨rfl, h9⟩
set_option maxHeartbeats 4000000 in
set_option maxRecDepth 100000 in
theorem m_J29_size {E : zE} {H : Heap} {p : Nat} {f0 f2 f3 : Value} {s : Int32} (h : zOb E H p 16 [f0, .int s, f2, f3]) : zM E 2 yJ29_size (ws_ yJ29_size cJ29_size 1 (some .int)) 0 0 H [.ref p] (zR H (.int s)) zNX := by
  refine z_of [some (.ref p)] pn_J29 (Nat.le_of_ble_eq_true rfl) rfl (fun κ ok ho => ?_)
  refine z_aload_n ok dJ29_size_0 rfl ?_
  refine g_J29_58 ok h dJ29_size_1 ?_
  exact z_iret ok dJ29_size_4 (zR_i rfl)
set_option maxHeartbeats 4000000 in
set_option maxRecDepth 100000 in
theorem m_J29_poll {E : zE} {H : Heap} {lo p cap n : Nat} {K : Nat → Nat} {S : Nat → Prop} (h : PQ E H lo p cap (n + 1) K S) (hn : n < 1000) : zM E 7 yJ29_poll (ws_ yJ29_poll cJ29_poll 6 (some (.object "java/lang/Object"))) 0 0 H [.ref p] (zRg (fun w H1 => ∃ r, w = .ref r ∧ S r ∧ (∀ s, S s → K r ≤ K s) ∧ PQ E H1 lo p cap n K (fun s => S s ∧ s ≠ r) ∧ H1.size = H.size ∧ ∀ r : Nat, r < lo → H1[r]? = H[r]?)) zNX := by
  refine z_of [some (.ref p), none, none, none, none, none] pn_J29 (Nat.le_of_ble_eq_true rfl) rfl (fun κ ok ho => ?_)
  obtain ⟨e, c, md, a, f, h1, h2, h3, ⟨a1, a2, a3, a4, a5, a6, a7, a8⟩, h5, h6, h7, h8⟩ := h
  have hmin := qHp.least h6
  have hS0 : S (a 0) := (h7.1 _).mpr ⟨0, by omega, rfl⟩
  have hkk : ∀ j, j < n + 1 → zKey E H (a j) (K (a j)) ∧ a j < lo := fun j hj => h8 _ ((h7.1 _).mpr ⟨j, hj, rfl⟩)
  have hleast : ∀ s, S s → K (a 0) ≤ K s := fun s hs => by
    obtain ⟨j, hj, rfl⟩ := (h7.1 s).mp hs
    exact hmin j j (Nat.le_refl _) hj
  refine z_aload_n ok dJ29_poll_0 rfl ?_
  refine g_J29_17 ok h1.ob dJ29_poll_1 ?_
  refine z_dup ok dJ29_poll_4 ?_
  refine z_astore_1 ok dJ29_poll_5 ?_
  refine z_iconst ok dJ29_poll_6 zic_0 ?_
  refine z_aald ok h2 nI_0.symm (show 0 < cap by omega) dJ29_poll_7 ?_ (by omega)
  rw [h5 0 (by omega)]
  change zV κ E H _ _ _ _ (.ref (a 0) :: _)
  refine z_dup ok dJ29_poll_8 ?_
  refine z_astore_2 ok dJ29_poll_9 ?_
  refine z_ifnullR ok dJ29_poll_10 ?_
  refine z_aload_n ok dJ29_poll_13 rfl ?_
  refine z_dup ok dJ29_poll_14 ?_
  refine g_J29_93 ok h1.ob dJ29_poll_15 ?_
  refine z_iconst ok dJ29_poll_18 zic_1 ?_
  refine z_iadd ok dJ29_poll_19 ?_
  refine p_J29_93 ok h1 dJ29_poll_20 (fun H20 w20 => ?_)
  refine z_aload_n ok dJ29_poll_23 rfl ?_
  refine z_aload_n ok dJ29_poll_24 rfl ?_
  refine z_dup ok dJ29_poll_25 ?_
  refine g_J29_58 ok w20.1.ob dJ29_poll_26 ?_
  refine z_iconst ok dJ29_poll_29 zic_1 ?_
  refine z_isub ok dJ29_poll_30 ?_
  rw [nI_pred]
  refine z_dup_x1 ok dJ29_poll_31 ?_
  refine p_J29_58 ok w20.1 dJ29_poll_32 (fun H32 w32 => ?_)
  refine z_dup ok dJ29_poll_35 ?_
  refine z_istore_3 ok dJ29_poll_36 ?_
  refine z_aald ok ((h2.kept (w20.2.2 e a6)).kept (w32.2.2 e a6)) rfl (show n < cap by omega) dJ29_poll_37 ?_ (by omega)
  rw [h5 n (by omega)]
  change zV κ E H32 _ _ _ _ (.ref (a n) :: _)
  refine z_astore_4 ok dJ29_poll_38 ?_
  refine z_aload_n ok dJ29_poll_40 rfl ?_
  refine z_iload_n ok dJ29_poll_41 rfl ?_
  refine z_null ok dJ29_poll_42 ?_
  refine z_aastN ok ((h2.kept (w20.2.2 e a6)).kept (w32.2.2 e a6)) rfl (show n < cap by omega) dJ29_poll_43 (fun H43 w43 => ?_) (by omega)
  have hfr : ∀ r : Nat, r ≠ p → r ≠ e → H43[r]? = H[r]? := fun r q1 q2 => (w43.2.2 r q2).trans ((w32.2.2 r q1).trans (w20.2.2 r q1))
  have hp9 := w32.1.kept (w43.2.2 p (Ne.symm a6))
  have hz9 : H43.size = H.size := by rw [w43.2.1, w32.2.1, w20.2.1]
  refine z_iload_n ok dJ29_poll_44 rfl ?_
  refine z_ifle (tgt := 79) ok dJ29_poll_45 (by decide) (fun c45 => ?_) (fun c45 => ?_)
  · have hn0 : n = 0 := by
      rcases Nat.eq_zero_or_pos n with q | q
      · exact q
      · exact absurd c45 (nI_nle0 q (by omega))
    subst hn0
    refine z_aload_n ok dJ29_poll_79 rfl ?_
    exact z_aret ok dJ29_poll_80 (by first | exact ⟨_, rfl, a 0, rfl, hS0, hleast, PQ.polled0 hp9 w43.1 (h3.kept (hfr c a8 a7)) ⟨a1, a2, a3, a4, a5, a6, a7, a8⟩ h7, hz9, fun r hr => hfr r (by omega) (by omega)⟩ | exact ⟨_, rfl, a 0, rfl, hS0, hleast, PQ.polled h9 hp9 (h3.kept (hfr c a8 a7)) ⟨a1, a2, a3, a4, a5, a6, a7, a8⟩ h6 h7 hn0 (fun r hr => ⟨(h8 r hr).1.kept (hfr r (by have := (h8 r hr).2; omega) (by have := (h8 r hr).2; omega)), (h8 r hr).2⟩), by rw [h9.choose_spec.1.2.1]; exact hz9, fun r hr => (h9.choose_spec.1.2.2 r (by omega)).trans (hfr r (by omega) (by omega))⟩)
  · have hn0 : 0 < n := nI_par (by omega) c45
    refine z_aload_n ok dJ29_poll_48 rfl ?_
    refine g_J29_21 ok hp9.ob dJ29_poll_49 ?_
    refine z_dup ok dJ29_poll_52 ?_
    refine z_astore_5 ok dJ29_poll_53 ?_
    refine z_ifnonnullR (tgt := 69) ok dJ29_poll_55 (by decide) ?_
    refine z_iconst ok dJ29_poll_69 zic_0 ?_
    refine z_aload ok dJ29_poll_70 rfl ?_
    refine z_aload_n ok dJ29_poll_72 rfl ?_
    refine z_iload_n ok dJ29_poll_73 rfl ?_
    refine z_aload ok dJ29_poll_74 rfl ?_
    refine v_J29_129 ok (m_J29_siftDownUsingComparator (n := n) (k := 0) K a _ w43.1 (by omega) (by omega) hn0 (h3.kept (hfr c a8 a7)) a7 ((hkk n (by omega)).1.kept (hfr _ (by have := (hkk n (by omega)).2; omega) (by have := (hkk n (by omega)).2; omega))) (by have := (hkk n (by omega)).2; omega) (fun j q1 q2 => by simp only [va_up, if_neg (show j ≠ n by omega)]; exact h5 j (by omega)) (fun j q1 q2 => (hkk j (by omega)).1.kept (hfr _ (by have := (hkk j (by omega)).2; omega) (by have := (hkk j (by omega)).2; omega))) (fun j q1 q2 => by have := (hkk j (by omega)).2; omega)) dJ29_poll_76 zk_nx (zk_Rv (fun H9 h9 _ => ?_))
    refine z_aload_n ok dJ29_poll_79 rfl ?_
    exact z_aret ok dJ29_poll_80 (by first | exact ⟨_, rfl, a 0, rfl, hS0, hleast, PQ.polled0 hp9 w43.1 (h3.kept (hfr c a8 a7)) ⟨a1, a2, a3, a4, a5, a6, a7, a8⟩ h7, hz9, fun r hr => hfr r (by omega) (by omega)⟩ | exact ⟨_, rfl, a 0, rfl, hS0, hleast, PQ.polled h9 hp9 (h3.kept (hfr c a8 a7)) ⟨a1, a2, a3, a4, a5, a6, a7, a8⟩ h6 h7 hn0 (fun r hr => ⟨(h8 r hr).1.kept (hfr r (by have := (h8 r hr).2; omega) (by have := (h8 r hr).2; omega)), (h8 r hr).2⟩), by rw [h9.choose_spec.1.2.1]; exact hz9, fun r hr => (h9.choose_spec.1.2.2 r (by omega)).trans (hfr r (by omega) (by omega))⟩)
set_option maxHeartbeats 4000000 in
set_option maxRecDepth 100000 in
theorem m_J28_remove {E : zE} {H : Heap} {lo p cap n : Nat} {K : Nat → Nat} {S : Nat → Prop} (h : PQ E H lo p cap (n + 1) K S) (hn : n < 1000) : zM E 8 yJ28_remove (ws_ yJ28_remove cJ28_remove 2 (some (.object "java/lang/Object"))) 0 0 H [.ref p] (zRg (fun w H1 => ∃ r, w = .ref r ∧ S r ∧ (∀ s, S s → K r ≤ K s) ∧ PQ E H1 lo p cap n K (fun s => S s ∧ s ≠ r) ∧ H1.size = H.size ∧ ∀ r : Nat, r < lo → H1[r]? = H[r]?)) zNX := by
  refine z_of [some (.ref p), none] pn_J28 (Nat.le_of_ble_eq_true rfl) rfl (fun κ ok ho => ?_)
  have hpi : zIs E H p 16 := by obtain ⟨e, c, md, a, f, h1, hh⟩ := h; exact h1.is
  refine z_aload_n ok dJ28_remove_0 rfl ?_
  refine v_J28_20_j29 ok (m_J29_poll h hn) hpi dJ28_remove_1 zk_nx (zk_Rg (fun w9 H9 h9 _ => ?_))
  obtain ⟨r9, rfl, h9⟩ := h9
  refine z_astore_1 ok dJ28_remove_4 ?_
  refine z_aload_n ok dJ28_remove_5 rfl ?_
  refine z_ifnullR ok dJ28_remove_6 ?_
  refine z_aload_n ok dJ28_remove_9 rfl ?_
  exact z_aret ok dJ28_remove_10 ⟨_, rfl, _, rfl, h9⟩
set_option maxHeartbeats 4000000 in
set_option maxRecDepth 100000 in
theorem m_J29_peek {E : zE} {H : Heap} {lo p cap n : Nat} {K : Nat → Nat} {S : Nat → Prop} (h : PQ E H lo p cap (n + 1) K S) : zM E 2 yJ29_peek (ws_ yJ29_peek cJ29_peek 1 (some (.object "java/lang/Object"))) 0 0 H [.ref p] (zRg (fun w H1 => H1 = H ∧ ∃ r, w = .ref r ∧ S r ∧ (∀ s, S s → K r ≤ K s))) zNX := by
  refine z_of [some (.ref p)] pn_J29 (Nat.le_of_ble_eq_true rfl) rfl (fun κ ok ho => ?_)
  obtain ⟨e, c, md, a, f, h1, h2, h3, ⟨a1, a2, a3, a4, a5, a6, a7, a8⟩, h5, h6, h7, h8⟩ := h
  refine z_aload_n ok dJ29_peek_0 rfl ?_
  refine g_J29_17 ok h1.ob dJ29_peek_1 ?_
  refine z_iconst ok dJ29_peek_4 zic_0 ?_
  refine z_aald ok h2 nI_0.symm (show 0 < cap by omega) dJ29_peek_5 ?_ (by omega)
  rw [h5 0 (by omega)]
  change zV κ E H _ _ _ _ (.ref (a 0) :: _)
  exact z_aret ok dJ29_peek_6 ⟨_, rfl, rfl, _, rfl, (h7.1 _).mpr ⟨0, by omega, rfl⟩, fun s hs => by obtain ⟨j, hj, rfl⟩ := (h7.1 s).mp hs; exact qHp.least h6 j j (Nat.le_refl _) hj⟩
set_option maxHeartbeats 4000000 in
set_option maxRecDepth 100000 in
theorem m_J28_init {E : zE} {H : Heap} {l : Nat}  : zM E 3 yJ28_init (ws_ yJ28_init cJ28_init 1 none) 0 0 H [.ref l] (zRv (fun H1 => H1 = H)) zNX := by
  refine z_of [some (.ref l)] pn_J28 (Nat.le_of_ble_eq_true rfl) rfl (fun κ ok ho => ?_)
  refine z_aload_n ok dJ28_init_0 rfl ?_
  refine v_J28_1 ok m_J0_init dJ28_init_1 zk_nx (zk_Rv (fun H9 h9 _ => ?_))
  subst h9
  exact z_vret ok dJ28_init_4 ⟨rfl, rfl⟩
set_option maxHeartbeats 4000000 in
set_option maxRecDepth 100000 in
theorem m_J0_isEmpty {E : zE} {H : Heap} {p n : Nat} {f0 f2 f3 : Value} (h1 : zOb E H p 16 [f0, .int (nI n), f2, f3]) (hn : n < 1000000) : zM E 3 yJ0_isEmpty (ws_ yJ0_isEmpty cJ0_isEmpty 1 (some .boolean)) 0 0 H [.ref p] (zR H (.int (b2i (decide (n = 0))))) zNX := by
  refine z_of [some (.ref p)] pn_J0 (Nat.le_of_ble_eq_true rfl) rfl (fun κ ok ho => ?_)
  refine z_aload_n ok dJ0_isEmpty_0 rfl ?_
  refine v_J0_7_j29 ok (m_J29_size h1) h1.is dJ0_isEmpty_1 zk_nx (zk_R ?_)
  refine z_ifne (tgt := 11) ok dJ0_isEmpty_4 (by decide) (fun c4 => ?_) (fun c4 => ?_)
  · have q : ¬ n = 0 := fun z => c4 (by rw [z]; rfl)
    refine z_iconst ok dJ0_isEmpty_11 zic_0 ?_
    exact z_zret ok dJ0_isEmpty_12 rfl (zR_i (by simp [b2i, q]))
  · have q : n = 0 := by
      rcases Nat.eq_zero_or_pos n with q | q
      · exact q
      · exact absurd c4 (nI_ne0 q (by omega))
    refine z_iconst ok dJ0_isEmpty_7 zic_1 ?_
    refine z_goto (tgt := 12) ok dJ0_isEmpty_8 (by decide) ?_
    exact z_zret ok dJ0_isEmpty_12 rfl (zR_i (by simp [b2i, q]))
set_option maxHeartbeats 4000000 in
set_option maxRecDepth 100000 in
theorem m_J29_init_2 {E : zE} {H : Heap} {p c : Nat} (h : zAt E H p (.inr (16, [.null, .int 0, .null, .int 0]))) : zM E 4 yJ29_init_2 (ws_ yJ29_init_2 cJ29_init_2 3 none) 1 11 H [.ref p, .int 11, .ref c] (zRv (PQn E H p c)) zNX := by
  refine z_of [some (.ref p), some (.int 11), some (.ref c)] pn_J29 (Nat.le_of_ble_eq_true rfl) rfl (fun κ ok ho => ?_)
  refine z_aload_n ok dJ29_init_2_0 rfl ?_
  refine v_J29_7 ok m_J28_init dJ29_init_2_1 zk_nx (zk_Rv (fun H9 h9 _ => ?_))
  subst h9
  refine z_iload_n ok dJ29_init_2_4 rfl ?_
  refine z_iconst ok dJ29_init_2_5 zic_1 ?_
  refine z_icmpge (tgt := 17) ok dJ29_init_2_6 (by decide) (fun _ => ?_) (fun c6 => absurd (by decide) c6)
  refine z_aload_n ok dJ29_init_2_17 rfl ?_
  refine z_iload_n ok dJ29_init_2_18 rfl ?_
  refine z_newQ (N := 11) ok q1558 rfl dJ29_init_2_19 (by omega) (by omega) (fun q19 H19 w19 => ?_)
  refine p_J29_17 ok (h.kept (w19.2.2.2 p h.lt)) dJ29_init_2_22 (fun H22 w22 => ?_)
  refine z_aload_n ok dJ29_init_2_25 rfl ?_
  refine z_aload_n ok dJ29_init_2_26 rfl ?_
  refine p_J29_21 ok rfl w22.1 dJ29_init_2_27 (fun H27 w27 => ?_)
  exact z_vret ok dJ29_init_2_30 ⟨rfl, q19, w19.1, w27.1, (w19.2.1.kept (w22.2.2 q19 (by have := h.lt; have := w19.1; omega))).kept (w27.2.2 q19 (by have := h.lt; have := w19.1; omega)), by rw [w27.2.1, w22.2.1, w19.2.2.1], fun r q1 q2 => (w27.2.2 r q2).trans ((w22.2.2 r q2).trans (w19.2.2.2 r q1))⟩
set_option maxHeartbeats 4000000 in
set_option maxRecDepth 100000 in
theorem m_J29_init {E : zE} {H : Heap} {p c : Nat} (h : zAt E H p (.inr (16, [.null, .int 0, .null, .int 0]))) : zM E 5 yJ29_init (ws_ yJ29_init cJ29_init 2 none) 1 11 H [.ref p, .ref c] (zRv (PQn E H p c)) zNX := by
  refine z_of [some (.ref p), some (.ref c)] pn_J29 (Nat.le_of_ble_eq_true rfl) rfl (fun κ ok ho => ?_)
  refine z_aload_n ok dJ29_init_0 rfl ?_
  refine z_bipush ok dJ29_init_1 zbc_11 ?_
  refine z_aload_n ok dJ29_init_3 rfl ?_
  refine v_J29_3 ok (m_J29_init_2 h) dJ29_init_4 zk_nx (zk_Rv (fun H9 h9 _ => ?_))
  exact z_vret ok dJ29_init_7 ⟨rfl, h9⟩
theorem m_J22_cmpL {E : zE} {H : Heap} {l l2 x e : Nat} (h : zOb E H l 14 [.int (nI x)]) (h2 : zOb E H l2 14 [.int (nI e)]) (hlt : x < e ∧ e < 1000000) : zM E 4 yJ22_compareTo (ws_ yJ22_compareTo cJ22_compareTo 2 (some .int)) 0 0 H [.ref l, .ref l2] (zR H (.int (-1))) zNX := by
  rw [← mCmp_L hlt]
  exact m_J22_compareTo h h2
theorem m_J22_cmpG {E : zE} {H : Heap} {l l2 x e : Nat} (h : zOb E H l 14 [.int (nI x)]) (h2 : zOb E H l2 14 [.int (nI e)]) (hlt : e < x ∧ x < 1000000) : zM E 4 yJ22_compareTo (ws_ yJ22_compareTo cJ22_compareTo 2 (some .int)) 0 0 H [.ref l, .ref l2] (zR H (.int (1))) zNX := by
  rw [← mCmp_G hlt]
  exact m_J22_compareTo h h2
theorem m_J22_cmpE {E : zE} {H : Heap} {l l2 : Nat} {x : Int32} (h : zOb E H l 14 [.int x]) (h2 : zOb E H l2 14 [.int x]) : zM E 4 yJ22_compareTo (ws_ yJ22_compareTo cJ22_compareTo 2 (some .int)) 0 0 H [.ref l, .ref l2] (zR H (.int 0)) zNX := by
  rw [← mCmp_E x]
  exact m_J22_compareTo h h2
set_option maxHeartbeats 4000000 in
set_option maxRecDepth 100000 in
theorem m_J17_requireNonNull {E : zE} {H : Heap} (a : Nat)  : zM E 2 yJ17_requireNonNull (ws_ yJ17_requireNonNull cJ17_requireNonNull 1 (some (.object "java/lang/Object"))) 0 0 H [.ref a] (zR H (.ref a)) zNX := by
  refine z_of [some (.ref a)] pn_J17 (Nat.le_of_ble_eq_true rfl) rfl (fun κ ok ho => ?_)
  refine z_aload_n ok dJ17_requireNonNull_0 rfl ?_
  refine z_ifnonnullR (tgt := 12) ok dJ17_requireNonNull_1 (by decide) ?_
  refine z_aload_n ok dJ17_requireNonNull_12 rfl ?_
  exact z_aret ok dJ17_requireNonNull_13 ⟨rfl, rfl⟩
set_option maxHeartbeats 4000000 in
set_option maxRecDepth 100000 in
theorem m_J4_colorOf {E : zE} {H : Heap} {a : Nat} {f0 f1 f2 f3 f4 : Value} {c : Int32} (h : zOb E H a 15 [f0, f1, f2, f3, f4, .int c]) (hc : narrow .boolean (.int c) = .int c := by rfl) : zM E 2 yJ4_colorOf (ws_ yJ4_colorOf cJ4_colorOf 1 (some .boolean)) 0 0 H [.ref a] (zR H (.int c)) zNX := by
  refine z_of [some (.ref a)] pn_J4 (Nat.le_of_ble_eq_true rfl) rfl (fun κ ok ho => ?_)
  refine z_aload_n ok dJ4_colorOf_0 rfl ?_
  refine z_ifnonnullR (tgt := 8) ok dJ4_colorOf_1 (by decide) ?_
  refine z_aload_n ok dJ4_colorOf_8 rfl ?_
  refine g_J4_290 ok h dJ4_colorOf_9 ?_
  exact z_zret ok dJ4_colorOf_12 hc (zR_i rfl)
set_option maxHeartbeats 4000000 in
set_option maxRecDepth 100000 in
theorem m_J4_colorOfN {E : zE} {H : Heap}  : zM E 2 yJ4_colorOf (ws_ yJ4_colorOf cJ4_colorOf 1 (some .boolean)) 0 0 H [.null] (zR H (.int 1)) zNX := by
  refine z_of [some (.null)] pn_J4 (Nat.le_of_ble_eq_true rfl) rfl (fun κ ok ho => ?_)
  refine z_aload_n ok dJ4_colorOf_0 rfl ?_
  refine z_ifnonnullN ok dJ4_colorOf_1 ?_
  refine z_iconst ok dJ4_colorOf_4 zic_1 ?_
  refine z_goto (tgt := 12) ok dJ4_colorOf_5 (by decide) ?_
  exact z_zret ok dJ4_colorOf_12 rfl (zR_i rfl)
set_option maxHeartbeats 4000000 in
set_option maxRecDepth 100000 in
theorem m_J4_parentOf {E : zE} {H : Heap} {a : Nat} {f0 f1 f2 f3 f5 : Value} {r : Option Nat} (h : zOb E H a 15 [f0, f1, f2, f3, va_rf r, f5]) : zM E 2 yJ4_parentOf (ws_ yJ4_parentOf cJ4_parentOf 1 (some (.object "java/util/TreeMap$Entry"))) 0 0 H [.ref a] (zR H (va_rf r)) zNX := by
  refine z_of [some (.ref a)] pn_J4 (Nat.le_of_ble_eq_true rfl) rfl (fun κ ok ho => ?_)
  refine z_aload_n ok dJ4_parentOf_0 rfl ?_
  refine z_ifnonnullR (tgt := 8) ok dJ4_parentOf_1 (by decide) ?_
  refine z_aload_n ok dJ4_parentOf_8 rfl ?_
  refine g_J4_124 ok h dJ4_parentOf_9 ?_
  exact z_aret ok dJ4_parentOf_12 ⟨rfl, rfl⟩
set_option maxHeartbeats 4000000 in
set_option maxRecDepth 100000 in
theorem m_J4_parentOfN {E : zE} {H : Heap}  : zM E 2 yJ4_parentOf (ws_ yJ4_parentOf cJ4_parentOf 1 (some (.object "java/util/TreeMap$Entry"))) 0 0 H [.null] (zR H .null) zNX := by
  refine z_of [some (.null)] pn_J4 (Nat.le_of_ble_eq_true rfl) rfl (fun κ ok ho => ?_)
  refine z_aload_n ok dJ4_parentOf_0 rfl ?_
  refine z_ifnonnullN ok dJ4_parentOf_1 ?_
  refine z_null ok dJ4_parentOf_4 ?_
  refine z_goto (tgt := 12) ok dJ4_parentOf_5 (by decide) ?_
  exact z_aret ok dJ4_parentOf_12 ⟨rfl, rfl⟩
set_option maxHeartbeats 4000000 in
set_option maxRecDepth 100000 in
theorem m_J4_leftOf {E : zE} {H : Heap} {a : Nat} {f0 f1 f3 f4 f5 : Value} {r : Option Nat} (h : zOb E H a 15 [f0, f1, va_rf r, f3, f4, f5]) : zM E 2 yJ4_leftOf (ws_ yJ4_leftOf cJ4_leftOf 1 (some (.object "java/util/TreeMap$Entry"))) 0 0 H [.ref a] (zR H (va_rf r)) zNX := by
  refine z_of [some (.ref a)] pn_J4 (Nat.le_of_ble_eq_true rfl) rfl (fun κ ok ho => ?_)
  refine z_aload_n ok dJ4_leftOf_0 rfl ?_
  refine z_ifnonnullR (tgt := 8) ok dJ4_leftOf_1 (by decide) ?_
  refine z_aload_n ok dJ4_leftOf_8 rfl ?_
  refine g_J4_111 ok h dJ4_leftOf_9 ?_
  exact z_aret ok dJ4_leftOf_12 ⟨rfl, rfl⟩
set_option maxHeartbeats 4000000 in
set_option maxRecDepth 100000 in
theorem m_J4_leftOfN {E : zE} {H : Heap}  : zM E 2 yJ4_leftOf (ws_ yJ4_leftOf cJ4_leftOf 1 (some (.object "java/util/TreeMap$Entry"))) 0 0 H [.null] (zR H .null) zNX := by
  refine z_of [some (.null)] pn_J4 (Nat.le_of_ble_eq_true rfl) rfl (fun κ ok ho => ?_)
  refine z_aload_n ok dJ4_leftOf_0 rfl ?_
  refine z_ifnonnullN ok dJ4_leftOf_1 ?_
  refine z_null ok dJ4_leftOf_4 ?_
  refine z_goto (tgt := 12) ok dJ4_leftOf_5 (by decide) ?_
  exact z_aret ok dJ4_leftOf_12 ⟨rfl, rfl⟩
set_option maxHeartbeats 4000000 in
set_option maxRecDepth 100000 in
theorem m_J4_rightOf {E : zE} {H : Heap} {a : Nat} {f0 f1 f2 f4 f5 : Value} {r : Option Nat} (h : zOb E H a 15 [f0, f1, f2, va_rf r, f4, f5]) : zM E 2 yJ4_rightOf (ws_ yJ4_rightOf cJ4_rightOf 1 (some (.object "java/util/TreeMap$Entry"))) 0 0 H [.ref a] (zR H (va_rf r)) zNX := by
  refine z_of [some (.ref a)] pn_J4 (Nat.le_of_ble_eq_true rfl) rfl (fun κ ok ho => ?_)
  refine z_aload_n ok dJ4_rightOf_0 rfl ?_
  refine z_ifnonnullR (tgt := 8) ok dJ4_rightOf_1 (by decide) ?_
  refine z_aload_n ok dJ4_rightOf_8 rfl ?_
  refine g_J4_114 ok h dJ4_rightOf_9 ?_
  exact z_aret ok dJ4_rightOf_12 ⟨rfl, rfl⟩
set_option maxHeartbeats 4000000 in
set_option maxRecDepth 100000 in
theorem m_J4_rightOfN {E : zE} {H : Heap}  : zM E 2 yJ4_rightOf (ws_ yJ4_rightOf cJ4_rightOf 1 (some (.object "java/util/TreeMap$Entry"))) 0 0 H [.null] (zR H .null) zNX := by
  refine z_of [some (.null)] pn_J4 (Nat.le_of_ble_eq_true rfl) rfl (fun κ ok ho => ?_)
  refine z_aload_n ok dJ4_rightOf_0 rfl ?_
  refine z_ifnonnullN ok dJ4_rightOf_1 ?_
  refine z_null ok dJ4_rightOf_4 ?_
  refine z_goto (tgt := 12) ok dJ4_rightOf_5 (by decide) ?_
  exact z_aret ok dJ4_rightOf_12 ⟨rfl, rfl⟩
set_option maxHeartbeats 4000000 in
set_option maxRecDepth 100000 in
theorem m_J4_setColor0 {E : zE} {H : Heap} {a : Nat} {f0 f1 f2 f3 f4 f5 : Value} (h : zAt E H a (.inr (15, [f0, f1, f2, f3, f4, f5]))) : zM E 2 yJ4_setColor (ws_ yJ4_setColor cJ4_setColor 2 none) 0 0 H [.ref a, .int 0] (zRv (zWr E H a (.inr (15, [f0, f1, f2, f3, f4, .int 0])))) zNX := by
  refine z_of [some (.ref a), some (.int 0)] pn_J4 (Nat.le_of_ble_eq_true rfl) rfl (fun κ ok ho => ?_)
  refine z_aload_n ok dJ4_setColor_0 rfl ?_
  refine z_ifnullR ok dJ4_setColor_1 ?_
  refine z_aload_n ok dJ4_setColor_4 rfl ?_
  refine z_iload_n ok dJ4_setColor_5 rfl ?_
  refine p_J4_290 ok h dJ4_setColor_6 (fun H6 w6 => ?_)
  exact z_vret ok dJ4_setColor_9 ⟨rfl, w6⟩
set_option maxHeartbeats 4000000 in
set_option maxRecDepth 100000 in
theorem m_J4_setColor1 {E : zE} {H : Heap} {a : Nat} {f0 f1 f2 f3 f4 f5 : Value} (h : zAt E H a (.inr (15, [f0, f1, f2, f3, f4, f5]))) : zM E 2 yJ4_setColor (ws_ yJ4_setColor cJ4_setColor 2 none) 0 0 H [.ref a, .int 1] (zRv (zWr E H a (.inr (15, [f0, f1, f2, f3, f4, .int 1])))) zNX := by
  refine z_of [some (.ref a), some (.int 1)] pn_J4 (Nat.le_of_ble_eq_true rfl) rfl (fun κ ok ho => ?_)
  refine z_aload_n ok dJ4_setColor_0 rfl ?_
  refine z_ifnullR ok dJ4_setColor_1 ?_
  refine z_aload_n ok dJ4_setColor_4 rfl ?_
  refine z_iload_n ok dJ4_setColor_5 rfl ?_
  refine p_J4_290 ok h dJ4_setColor_6 (fun H6 w6 => ?_)
  exact z_vret ok dJ4_setColor_9 ⟨rfl, w6⟩
set_option maxHeartbeats 4000000 in
set_option maxRecDepth 100000 in
theorem m_J4_setColorN {E : zE} {H : Heap} (c : Int32)  : zM E 2 yJ4_setColor (ws_ yJ4_setColor cJ4_setColor 2 none) 0 0 H [.null, .int c] (zRv (fun H1 => H1 = H)) zNX := by
  refine z_of [some (.null), some (.int c)] pn_J4 (Nat.le_of_ble_eq_true rfl) rfl (fun κ ok ho => ?_)
  refine z_aload_n ok dJ4_setColor_0 rfl ?_
  refine z_ifnullN (tgt := 9) ok dJ4_setColor_1 (by decide) ?_
  exact z_vret ok dJ4_setColor_9 ⟨rfl, rfl⟩
set_option maxHeartbeats 4000000 in
set_option maxRecDepth 100000 in
theorem m_J26_init {E : zE} {H : Heap} {a k v : Nat} {pp : Option Nat} {f0 f1 f2 f3 f4 f5 : Value} (h : zAt E H a (.inr (15, [f0, f1, f2, f3, f4, f5]))) : zM E 2 yJ26_init (ws_ yJ26_init cJ26_init 4 none) 0 0 H [.ref a, .ref k, .ref v, va_rf pp] (zRv (zWr E H a (.inr (15, [.ref k, .ref v, f2, f3, va_rf pp, .int 1])))) zNX := by
  refine z_of [some (.ref a), some (.ref k), some (.ref v), some (va_rf pp)] pn_J26 (by cases pp <;> exact Nat.le_of_ble_eq_true rfl) (by cases pp <;> rfl) (fun κ ok ho => ?_)
  refine z_aload_n ok dJ26_init_0 rfl ?_
  refine z_objInit ok q1473 dJ26_init_1 (by omega) ?_
  refine z_aload_n ok dJ26_init_4 rfl ?_
  refine z_iconst ok dJ26_init_5 zic_1 ?_
  refine p_J26_9 ok h dJ26_init_6 (fun H6 w6 => ?_)
  refine z_aload_n ok dJ26_init_9 rfl ?_
  refine z_aload_n ok dJ26_init_10 rfl ?_
  refine p_J26_15 ok w6.1 dJ26_init_11 (fun H11 w11 => ?_)
  refine z_aload_n ok dJ26_init_14 rfl ?_
  refine z_aload_n ok dJ26_init_15 rfl ?_
  refine p_J26_19 ok w11.1 dJ26_init_16 (fun H16 w16 => ?_)
  refine z_aload_n ok dJ26_init_19 rfl ?_
  refine z_aload_n ok dJ26_init_20 rfl ?_
  refine p_J26_22 ok w16.1 dJ26_init_21 (fun H21 w21 => ?_)
  exact z_vret ok dJ26_init_24 ⟨rfl, ((w6.tr w11).tr w16).tr w21⟩
set_option maxHeartbeats 4000000 in
set_option maxRecDepth 100000 in
theorem m_J3_init {E : zE} {H : Heap} {l : Nat}  : zM E 2 yJ3_init (ws_ yJ3_init cJ3_init 1 none) 0 0 H [.ref l] (zRv (fun H1 => H1 = H)) zNX := by
  refine z_of [some (.ref l)] pn_J3 (Nat.le_of_ble_eq_true rfl) rfl (fun κ ok ho => ?_)
  refine z_aload_n ok dJ3_init_0 rfl ?_
  refine z_objInit ok q155 dJ3_init_1 (by omega) ?_
  exact z_vret ok dJ3_init_4 ⟨rfl, rfl⟩
set_option maxHeartbeats 4000000 in
set_option maxRecDepth 100000 in
theorem m_J4_init {E : zE} {H : Heap} {l : Nat} (h : zAt E H l (.inr (11, [.null, .null, .null, .null, .int 0, .int 0, .null, .null, .null]))) : zM E 3 yJ4_init (ws_ yJ4_init cJ4_init 1 none) 0 0 H [.ref l] (zRv (zWr E H l (.inr (11, [.null, .null, .null, .null, .int 0, .int 0, .null, .null, .null])))) zNX := by
  refine z_of [some (.ref l)] pn_J4 (Nat.le_of_ble_eq_true rfl) rfl (fun κ ok ho => ?_)
  refine z_aload_n ok dJ4_init_0 rfl ?_
  refine v_J4_1 ok m_J3_init dJ4_init_1 zk_nx (zk_Rv (fun H9 h9 _ => ?_))
  subst h9
  refine z_aload_n ok dJ4_init_4 rfl ?_
  refine z_iconst ok dJ4_init_5 zic_0 ?_
  refine p_J4_7 ok h dJ4_init_6 (fun H6 w6 => ?_)
  refine z_aload_n ok dJ4_init_9 rfl ?_
  refine z_iconst ok dJ4_init_10 zic_0 ?_
  refine p_J4_13 ok w6.1 dJ4_init_11 (fun H11 w11 => ?_)
  refine z_aload_n ok dJ4_init_14 rfl ?_
  refine z_null ok dJ4_init_15 ?_
  refine p_J4_16 ok rfl w11.1 dJ4_init_16 (fun H16 w16 => ?_)
  exact z_vret ok dJ4_init_19 ⟨rfl, (w6.tr w11).tr w16⟩
