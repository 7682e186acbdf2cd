/-! walks of the twin, printed by gen/model.py -/
set_option maxRecDepth 100000
set_option maxHeartbeats 4000000 in
set_option maxRecDepth 100000 in
theorem m_X4_in {E : zE} {H : Heap} (v a b : Int32)  : zM E 20 yX4_in (ws_ yX4_in cX4_in 3 (some .boolean)) 0 0 H [.int v, .int a, .int b] (zR H (.int (b2i (mIn v a b)))) zNX := by
  refine z_of [some (.int v), some (.int a), some (.int b)] pn_X4 (Nat.le_of_ble_eq_true rfl) rfl (fun κ ok ho => ?_)
  refine z_iload_n ok dX4_in_0 rfl ?_
  refine z_iload_n ok dX4_in_1 rfl ?_
  refine z_icmplt (tgt := 14) ok dX4_in_2 (by decide) (fun c2 => ?_) (fun c2 => ?_)
  · refine z_iconst ok dX4_in_14 zic_0 ?_
    exact z_zret ok dX4_in_15 rfl (zR_i (by simp [mIn, b2i, c2]))
  · refine z_iload_n ok dX4_in_5 rfl ?_
    refine z_iload_n ok dX4_in_6 rfl ?_
    refine z_icmpgt (tgt := 14) ok dX4_in_7 (by decide) (fun c7 => ?_) (fun c7 => ?_)
    · refine z_iconst ok dX4_in_14 zic_0 ?_
      exact z_zret ok dX4_in_15 rfl (zR_i (by simp [mIn, b2i, c2, c7]))
    · refine z_iconst ok dX4_in_10 zic_1 ?_
      refine z_goto (tgt := 15) ok dX4_in_11 (by decide) ?_
      exact z_zret ok dX4_in_15 rfl (zR_i (by simp [mIn, b2i, c2, c7]))
set_option maxHeartbeats 4000000 in
set_option maxRecDepth 100000 in
theorem m_X4_isDigit {E : zE} {H : Heap} (v : Int32)  : zM E 21 yX4_isDigit (ws_ yX4_isDigit cX4_isDigit 1 (some .boolean)) 0 0 H [.int v] (zR H (.int (b2i (mIn v 0 9)))) zNX := by
  refine z_of [some (.int v)] pn_X4 (Nat.le_of_ble_eq_true rfl) rfl (fun κ ok ho => ?_)
  refine z_iload_n ok dX4_isDigit_0 rfl ?_
  refine z_iconst ok dX4_isDigit_1 zic_0 ?_
  refine z_bipush ok dX4_isDigit_2 zbc_9 ?_
  refine v_X4_91 ok (m_X4_in _ _ _) dX4_isDigit_4 zk_nx (zk_R ?_)
  exact z_zret ok dX4_isDigit_7 (b2i_nar _) (zR_i rfl)
set_option maxHeartbeats 4000000 in
set_option maxRecDepth 100000 in
theorem m_X4_isFolder {E : zE} {H : Heap} {m : Nat} {ad : Nat → Nat} {M : MS} (v : Int32) (hm : MP E H m ad M) : zM E 21 yX4_isFolder (ws_ yX4_isFolder cX4_isFolder 2 (some .boolean)) 0 0 H [.ref m, .int v] (zR H (.int (b2i (mIn v 0 (M 5 0 - 1))))) zNX := by
  refine z_of [some (.ref m), some (.int v)] pn_X4 (Nat.le_of_ble_eq_true rfl) rfl (fun κ ok ho => ?_)
  refine z_iload_n ok dX4_isFolder_0 rfl ?_
  refine z_iconst ok dX4_isFolder_1 zic_0 ?_
  refine z_aload_n ok dX4_isFolder_2 rfl ?_
  refine g_X4_88 ok hm.ob dX4_isFolder_3 ?_
  refine z_iconst ok dX4_isFolder_6 zic_1 ?_
  refine z_isub ok dX4_isFolder_7 ?_
  refine v_X4_91 ok (m_X4_in _ _ _) dX4_isFolder_8 zk_nx (zk_R ?_)
  exact z_zret ok dX4_isFolder_11 (b2i_nar _) (zR_i rfl)
set_option maxHeartbeats 4000000 in
set_option maxRecDepth 100000 in
theorem m_X4_isItem {E : zE} {H : Heap} {m : Nat} {ad : Nat → Nat} {M : MS} (v : Int32) (hm : MP E H m ad M) : zM E 21 yX4_isItem (ws_ yX4_isItem cX4_isItem 2 (some .boolean)) 0 0 H [.ref m, .int v] (zR H (.int (b2i (mIn v 0 (M 14 0 - 1))))) zNX := by
  refine z_of [some (.ref m), some (.int v)] pn_X4 (Nat.le_of_ble_eq_true rfl) rfl (fun κ ok ho => ?_)
  refine z_iload_n ok dX4_isItem_0 rfl ?_
  refine z_iconst ok dX4_isItem_1 zic_0 ?_
  refine z_aload_n ok dX4_isItem_2 rfl ?_
  refine g_X4_98 ok hm.ob dX4_isItem_3 ?_
  refine z_iconst ok dX4_isItem_6 zic_1 ?_
  refine z_isub ok dX4_isItem_7 ?_
  refine v_X4_91 ok (m_X4_in _ _ _) dX4_isItem_8 zk_nx (zk_R ?_)
  exact z_zret ok dX4_isItem_11 (b2i_nar _) (zR_i rfl)
set_option maxHeartbeats 4000000 in
set_option maxRecDepth 100000 in
theorem m_X4_isTagOrNone {E : zE} {H : Heap} {m : Nat} {ad : Nat → Nat} {M : MS} (v : Int32) (hm : MP E H m ad M) : zM E 21 yX4_isTagOrNone (ws_ yX4_isTagOrNone cX4_isTagOrNone 2 (some .boolean)) 0 0 H [.ref m, .int v] (zR H (.int (b2i (mIn v (-1) (M 9 0 - 1))))) zNX := by
  refine z_of [some (.ref m), some (.int v)] pn_X4 (Nat.le_of_ble_eq_true rfl) rfl (fun κ ok ho => ?_)
  refine z_iload_n ok dX4_isTagOrNone_0 rfl ?_
  refine z_iconst ok dX4_isTagOrNone_1 zic_m1 ?_
  refine z_aload_n ok dX4_isTagOrNone_2 rfl ?_
  refine g_X4_95 ok hm.ob dX4_isTagOrNone_3 ?_
  refine z_iconst ok dX4_isTagOrNone_6 zic_1 ?_
  refine z_isub ok dX4_isTagOrNone_7 ?_
  refine v_X4_91 ok (m_X4_in _ _ _) dX4_isTagOrNone_8 zk_nx (zk_R ?_)
  exact z_zret ok dX4_isTagOrNone_11 (b2i_nar _) (zR_i rfl)
set_option maxHeartbeats 4000000 in
set_option maxRecDepth 100000 in
theorem m_X4_told {E : zE} {H : Heap} {m : Nat} {ad : Nat → Nat} {M : MS} (v : Int32) (hm : MP E H m ad M) : zM E 20 yX4_told (ws_ yX4_told cX4_told 2 (some .int)) 0 0 H [.ref m, .int v] (zRw (.int v) (mTo E H m ad (mu M 0 0 0))) zNX := by
  refine z_of [some (.ref m), some (.int v)] pn_X4 (Nat.le_of_ble_eq_true rfl) rfl (fun κ ok ho => ?_)
  have ht := mTo.rf hm
  refine z_aload_n ok dX4_told_0 rfl ?_
  refine z_iconst ok dX4_told_1 zic_0 ?_
  refine p_X4_84 ok ht.1.1 dX4_told_2 (fun H2 w2 => ?_)
  replace ht := ht.put 0 w2 rfl
  refine z_iload_n ok dX4_told_5 rfl ?_
  exact z_iret ok dX4_told_6 ⟨rfl, ht⟩
set_option maxHeartbeats 4000000 in
set_option maxRecDepth 100000 in
theorem m_X4_refuse {E : zE} {H : Heap} {m : Nat} {ad : Nat → Nat} {M : MS} (v : Int32) (hm : MP E H m ad M) : zM E 20 yX4_refuse (ws_ yX4_refuse cX4_refuse 2 (some .int)) 0 0 H [.ref m, .int v] (zRw (.int 0) (mTo E H m ad (mu M 0 0 v))) zNX := by
  refine z_of [some (.ref m), some (.int v)] pn_X4 (Nat.le_of_ble_eq_true rfl) rfl (fun κ ok ho => ?_)
  have ht := mTo.rf hm
  refine z_aload_n ok dX4_refuse_0 rfl ?_
  refine z_iload_n ok dX4_refuse_1 rfl ?_
  refine p_X4_84 ok ht.1.1 dX4_refuse_2 (fun H2 w2 => ?_)
  replace ht := ht.put 0 w2 rfl
  refine z_iconst ok dX4_refuse_5 zic_0 ?_
  exact z_iret ok dX4_refuse_6 ⟨rfl, ht⟩
set_option maxHeartbeats 4000000 in
set_option maxRecDepth 100000 in
theorem m_X4_thrown {E : zE} {H : Heap} {m : Nat} {ad : Nat → Nat} {M : MS} (hm : MP E H m ad M) : zM E 20 yX4_thrown (ws_ yX4_thrown cX4_thrown 1 (some .int)) 0 0 H [.ref m] (zR H (.int (M 0 0))) zNX := by
  refine z_of [some (.ref m)] pn_X4 (Nat.le_of_ble_eq_true rfl) rfl (fun κ ok ho => ?_)
  refine z_aload_n ok dX4_thrown_0 rfl ?_
  refine g_X4_84 ok hm.ob dX4_thrown_1 ?_
  exact z_iret ok dX4_thrown_4 (zR_i rfl)
set_option maxHeartbeats 4000000 in
set_option maxRecDepth 100000 in
theorem m_X4_holdsItem {E : zE} {H : Heap} {m : Nat} {ad : Nat → Nat} {M : MS} (h i : Nat) (hm : MP E H m ad M) (hh : h < 6) (hi : i < 40) : zM E 25 yX4_holdsItem (ws_ yX4_holdsItem cX4_holdsItem 4 (some .boolean)) 0 0 H [.ref m, .int (nI h), .int (nI i)] (zR H (.int (b2i (mHoldsIt M h i)))) zNX := by
  refine z_of [some (.ref m), some (.int (nI h)), some (.int (nI i)), none] pn_X4 (Nat.le_of_ble_eq_true rfl) rfl (fun κ ok ho => ?_)
  refine z_aload_n ok dX4_holdsItem_0 rfl ?_
  refine g_X4_74 ok hm.ob dX4_holdsItem_1 ?_
  refine z_iload_n ok dX4_holdsItem_4 rfl ?_
  refine z_zald ok hm.a31 rfl (by omega) dX4_holdsItem_5 ?_
  refine z_ifne (tgt := 19) ok dX4_holdsItem_6 (by decide) (fun c6 => ?_) (fun c6 => ?_)
  · refine z_iconst ok dX4_holdsItem_19 zic_0 ?_
    exact z_zret ok dX4_holdsItem_20 rfl (zR_i (by simp [mHoldsIt, b2i_0, b2i, c6]))
  · refine z_aload_n ok dX4_holdsItem_9 rfl ?_
    refine g_X4_49 ok hm.ob dX4_holdsItem_10 ?_
    refine z_iload_n ok dX4_holdsItem_13 rfl ?_
    refine z_iald ok hm.a22 rfl (by omega) dX4_holdsItem_14 ?_
    refine z_iconst ok dX4_holdsItem_15 zic_3 ?_
    refine z_icmpne (tgt := 21) ok dX4_holdsItem_16 (by decide) (fun c16 => ?_) (fun c16 => ?_)
    · refine z_aload_n ok dX4_holdsItem_21 rfl ?_
      refine g_X4_62 ok hm.ob dX4_holdsItem_22 ?_
      refine z_iload_n ok dX4_holdsItem_25 rfl ?_
      refine z_iald ok hm.a27 rfl (by omega) dX4_holdsItem_26 ?_
      refine z_iconst ok dX4_holdsItem_27 zic_m1 ?_
      refine z_icmpeq (tgt := 46) ok dX4_holdsItem_28 (by decide) (fun c28 => ?_) (fun c28 => ?_)
      · refine z_iconst ok dX4_holdsItem_46 zic_1 ?_
        refine z_goto (tgt := 51) ok dX4_holdsItem_47 (by decide) ?_
        refine z_istore_3 ok dX4_holdsItem_51 ?_
        refine z_iload_n ok dX4_holdsItem_52 rfl ?_
        refine z_ifeq (tgt := 85) ok dX4_holdsItem_53 (by decide) (fun c53 => absurd c53 (by decide)) (fun _ => ?_)
        refine z_aload_n ok dX4_holdsItem_56 rfl ?_
        refine g_X4_65 ok hm.ob dX4_holdsItem_57 ?_
        refine z_iload_n ok dX4_holdsItem_60 rfl ?_
        refine z_iald ok hm.a28 rfl (by omega) dX4_holdsItem_61 ?_
        refine z_iconst ok dX4_holdsItem_62 zic_m1 ?_
        refine z_icmpeq (tgt := 81) ok dX4_holdsItem_63 (by decide) (fun c63 => ?_) (fun c63 => ?_)
        · refine z_iconst ok dX4_holdsItem_81 zic_1 ?_
          refine z_goto (tgt := 86) ok dX4_holdsItem_82 (by decide) ?_
          refine z_istore_3 ok dX4_holdsItem_86 ?_
          refine z_iload_n ok dX4_holdsItem_87 rfl ?_
          refine z_ifeq (tgt := 119) ok dX4_holdsItem_88 (by decide) (fun c88 => absurd c88 (by decide)) (fun _ => ?_)
          refine z_aload_n ok dX4_holdsItem_91 rfl ?_
          refine g_X4_40 ok hm.ob dX4_holdsItem_92 ?_
          refine z_iload_n ok dX4_holdsItem_95 rfl ?_
          refine z_iald ok hm.a19 rfl (by omega) dX4_holdsItem_96 ?_
          refine z_aload_n ok dX4_holdsItem_97 rfl ?_
          refine g_X4_68 ok hm.ob dX4_holdsItem_98 ?_
          refine z_iload_n ok dX4_holdsItem_101 rfl ?_
          refine z_iald ok hm.a29 rfl (by omega) dX4_holdsItem_102 ?_
          refine z_aload_n ok dX4_holdsItem_103 rfl ?_
          refine g_X4_71 ok hm.ob dX4_holdsItem_104 ?_
          refine z_iload_n ok dX4_holdsItem_107 rfl ?_
          refine z_iald ok hm.a30 rfl (by omega) dX4_holdsItem_108 ?_
          refine v_X4_91 ok (m_X4_in _ _ _) dX4_holdsItem_109 zk_nx (zk_R ?_)
          refine z_ifeq (tgt := 119) ok dX4_holdsItem_112 (by decide) (fun c112 => ?_) (fun c112 => ?_)
          · rw [b2i_0] at c112
            refine z_iconst ok dX4_holdsItem_119 zic_0 ?_
            exact z_zret ok dX4_holdsItem_120 rfl (zR_i (by simp [mHoldsIt, b2i_0, b2i, c6, c16, c28, c63, c112]))
          · rw [b2i_0] at c112
            refine z_iconst ok dX4_holdsItem_115 zic_1 ?_
            refine z_goto (tgt := 120) ok dX4_holdsItem_116 (by decide) ?_
            exact z_zret ok dX4_holdsItem_120 rfl (zR_i (by simp [mHoldsIt, b2i_0, b2i, c6, c16, c28, c63, c112]))
        · refine z_aload_n ok dX4_holdsItem_66 rfl ?_
          refine g_X4_65 ok hm.ob dX4_holdsItem_67 ?_
          refine z_iload_n ok dX4_holdsItem_70 rfl ?_
          refine z_iald ok hm.a28 rfl (by omega) dX4_holdsItem_71 ?_
          refine z_aload_n ok dX4_holdsItem_72 rfl ?_
          refine g_X4_34 ok hm.ob dX4_holdsItem_73 ?_
          refine z_iload_n ok dX4_holdsItem_76 rfl ?_
          refine z_iald ok hm.a17 rfl (by omega) dX4_holdsItem_77 ?_
          refine z_icmpne (tgt := 85) ok dX4_holdsItem_78 (by decide) (fun c78 => ?_) (fun c78 => ?_)
          · refine z_iconst ok dX4_holdsItem_85 zic_0 ?_
            refine z_istore_3 ok dX4_holdsItem_86 ?_
            refine z_iload_n ok dX4_holdsItem_87 rfl ?_
            refine z_ifeq (tgt := 119) ok dX4_holdsItem_88 (by decide) (fun _ => ?_) (fun c88 => absurd c88 (by decide))
            refine z_iconst ok dX4_holdsItem_119 zic_0 ?_
            exact z_zret ok dX4_holdsItem_120 rfl (zR_i (by simp [mHoldsIt, b2i_0, b2i, c6, c16, c28, c63, c78]))
          · refine z_iconst ok dX4_holdsItem_81 zic_1 ?_
            refine z_goto (tgt := 86) ok dX4_holdsItem_82 (by decide) ?_
            refine z_istore_3 ok dX4_holdsItem_86 ?_
            refine z_iload_n ok dX4_holdsItem_87 rfl ?_
            refine z_ifeq (tgt := 119) ok dX4_holdsItem_88 (by decide) (fun c88 => absurd c88 (by decide)) (fun _ => ?_)
            refine z_aload_n ok dX4_holdsItem_91 rfl ?_
            refine g_X4_40 ok hm.ob dX4_holdsItem_92 ?_
            refine z_iload_n ok dX4_holdsItem_95 rfl ?_
            refine z_iald ok hm.a19 rfl (by omega) dX4_holdsItem_96 ?_
            refine z_aload_n ok dX4_holdsItem_97 rfl ?_
            refine g_X4_68 ok hm.ob dX4_holdsItem_98 ?_
            refine z_iload_n ok dX4_holdsItem_101 rfl ?_
            refine z_iald ok hm.a29 rfl (by omega) dX4_holdsItem_102 ?_
            refine z_aload_n ok dX4_holdsItem_103 rfl ?_
            refine g_X4_71 ok hm.ob dX4_holdsItem_104 ?_
            refine z_iload_n ok dX4_holdsItem_107 rfl ?_
            refine z_iald ok hm.a30 rfl (by omega) dX4_holdsItem_108 ?_
            refine v_X4_91 ok (m_X4_in _ _ _) dX4_holdsItem_109 zk_nx (zk_R ?_)
            refine z_ifeq (tgt := 119) ok dX4_holdsItem_112 (by decide) (fun c112 => ?_) (fun c112 => ?_)
            · rw [b2i_0] at c112
              refine z_iconst ok dX4_holdsItem_119 zic_0 ?_
              exact z_zret ok dX4_holdsItem_120 rfl (zR_i (by simp [mHoldsIt, b2i_0, b2i, c6, c16, c28, c63, c78, c112]))
            · rw [b2i_0] at c112
              refine z_iconst ok dX4_holdsItem_115 zic_1 ?_
              refine z_goto (tgt := 120) ok dX4_holdsItem_116 (by decide) ?_
              exact z_zret ok dX4_holdsItem_120 rfl (zR_i (by simp [mHoldsIt, b2i_0, b2i, c6, c16, c28, c63, c78, c112]))
      · refine z_aload_n ok dX4_holdsItem_31 rfl ?_
        refine g_X4_62 ok hm.ob dX4_holdsItem_32 ?_
        refine z_iload_n ok dX4_holdsItem_35 rfl ?_
        refine z_iald ok hm.a27 rfl (by omega) dX4_holdsItem_36 ?_
        refine z_aload_n ok dX4_holdsItem_37 rfl ?_
        refine g_X4_31 ok hm.ob dX4_holdsItem_38 ?_
        refine z_iload_n ok dX4_holdsItem_41 rfl ?_
        refine z_iald ok hm.a16 rfl (by omega) dX4_holdsItem_42 ?_
        refine z_icmpne (tgt := 50) ok dX4_holdsItem_43 (by decide) (fun c43 => ?_) (fun c43 => ?_)
        · refine z_iconst ok dX4_holdsItem_50 zic_0 ?_
          refine z_istore_3 ok dX4_holdsItem_51 ?_
          refine z_iload_n ok dX4_holdsItem_52 rfl ?_
          refine z_ifeq (tgt := 85) ok dX4_holdsItem_53 (by decide) (fun _ => ?_) (fun c53 => absurd c53 (by decide))
          refine z_iconst ok dX4_holdsItem_85 zic_0 ?_
          refine z_istore_3 ok dX4_holdsItem_86 ?_
          refine z_iload_n ok dX4_holdsItem_87 rfl ?_
          refine z_ifeq (tgt := 119) ok dX4_holdsItem_88 (by decide) (fun _ => ?_) (fun c88 => absurd c88 (by decide))
          refine z_iconst ok dX4_holdsItem_119 zic_0 ?_
          exact z_zret ok dX4_holdsItem_120 rfl (zR_i (by simp [mHoldsIt, b2i_0, b2i, c6, c16, c28, c43]))
        · refine z_iconst ok dX4_holdsItem_46 zic_1 ?_
          refine z_goto (tgt := 51) ok dX4_holdsItem_47 (by decide) ?_
          refine z_istore_3 ok dX4_holdsItem_51 ?_
          refine z_iload_n ok dX4_holdsItem_52 rfl ?_
          refine z_ifeq (tgt := 85) ok dX4_holdsItem_53 (by decide) (fun c53 => absurd c53 (by decide)) (fun _ => ?_)
          refine z_aload_n ok dX4_holdsItem_56 rfl ?_
          refine g_X4_65 ok hm.ob dX4_holdsItem_57 ?_
          refine z_iload_n ok dX4_holdsItem_60 rfl ?_
          refine z_iald ok hm.a28 rfl (by omega) dX4_holdsItem_61 ?_
          refine z_iconst ok dX4_holdsItem_62 zic_m1 ?_
          refine z_icmpeq (tgt := 81) ok dX4_holdsItem_63 (by decide) (fun c63 => ?_) (fun c63 => ?_)
          · refine z_iconst ok dX4_holdsItem_81 zic_1 ?_
            refine z_goto (tgt := 86) ok dX4_holdsItem_82 (by decide) ?_
            refine z_istore_3 ok dX4_holdsItem_86 ?_
            refine z_iload_n ok dX4_holdsItem_87 rfl ?_
            refine z_ifeq (tgt := 119) ok dX4_holdsItem_88 (by decide) (fun c88 => absurd c88 (by decide)) (fun _ => ?_)
            refine z_aload_n ok dX4_holdsItem_91 rfl ?_
            refine g_X4_40 ok hm.ob dX4_holdsItem_92 ?_
            refine z_iload_n ok dX4_holdsItem_95 rfl ?_
            refine z_iald ok hm.a19 rfl (by omega) dX4_holdsItem_96 ?_
            refine z_aload_n ok dX4_holdsItem_97 rfl ?_
            refine g_X4_68 ok hm.ob dX4_holdsItem_98 ?_
            refine z_iload_n ok dX4_holdsItem_101 rfl ?_
            refine z_iald ok hm.a29 rfl (by omega) dX4_holdsItem_102 ?_
            refine z_aload_n ok dX4_holdsItem_103 rfl ?_
            refine g_X4_71 ok hm.ob dX4_holdsItem_104 ?_
            refine z_iload_n ok dX4_holdsItem_107 rfl ?_
            refine z_iald ok hm.a30 rfl (by omega) dX4_holdsItem_108 ?_
            refine v_X4_91 ok (m_X4_in _ _ _) dX4_holdsItem_109 zk_nx (zk_R ?_)
            refine z_ifeq (tgt := 119) ok dX4_holdsItem_112 (by decide) (fun c112 => ?_) (fun c112 => ?_)
            · rw [b2i_0] at c112
              refine z_iconst ok dX4_holdsItem_119 zic_0 ?_
              exact z_zret ok dX4_holdsItem_120 rfl (zR_i (by simp [mHoldsIt, b2i_0, b2i, c6, c16, c28, c43, c63, c112]))
            · rw [b2i_0] at c112
              refine z_iconst ok dX4_holdsItem_115 zic_1 ?_
              refine z_goto (tgt := 120) ok dX4_holdsItem_116 (by decide) ?_
              exact z_zret ok dX4_holdsItem_120 rfl (zR_i (by simp [mHoldsIt, b2i_0, b2i, c6, c16, c28, c43, c63, c112]))
          · refine z_aload_n ok dX4_holdsItem_66 rfl ?_
            refine g_X4_65 ok hm.ob dX4_holdsItem_67 ?_
            refine z_iload_n ok dX4_holdsItem_70 rfl ?_
            refine z_iald ok hm.a28 rfl (by omega) dX4_holdsItem_71 ?_
            refine z_aload_n ok dX4_holdsItem_72 rfl ?_
            refine g_X4_34 ok hm.ob dX4_holdsItem_73 ?_
            refine z_iload_n ok dX4_holdsItem_76 rfl ?_
            refine z_iald ok hm.a17 rfl (by omega) dX4_holdsItem_77 ?_
            refine z_icmpne (tgt := 85) ok dX4_holdsItem_78 (by decide) (fun c78 => ?_) (fun c78 => ?_)
            · refine z_iconst ok dX4_holdsItem_85 zic_0 ?_
              refine z_istore_3 ok dX4_holdsItem_86 ?_
              refine z_iload_n ok dX4_holdsItem_87 rfl ?_
              refine z_ifeq (tgt := 119) ok dX4_holdsItem_88 (by decide) (fun _ => ?_) (fun c88 => absurd c88 (by decide))
              refine z_iconst ok dX4_holdsItem_119 zic_0 ?_
              exact z_zret ok dX4_holdsItem_120 rfl (zR_i (by simp [mHoldsIt, b2i_0, b2i, c6, c16, c28, c43, c63, c78]))
            · refine z_iconst ok dX4_holdsItem_81 zic_1 ?_
              refine z_goto (tgt := 86) ok dX4_holdsItem_82 (by decide) ?_
              refine z_istore_3 ok dX4_holdsItem_86 ?_
              refine z_iload_n ok dX4_holdsItem_87 rfl ?_
              refine z_ifeq (tgt := 119) ok dX4_holdsItem_88 (by decide) (fun c88 => absurd c88 (by decide)) (fun _ => ?_)
              refine z_aload_n ok dX4_holdsItem_91 rfl ?_
              refine g_X4_40 ok hm.ob dX4_holdsItem_92 ?_
              refine z_iload_n ok dX4_holdsItem_95 rfl ?_
              refine z_iald ok hm.a19 rfl (by omega) dX4_holdsItem_96 ?_
              refine z_aload_n ok dX4_holdsItem_97 rfl ?_
              refine g_X4_68 ok hm.ob dX4_holdsItem_98 ?_
              refine z_iload_n ok dX4_holdsItem_101 rfl ?_
              refine z_iald ok hm.a29 rfl (by omega) dX4_holdsItem_102 ?_
              refine z_aload_n ok dX4_holdsItem_103 rfl ?_
              refine g_X4_71 ok hm.ob dX4_holdsItem_104 ?_
              refine z_iload_n ok dX4_holdsItem_107 rfl ?_
              refine z_iald ok hm.a30 rfl (by omega) dX4_holdsItem_108 ?_
              refine v_X4_91 ok (m_X4_in _ _ _) dX4_holdsItem_109 zk_nx (zk_R ?_)
              refine z_ifeq (tgt := 119) ok dX4_holdsItem_112 (by decide) (fun c112 => ?_) (fun c112 => ?_)
              · rw [b2i_0] at c112
                refine z_iconst ok dX4_holdsItem_119 zic_0 ?_
                exact z_zret ok dX4_holdsItem_120 rfl (zR_i (by simp [mHoldsIt, b2i_0, b2i, c6, c16, c28, c43, c63, c78, c112]))
              · rw [b2i_0] at c112
                refine z_iconst ok dX4_holdsItem_115 zic_1 ?_
                refine z_goto (tgt := 120) ok dX4_holdsItem_116 (by decide) ?_
                exact z_zret ok dX4_holdsItem_120 rfl (zR_i (by simp [mHoldsIt, b2i_0, b2i, c6, c16, c28, c43, c63, c78, c112]))
    · refine z_iconst ok dX4_holdsItem_19 zic_0 ?_
      exact z_zret ok dX4_holdsItem_20 rfl (zR_i (by simp [mHoldsIt, b2i_0, b2i, c6, c16]))
set_option maxHeartbeats 4000000 in
set_option maxRecDepth 100000 in
theorem m_X4_isHeld {E : zE} {H : Heap} {m : Nat} {ad : Nat → Nat} {M : MS} {nf nt ni nh : Nat} (i : Nat) (hm : MP E H m ad M) (hw : mWF M nf nt ni nh) (hi : i < 40) : zM E 30 yX4_isHeld (ws_ yX4_isHeld cX4_isHeld 3 (some .boolean)) 0 0 H [.ref m, .int (nI i)] (zR H (.int (b2i (mHeld M i)))) zNX := by
  refine z_of [some (.ref m), some (.int (nI i)), none] pn_X4 (Nat.le_of_ble_eq_true rfl) rfl (fun κ ok ho => ?_)
  have hl := hw.lim
  have hL : ∀ (t j : Nat), nh - j < t → j ≤ nh → (∀ h, h < j → mHoldsIt M h i = false) → zV κ E H 0 0 2 [some (.ref m), some (.int (nI i)), some (.int (nI j))] [] := by
    intro t
    induction t with
    | zero => intro j h1; omega
    | succ t ih =>
      intro j h1 h2 h3
      refine z_iload_n ok dX4_isHeld_2 rfl ?_
      refine z_aload_n ok dX4_isHeld_3 rfl ?_
      refine g_X4_113 ok hm.ob dX4_isHeld_4 ?_
      refine z_icmpge (tgt := 27) ok dX4_isHeld_7 (by decide) (fun c7 => ?_) (fun c7 => ?_)
      · rw [hw.nh, nI_leI (by omega) (by omega)] at c7
        refine z_iconst ok dX4_isHeld_27 zic_0 ?_
        exact z_zret ok dX4_isHeld_28 rfl (zR_i (by rw [mHeld, hw.c26, mHeldF_f (fun h hh => h3 h (by omega))]; rfl))
      · rw [hw.nh, nI_leI (by omega) (by omega)] at c7
        have hj : j < nh := by omega
        refine z_aload_n ok dX4_isHeld_10 rfl ?_
        refine z_iload_n ok dX4_isHeld_11 rfl ?_
        refine z_iload_n ok dX4_isHeld_12 rfl ?_
        refine v_X4_130 ok (m_X4_holdsItem _ _ hm (by omega) hi) hm.is dX4_isHeld_13 zk_nx (zk_R ?_)
        refine z_ifeq (tgt := 21) ok dX4_isHeld_16 (by decide) (fun c16 => ?_) (fun c16 => ?_)
        · rw [b2i_0] at c16
          refine z_iinc_2 ok dX4_isHeld_21 (zinc1 _) ?_
          refine z_goto (tgt := 2) ok dX4_isHeld_24 (by decide) ?_
          exact ih (j + 1) (by omega) (by omega) (lt_s h3 (by simpa using c16))
        · rw [b2i_0] at c16
          refine z_iconst ok dX4_isHeld_19 zic_1 ?_
          exact z_zret ok dX4_isHeld_20 rfl (zR_i (by rw [mHeld, hw.c26, mHeldF_t hj (by simpa using c16)]; rfl))
  refine z_iconst ok dX4_isHeld_0 zic_0 ?_
  refine z_istore_2 ok dX4_isHeld_1 ?_
  exact hL (nh + 1) 0 (by omega) (by omega) (fun h hh => absurd hh (Nat.not_lt_zero _))
set_option maxHeartbeats 4000000 in
set_option maxRecDepth 100000 in
theorem m_X4_tellingFolder {E : zE} {H : Heap} {m : Nat} {ad : Nat → Nat} {M : MS} {nf nt ni nh : Nat} (i : Nat) (hm : MP E H m ad M) (hw : mWF M nf nt ni nh) (hi : i < ni) : zM E 20 yX4_tellingFolder (ws_ yX4_tellingFolder cX4_tellingFolder 3 (some .int)) 0 0 H [.ref m, .int (nI i)] (zR H (.int (mTell M i))) zNX := by
  refine z_of [some (.ref m), some (.int (nI i)), none] pn_X4 (Nat.le_of_ble_eq_true rfl) rfl (fun κ ok ho => ?_)
  have hl := hw.lim
  obtain ⟨f0, hf0, ef0⟩ := hw.fold hi
  have hL : ∀ (k : Nat) (x : Int32), (x = -1 → mTell M i = -1) → (¬ x = -1 → ∃ f, x = nI f ∧ f < k ∧ f < nf ∧ mTellN M k f = mTell M i) → zV κ E H 0 0 7 [some (.ref m), some (.int (nI i)), some (.int x)] [] := by
    intro k
    induction k with
    | zero =>
      intro x h1 h2
      refine z_iload_n ok dX4_tellingFolder_7 rfl ?_
      refine z_iconst ok dX4_tellingFolder_8 zic_m1 ?_
      refine z_icmpeq (tgt := 34) ok dX4_tellingFolder_9 (by decide) (fun c9 => ?_) (fun c9 => ?_)
      · refine z_iconst ok dX4_tellingFolder_34 zic_m1 ?_
        exact z_iret ok dX4_tellingFolder_35 (zR_i (h1 c9).symm)
      · exact absurd (h2 c9) (fun ⟨f, _, q, _⟩ => absurd q (Nat.not_lt_zero _))
    | succ k ih =>
      intro x h1 h2
      refine z_iload_n ok dX4_tellingFolder_7 rfl ?_
      refine z_iconst ok dX4_tellingFolder_8 zic_m1 ?_
      refine z_icmpeq (tgt := 34) ok dX4_tellingFolder_9 (by decide) (fun c9 => ?_) (fun c9 => ?_)
      · refine z_iconst ok dX4_tellingFolder_34 zic_m1 ?_
        exact z_iret ok dX4_tellingFolder_35 (zR_i (h1 c9).symm)
      · obtain ⟨f, rfl, hfk, hf, hR⟩ := h2 c9
        rw [mTellN] at hR
        refine z_aload_n ok dX4_tellingFolder_12 rfl ?_
        refine g_X4_13 ok hm.ob dX4_tellingFolder_13 ?_
        refine z_iload_n ok dX4_tellingFolder_16 rfl ?_
        refine z_iald ok hm.a7 rfl (by omega) dX4_tellingFolder_17 ?_
        refine z_iconst ok dX4_tellingFolder_18 zic_m1 ?_
        refine z_icmpeq (tgt := 24) ok dX4_tellingFolder_19 (by decide) (fun c19 => ?_) (fun c19 => ?_)
        · rw [if_neg (fun z => z c19)] at hR
          refine z_aload_n ok dX4_tellingFolder_24 rfl ?_
          refine g_X4_7 ok hm.ob dX4_tellingFolder_25 ?_
          refine z_iload_n ok dX4_tellingFolder_28 rfl ?_
          refine z_iald ok hm.a6 rfl (by omega) dX4_tellingFolder_29 ?_
          refine z_istore_2 ok dX4_tellingFolder_30 ?_
          refine z_goto (tgt := 7) ok dX4_tellingFolder_31 (by decide) ?_
          refine ih (M 6 f) (fun e => ?_) (fun e => ?_)
          · rw [← hR, if_pos e]
          · rcases hw.lies hf with e2 | ⟨g, hg, e2⟩
            · exact absurd e2 e
            · exact ⟨g, e2, by omega, by omega, by rw [← hR, if_neg e, e2, cl_nI (by omega)]⟩
        · refine z_iload_n ok dX4_tellingFolder_22 rfl ?_
          exact z_iret ok dX4_tellingFolder_23 (zR_i (by rw [← hR, if_pos c19]))
  refine z_aload_n ok dX4_tellingFolder_0 rfl ?_
  refine g_X4_28 ok hm.ob dX4_tellingFolder_1 ?_
  refine z_iload_n ok dX4_tellingFolder_4 rfl ?_
  refine z_iald ok hm.a15 rfl (by omega) dX4_tellingFolder_5 ?_
  refine z_istore_2 ok dX4_tellingFolder_6 ?_
  refine hL 11 (M 15 i) (fun e => absurd e (by rw [ef0]; exact nI_m1 (by omega))) (fun _ => ⟨f0, ef0, by omega, hf0, ?_⟩)
  rw [mTell, ef0, cl_nI (by omega)]
set_option maxHeartbeats 4000000 in
set_option maxRecDepth 100000 in
theorem m_X4_countingTag {E : zE} {H : Heap} {m : Nat} {ad : Nat → Nat} {M : MS} {nf nt ni nh : Nat} (i : Nat) (hm : MP E H m ad M) (hw : mWF M nf nt ni nh) (hi : i < ni) : zM E 21 yX4_countingTag (ws_ yX4_countingTag cX4_countingTag 3 (some .int)) 0 0 H [.ref m, .int (nI i)] (zR H (.int (mCnt M i))) zNX := by
  refine z_of [some (.ref m), some (.int (nI i)), none] pn_X4 (Nat.le_of_ble_eq_true rfl) rfl (fun κ ok ho => ?_)
  have hl := hw.lim
  refine z_aload_n ok dX4_countingTag_0 rfl ?_
  refine g_X4_43 ok hm.ob dX4_countingTag_1 ?_
  refine z_iload_n ok dX4_countingTag_4 rfl ?_
  refine z_iald ok hm.a20 rfl (by omega) dX4_countingTag_5 ?_
  refine z_iconst ok dX4_countingTag_6 zic_m1 ?_
  refine z_icmpeq (tgt := 17) ok dX4_countingTag_7 (by decide) (fun c7 => ?_) (fun c7 => ?_)
  · refine z_aload_n ok dX4_countingTag_17 rfl ?_
    refine z_iload_n ok dX4_countingTag_18 rfl ?_
    refine v_X4_116 ok (m_X4_tellingFolder _ hm hw hi) hm.is dX4_countingTag_19 zk_nx (zk_R ?_)
    refine z_istore_2 ok dX4_countingTag_22 ?_
    refine z_iload_n ok dX4_countingTag_23 rfl ?_
    refine z_iconst ok dX4_countingTag_24 zic_m1 ?_
    refine z_icmpeq (tgt := 35) ok dX4_countingTag_25 (by decide) (fun c25 => ?_) (fun c25 => ?_)
    · refine z_aload_n ok dX4_countingTag_35 rfl ?_
      refine g_X4_110 ok hm.ob dX4_countingTag_36 ?_
      exact z_iret ok dX4_countingTag_39 (zR_i (by rw [mCnt, if_neg (fun z => z c7), if_neg (fun z => z c25)]))
    · rcases mTell_pt hw hi with e | ⟨g, hg, e, -⟩
      · exact absurd e c25
      refine z_aload_n ok dX4_countingTag_28 rfl ?_
      refine g_X4_13 ok hm.ob dX4_countingTag_29 ?_
      refine z_iload_n ok dX4_countingTag_32 rfl ?_
      refine z_iald ok hm.a7 e (by omega) dX4_countingTag_33 ?_
      exact z_iret ok dX4_countingTag_34 (zR_i (by rw [mCnt, if_neg (fun z => z c7), if_pos c25, e, cl_nI (by omega)]))
  · refine z_aload_n ok dX4_countingTag_10 rfl ?_
    refine g_X4_43 ok hm.ob dX4_countingTag_11 ?_
    refine z_iload_n ok dX4_countingTag_14 rfl ?_
    refine z_iald ok hm.a20 rfl (by omega) dX4_countingTag_15 ?_
    exact z_iret ok dX4_countingTag_16 (zR_i (by rw [mCnt, if_pos c7]))
set_option maxHeartbeats 4000000 in
set_option maxRecDepth 100000 in
theorem m_X4_startDay {E : zE} {H : Heap} {m : Nat} {ad : Nat → Nat} {M : MS} {nf nt ni nh : Nat} (i t : Nat) (hm : MP E H m ad M) (hw : mWF M nf nt ni nh) (hi : i < ni) (ht : t < nt) : zM E 20 yX4_startDay (ws_ yX4_startDay cX4_startDay 3 (some .int)) 0 0 H [.ref m, .int (nI i), .int (nI t)] (zR H (.int (mStart M i t))) zNX := by
  refine z_of [some (.ref m), some (.int (nI i)), some (.int (nI t))] pn_X4 (Nat.le_of_ble_eq_true rfl) rfl (fun κ ok ho => ?_)
  have hl := hw.lim
  refine z_aload_n ok dX4_startDay_0 rfl ?_
  refine g_X4_19 ok hm.ob dX4_startDay_1 ?_
  refine z_iload_n ok dX4_startDay_4 rfl ?_
  refine z_iald ok hm.a11 rfl (by omega) dX4_startDay_5 ?_
  refine z_ifne (tgt := 16) ok dX4_startDay_6 (by decide) (fun c6 => ?_) (fun c6 => ?_)
  · refine z_aload_n ok dX4_startDay_16 rfl ?_
    refine g_X4_19 ok hm.ob dX4_startDay_17 ?_
    refine z_iload_n ok dX4_startDay_20 rfl ?_
    refine z_iald ok hm.a11 rfl (by omega) dX4_startDay_21 ?_
    refine z_iconst ok dX4_startDay_22 zic_1 ?_
    refine z_icmpne (tgt := 50) ok dX4_startDay_23 (by decide) (fun c23 => ?_) (fun c23 => ?_)
    · obtain ⟨s, hs, es⟩ := hw.start ht
      obtain ⟨e, he, ee⟩ := mStart_ev es c6 c23 hs
      refine z_aload_n ok dX4_startDay_50 rfl ?_
      refine g_X4_25 ok hm.ob dX4_startDay_51 ?_
      refine z_aload_n ok dX4_startDay_54 rfl ?_
      refine g_X4_19 ok hm.ob dX4_startDay_55 ?_
      refine z_iload_n ok dX4_startDay_58 rfl ?_
      refine z_iald ok hm.a11 rfl (by omega) dX4_startDay_59 ?_
      refine z_iconst ok dX4_startDay_60 zic_2 ?_
      refine z_isub ok dX4_startDay_61 ?_
      refine z_iald ok hm.a13 ee (by omega) dX4_startDay_62 ?_
      exact z_iret ok dX4_startDay_63 (zR_i (by rw [mStart, if_neg c6, if_neg c23, ee, cl_nI (by omega)]))
    · refine z_aload_n ok dX4_startDay_26 rfl ?_
      refine g_X4_46 ok hm.ob dX4_startDay_27 ?_
      refine z_iload_n ok dX4_startDay_30 rfl ?_
      refine z_iald ok hm.a21 rfl (by omega) dX4_startDay_31 ?_
      refine z_iconst ok dX4_startDay_32 zic_m1 ?_
      refine z_icmpne (tgt := 43) ok dX4_startDay_33 (by decide) (fun c33 => ?_) (fun c33 => ?_)
      · refine z_aload_n ok dX4_startDay_43 rfl ?_
        refine g_X4_46 ok hm.ob dX4_startDay_44 ?_
        refine z_iload_n ok dX4_startDay_47 rfl ?_
        refine z_iald ok hm.a21 rfl (by omega) dX4_startDay_48 ?_
        exact z_iret ok dX4_startDay_49 (zR_i (by rw [mStart, if_neg c6, if_pos c23, if_neg c33]))
      · refine z_aload_n ok dX4_startDay_36 rfl ?_
        refine g_X4_40 ok hm.ob dX4_startDay_37 ?_
        refine z_iload_n ok dX4_startDay_40 rfl ?_
        refine z_iald ok hm.a19 rfl (by omega) dX4_startDay_41 ?_
        exact z_iret ok dX4_startDay_42 (zR_i (by rw [mStart, if_neg c6, if_pos c23, if_pos c33]))
  · refine z_aload_n ok dX4_startDay_9 rfl ?_
    refine g_X4_40 ok hm.ob dX4_startDay_10 ?_
    refine z_iload_n ok dX4_startDay_13 rfl ?_
    refine z_iald ok hm.a19 rfl (by omega) dX4_startDay_14 ?_
    exact z_iret ok dX4_startDay_15 (zR_i (by rw [mStart, if_pos c6]))
set_option maxHeartbeats 4000000 in
set_option maxRecDepth 100000 in
theorem m_X4_dueDay {E : zE} {H : Heap} {m : Nat} {ad : Nat → Nat} {M : MS} {nf nt ni nh : Nat} (i : Nat) (hm : MP E H m ad M) (hw : mWF M nf nt ni nh) (hi : i < ni) : zM E 22 yX4_dueDay (ws_ yX4_dueDay cX4_dueDay 4 (some .int)) 0 0 H [.ref m, .int (nI i)] (zR H (.int (mDue M i))) zNX := by
  refine z_of [some (.ref m), some (.int (nI i)), none, none] pn_X4 (Nat.le_of_ble_eq_true rfl) rfl (fun κ ok ho => ?_)
  have hl := hw.lim
  refine z_aload_n ok dX4_dueDay_0 rfl ?_
  refine z_iload_n ok dX4_dueDay_1 rfl ?_
  refine v_X4_120 ok (m_X4_countingTag _ hm hw hi) hm.is dX4_dueDay_2 zk_nx (zk_R ?_)
  refine z_istore_2 ok dX4_dueDay_5 ?_
  refine z_iload_n ok dX4_dueDay_6 rfl ?_
  refine z_iconst ok dX4_dueDay_7 zic_m1 ?_
  refine z_icmpne (tgt := 13) ok dX4_dueDay_8 (by decide) (fun c8 => ?_) (fun c8 => ?_)
  · rcases mCnt_pt hw hi with e | ⟨t, ht, e⟩
    · exact absurd e c8
    rw [e]
    have et : cl (nI t) = t := cl_nI (by omega)
    have em : ¬ nI t = -1 := nI_m1 (by omega)
    refine z_aload_n ok dX4_dueDay_13 rfl ?_
    refine z_iload_n ok dX4_dueDay_14 rfl ?_
    refine z_iload_n ok dX4_dueDay_15 rfl ?_
    refine v_X4_123 ok (m_X4_startDay _ _ hm hw hi ht) hm.is dX4_dueDay_16 zk_nx (zk_R ?_)
    refine z_istore_3 ok dX4_dueDay_19 ?_
    refine z_aload_n ok dX4_dueDay_20 rfl ?_
    refine g_X4_16 ok hm.ob dX4_dueDay_21 ?_
    refine z_iload_n ok dX4_dueDay_24 rfl ?_
    refine z_iald ok hm.a10 rfl (by omega) dX4_dueDay_25 ?_
    refine z_iconst ok dX4_dueDay_26 zic_2 ?_
    refine z_icmpeq (tgt := 35) ok dX4_dueDay_27 (by decide) (fun c27 => ?_) (fun c27 => ?_)
    · refine z_iconst ok dX4_dueDay_35 zic_m1 ?_
      exact z_iret ok dX4_dueDay_36 (zR_i (by simp [mDue, mDueT, e, et, em, c8, c27]))
    · refine z_iload_n ok dX4_dueDay_30 rfl ?_
      refine z_iconst ok dX4_dueDay_31 zic_m1 ?_
      refine z_icmpne (tgt := 37) ok dX4_dueDay_32 (by decide) (fun c32 => ?_) (fun c32 => ?_)
      · refine z_iload_n ok dX4_dueDay_37 rfl ?_
        refine z_aload_n ok dX4_dueDay_38 rfl ?_
        refine g_X4_22 ok hm.ob dX4_dueDay_39 ?_
        refine z_iload_n ok dX4_dueDay_42 rfl ?_
        refine z_iald ok hm.a12 rfl (by omega) dX4_dueDay_43 ?_
        refine z_iadd ok dX4_dueDay_44 ?_
        exact z_iret ok dX4_dueDay_45 (zR_i (by simp [mDue, mDueT, e, et, em, c8, c27, c32]))
      · refine z_iconst ok dX4_dueDay_35 zic_m1 ?_
        exact z_iret ok dX4_dueDay_36 (zR_i (by simp [mDue, mDueT, e, et, em, c8, c27, c32]))
  · refine z_iconst ok dX4_dueDay_11 zic_m1 ?_
    exact z_iret ok dX4_dueDay_12 (zR_i (by rw [mDue, mDueT, if_pos c8]))
set_option maxHeartbeats 4000000 in
set_option maxRecDepth 100000 in
theorem m_X4_isDue {E : zE} {H : Heap} {m : Nat} {ad : Nat → Nat} {M : MS} {nf nt ni nh : Nat} (i : Nat) (a : Int32) (hm : MP E H m ad M) (hw : mWF M nf nt ni nh) (hi : i < ni) : zM E 23 yX4_isDue (ws_ yX4_isDue cX4_isDue 5 (some .boolean)) 0 0 H [.ref m, .int (nI i), .int a] (zR H (.int (b2i (mIsDue M i a)))) zNX := by
  refine z_of [some (.ref m), some (.int (nI i)), some (.int a), none, none] pn_X4 (Nat.le_of_ble_eq_true rfl) rfl (fun κ ok ho => ?_)
  have hl := hw.lim
  refine z_aload_n ok dX4_isDue_0 rfl ?_
  refine z_iload_n ok dX4_isDue_1 rfl ?_
  refine v_X4_120 ok (m_X4_countingTag _ hm hw hi) hm.is dX4_isDue_2 zk_nx (zk_R ?_)
  refine z_istore_3 ok dX4_isDue_5 ?_
  refine z_iload_n ok dX4_isDue_6 rfl ?_
  refine z_iconst ok dX4_isDue_7 zic_m1 ?_
  refine z_icmpne (tgt := 13) ok dX4_isDue_8 (by decide) (fun c8 => ?_) (fun c8 => ?_)
  · rcases mCnt_pt hw hi with e | ⟨t, ht, e⟩
    · exact absurd e c8
    rw [e]
    have et : cl (nI t) = t := cl_nI (by omega)
    have em : ¬ nI t = -1 := nI_m1 (by omega)
    refine z_aload_n ok dX4_isDue_13 rfl ?_
    refine z_iload_n ok dX4_isDue_14 rfl ?_
    refine v_X4_127 ok (m_X4_dueDay _ hm hw hi) hm.is dX4_isDue_15 zk_nx (zk_R ?_)
    refine z_istore_4 ok dX4_isDue_18 ?_
    refine z_aload_n ok dX4_isDue_20 rfl ?_
    refine g_X4_16 ok hm.ob dX4_isDue_21 ?_
    refine z_iload_n ok dX4_isDue_24 rfl ?_
    refine z_iald ok hm.a10 rfl (by omega) dX4_isDue_25 ?_
    refine z_iload_n ok dX4_isDue_26 rfl ?_
    refine z_icmpne (tgt := 49) ok dX4_isDue_27 (by decide) (fun c27 => ?_) (fun c27 => ?_)
    · refine z_iconst ok dX4_isDue_49 zic_0 ?_
      exact z_zret ok dX4_isDue_50 rfl (zR_i (by simp [mIsDue, b2i, e, et, em, c8, c27]))
    · refine z_iload ok dX4_isDue_30 rfl ?_
      refine z_iconst ok dX4_isDue_32 zic_m1 ?_
      refine z_icmpeq (tgt := 49) ok dX4_isDue_33 (by decide) (fun c33 => ?_) (fun c33 => ?_)
      · refine z_iconst ok dX4_isDue_49 zic_0 ?_
        exact z_zret ok dX4_isDue_50 rfl (zR_i (by simp [mIsDue, b2i, e, et, em, c8, c27, c33]))
      · refine z_iload ok dX4_isDue_36 rfl ?_
        refine z_aload_n ok dX4_isDue_38 rfl ?_
        refine g_X4_101 ok hm.ob dX4_isDue_39 ?_
        refine z_icmpgt (tgt := 49) ok dX4_isDue_42 (by decide) (fun c42 => ?_) (fun c42 => ?_)
        · refine z_iconst ok dX4_isDue_49 zic_0 ?_
          exact z_zret ok dX4_isDue_50 rfl (zR_i (by simp [mIsDue, b2i, e, et, em, c8, c27, c33, c42]))
        · refine z_iconst ok dX4_isDue_45 zic_1 ?_
          refine z_goto (tgt := 50) ok dX4_isDue_46 (by decide) ?_
          exact z_zret ok dX4_isDue_50 rfl (zR_i (by simp [mIsDue, b2i, e, et, em, c8, c27, c33, c42]))
  · refine z_iconst ok dX4_isDue_11 zic_0 ?_
    exact z_zret ok dX4_isDue_12 rfl (zR_i (by simp [mIsDue, b2i, c8]))
set_option maxHeartbeats 4000000 in
set_option maxRecDepth 100000 in
theorem m_X4_becomesGone {E : zE} {H : Heap} {m : Nat} {ad : Nat → Nat} {M : MS} (i : Nat) (hm : MP E H m ad M) (hi : i < 40) : zM E 20 yX4_becomesGone (ws_ yX4_becomesGone cX4_becomesGone 2 none) 0 0 H [.ref m, .int (nI i)] (zRv (mTo E H m ad (mGone M i))) zNX := by
  refine z_of [some (.ref m), some (.int (nI i))] pn_X4 (Nat.le_of_ble_eq_true rfl) rfl (fun κ ok ho => ?_)
  have ht := mTo.rf hm
  refine z_aload_n ok dX4_becomesGone_0 rfl ?_
  refine g_X4_49 ok ht.1.ob dX4_becomesGone_1 ?_
  refine z_iload_n ok dX4_becomesGone_4 rfl ?_
  refine z_iconst ok dX4_becomesGone_5 zic_3 ?_
  refine z_iast ok ht.1.a22 rfl (by omega) dX4_becomesGone_6 (fun H6 w6 => ?_)
  replace ht := ht.st 22 w6 rfl
  refine z_aload_n ok dX4_becomesGone_7 rfl ?_
  refine g_X4_55 ok ht.1.ob dX4_becomesGone_8 ?_
  refine z_iload_n ok dX4_becomesGone_11 rfl ?_
  refine z_aload_n ok dX4_becomesGone_12 rfl ?_
  refine g_X4_101 ok ht.1.ob dX4_becomesGone_13 ?_
  refine z_iast ok ht.1.a24 rfl (by omega) dX4_becomesGone_16 (fun H16 w16 => ?_)
  replace ht := ht.st 24 w16 rfl
  refine z_aload_n ok dX4_becomesGone_17 rfl ?_
  refine z_dup ok dX4_becomesGone_18 ?_
  refine g_X4_134 ok ht.1.ob dX4_becomesGone_19 ?_
  refine z_iconst ok dX4_becomesGone_22 zic_1 ?_
  refine z_iadd ok dX4_becomesGone_23 ?_
  refine p_X4_134 ok ht.1.1 dX4_becomesGone_24 (fun H24 w24 => ?_)
  replace ht := ht.put 4 w24 rfl
  exact z_vret ok dX4_becomesGone_27 ⟨rfl, ht⟩
set_option maxHeartbeats 4000000 in
set_option maxRecDepth 100000 in
theorem m_X4_becomesRecoverable {E : zE} {H : Heap} {m : Nat} {ad : Nat → Nat} {M : MS} (i : Nat) (hm : MP E H m ad M) (hi : i < 40) : zM E 20 yX4_becomesRecoverable (ws_ yX4_becomesRecoverable cX4_becomesRecoverable 2 none) 0 0 H [.ref m, .int (nI i)] (zRv (mTo E H m ad (mRec M i))) zNX := by
  refine z_of [some (.ref m), some (.int (nI i))] pn_X4 (Nat.le_of_ble_eq_true rfl) rfl (fun κ ok ho => ?_)
  have ht := mTo.rf hm
  refine z_aload_n ok dX4_becomesRecoverable_0 rfl ?_
  refine g_X4_49 ok ht.1.ob dX4_becomesRecoverable_1 ?_
  refine z_iload_n ok dX4_becomesRecoverable_4 rfl ?_
  refine z_iconst ok dX4_becomesRecoverable_5 zic_2 ?_
  refine z_iast ok ht.1.a22 rfl (by omega) dX4_becomesRecoverable_6 (fun H6 w6 => ?_)
  replace ht := ht.st 22 w6 rfl
  refine z_aload_n ok dX4_becomesRecoverable_7 rfl ?_
  refine g_X4_52 ok ht.1.ob dX4_becomesRecoverable_8 ?_
  refine z_iload_n ok dX4_becomesRecoverable_11 rfl ?_
  refine z_aload_n ok dX4_becomesRecoverable_12 rfl ?_
  refine g_X4_101 ok ht.1.ob dX4_becomesRecoverable_13 ?_
  refine z_iast ok ht.1.a23 rfl (by omega) dX4_becomesRecoverable_16 (fun H16 w16 => ?_)
  replace ht := ht.st 23 w16 rfl
  exact z_vret ok dX4_becomesRecoverable_17 ⟨rfl, ht⟩
set_option maxHeartbeats 4000000 in
set_option maxRecDepth 100000 in
theorem m_X4_sumOf {E : zE} {H : Heap} {m : Nat} {ad : Nat → Nat} {M : MS} {nf nt ni nh : Nat} (s : Int32) (hm : MP E H m ad M) (hw : mWF M nf nt ni nh) : zM E 20 yX4_sumOf (ws_ yX4_sumOf cX4_sumOf 4 (some .int)) 0 0 H [.ref m, .int s] (zR H (.int (mSum M s))) zNX := by
  refine z_of [some (.ref m), some (.int s), none, none] pn_X4 (Nat.le_of_ble_eq_true rfl) rfl (fun κ ok ho => ?_)
  have hl := hw.lim
  have hL : ∀ (t j : Nat), ni - j < t → j ≤ ni → zV κ E H 0 0 4 [some (.ref m), some (.int s), some (.int (mSumF M s j)), some (.int (nI j))] [] := by
    intro t
    induction t with
    | zero => intro j h1; omega
    | succ t ih =>
      intro j h1 h2
      refine z_iload_n ok dX4_sumOf_4 rfl ?_
      refine z_aload_n ok dX4_sumOf_5 rfl ?_
      refine g_X4_98 ok hm.ob dX4_sumOf_6 ?_
      refine z_icmpge (tgt := 37) ok dX4_sumOf_9 (by decide) (fun c9 => ?_) (fun c9 => ?_)
      · rw [hw.ni, nI_leI (by omega) (by omega)] at c9
        refine z_iload_n ok dX4_sumOf_37 rfl ?_
        exact z_iret ok dX4_sumOf_38 (zR_i (by rw [mSum, hw.c14, show j = ni by omega]))
      · rw [hw.ni, nI_leI (by omega) (by omega)] at c9
        have hj : j < ni := by omega
        refine z_aload_n ok dX4_sumOf_12 rfl ?_
        refine g_X4_49 ok hm.ob dX4_sumOf_13 ?_
        refine z_iload_n ok dX4_sumOf_16 rfl ?_
        refine z_iald ok hm.a22 rfl (by omega) dX4_sumOf_17 ?_
        refine z_iload_n ok dX4_sumOf_18 rfl ?_
        refine z_icmpne (tgt := 31) ok dX4_sumOf_19 (by decide) (fun c19 => ?_) (fun c19 => ?_)
        · have e : mSumF M s (j + 1) = mSumF M s j := if_neg c19
          refine z_iinc_3 ok dX4_sumOf_31 (zinc1 _) ?_
          refine z_goto (tgt := 4) ok dX4_sumOf_34 (by decide) ?_
          rw [← e]
          exact ih (j + 1) (by omega) (by omega)
        · have e : mSumF M s (j + 1) = mSumF M s j + M 18 j := if_pos c19
          refine z_iload_n ok dX4_sumOf_22 rfl ?_
          refine z_aload_n ok dX4_sumOf_23 rfl ?_
          refine g_X4_37 ok hm.ob dX4_sumOf_24 ?_
          refine z_iload_n ok dX4_sumOf_27 rfl ?_
          refine z_iald ok hm.a18 rfl (by omega) dX4_sumOf_28 ?_
          refine z_iadd ok dX4_sumOf_29 ?_
          refine z_istore_2 ok dX4_sumOf_30 ?_
          refine z_iinc_3 ok dX4_sumOf_31 (zinc1 _) ?_
          refine z_goto (tgt := 4) ok dX4_sumOf_34 (by decide) ?_
          rw [← e]
          exact ih (j + 1) (by omega) (by omega)
  refine z_iconst ok dX4_sumOf_0 zic_0 ?_
  refine z_istore_2 ok dX4_sumOf_1 ?_
  refine z_iconst ok dX4_sumOf_2 zic_0 ?_
  refine z_istore_3 ok dX4_sumOf_3 ?_
  exact hL (ni + 1) 0 (by omega) (by omega)
set_option maxHeartbeats 4000000 in
set_option maxRecDepth 100000 in
theorem m_X4_outFirst {E : zE} {H : Heap} {m : Nat} {ad : Nat → Nat} {M : MS} {nf nt ni nh : Nat} (hm : MP E H m ad M) (hw : mWF M nf nt ni nh) : zM E 31 yX4_outFirst (ws_ yX4_outFirst cX4_outFirst 3 (some .int)) 0 0 H [.ref m] (zR H (.int (mOut M))) zNX := by
  refine z_of [some (.ref m), none, none] pn_X4 (Nat.le_of_ble_eq_true rfl) rfl (fun κ ok ho => ?_)
  have hl := hw.lim
  have hL : ∀ (t j : Nat), ni - j < t → j ≤ ni → zV κ E H 0 0 4 [some (.ref m), some (.int (mOutF M j)), some (.int (nI j))] [] := by
    intro t
    induction t with
    | zero => intro j h1; omega
    | succ t ih =>
      intro j h1 h2
      refine z_iload_n ok dX4_outFirst_4 rfl ?_
      refine z_aload_n ok dX4_outFirst_5 rfl ?_
      refine g_X4_98 ok hm.ob dX4_outFirst_6 ?_
      refine z_icmpge (tgt := 58) ok dX4_outFirst_9 (by decide) (fun c9 => ?_) (fun c9 => ?_)
      · rw [hw.ni, nI_leI (by omega) (by omega)] at c9
        refine z_iload_n ok dX4_outFirst_58 rfl ?_
        exact z_iret ok dX4_outFirst_59 (zR_i (by rw [mOut, hw.c14, show j = ni by omega]))
      · rw [hw.ni, nI_leI (by omega) (by omega)] at c9
        have hj : j < ni := by omega
        refine z_aload_n ok dX4_outFirst_12 rfl ?_
        refine g_X4_49 ok hm.ob dX4_outFirst_13 ?_
        refine z_iload_n ok dX4_outFirst_16 rfl ?_
        refine z_iald ok hm.a22 rfl (by omega) dX4_outFirst_17 ?_
        refine z_iconst ok dX4_outFirst_18 zic_2 ?_
        refine z_icmpne (tgt := 52) ok dX4_outFirst_19 (by decide) (fun c19 => ?_) (fun c19 => ?_)
        · have e : mOutF M (j + 1) = mOutF M j := if_neg (fun z => c19 z.1)
          refine z_iinc_2 ok dX4_outFirst_52 (zinc1 _) ?_
          refine z_goto (tgt := 4) ok dX4_outFirst_55 (by decide) ?_
          rw [← e]
          exact ih (j + 1) (by omega) (by omega)
        · refine z_aload_n ok dX4_outFirst_22 rfl ?_
          refine z_iload_n ok dX4_outFirst_23 rfl ?_
          refine v_X4_137 ok (m_X4_isHeld _ hm hw (by omega)) hm.is dX4_outFirst_24 zk_nx (zk_R ?_)
          refine z_ifne (tgt := 52) ok dX4_outFirst_27 (by decide) (fun c27 => ?_) (fun c27 => ?_)
          · rw [b2i_0] at c27
            have e : mOutF M (j + 1) = mOutF M j := if_neg (fun z => c27 z.2.1)
            refine z_iinc_2 ok dX4_outFirst_52 (zinc1 _) ?_
            refine z_goto (tgt := 4) ok dX4_outFirst_55 (by decide) ?_
            rw [← e]
            exact ih (j + 1) (by omega) (by omega)
          · rw [b2i_0] at c27
            refine z_iload_n ok dX4_outFirst_30 rfl ?_
            refine z_iconst ok dX4_outFirst_31 zic_m1 ?_
            refine z_icmpeq (tgt := 50) ok dX4_outFirst_32 (by decide) (fun c32 => ?_) (fun c32 => ?_)
            · have e : mOutF M (j + 1) = nI j := if_pos ⟨c19, c27, Or.inl c32⟩
              refine z_iload_n ok dX4_outFirst_50 rfl ?_
              refine z_istore_1 ok dX4_outFirst_51 ?_
              refine z_iinc_2 ok dX4_outFirst_52 (zinc1 _) ?_
              refine z_goto (tgt := 4) ok dX4_outFirst_55 (by decide) ?_
              rw [← e]
              exact ih (j + 1) (by omega) (by omega)
            · rcases mOutF_pt (M := M) j with e1 | ⟨b, hb, e1, -⟩
              · exact absurd e1 c32
              have e2 : cl (mOutF M j) = b := by rw [e1]; exact cl_nI (by omega)
              refine z_aload_n ok dX4_outFirst_35 rfl ?_
              refine g_X4_52 ok hm.ob dX4_outFirst_36 ?_
              refine z_iload_n ok dX4_outFirst_39 rfl ?_
              refine z_iald ok hm.a23 rfl (by omega) dX4_outFirst_40 ?_
              refine z_aload_n ok dX4_outFirst_41 rfl ?_
              refine g_X4_52 ok hm.ob dX4_outFirst_42 ?_
              refine z_iload_n ok dX4_outFirst_45 rfl ?_
              refine z_iald ok hm.a23 e1 (by omega) dX4_outFirst_46 ?_
              refine z_icmpge (tgt := 52) ok dX4_outFirst_47 (by decide) (fun c47 => ?_) (fun c47 => ?_)
              · have e : mOutF M (j + 1) = mOutF M j := if_neg (fun z => z.2.2.elim c32 (fun q => by rw [e2] at q; exact absurd c47 (Int32.not_le.mpr q)))
                refine z_iinc_2 ok dX4_outFirst_52 (zinc1 _) ?_
                refine z_goto (tgt := 4) ok dX4_outFirst_55 (by decide) ?_
                rw [← e]
                exact ih (j + 1) (by omega) (by omega)
              · have e : mOutF M (j + 1) = nI j := if_pos ⟨c19, c27, Or.inr (by rw [e2]; exact Int32.not_le.mp c47)⟩
                refine z_iload_n ok dX4_outFirst_50 rfl ?_
                refine z_istore_1 ok dX4_outFirst_51 ?_
                refine z_iinc_2 ok dX4_outFirst_52 (zinc1 _) ?_
                refine z_goto (tgt := 4) ok dX4_outFirst_55 (by decide) ?_
                rw [← e]
                exact ih (j + 1) (by omega) (by omega)
  refine z_iconst ok dX4_outFirst_0 zic_m1 ?_
  refine z_istore_1 ok dX4_outFirst_1 ?_
  refine z_iconst ok dX4_outFirst_2 zic_0 ?_
  refine z_istore_2 ok dX4_outFirst_3 ?_
  exact hL (ni + 1) 0 (by omega) (by omega)
set_option maxHeartbeats 4000000 in
set_option maxRecDepth 100000 in
theorem m_X4_countsQuota {E : zE} {H : Heap} {m : Nat} {ad : Nat → Nat} {M : MS} {nf nt ni nh : Nat} (hm : MP E H m ad M) (hw : mWF M nf nt ni nh) : zM E 33 yX4_countsQuota (ws_ yX4_countsQuota cX4_countsQuota 2 none) 0 0 H [.ref m] (zRv (mTo E H m ad (mQuota 41 M))) zNX := by
  refine z_of [some (.ref m), none] pn_X4 (Nat.le_of_ble_eq_true rfl) rfl (fun κ ok ho => ?_)
  have hl := hw.lim
  have ht0 := mTo.rf hm
  have hL : ∀ (t : Nat) (M1 : MS) (H1 : Heap), mTo E H m ad M1 H1 → mWF M1 nf nt ni nh → mRecs M1 ni < t → mQuota t M1 = mQuota 41 M → zV κ E H1 0 0 5 [some (.ref m), some (.int (mOut M1))] [] := by
    intro t
    induction t with
    | zero => intro M1 H1 _ _ h1; omega
    | succ t ih =>
      intro M1 H1 ht hw h1 h2
      refine z_aload_n ok dX4_countsQuota_5 rfl ?_
      refine z_iconst ok dX4_countsQuota_6 zic_2 ?_
      refine v_X4_145 ok (m_X4_sumOf _ ht.1 hw) ht.1.is dX4_countsQuota_7 zk_nx (zk_R ?_)
      refine z_aload_n ok dX4_countsQuota_10 rfl ?_
      refine g_X4_107 ok ht.1.ob dX4_countsQuota_11 ?_
      refine z_icmple (tgt := 35) ok dX4_countsQuota_14 (by decide) (fun c14 => ?_) (fun c14 => ?_)
      · have e9 : mQuota (t + 1) M1 = M1 := if_neg (fun z => by first | exact absurd c14 (Int32.not_le.mpr z.1) | exact z.2 c19)
        exact z_vret ok dX4_countsQuota_35 ⟨rfl, by rw [← h2, e9]; exact ht⟩
      · refine z_iload_n ok dX4_countsQuota_17 rfl ?_
        refine z_iconst ok dX4_countsQuota_18 zic_m1 ?_
        refine z_icmpeq (tgt := 35) ok dX4_countsQuota_19 (by decide) (fun c19 => ?_) (fun c19 => ?_)
        · have e9 : mQuota (t + 1) M1 = M1 := if_neg (fun z => by first | exact absurd c14 (Int32.not_le.mpr z.1) | exact z.2 c19)
          exact z_vret ok dX4_countsQuota_35 ⟨rfl, by rw [← h2, e9]; exact ht⟩
        · rcases mOutF_pt (M := M1) (cl (M1 14 0)) with e1 | ⟨b, hb, e1, e2⟩
          · exact absurd e1 c19
          change mOut M1 = nI b at e1
          rw [hw.c14] at hb
          rw [e1]
          refine z_aload_n ok dX4_countsQuota_22 rfl ?_
          refine z_iload_n ok dX4_countsQuota_23 rfl ?_
          refine v_X4_148 ok (m_X4_becomesGone _ ht.1 (by omega)) ht.1.is dX4_countsQuota_24 zk_nx (zk_Rv (fun H9 h9 _ => ?_))
          replace ht := ht.call h9
          refine z_aload_n ok dX4_countsQuota_27 rfl ?_
          refine v_X4_141 ok (m_X4_outFirst ht.1 hw.gone) ht.1.is dX4_countsQuota_28 zk_nx (zk_R ?_)
          refine z_istore_1 ok dX4_countsQuota_31 ?_
          refine z_goto (tgt := 5) ok dX4_countsQuota_32 (by decide) ?_
          rw [mQuota, if_pos ⟨Int32.not_le.mp c14, c19⟩, e1, cl_nI (by omega)] at h2
          exact ih _ _ ht hw.gone (by have := mRecs_gone e2 ni (by omega); omega) h2
  have ht := ht0
  refine z_aload_n ok dX4_countsQuota_0 rfl ?_
  refine v_X4_141 ok (m_X4_outFirst ht.1 hw) ht.1.is dX4_countsQuota_1 zk_nx (zk_R ?_)
  refine z_istore_1 ok dX4_countsQuota_4 ?_
  exact hL 41 M H ht hw (by have := mRecs_le (M := M) ni; omega) rfl
set_option maxHeartbeats 4000000 in
set_option maxRecDepth 100000 in
theorem m_X4_dayPasses {E : zE} {H : Heap} {m : Nat} {ad : Nat → Nat} {M : MS} {nf nt ni nh : Nat} (hm : MP E H m ad M) (hw : mWF M nf nt ni nh) : zM E 35 yX4_dayPasses (ws_ yX4_dayPasses cX4_dayPasses 2 none) 0 0 H [.ref m] (zRv (mTo E H m ad (mDay M))) zNX := by
  refine z_of [some (.ref m), none] pn_X4 (Nat.le_of_ble_eq_true rfl) rfl (fun κ ok ho => ?_)
  have hl := hw.lim
  have ht0 := mTo.rf hm
  have hwA : mWF (mu M 1 0 (M 1 0 + 1)) nf nt ni nh := hw.mu (by decide)
  generalize hA : mu M 1 0 (M 1 0 + 1) = MA at hwA
  have hwB := hwA.day1 ni
  generalize hB : mDay1 MA ni = MB at hwB
  have hwC := hwB.day2 ni
  generalize hC : mDay2 MB ni = MC at hwC
  have hwD := hwC.day3 ni
  have hfin : mDay M = mQuota 41 (mDay3 MC ni) := by rw [mDay, hw.c14, hA, hB, hC]
  have k3 : ∀ (t j : Nat) (H1 : Heap), ni - j < t → j ≤ ni → mTo E H m ad (mDay3 MC j) H1 → zV κ E H1 0 0 93 [some (.ref m), some (.int (nI j))] [] := by
    intro t
    induction t with
    | zero => intro j H1 h1; omega
    | succ t ih =>
      intro j H1 h1 h2 ht
      have hw := hwC.day3 j
      refine z_iload_n ok dX4_dayPasses_93 rfl ?_
      refine z_aload_n ok dX4_dayPasses_94 rfl ?_
      refine g_X4_98 ok ht.1.ob dX4_dayPasses_95 ?_
      refine z_icmpge (tgt := 148) ok dX4_dayPasses_98 (by decide) (fun c98 => ?_) (fun c98 => ?_)
      · rw [hw.ni, nI_leI (by omega) (by omega)] at c98
        refine z_aload_n ok dX4_dayPasses_148 rfl ?_
        rw [show j = ni by omega] at ht hw
        refine v_X4_158 ok (m_X4_countsQuota ht.1 hw) ht.1.is dX4_dayPasses_149 zk_nx (zk_Rv (fun H9 h9 _ => ?_))
        replace ht := ht.call h9
        rw [← hfin] at ht
        exact z_vret ok dX4_dayPasses_152 ⟨rfl, ht⟩
      · rw [hw.ni, nI_leI (by omega) (by omega)] at c98
        have hj : j < ni := by omega
        refine z_aload_n ok dX4_dayPasses_101 rfl ?_
        refine g_X4_49 ok ht.1.ob dX4_dayPasses_102 ?_
        refine z_iload_n ok dX4_dayPasses_105 rfl ?_
        refine z_iald ok ht.1.a22 rfl (by omega) dX4_dayPasses_106 ?_
        refine z_iconst ok dX4_dayPasses_107 zic_2 ?_
        refine z_icmpne (tgt := 142) ok dX4_dayPasses_108 (by decide) (fun c108 => ?_) (fun c108 => ?_)
        · have e : mDay3 MC (j + 1) = mDay3 MC j := if_neg (fun z => c108 z.1)
          refine z_iinc_1 ok dX4_dayPasses_142 (zinc1 _) ?_
          refine z_goto (tgt := 93) ok dX4_dayPasses_145 (by decide) ?_
          rw [← e] at ht
          exact ih (j + 1) _ (by omega) (by omega) ht
        · refine z_aload_n ok dX4_dayPasses_111 rfl ?_
          refine z_iload_n ok dX4_dayPasses_112 rfl ?_
          refine v_X4_137 ok (m_X4_isHeld _ ht.1 hw (by omega)) ht.1.is dX4_dayPasses_113 zk_nx (zk_R ?_)
          refine z_ifne (tgt := 142) ok dX4_dayPasses_116 (by decide) (fun c116 => ?_) (fun c116 => ?_)
          · rw [b2i_0] at c116
            have e : mDay3 MC (j + 1) = mDay3 MC j := if_neg (fun z => c116 z.2.1)
            refine z_iinc_1 ok dX4_dayPasses_142 (zinc1 _) ?_
            refine z_goto (tgt := 93) ok dX4_dayPasses_145 (by decide) ?_
            rw [← e] at ht
            exact ih (j + 1) _ (by omega) (by omega) ht
          · rw [b2i_0] at c116
            refine z_aload_n ok dX4_dayPasses_119 rfl ?_
            refine g_X4_101 ok ht.1.ob dX4_dayPasses_120 ?_
            refine z_aload_n ok dX4_dayPasses_123 rfl ?_
            refine g_X4_52 ok ht.1.ob dX4_dayPasses_124 ?_
            refine z_iload_n ok dX4_dayPasses_127 rfl ?_
            refine z_iald ok ht.1.a23 rfl (by omega) dX4_dayPasses_128 ?_
            refine z_isub ok dX4_dayPasses_129 ?_
            refine z_aload_n ok dX4_dayPasses_130 rfl ?_
            refine g_X4_104 ok ht.1.ob dX4_dayPasses_131 ?_
            refine z_icmplt (tgt := 142) ok dX4_dayPasses_134 (by decide) (fun c134 => ?_) (fun c134 => ?_)
            · have e : mDay3 MC (j + 1) = mDay3 MC j := if_neg (fun z => z.2.2 c134)
              refine z_iinc_1 ok dX4_dayPasses_142 (zinc1 _) ?_
              refine z_goto (tgt := 93) ok dX4_dayPasses_145 (by decide) ?_
              rw [← e] at ht
              exact ih (j + 1) _ (by omega) (by omega) ht
            · have e : mDay3 MC (j + 1) = mGone (mDay3 MC j) j := if_pos ⟨c108, c116, c134⟩
              refine z_aload_n ok dX4_dayPasses_137 rfl ?_
              refine z_iload_n ok dX4_dayPasses_138 rfl ?_
              refine v_X4_148 ok (m_X4_becomesGone _ ht.1 (by omega)) ht.1.is dX4_dayPasses_139 zk_nx (zk_Rv (fun H9 h9 _ => ?_))
              replace ht := ht.call h9
              refine z_iinc_1 ok dX4_dayPasses_142 (zinc1 _) ?_
              refine z_goto (tgt := 93) ok dX4_dayPasses_145 (by decide) ?_
              rw [← e] at ht
              exact ih (j + 1) _ (by omega) (by omega) ht
  have k2 : ∀ (t j : Nat) (H1 : Heap), ni - j < t → j ≤ ni → mTo E H m ad (mDay2 MB j) H1 → zV κ E H1 0 0 52 [some (.ref m), some (.int (nI j))] [] := by
    intro t
    induction t with
    | zero => intro j H1 h1; omega
    | succ t ih =>
      intro j H1 h1 h2 ht
      have hw := hwB.day2 j
      refine z_iload_n ok dX4_dayPasses_52 rfl ?_
      refine z_aload_n ok dX4_dayPasses_53 rfl ?_
      refine g_X4_98 ok ht.1.ob dX4_dayPasses_54 ?_
      refine z_icmpge (tgt := 91) ok dX4_dayPasses_57 (by decide) (fun c57 => ?_) (fun c57 => ?_)
      · rw [hw.ni, nI_leI (by omega) (by omega)] at c57
        refine z_iconst ok dX4_dayPasses_91 zic_0 ?_
        refine z_istore_1 ok dX4_dayPasses_92 ?_
        rw [show j = ni by omega, hC] at ht
        exact k3 (ni + 1) 0 _ (by omega) (by omega) ht
      · rw [hw.ni, nI_leI (by omega) (by omega)] at c57
        have hj : j < ni := by omega
        refine z_aload_n ok dX4_dayPasses_60 rfl ?_
        refine g_X4_49 ok ht.1.ob dX4_dayPasses_61 ?_
        refine z_iload_n ok dX4_dayPasses_64 rfl ?_
        refine z_iald ok ht.1.a22 rfl (by omega) dX4_dayPasses_65 ?_
        refine z_ifne (tgt := 85) ok dX4_dayPasses_66 (by decide) (fun c66 => ?_) (fun c66 => ?_)
        · have e : mDay2 MB (j + 1) = mDay2 MB j := if_neg (fun z => c66 z.1)
          refine z_iinc_1 ok dX4_dayPasses_85 (zinc1 _) ?_
          refine z_goto (tgt := 52) ok dX4_dayPasses_88 (by decide) ?_
          rw [← e] at ht
          exact ih (j + 1) _ (by omega) (by omega) ht
        · refine z_aload_n ok dX4_dayPasses_69 rfl ?_
          refine z_iload_n ok dX4_dayPasses_70 rfl ?_
          refine z_iconst ok dX4_dayPasses_71 zic_1 ?_
          refine v_X4_152 ok (m_X4_isDue _ _ ht.1 hw hj) ht.1.is dX4_dayPasses_72 zk_nx (zk_R ?_)
          refine z_ifeq (tgt := 85) ok dX4_dayPasses_75 (by decide) (fun c75 => ?_) (fun c75 => ?_)
          · rw [b2i_0] at c75
            have e : mDay2 MB (j + 1) = mDay2 MB j := if_neg (fun z => by rw [c75] at z; exact absurd z.2 (by decide))
            refine z_iinc_1 ok dX4_dayPasses_85 (zinc1 _) ?_
            refine z_goto (tgt := 52) ok dX4_dayPasses_88 (by decide) ?_
            rw [← e] at ht
            exact ih (j + 1) _ (by omega) (by omega) ht
          · rw [b2i_0] at c75
            have e : mDay2 MB (j + 1) = mu (mDay2 MB j) 22 j 1 := if_pos ⟨c66, by simpa using c75⟩
            refine z_aload_n ok dX4_dayPasses_78 rfl ?_
            refine g_X4_49 ok ht.1.ob dX4_dayPasses_79 ?_
            refine z_iload_n ok dX4_dayPasses_82 rfl ?_
            refine z_iconst ok dX4_dayPasses_83 zic_1 ?_
            refine z_iast ok ht.1.a22 rfl (by omega) dX4_dayPasses_84 (fun H84 w84 => ?_)
            replace ht := ht.st 22 w84 rfl
            refine z_iinc_1 ok dX4_dayPasses_85 (zinc1 _) ?_
            refine z_goto (tgt := 52) ok dX4_dayPasses_88 (by decide) ?_
            rw [← e] at ht
            exact ih (j + 1) _ (by omega) (by omega) ht
  have k1 : ∀ (t j : Nat) (H1 : Heap), ni - j < t → j ≤ ni → mTo E H m ad (mDay1 MA j) H1 → zV κ E H1 0 0 12 [some (.ref m), some (.int (nI j))] [] := by
    intro t
    induction t with
    | zero => intro j H1 h1; omega
    | succ t ih =>
      intro j H1 h1 h2 ht
      have hw := hwA.day1 j
      refine z_iload_n ok dX4_dayPasses_12 rfl ?_
      refine z_aload_n ok dX4_dayPasses_13 rfl ?_
      refine g_X4_98 ok ht.1.ob dX4_dayPasses_14 ?_
      refine z_icmpge (tgt := 50) ok dX4_dayPasses_17 (by decide) (fun c17 => ?_) (fun c17 => ?_)
      · rw [hw.ni, nI_leI (by omega) (by omega)] at c17
        refine z_iconst ok dX4_dayPasses_50 zic_0 ?_
        refine z_istore_1 ok dX4_dayPasses_51 ?_
        rw [show j = ni by omega, hB] at ht
        exact k2 (ni + 1) 0 _ (by omega) (by omega) ht
      · rw [hw.ni, nI_leI (by omega) (by omega)] at c17
        have hj : j < ni := by omega
        refine z_aload_n ok dX4_dayPasses_20 rfl ?_
        refine g_X4_49 ok ht.1.ob dX4_dayPasses_21 ?_
        refine z_iload_n ok dX4_dayPasses_24 rfl ?_
        refine z_iald ok ht.1.a22 rfl (by omega) dX4_dayPasses_25 ?_
        refine z_iconst ok dX4_dayPasses_26 zic_1 ?_
        refine z_icmpgt (tgt := 44) ok dX4_dayPasses_27 (by decide) (fun c27 => ?_) (fun c27 => ?_)
        · have e : mDay1 MA (j + 1) = mDay1 MA j := if_neg (fun z => z.1 c27)
          refine z_iinc_1 ok dX4_dayPasses_44 (zinc1 _) ?_
          refine z_goto (tgt := 12) ok dX4_dayPasses_47 (by decide) ?_
          rw [← e] at ht
          exact ih (j + 1) _ (by omega) (by omega) ht
        · refine z_aload_n ok dX4_dayPasses_30 rfl ?_
          refine z_iload_n ok dX4_dayPasses_31 rfl ?_
          refine z_iconst ok dX4_dayPasses_32 zic_0 ?_
          refine v_X4_152 ok (m_X4_isDue _ _ ht.1 hw hj) ht.1.is dX4_dayPasses_33 zk_nx (zk_R ?_)
          refine z_ifeq (tgt := 44) ok dX4_dayPasses_36 (by decide) (fun c36 => ?_) (fun c36 => ?_)
          · rw [b2i_0] at c36
            have e : mDay1 MA (j + 1) = mDay1 MA j := if_neg (fun z => by rw [c36] at z; exact absurd z.2 (by decide))
            refine z_iinc_1 ok dX4_dayPasses_44 (zinc1 _) ?_
            refine z_goto (tgt := 12) ok dX4_dayPasses_47 (by decide) ?_
            rw [← e] at ht
            exact ih (j + 1) _ (by omega) (by omega) ht
          · rw [b2i_0] at c36
            have e : mDay1 MA (j + 1) = mRec (mDay1 MA j) j := if_pos ⟨c27, by simpa using c36⟩
            refine z_aload_n ok dX4_dayPasses_39 rfl ?_
            refine z_iload_n ok dX4_dayPasses_40 rfl ?_
            refine v_X4_155 ok (m_X4_becomesRecoverable _ ht.1 (by omega)) ht.1.is dX4_dayPasses_41 zk_nx (zk_Rv (fun H9 h9 _ => ?_))
            replace ht := ht.call h9
            refine z_iinc_1 ok dX4_dayPasses_44 (zinc1 _) ?_
            refine z_goto (tgt := 12) ok dX4_dayPasses_47 (by decide) ?_
            rw [← e] at ht
            exact ih (j + 1) _ (by omega) (by omega) ht
  have ht := ht0
  refine z_aload_n ok dX4_dayPasses_0 rfl ?_
  refine z_dup ok dX4_dayPasses_1 ?_
  refine g_X4_101 ok ht.1.ob dX4_dayPasses_2 ?_
  refine z_iconst ok dX4_dayPasses_5 zic_1 ?_
  refine z_iadd ok dX4_dayPasses_6 ?_
  refine p_X4_101 ok ht.1.1 dX4_dayPasses_7 (fun H7 w7 => ?_)
  replace ht := ht.put 1 w7 rfl
  refine z_iconst ok dX4_dayPasses_10 zic_0 ?_
  refine z_istore_1 ok dX4_dayPasses_11 ?_
  rw [hA] at ht
  exact k1 (ni + 1) 0 _ (by omega) (by omega) ht
set_option maxHeartbeats 4000000 in
set_option maxRecDepth 100000 in
theorem m_X4_begins {E : zE} {H : Heap} {m : Nat} {ad : Nat → Nat} {M : MS} (hm : MP E H m ad M) : zM E 20 yX4_begins (ws_ yX4_begins cX4_begins 2 none) 0 0 H [.ref m] (zRv (mTo E H m ad (mBegins M))) zNX := by
  refine z_of [some (.ref m), none] pn_X4 (Nat.le_of_ble_eq_true rfl) rfl (fun κ ok ho => ?_)
  have ht0 := mTo.rf hm
  generalize hA : mu (mu (mu (mu (mu (mu (mu (mu (mu (mu M 1 0 0) 2 0 14) 3 0 500) 5 0 1) 6 0 (-1)) 7 0 (-1)) 8 0 (-1)) 9 0 0) 14 0 0) 26 0 0 = MA
  have hfin : mBegins M = mEv MA 4 := by rw [mBegins, hA]
  have k1 : ∀ (t j : Nat) (H1 : Heap), 4 - j < t → j ≤ 4 → mTo E H m ad (mEv MA j) H1 → zV κ E H1 0 0 59 [some (.ref m), some (.int (nI j))] [] := by
    intro t
    induction t with
    | zero => intro j H1 h1; omega
    | succ t ih =>
      intro j H1 h1 h2 ht
      refine z_iload_n ok dX4_begins_59 rfl ?_
      refine z_iconst ok dX4_begins_60 zic_4 ?_
      refine z_icmpge (tgt := 77) ok dX4_begins_61 (by decide) (fun c61 => ?_) (fun c61 => ?_)
      · rw [show (4 : Int32) = nI 4 from rfl, nI_leI (by omega) (by omega)] at c61
        exact z_vret ok dX4_begins_77 ⟨rfl, by rw [hfin, show (4 : Nat) = j by omega]; exact ht⟩
      · rw [show (4 : Int32) = nI 4 from rfl, nI_leI (by omega) (by omega)] at c61
        have hj : j < 4 := by omega
        refine z_aload_n ok dX4_begins_64 rfl ?_
        refine g_X4_25 ok ht.1.ob dX4_begins_65 ?_
        refine z_iload_n ok dX4_begins_68 rfl ?_
        refine z_iconst ok dX4_begins_69 zic_m1 ?_
        refine z_iast ok ht.1.a13 rfl (by omega) dX4_begins_70 (fun H70 w70 => ?_)
        replace ht := ht.st 13 w70 rfl
        refine z_iinc_1 ok dX4_begins_71 (zinc1 _) ?_
        refine z_goto (tgt := 59) ok dX4_begins_74 (by decide) ?_
        exact ih (j + 1) _ (by omega) (by omega) ht
  have ht := ht0
  refine z_aload_n ok dX4_begins_0 rfl ?_
  refine z_iconst ok dX4_begins_1 zic_0 ?_
  refine p_X4_101 ok ht.1.1 dX4_begins_2 (fun H2 w2 => ?_)
  replace ht := ht.put 1 w2 rfl
  refine z_aload_n ok dX4_begins_5 rfl ?_
  refine z_bipush ok dX4_begins_6 zbc_14 ?_
  refine p_X4_104 ok ht.1.1 dX4_begins_8 (fun H8 w8 => ?_)
  replace ht := ht.put 2 w8 rfl
  refine z_aload_n ok dX4_begins_11 rfl ?_
  refine z_sipush ok dX4_begins_12 zsc_500 ?_
  refine p_X4_107 ok ht.1.1 dX4_begins_15 (fun H15 w15 => ?_)
  replace ht := ht.put 3 w15 rfl
  refine z_aload_n ok dX4_begins_18 rfl ?_
  refine z_iconst ok dX4_begins_19 zic_1 ?_
  refine p_X4_88 ok ht.1.1 dX4_begins_20 (fun H20 w20 => ?_)
  replace ht := ht.put 5 w20 rfl
  refine z_aload_n ok dX4_begins_23 rfl ?_
  refine g_X4_7 ok ht.1.ob dX4_begins_24 ?_
  refine z_iconst ok dX4_begins_27 zic_0 ?_
  refine z_iconst ok dX4_begins_28 zic_m1 ?_
  refine z_iast ok ht.1.a6 nI_0.symm (by omega) dX4_begins_29 (fun H29 w29 => ?_)
  replace ht := ht.st 6 w29 rfl
  refine z_aload_n ok dX4_begins_30 rfl ?_
  refine g_X4_13 ok ht.1.ob dX4_begins_31 ?_
  refine z_iconst ok dX4_begins_34 zic_0 ?_
  refine z_iconst ok dX4_begins_35 zic_m1 ?_
  refine z_iast ok ht.1.a7 nI_0.symm (by omega) dX4_begins_36 (fun H36 w36 => ?_)
  replace ht := ht.st 7 w36 rfl
  refine z_aload_n ok dX4_begins_37 rfl ?_
  refine z_iconst ok dX4_begins_38 zic_m1 ?_
  refine p_X4_110 ok ht.1.1 dX4_begins_39 (fun H39 w39 => ?_)
  replace ht := ht.put 8 w39 rfl
  refine z_aload_n ok dX4_begins_42 rfl ?_
  refine z_iconst ok dX4_begins_43 zic_0 ?_
  refine p_X4_95 ok ht.1.1 dX4_begins_44 (fun H44 w44 => ?_)
  replace ht := ht.put 9 w44 rfl
  refine z_aload_n ok dX4_begins_47 rfl ?_
  refine z_iconst ok dX4_begins_48 zic_0 ?_
  refine p_X4_98 ok ht.1.1 dX4_begins_49 (fun H49 w49 => ?_)
  replace ht := ht.put 14 w49 rfl
  refine z_aload_n ok dX4_begins_52 rfl ?_
  refine z_iconst ok dX4_begins_53 zic_0 ?_
  refine p_X4_113 ok ht.1.1 dX4_begins_54 (fun H54 w54 => ?_)
  replace ht := ht.put 26 w54 rfl
  refine z_iconst ok dX4_begins_57 zic_0 ?_
  refine z_istore_1 ok dX4_begins_58 ?_
  rw [hA] at ht
  exact k1 5 0 _ (by omega) (by omega) ht
set_option maxHeartbeats 4000000 in
set_option maxRecDepth 100000 in
theorem m_X4_clear {E : zE} {H : Heap} {m : Nat} {ad : Nat → Nat} {M : MS} (hm : MP E H m ad M) : zM E 22 yX4_clear (ws_ yX4_clear cX4_clear 2 (some .int)) 0 0 H [.ref m] ((fun v H1 => v = some (.int (oClear M).1) ∧ mTo E H m ad (oClear M).2 H1)) zNX := by
  refine z_of [some (.ref m), none] pn_X4 (Nat.le_of_ble_eq_true rfl) rfl (fun κ ok ho => ?_)
  have ht := mTo.rf hm
  refine z_aload_n ok dX4_clear_0 rfl ?_
  refine g_X4_98 ok ht.1.ob dX4_clear_1 ?_
  refine z_istore_1 ok dX4_clear_4 ?_
  refine z_aload_n ok dX4_clear_5 rfl ?_
  refine v_X4_81 ok (m_X4_begins ht.1) ht.1.is dX4_clear_6 zk_nx (zk_Rv (fun H9 h9 _ => ?_))
  replace ht := ht.call h9
  refine z_aload_n ok dX4_clear_9 rfl ?_
  refine z_iload_n ok dX4_clear_10 rfl ?_
  refine v_X4_161 ok (m_X4_told _ ht.1) ht.1.is dX4_clear_11 zk_nx (zk_Rw (fun H9 h9 _ => ?_))
  replace ht := ht.call h9
  exact z_iret ok dX4_clear_14 ⟨rfl, ht⟩
