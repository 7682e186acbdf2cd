/-! walks of the twin, printed by gen/model.py -/
set_option maxRecDepth 100000
set_option maxHeartbeats 4000000 in
set_option maxRecDepth 100000 in
theorem m_X4_folder {E : zE} {H : Heap} {m : Nat} {ad : Nat → Nat} {M : MS} {nf nt ni nh : Nat} (v : Int32) (hm : MP E H m ad M) (hw : mWF M nf nt ni nh) : zM E 36 yX4_folder (ws_ yX4_folder cX4_folder 2 (some .int)) 0 0 H [.ref m, .int v] (zRw (.int (oFolder M v).1) (mTo E H m ad (oFolder M v).2)) zNX := by
  refine z_of [some (.ref m), some (.int v)] pn_X4 (Nat.le_of_ble_eq_true rfl) rfl (fun κ ok ho => ?_)
  have ht := mTo.rf hm
  have hl := hw.lim
  refine z_aload_n ok dX4_folder_0 rfl ?_
  refine z_iload_n ok dX4_folder_1 rfl ?_
  refine v_X4_164 ok (m_X4_isFolder _ ht.1) ht.1.is dX4_folder_2 zk_nx (zk_R ?_)
  refine z_ifne (tgt := 14) ok dX4_folder_5 (by decide) (fun c5 => ?_) (fun c5 => ?_)
  · rw [b2i_0] at c5
    refine z_aload_n ok dX4_folder_14 rfl ?_
    refine g_X4_88 ok ht.1.ob dX4_folder_15 ?_
    refine z_bipush ok dX4_folder_18 zbc_10 ?_
    refine z_icmpne (tgt := 29) ok dX4_folder_20 (by decide) (fun c20 => ?_) (fun c20 => ?_)
    · have hlt : nf < 10 := by
        have : nf ≠ 10 := fun e => c20 (by rw [hw.nf, e]; rfl)
        omega
      refine z_aload_n ok dX4_folder_29 rfl ?_
      refine g_X4_7 ok ht.1.ob dX4_folder_30 ?_
      refine z_aload_n ok dX4_folder_33 rfl ?_
      refine g_X4_88 ok ht.1.ob dX4_folder_34 ?_
      refine z_iload_n ok dX4_folder_37 rfl ?_
      refine z_iast ok ht.1.a6 hw.nf (by omega) dX4_folder_38 (fun H38 w38 => ?_)
      replace ht := ht.st 6 w38 rfl
      refine z_aload_n ok dX4_folder_39 rfl ?_
      refine g_X4_13 ok ht.1.ob dX4_folder_40 ?_
      refine z_aload_n ok dX4_folder_43 rfl ?_
      refine g_X4_88 ok ht.1.ob dX4_folder_44 ?_
      refine z_iconst ok dX4_folder_47 zic_m1 ?_
      refine z_iast ok ht.1.a7 hw.nf (by omega) dX4_folder_48 (fun H48 w48 => ?_)
      replace ht := ht.st 7 w48 rfl
      refine z_aload_n ok dX4_folder_49 rfl ?_
      refine z_dup ok dX4_folder_50 ?_
      refine g_X4_88 ok ht.1.ob dX4_folder_51 ?_
      refine z_iconst ok dX4_folder_54 zic_1 ?_
      refine z_iadd ok dX4_folder_55 ?_
      refine p_X4_88 ok ht.1.1 dX4_folder_56 (fun H56 w56 => ?_)
      replace ht := ht.put 5 w56 rfl
      refine z_aload_n ok dX4_folder_59 rfl ?_
      refine z_aload_n ok dX4_folder_60 rfl ?_
      refine g_X4_88 ok ht.1.ob dX4_folder_61 ?_
      refine z_iconst ok dX4_folder_64 zic_1 ?_
      refine z_isub ok dX4_folder_65 ?_
      refine v_X4_161 ok (m_X4_told _ ht.1) ht.1.is dX4_folder_66 zk_nx (zk_Rw (fun H9 h9 _ => ?_))
      replace ht := ht.call h9
      exact z_iret ok dX4_folder_69 (zW_i (by simp [oFolder, oRefuse, oTold, mu, hw.c5, c5, c20]) ht)
    · refine z_aload_n ok dX4_folder_23 rfl ?_
      refine z_iconst ok dX4_folder_24 zic_2 ?_
      refine v_X4_167 ok (m_X4_refuse _ ht.1) ht.1.is dX4_folder_25 zk_nx (zk_Rw (fun H9 h9 _ => ?_))
      replace ht := ht.call h9
      exact z_iret ok dX4_folder_28 (zW_i (by rw [oFolder, if_neg c5, if_pos c20]; rfl) ht)
  · rw [b2i_0] at c5
    refine z_aload_n ok dX4_folder_8 rfl ?_
    refine z_iconst ok dX4_folder_9 zic_1 ?_
    refine v_X4_167 ok (m_X4_refuse _ ht.1) ht.1.is dX4_folder_10 zk_nx (zk_Rw (fun H9 h9 _ => ?_))
    replace ht := ht.call h9
    exact z_iret ok dX4_folder_13 (zW_i (by simp [oFolder, oRefuse, oTold, mu, hw.c5, c5]) ht)
set_option maxHeartbeats 4000000 in
set_option maxRecDepth 100000 in
theorem m_X4_tag {E : zE} {H : Heap} {m : Nat} {ad : Nat → Nat} {M : MS} {nf nt ni nh : Nat} (a s g : Int32) (hm : MP E H m ad M) (hw : mWF M nf nt ni nh) : zM E 36 yX4_tag (ws_ yX4_tag cX4_tag 4 (some .int)) 0 0 H [.ref m, .int a, .int s, .int g] (zRw (.int (oTag M a s g).1) (mTo E H m ad (oTag M a s g).2)) zNX := by
  refine z_of [some (.ref m), some (.int a), some (.int s), some (.int g)] pn_X4 (Nat.le_of_ble_eq_true rfl) rfl (fun κ ok ho => ?_)
  have ht := mTo.rf hm
  have hl := hw.lim
  refine z_iload_n ok dX4_tag_0 rfl ?_
  refine z_iconst ok dX4_tag_1 zic_0 ?_
  refine z_iconst ok dX4_tag_2 zic_2 ?_
  refine v_X4_91 ok (m_X4_in _ _ _) dX4_tag_3 zk_nx (zk_R ?_)
  refine z_ifeq (tgt := 29) ok dX4_tag_6 (by decide) (fun c6 => ?_) (fun c6 => ?_)
  · rw [b2i_0] at c6
    refine z_aload_n ok dX4_tag_29 rfl ?_
    refine z_iconst ok dX4_tag_30 zic_1 ?_
    refine v_X4_167 ok (m_X4_refuse _ ht.1) ht.1.is dX4_tag_31 zk_nx (zk_Rw (fun H9 h9 _ => ?_))
    replace ht := ht.call h9
    exact z_iret ok dX4_tag_34 (zW_i (by simp [oTag, oRefuse, oTold, mu, hw.c9, c6]) ht)
  · rw [b2i_0] at c6
    refine z_iload_n ok dX4_tag_9 rfl ?_
    refine z_iconst ok dX4_tag_10 zic_0 ?_
    refine z_iconst ok dX4_tag_11 zic_5 ?_
    refine v_X4_91 ok (m_X4_in _ _ _) dX4_tag_12 zk_nx (zk_R ?_)
    refine z_ifeq (tgt := 29) ok dX4_tag_15 (by decide) (fun c15 => ?_) (fun c15 => ?_)
    · rw [b2i_0] at c15
      refine z_aload_n ok dX4_tag_29 rfl ?_
      refine z_iconst ok dX4_tag_30 zic_1 ?_
      refine v_X4_167 ok (m_X4_refuse _ ht.1) ht.1.is dX4_tag_31 zk_nx (zk_Rw (fun H9 h9 _ => ?_))
      replace ht := ht.call h9
      exact z_iret ok dX4_tag_34 (zW_i (by simp [oTag, oRefuse, oTold, mu, hw.c9, c6, c15]) ht)
    · rw [b2i_0] at c15
      refine z_iload_n ok dX4_tag_18 rfl ?_
      refine z_iconst ok dX4_tag_19 zic_0 ?_
      refine z_sipush ok dX4_tag_20 zsc_1000 ?_
      refine v_X4_91 ok (m_X4_in _ _ _) dX4_tag_23 zk_nx (zk_R ?_)
      refine z_ifne (tgt := 35) ok dX4_tag_26 (by decide) (fun c26 => ?_) (fun c26 => ?_)
      · rw [b2i_0] at c26
        refine z_aload_n ok dX4_tag_35 rfl ?_
        refine g_X4_95 ok ht.1.ob dX4_tag_36 ?_
        refine z_bipush ok dX4_tag_39 zbc_8 ?_
        refine z_icmpne (tgt := 50) ok dX4_tag_41 (by decide) (fun c41 => ?_) (fun c41 => ?_)
        · have hlt : nt < 8 := by
            have : nt ≠ 8 := fun e => c41 (by rw [hw.nt, e]; rfl)
            omega
          refine z_aload_n ok dX4_tag_50 rfl ?_
          refine g_X4_16 ok ht.1.ob dX4_tag_51 ?_
          refine z_aload_n ok dX4_tag_54 rfl ?_
          refine g_X4_95 ok ht.1.ob dX4_tag_55 ?_
          refine z_iload_n ok dX4_tag_58 rfl ?_
          refine z_iast ok ht.1.a10 hw.nt (by omega) dX4_tag_59 (fun H59 w59 => ?_)
          replace ht := ht.st 10 w59 rfl
          refine z_aload_n ok dX4_tag_60 rfl ?_
          refine g_X4_19 ok ht.1.ob dX4_tag_61 ?_
          refine z_aload_n ok dX4_tag_64 rfl ?_
          refine g_X4_95 ok ht.1.ob dX4_tag_65 ?_
          refine z_iload_n ok dX4_tag_68 rfl ?_
          refine z_iast ok ht.1.a11 hw.nt (by omega) dX4_tag_69 (fun H69 w69 => ?_)
          replace ht := ht.st 11 w69 rfl
          refine z_aload_n ok dX4_tag_70 rfl ?_
          refine g_X4_22 ok ht.1.ob dX4_tag_71 ?_
          refine z_aload_n ok dX4_tag_74 rfl ?_
          refine g_X4_95 ok ht.1.ob dX4_tag_75 ?_
          refine z_iload_n ok dX4_tag_78 rfl ?_
          refine z_iast ok ht.1.a12 hw.nt (by omega) dX4_tag_79 (fun H79 w79 => ?_)
          replace ht := ht.st 12 w79 rfl
          refine z_aload_n ok dX4_tag_80 rfl ?_
          refine z_dup ok dX4_tag_81 ?_
          refine g_X4_95 ok ht.1.ob dX4_tag_82 ?_
          refine z_iconst ok dX4_tag_85 zic_1 ?_
          refine z_iadd ok dX4_tag_86 ?_
          refine p_X4_95 ok ht.1.1 dX4_tag_87 (fun H87 w87 => ?_)
          replace ht := ht.put 9 w87 rfl
          refine z_aload_n ok dX4_tag_90 rfl ?_
          refine z_aload_n ok dX4_tag_91 rfl ?_
          refine g_X4_95 ok ht.1.ob dX4_tag_92 ?_
          refine z_iconst ok dX4_tag_95 zic_1 ?_
          refine z_isub ok dX4_tag_96 ?_
          refine v_X4_161 ok (m_X4_told _ ht.1) ht.1.is dX4_tag_97 zk_nx (zk_Rw (fun H9 h9 _ => ?_))
          replace ht := ht.call h9
          exact z_iret ok dX4_tag_100 (zW_i (by simp [oTag, oRefuse, oTold, mu, hw.c9, c6, c15, c26, c41]) ht)
        · refine z_aload_n ok dX4_tag_44 rfl ?_
          refine z_iconst ok dX4_tag_45 zic_2 ?_
          refine v_X4_167 ok (m_X4_refuse _ ht.1) ht.1.is dX4_tag_46 zk_nx (zk_Rw (fun H9 h9 _ => ?_))
          replace ht := ht.call h9
          exact z_iret ok dX4_tag_49 (zW_i (by simp [oTag, oRefuse, oTold, mu, hw.c9, c6, c15, c26, c41]) ht)
      · rw [b2i_0] at c26
        refine z_aload_n ok dX4_tag_29 rfl ?_
        refine z_iconst ok dX4_tag_30 zic_1 ?_
        refine v_X4_167 ok (m_X4_refuse _ ht.1) ht.1.is dX4_tag_31 zk_nx (zk_Rw (fun H9 h9 _ => ?_))
        replace ht := ht.call h9
        exact z_iret ok dX4_tag_34 (zW_i (by simp [oTag, oRefuse, oTold, mu, hw.c9, c6, c15, c26]) ht)
set_option maxHeartbeats 4000000 in
set_option maxRecDepth 100000 in
theorem m_X4_tagFolder {E : zE} {H : Heap} {m : Nat} {ad : Nat → Nat} {M : MS} {nf nt ni nh : Nat} (f t : Int32) (hm : MP E H m ad M) (hw : mWF M nf nt ni nh) : zM E 36 yX4_tagFolder (ws_ yX4_tagFolder cX4_tagFolder 4 (some .int)) 0 0 H [.ref m, .int f, .int t] (zRw (.int (oTagFolder M f t).1) (mTo E H m ad (oTagFolder M f t).2)) zNX := by
  refine z_of [some (.ref m), some (.int f), some (.int t), none] pn_X4 (Nat.le_of_ble_eq_true rfl) rfl (fun κ ok ho => ?_)
  have ht := mTo.rf hm
  have hl := hw.lim
  refine z_aload_n ok dX4_tagFolder_0 rfl ?_
  refine z_iload_n ok dX4_tagFolder_1 rfl ?_
  refine v_X4_164 ok (m_X4_isFolder _ ht.1) ht.1.is dX4_tagFolder_2 zk_nx (zk_R ?_)
  refine z_ifeq (tgt := 16) ok dX4_tagFolder_5 (by decide) (fun c5 => ?_) (fun c5 => ?_)
  · rw [b2i_0] at c5
    have ej : True := trivial
    refine z_aload_n ok dX4_tagFolder_16 rfl ?_
    refine z_iconst ok dX4_tagFolder_17 zic_1 ?_
    refine v_X4_167 ok (m_X4_refuse _ ht.1) ht.1.is dX4_tagFolder_18 zk_nx (zk_Rw (fun H9 h9 _ => ?_))
    replace ht := ht.call h9
    exact z_iret ok dX4_tagFolder_21 (zW_i (by simp [oTagFolder, oRefuse, oTold, mu, ej, c5]) ht)
  · rw [b2i_0] at c5
    obtain ⟨j, hj, rfl⟩ := mIn_idx (n := nf) (by rw [← hw.nf]; simpa using c5) (by omega)
    have ej : cl (nI j) = j := cl_nI (by omega)
    refine z_aload_n ok dX4_tagFolder_8 rfl ?_
    refine z_iload_n ok dX4_tagFolder_9 rfl ?_
    refine v_X4_170 ok (m_X4_isTagOrNone _ ht.1) ht.1.is dX4_tagFolder_10 zk_nx (zk_R ?_)
    refine z_ifne (tgt := 22) ok dX4_tagFolder_13 (by decide) (fun c13 => ?_) (fun c13 => ?_)
    · rw [b2i_0] at c13
      refine z_aload_n ok dX4_tagFolder_22 rfl ?_
      refine g_X4_13 ok ht.1.ob dX4_tagFolder_23 ?_
      refine z_iload_n ok dX4_tagFolder_26 rfl ?_
      refine z_iald ok ht.1.a7 rfl (by omega) dX4_tagFolder_27 ?_
      refine z_istore_3 ok dX4_tagFolder_28 ?_
      refine z_aload_n ok dX4_tagFolder_29 rfl ?_
      refine g_X4_13 ok ht.1.ob dX4_tagFolder_30 ?_
      refine z_iload_n ok dX4_tagFolder_33 rfl ?_
      refine z_iload_n ok dX4_tagFolder_34 rfl ?_
      refine z_iast ok ht.1.a7 rfl (by omega) dX4_tagFolder_35 (fun H35 w35 => ?_)
      replace ht := ht.st 7 w35 rfl
      refine z_aload_n ok dX4_tagFolder_36 rfl ?_
      refine z_iload_n ok dX4_tagFolder_37 rfl ?_
      refine v_X4_161 ok (m_X4_told _ ht.1) ht.1.is dX4_tagFolder_38 zk_nx (zk_Rw (fun H9 h9 _ => ?_))
      replace ht := ht.call h9
      exact z_iret ok dX4_tagFolder_41 (zW_i (by simp [oTagFolder, oRefuse, oTold, mu, ej, c5, c13]) ht)
    · rw [b2i_0] at c13
      refine z_aload_n ok dX4_tagFolder_16 rfl ?_
      refine z_iconst ok dX4_tagFolder_17 zic_1 ?_
      refine v_X4_167 ok (m_X4_refuse _ ht.1) ht.1.is dX4_tagFolder_18 zk_nx (zk_Rw (fun H9 h9 _ => ?_))
      replace ht := ht.call h9
      exact z_iret ok dX4_tagFolder_21 (zW_i (by simp [oTagFolder, oRefuse, oTold, mu, ej, c5, c13]) ht)
set_option maxHeartbeats 4000000 in
set_option maxRecDepth 100000 in
theorem m_X4_tagItem {E : zE} {H : Heap} {m : Nat} {ad : Nat → Nat} {M : MS} {nf nt ni nh : Nat} (i t : Int32) (hm : MP E H m ad M) (hw : mWF M nf nt ni nh) : zM E 36 yX4_tagItem (ws_ yX4_tagItem cX4_tagItem 4 (some .int)) 0 0 H [.ref m, .int i, .int t] (zRw (.int (oTagItem M i t).1) (mTo E H m ad (oTagItem M i t).2)) zNX := by
  refine z_of [some (.ref m), some (.int i), some (.int t), none] pn_X4 (Nat.le_of_ble_eq_true rfl) rfl (fun κ ok ho => ?_)
  have ht := mTo.rf hm
  have hl := hw.lim
  refine z_aload_n ok dX4_tagItem_0 rfl ?_
  refine z_iload_n ok dX4_tagItem_1 rfl ?_
  refine v_X4_173 ok (m_X4_isItem _ ht.1) ht.1.is dX4_tagItem_2 zk_nx (zk_R ?_)
  refine z_ifeq (tgt := 16) ok dX4_tagItem_5 (by decide) (fun c5 => ?_) (fun c5 => ?_)
  · rw [b2i_0] at c5
    have ej : True := trivial
    refine z_aload_n ok dX4_tagItem_16 rfl ?_
    refine z_iconst ok dX4_tagItem_17 zic_1 ?_
    refine v_X4_167 ok (m_X4_refuse _ ht.1) ht.1.is dX4_tagItem_18 zk_nx (zk_Rw (fun H9 h9 _ => ?_))
    replace ht := ht.call h9
    exact z_iret ok dX4_tagItem_21 (zW_i (by simp [oTagItem, oRefuse, oTold, mu, ej, c5]) ht)
  · rw [b2i_0] at c5
    obtain ⟨j, hj, rfl⟩ := mIn_idx (n := ni) (by rw [← hw.ni]; simpa using c5) (by omega)
    have ej : cl (nI j) = j := cl_nI (by omega)
    refine z_aload_n ok dX4_tagItem_8 rfl ?_
    refine z_iload_n ok dX4_tagItem_9 rfl ?_
    refine v_X4_170 ok (m_X4_isTagOrNone _ ht.1) ht.1.is dX4_tagItem_10 zk_nx (zk_R ?_)
    refine z_ifne (tgt := 22) ok dX4_tagItem_13 (by decide) (fun c13 => ?_) (fun c13 => ?_)
    · rw [b2i_0] at c13
      refine z_aload_n ok dX4_tagItem_22 rfl ?_
      refine g_X4_49 ok ht.1.ob dX4_tagItem_23 ?_
      refine z_iload_n ok dX4_tagItem_26 rfl ?_
      refine z_iald ok ht.1.a22 rfl (by omega) dX4_tagItem_27 ?_
      refine z_iconst ok dX4_tagItem_28 zic_3 ?_
      refine z_icmpne (tgt := 38) ok dX4_tagItem_29 (by decide) (fun c29 => ?_) (fun c29 => ?_)
      · refine z_aload_n ok dX4_tagItem_38 rfl ?_
        refine g_X4_43 ok ht.1.ob dX4_tagItem_39 ?_
        refine z_iload_n ok dX4_tagItem_42 rfl ?_
        refine z_iald ok ht.1.a20 rfl (by omega) dX4_tagItem_43 ?_
        refine z_istore_3 ok dX4_tagItem_44 ?_
        refine z_aload_n ok dX4_tagItem_45 rfl ?_
        refine g_X4_43 ok ht.1.ob dX4_tagItem_46 ?_
        refine z_iload_n ok dX4_tagItem_49 rfl ?_
        refine z_iload_n ok dX4_tagItem_50 rfl ?_
        refine z_iast ok ht.1.a20 rfl (by omega) dX4_tagItem_51 (fun H51 w51 => ?_)
        replace ht := ht.st 20 w51 rfl
        refine z_aload_n ok dX4_tagItem_52 rfl ?_
        refine z_iload_n ok dX4_tagItem_53 rfl ?_
        refine v_X4_161 ok (m_X4_told _ ht.1) ht.1.is dX4_tagItem_54 zk_nx (zk_Rw (fun H9 h9 _ => ?_))
        replace ht := ht.call h9
        exact z_iret ok dX4_tagItem_57 (zW_i (by simp [oTagItem, oRefuse, oTold, mu, ej, c5, c13, c29]) ht)
      · refine z_aload_n ok dX4_tagItem_32 rfl ?_
        refine z_iconst ok dX4_tagItem_33 zic_2 ?_
        refine v_X4_167 ok (m_X4_refuse _ ht.1) ht.1.is dX4_tagItem_34 zk_nx (zk_Rw (fun H9 h9 _ => ?_))
        replace ht := ht.call h9
        exact z_iret ok dX4_tagItem_37 (zW_i (by simp [oTagItem, oRefuse, oTold, mu, ej, c5, c13, c29]) ht)
    · rw [b2i_0] at c13
      refine z_aload_n ok dX4_tagItem_16 rfl ?_
      refine z_iconst ok dX4_tagItem_17 zic_1 ?_
      refine v_X4_167 ok (m_X4_refuse _ ht.1) ht.1.is dX4_tagItem_18 zk_nx (zk_Rw (fun H9 h9 _ => ?_))
      replace ht := ht.call h9
      exact z_iret ok dX4_tagItem_21 (zW_i (by simp [oTagItem, oRefuse, oTold, mu, ej, c5, c13]) ht)
set_option maxHeartbeats 4000000 in
set_option maxRecDepth 100000 in
theorem m_X4_byDefault {E : zE} {H : Heap} {m : Nat} {ad : Nat → Nat} {M : MS} {nf nt ni nh : Nat} (t : Int32) (hm : MP E H m ad M) (hw : mWF M nf nt ni nh) : zM E 36 yX4_byDefault (ws_ yX4_byDefault cX4_byDefault 3 (some .int)) 0 0 H [.ref m, .int t] (zRw (.int (oByDefault M t).1) (mTo E H m ad (oByDefault M t).2)) zNX := by
  refine z_of [some (.ref m), some (.int t), none] pn_X4 (Nat.le_of_ble_eq_true rfl) rfl (fun κ ok ho => ?_)
  have ht := mTo.rf hm
  have hl := hw.lim
  refine z_aload_n ok dX4_byDefault_0 rfl ?_
  refine z_iload_n ok dX4_byDefault_1 rfl ?_
  refine v_X4_170 ok (m_X4_isTagOrNone _ ht.1) ht.1.is dX4_byDefault_2 zk_nx (zk_R ?_)
  refine z_ifne (tgt := 14) ok dX4_byDefault_5 (by decide) (fun c5 => ?_) (fun c5 => ?_)
  · rw [b2i_0] at c5
    refine z_aload_n ok dX4_byDefault_14 rfl ?_
    refine g_X4_110 ok ht.1.ob dX4_byDefault_15 ?_
    refine z_istore_2 ok dX4_byDefault_18 ?_
    refine z_aload_n ok dX4_byDefault_19 rfl ?_
    refine z_iload_n ok dX4_byDefault_20 rfl ?_
    refine p_X4_110 ok ht.1.1 dX4_byDefault_21 (fun H21 w21 => ?_)
    replace ht := ht.put 8 w21 rfl
    refine z_aload_n ok dX4_byDefault_24 rfl ?_
    refine z_iload_n ok dX4_byDefault_25 rfl ?_
    refine v_X4_161 ok (m_X4_told _ ht.1) ht.1.is dX4_byDefault_26 zk_nx (zk_Rw (fun H9 h9 _ => ?_))
    replace ht := ht.call h9
    exact z_iret ok dX4_byDefault_29 (zW_i (by simp [oByDefault, oRefuse, oTold, mu, c5]) ht)
  · rw [b2i_0] at c5
    refine z_aload_n ok dX4_byDefault_8 rfl ?_
    refine z_iconst ok dX4_byDefault_9 zic_1 ?_
    refine v_X4_167 ok (m_X4_refuse _ ht.1) ht.1.is dX4_byDefault_10 zk_nx (zk_Rw (fun H9 h9 _ => ?_))
    replace ht := ht.call h9
    exact z_iret ok dX4_byDefault_13 (zW_i (by simp [oByDefault, oRefuse, oTold, mu, c5]) ht)
set_option maxHeartbeats 4000000 in
set_option maxRecDepth 100000 in
theorem m_X4_item {E : zE} {H : Heap} {m : Nat} {ad : Nat → Nat} {M : MS} {nf nt ni nh : Nat} (f s w z : Int32) (hm : MP E H m ad M) (hw : mWF M nf nt ni nh) : zM E 36 yX4_item (ws_ yX4_item cX4_item 5 (some .int)) 0 0 H [.ref m, .int f, .int s, .int w, .int z] (zRw (.int (oItem M f s w z).1) (mTo E H m ad (oItem M f s w z).2)) zNX := by
  refine z_of [some (.ref m), some (.int f), some (.int s), some (.int w), some (.int z)] pn_X4 (Nat.le_of_ble_eq_true rfl) rfl (fun κ ok ho => ?_)
  have ht := mTo.rf hm
  have hl := hw.lim
  refine z_aload_n ok dX4_item_0 rfl ?_
  refine z_iload_n ok dX4_item_1 rfl ?_
  refine v_X4_164 ok (m_X4_isFolder _ ht.1) ht.1.is dX4_item_2 zk_nx (zk_R ?_)
  refine z_ifne (tgt := 14) ok dX4_item_5 (by decide) (fun c5 => ?_) (fun c5 => ?_)
  · rw [b2i_0] at c5
    refine z_iload_n ok dX4_item_14 rfl ?_
    refine v_X4_176 ok (m_X4_isDigit _) dX4_item_15 zk_nx (zk_R ?_)
    refine z_ifeq (tgt := 39) ok dX4_item_18 (by decide) (fun c18 => ?_) (fun c18 => ?_)
    · rw [b2i_0] at c18
      refine z_aload_n ok dX4_item_39 rfl ?_
      refine z_iconst ok dX4_item_40 zic_2 ?_
      refine v_X4_167 ok (m_X4_refuse _ ht.1) ht.1.is dX4_item_41 zk_nx (zk_Rw (fun H9 h9 _ => ?_))
      replace ht := ht.call h9
      exact z_iret ok dX4_item_44 (zW_i (by simp [oItem, oRefuse, oTold, mu, hw.c14, c5, c18]) ht)
    · rw [b2i_0] at c18
      refine z_iload_n ok dX4_item_21 rfl ?_
      refine v_X4_176 ok (m_X4_isDigit _) dX4_item_22 zk_nx (zk_R ?_)
      refine z_ifeq (tgt := 39) ok dX4_item_25 (by decide) (fun c25 => ?_) (fun c25 => ?_)
      · rw [b2i_0] at c25
        refine z_aload_n ok dX4_item_39 rfl ?_
        refine z_iconst ok dX4_item_40 zic_2 ?_
        refine v_X4_167 ok (m_X4_refuse _ ht.1) ht.1.is dX4_item_41 zk_nx (zk_Rw (fun H9 h9 _ => ?_))
        replace ht := ht.call h9
        exact z_iret ok dX4_item_44 (zW_i (by simp [oItem, oRefuse, oTold, mu, hw.c14, c5, c18, c25]) ht)
      · rw [b2i_0] at c25
        refine z_iload ok dX4_item_28 rfl ?_
        refine z_iconst ok dX4_item_30 zic_1 ?_
        refine z_bipush ok dX4_item_31 zbc_50 ?_
        refine v_X4_91 ok (m_X4_in _ _ _) dX4_item_33 zk_nx (zk_R ?_)
        refine z_ifne (tgt := 45) ok dX4_item_36 (by decide) (fun c36 => ?_) (fun c36 => ?_)
        · rw [b2i_0] at c36
          refine z_aload_n ok dX4_item_45 rfl ?_
          refine g_X4_98 ok ht.1.ob dX4_item_46 ?_
          refine z_bipush ok dX4_item_49 zbc_40 ?_
          refine z_icmpne (tgt := 60) ok dX4_item_51 (by decide) (fun c51 => ?_) (fun c51 => ?_)
          · have hlt : ni < 40 := by
              have : ni ≠ 40 := fun e => c51 (by rw [hw.ni, e]; rfl)
              omega
            refine z_aload_n ok dX4_item_60 rfl ?_
            refine g_X4_28 ok ht.1.ob dX4_item_61 ?_
            refine z_aload_n ok dX4_item_64 rfl ?_
            refine g_X4_98 ok ht.1.ob dX4_item_65 ?_
            refine z_iload_n ok dX4_item_68 rfl ?_
            refine z_iast ok ht.1.a15 hw.ni (by omega) dX4_item_69 (fun H69 w69 => ?_)
            replace ht := ht.st 15 w69 rfl
            refine z_aload_n ok dX4_item_70 rfl ?_
            refine g_X4_31 ok ht.1.ob dX4_item_71 ?_
            refine z_aload_n ok dX4_item_74 rfl ?_
            refine g_X4_98 ok ht.1.ob dX4_item_75 ?_
            refine z_iload_n ok dX4_item_78 rfl ?_
            refine z_iast ok ht.1.a16 hw.ni (by omega) dX4_item_79 (fun H79 w79 => ?_)
            replace ht := ht.st 16 w79 rfl
            refine z_aload_n ok dX4_item_80 rfl ?_
            refine g_X4_34 ok ht.1.ob dX4_item_81 ?_
            refine z_aload_n ok dX4_item_84 rfl ?_
            refine g_X4_98 ok ht.1.ob dX4_item_85 ?_
            refine z_iload_n ok dX4_item_88 rfl ?_
            refine z_iast ok ht.1.a17 hw.ni (by omega) dX4_item_89 (fun H89 w89 => ?_)
            replace ht := ht.st 17 w89 rfl
            refine z_aload_n ok dX4_item_90 rfl ?_
            refine g_X4_37 ok ht.1.ob dX4_item_91 ?_
            refine z_aload_n ok dX4_item_94 rfl ?_
            refine g_X4_98 ok ht.1.ob dX4_item_95 ?_
            refine z_iload ok dX4_item_98 rfl ?_
            refine z_iast ok ht.1.a18 hw.ni (by omega) dX4_item_100 (fun H100 w100 => ?_)
            replace ht := ht.st 18 w100 rfl
            refine z_aload_n ok dX4_item_101 rfl ?_
            refine g_X4_40 ok ht.1.ob dX4_item_102 ?_
            refine z_aload_n ok dX4_item_105 rfl ?_
            refine g_X4_98 ok ht.1.ob dX4_item_106 ?_
            refine z_aload_n ok dX4_item_109 rfl ?_
            refine g_X4_101 ok ht.1.ob dX4_item_110 ?_
            refine z_iast ok ht.1.a19 hw.ni (by omega) dX4_item_113 (fun H113 w113 => ?_)
            replace ht := ht.st 19 w113 rfl
            refine z_aload_n ok dX4_item_114 rfl ?_
            refine g_X4_43 ok ht.1.ob dX4_item_115 ?_
            refine z_aload_n ok dX4_item_118 rfl ?_
            refine g_X4_98 ok ht.1.ob dX4_item_119 ?_
            refine z_iconst ok dX4_item_122 zic_m1 ?_
            refine z_iast ok ht.1.a20 hw.ni (by omega) dX4_item_123 (fun H123 w123 => ?_)
            replace ht := ht.st 20 w123 rfl
            refine z_aload_n ok dX4_item_124 rfl ?_
            refine g_X4_46 ok ht.1.ob dX4_item_125 ?_
            refine z_aload_n ok dX4_item_128 rfl ?_
            refine g_X4_98 ok ht.1.ob dX4_item_129 ?_
            refine z_iconst ok dX4_item_132 zic_m1 ?_
            refine z_iast ok ht.1.a21 hw.ni (by omega) dX4_item_133 (fun H133 w133 => ?_)
            replace ht := ht.st 21 w133 rfl
            refine z_aload_n ok dX4_item_134 rfl ?_
            refine g_X4_49 ok ht.1.ob dX4_item_135 ?_
            refine z_aload_n ok dX4_item_138 rfl ?_
            refine g_X4_98 ok ht.1.ob dX4_item_139 ?_
            refine z_iconst ok dX4_item_142 zic_0 ?_
            refine z_iast ok ht.1.a22 hw.ni (by omega) dX4_item_143 (fun H143 w143 => ?_)
            replace ht := ht.st 22 w143 rfl
            refine z_aload_n ok dX4_item_144 rfl ?_
            refine z_dup ok dX4_item_145 ?_
            refine g_X4_98 ok ht.1.ob dX4_item_146 ?_
            refine z_iconst ok dX4_item_149 zic_1 ?_
            refine z_iadd ok dX4_item_150 ?_
            refine p_X4_98 ok ht.1.1 dX4_item_151 (fun H151 w151 => ?_)
            replace ht := ht.put 14 w151 rfl
            refine z_aload_n ok dX4_item_154 rfl ?_
            refine z_aload_n ok dX4_item_155 rfl ?_
            refine g_X4_98 ok ht.1.ob dX4_item_156 ?_
            refine z_iconst ok dX4_item_159 zic_1 ?_
            refine z_isub ok dX4_item_160 ?_
            refine v_X4_161 ok (m_X4_told _ ht.1) ht.1.is dX4_item_161 zk_nx (zk_Rw (fun H9 h9 _ => ?_))
            replace ht := ht.call h9
            exact z_iret ok dX4_item_164 (zW_i (by simp [oItem, oRefuse, oTold, mu, hw.c14, c5, c18, c25, c36, c51]) ht)
          · refine z_aload_n ok dX4_item_54 rfl ?_
            refine z_iconst ok dX4_item_55 zic_3 ?_
            refine v_X4_167 ok (m_X4_refuse _ ht.1) ht.1.is dX4_item_56 zk_nx (zk_Rw (fun H9 h9 _ => ?_))
            replace ht := ht.call h9
            exact z_iret ok dX4_item_59 (zW_i (by simp [oItem, oRefuse, oTold, mu, hw.c14, c5, c18, c25, c36, c51]) ht)
        · rw [b2i_0] at c36
          refine z_aload_n ok dX4_item_39 rfl ?_
          refine z_iconst ok dX4_item_40 zic_2 ?_
          refine v_X4_167 ok (m_X4_refuse _ ht.1) ht.1.is dX4_item_41 zk_nx (zk_Rw (fun H9 h9 _ => ?_))
          replace ht := ht.call h9
          exact z_iret ok dX4_item_44 (zW_i (by simp [oItem, oRefuse, oTold, mu, hw.c14, c5, c18, c25, c36]) ht)
  · rw [b2i_0] at c5
    refine z_aload_n ok dX4_item_8 rfl ?_
    refine z_iconst ok dX4_item_9 zic_1 ?_
    refine v_X4_167 ok (m_X4_refuse _ ht.1) ht.1.is dX4_item_10 zk_nx (zk_Rw (fun H9 h9 _ => ?_))
    replace ht := ht.call h9
    exact z_iret ok dX4_item_13 (zW_i (by simp [oItem, oRefuse, oTold, mu, hw.c14, c5]) ht)
set_option maxHeartbeats 4000000 in
set_option maxRecDepth 100000 in
theorem m_X4_meeting {E : zE} {H : Heap} {m : Nat} {ad : Nat → Nat} {M : MS} {nf nt ni nh : Nat} (i t : Int32) (hm : MP E H m ad M) (hw : mWF M nf nt ni nh) : zM E 36 yX4_meeting (ws_ yX4_meeting cX4_meeting 4 (some .int)) 0 0 H [.ref m, .int i, .int t] (zRw (.int (oMeeting M i t).1) (mTo E H m ad (oMeeting M i t).2)) zNX := by
  refine z_of [some (.ref m), some (.int i), some (.int t), none] pn_X4 (Nat.le_of_ble_eq_true rfl) rfl (fun κ ok ho => ?_)
  have ht := mTo.rf hm
  have hl := hw.lim
  refine z_aload_n ok dX4_meeting_0 rfl ?_
  refine z_iload_n ok dX4_meeting_1 rfl ?_
  refine v_X4_173 ok (m_X4_isItem _ ht.1) ht.1.is dX4_meeting_2 zk_nx (zk_R ?_)
  refine z_ifne (tgt := 14) ok dX4_meeting_5 (by decide) (fun c5 => ?_) (fun c5 => ?_)
  · rw [b2i_0] at c5
    obtain ⟨j, hj, rfl⟩ := mIn_idx (n := ni) (by rw [← hw.ni]; simpa using c5) (by omega)
    have ej : cl (nI j) = j := cl_nI (by omega)
    refine z_iload_n ok dX4_meeting_14 rfl ?_
    refine z_iconst ok dX4_meeting_15 zic_m1 ?_
    refine z_ldc ok q2078 dX4_meeting_16 ?_
    refine v_X4_91 ok (m_X4_in _ _ _) dX4_meeting_18 zk_nx (zk_R ?_)
    refine z_ifne (tgt := 30) ok dX4_meeting_21 (by decide) (fun c21 => ?_) (fun c21 => ?_)
    · rw [b2i_0] at c21
      refine z_aload_n ok dX4_meeting_30 rfl ?_
      refine g_X4_49 ok ht.1.ob dX4_meeting_31 ?_
      refine z_iload_n ok dX4_meeting_34 rfl ?_
      refine z_iald ok ht.1.a22 rfl (by omega) dX4_meeting_35 ?_
      refine z_iconst ok dX4_meeting_36 zic_3 ?_
      refine z_icmpne (tgt := 46) ok dX4_meeting_37 (by decide) (fun c37 => ?_) (fun c37 => ?_)
      · refine z_aload_n ok dX4_meeting_46 rfl ?_
        refine g_X4_46 ok ht.1.ob dX4_meeting_47 ?_
        refine z_iload_n ok dX4_meeting_50 rfl ?_
        refine z_iald ok ht.1.a21 rfl (by omega) dX4_meeting_51 ?_
        refine z_istore_3 ok dX4_meeting_52 ?_
        refine z_aload_n ok dX4_meeting_53 rfl ?_
        refine g_X4_46 ok ht.1.ob dX4_meeting_54 ?_
        refine z_iload_n ok dX4_meeting_57 rfl ?_
        refine z_iload_n ok dX4_meeting_58 rfl ?_
        refine z_iast ok ht.1.a21 rfl (by omega) dX4_meeting_59 (fun H59 w59 => ?_)
        replace ht := ht.st 21 w59 rfl
        refine z_aload_n ok dX4_meeting_60 rfl ?_
        refine z_iload_n ok dX4_meeting_61 rfl ?_
        refine v_X4_161 ok (m_X4_told _ ht.1) ht.1.is dX4_meeting_62 zk_nx (zk_Rw (fun H9 h9 _ => ?_))
        replace ht := ht.call h9
        exact z_iret ok dX4_meeting_65 (zW_i (by simp [oMeeting, oRefuse, oTold, mu, ej, c5, c21, c37]) ht)
      · refine z_aload_n ok dX4_meeting_40 rfl ?_
        refine z_iconst ok dX4_meeting_41 zic_3 ?_
        refine v_X4_167 ok (m_X4_refuse _ ht.1) ht.1.is dX4_meeting_42 zk_nx (zk_Rw (fun H9 h9 _ => ?_))
        replace ht := ht.call h9
        exact z_iret ok dX4_meeting_45 (zW_i (by simp [oMeeting, oRefuse, oTold, mu, ej, c5, c21, c37]) ht)
    · rw [b2i_0] at c21
      refine z_aload_n ok dX4_meeting_24 rfl ?_
      refine z_iconst ok dX4_meeting_25 zic_2 ?_
      refine v_X4_167 ok (m_X4_refuse _ ht.1) ht.1.is dX4_meeting_26 zk_nx (zk_Rw (fun H9 h9 _ => ?_))
      replace ht := ht.call h9
      exact z_iret ok dX4_meeting_29 (zW_i (by simp [oMeeting, oRefuse, oTold, mu, ej, c5, c21]) ht)
  · rw [b2i_0] at c5
    have ej : True := trivial
    refine z_aload_n ok dX4_meeting_8 rfl ?_
    refine z_iconst ok dX4_meeting_9 zic_1 ?_
    refine v_X4_167 ok (m_X4_refuse _ ht.1) ht.1.is dX4_meeting_10 zk_nx (zk_Rw (fun H9 h9 _ => ?_))
    replace ht := ht.call h9
    exact z_iret ok dX4_meeting_13 (zW_i (by simp [oMeeting, oRefuse, oTold, mu, ej, c5]) ht)
set_option maxHeartbeats 4000000 in
set_option maxRecDepth 100000 in
theorem m_X4_event {E : zE} {H : Heap} {m : Nat} {ad : Nat → Nat} {M : MS} {nf nt ni nh : Nat} (e t : Int32) (hm : MP E H m ad M) (hw : mWF M nf nt ni nh) : zM E 36 yX4_event (ws_ yX4_event cX4_event 4 (some .int)) 0 0 H [.ref m, .int e, .int t] (zRw (.int (oEvent M e t).1) (mTo E H m ad (oEvent M e t).2)) zNX := by
  refine z_of [some (.ref m), some (.int e), some (.int t), none] pn_X4 (Nat.le_of_ble_eq_true rfl) rfl (fun κ ok ho => ?_)
  have ht := mTo.rf hm
  have hl := hw.lim
  refine z_iload_n ok dX4_event_0 rfl ?_
  refine z_iconst ok dX4_event_1 zic_0 ?_
  refine z_iconst ok dX4_event_2 zic_3 ?_
  refine v_X4_91 ok (m_X4_in _ _ _) dX4_event_3 zk_nx (zk_R ?_)
  refine z_ifeq (tgt := 19) ok dX4_event_6 (by decide) (fun c6 => ?_) (fun c6 => ?_)
  · rw [b2i_0] at c6
    have ej : True := trivial
    refine z_aload_n ok dX4_event_19 rfl ?_
    refine z_iconst ok dX4_event_20 zic_1 ?_
    refine v_X4_167 ok (m_X4_refuse _ ht.1) ht.1.is dX4_event_21 zk_nx (zk_Rw (fun H9 h9 _ => ?_))
    replace ht := ht.call h9
    exact z_iret ok dX4_event_24 (zW_i (by simp [oEvent, oRefuse, oTold, mu, ej, c6]) ht)
  · rw [b2i_0] at c6
    obtain ⟨j, hj, rfl⟩ := mIn_idx (n := 4) (by rw [show (nI 4 - 1 : Int32) = 3 by decide]; simpa using c6) (by omega)
    have ej : cl (nI j) = j := cl_nI (by omega)
    refine z_iload_n ok dX4_event_9 rfl ?_
    refine z_iconst ok dX4_event_10 zic_m1 ?_
    refine z_ldc ok q2078 dX4_event_11 ?_
    refine v_X4_91 ok (m_X4_in _ _ _) dX4_event_13 zk_nx (zk_R ?_)
    refine z_ifne (tgt := 25) ok dX4_event_16 (by decide) (fun c16 => ?_) (fun c16 => ?_)
    · rw [b2i_0] at c16
      refine z_aload_n ok dX4_event_25 rfl ?_
      refine g_X4_25 ok ht.1.ob dX4_event_26 ?_
      refine z_iload_n ok dX4_event_29 rfl ?_
      refine z_iald ok ht.1.a13 rfl (by omega) dX4_event_30 ?_
      refine z_istore_3 ok dX4_event_31 ?_
      refine z_aload_n ok dX4_event_32 rfl ?_
      refine g_X4_25 ok ht.1.ob dX4_event_33 ?_
      refine z_iload_n ok dX4_event_36 rfl ?_
      refine z_iload_n ok dX4_event_37 rfl ?_
      refine z_iast ok ht.1.a13 rfl (by omega) dX4_event_38 (fun H38 w38 => ?_)
      replace ht := ht.st 13 w38 rfl
      refine z_aload_n ok dX4_event_39 rfl ?_
      refine z_iload_n ok dX4_event_40 rfl ?_
      refine v_X4_161 ok (m_X4_told _ ht.1) ht.1.is dX4_event_41 zk_nx (zk_Rw (fun H9 h9 _ => ?_))
      replace ht := ht.call h9
      exact z_iret ok dX4_event_44 (zW_i (by simp [oEvent, oRefuse, oTold, mu, ej, c6, c16]) ht)
    · rw [b2i_0] at c16
      refine z_aload_n ok dX4_event_19 rfl ?_
      refine z_iconst ok dX4_event_20 zic_1 ?_
      refine v_X4_167 ok (m_X4_refuse _ ht.1) ht.1.is dX4_event_21 zk_nx (zk_Rw (fun H9 h9 _ => ?_))
      replace ht := ht.call h9
      exact z_iret ok dX4_event_24 (zW_i (by simp [oEvent, oRefuse, oTold, mu, ej, c6, c16]) ht)
set_option maxHeartbeats 4000000 in
set_option maxRecDepth 100000 in
theorem m_X4_move {E : zE} {H : Heap} {m : Nat} {ad : Nat → Nat} {M : MS} {nf nt ni nh : Nat} (i f : Int32) (hm : MP E H m ad M) (hw : mWF M nf nt ni nh) : zM E 36 yX4_move (ws_ yX4_move cX4_move 4 (some .int)) 0 0 H [.ref m, .int i, .int f] (zRw (.int (oMove M i f).1) (mTo E H m ad (oMove M i f).2)) zNX := by
  refine z_of [some (.ref m), some (.int i), some (.int f), none] pn_X4 (Nat.le_of_ble_eq_true rfl) rfl (fun κ ok ho => ?_)
  have ht := mTo.rf hm
  have hl := hw.lim
  refine z_aload_n ok dX4_move_0 rfl ?_
  refine z_iload_n ok dX4_move_1 rfl ?_
  refine v_X4_173 ok (m_X4_isItem _ ht.1) ht.1.is dX4_move_2 zk_nx (zk_R ?_)
  refine z_ifeq (tgt := 16) ok dX4_move_5 (by decide) (fun c5 => ?_) (fun c5 => ?_)
  · rw [b2i_0] at c5
    have ej : True := trivial
    refine z_aload_n ok dX4_move_16 rfl ?_
    refine z_iconst ok dX4_move_17 zic_1 ?_
    refine v_X4_167 ok (m_X4_refuse _ ht.1) ht.1.is dX4_move_18 zk_nx (zk_Rw (fun H9 h9 _ => ?_))
    replace ht := ht.call h9
    exact z_iret ok dX4_move_21 (zW_i (by simp [oMove, oRefuse, oTold, mu, ej, c5]) ht)
  · rw [b2i_0] at c5
    obtain ⟨j, hj, rfl⟩ := mIn_idx (n := ni) (by rw [← hw.ni]; simpa using c5) (by omega)
    have ej : cl (nI j) = j := cl_nI (by omega)
    refine z_aload_n ok dX4_move_8 rfl ?_
    refine z_iload_n ok dX4_move_9 rfl ?_
    refine v_X4_164 ok (m_X4_isFolder _ ht.1) ht.1.is dX4_move_10 zk_nx (zk_R ?_)
    refine z_ifne (tgt := 22) ok dX4_move_13 (by decide) (fun c13 => ?_) (fun c13 => ?_)
    · rw [b2i_0] at c13
      refine z_aload_n ok dX4_move_22 rfl ?_
      refine g_X4_49 ok ht.1.ob dX4_move_23 ?_
      refine z_iload_n ok dX4_move_26 rfl ?_
      refine z_iald ok ht.1.a22 rfl (by omega) dX4_move_27 ?_
      refine z_iconst ok dX4_move_28 zic_2 ?_
      refine z_icmplt (tgt := 38) ok dX4_move_29 (by decide) (fun c29 => ?_) (fun c29 => ?_)
      · refine z_aload_n ok dX4_move_38 rfl ?_
        refine g_X4_28 ok ht.1.ob dX4_move_39 ?_
        refine z_iload_n ok dX4_move_42 rfl ?_
        refine z_iald ok ht.1.a15 rfl (by omega) dX4_move_43 ?_
        refine z_istore_3 ok dX4_move_44 ?_
        refine z_aload_n ok dX4_move_45 rfl ?_
        refine g_X4_28 ok ht.1.ob dX4_move_46 ?_
        refine z_iload_n ok dX4_move_49 rfl ?_
        refine z_iload_n ok dX4_move_50 rfl ?_
        refine z_iast ok ht.1.a15 rfl (by omega) dX4_move_51 (fun H51 w51 => ?_)
        replace ht := ht.st 15 w51 rfl
        refine z_aload_n ok dX4_move_52 rfl ?_
        refine z_iload_n ok dX4_move_53 rfl ?_
        refine v_X4_161 ok (m_X4_told _ ht.1) ht.1.is dX4_move_54 zk_nx (zk_Rw (fun H9 h9 _ => ?_))
        replace ht := ht.call h9
        exact z_iret ok dX4_move_57 (zW_i (by simp [oMove, oRefuse, oTold, mu, ej, c5, c13, c29]) ht)
      · refine z_aload_n ok dX4_move_32 rfl ?_
        refine z_iconst ok dX4_move_33 zic_2 ?_
        refine v_X4_167 ok (m_X4_refuse _ ht.1) ht.1.is dX4_move_34 zk_nx (zk_Rw (fun H9 h9 _ => ?_))
        replace ht := ht.call h9
        exact z_iret ok dX4_move_37 (zW_i (by simp [oMove, oRefuse, oTold, mu, ej, c5, c13, c29]) ht)
    · rw [b2i_0] at c13
      refine z_aload_n ok dX4_move_16 rfl ?_
      refine z_iconst ok dX4_move_17 zic_1 ?_
      refine v_X4_167 ok (m_X4_refuse _ ht.1) ht.1.is dX4_move_18 zk_nx (zk_Rw (fun H9 h9 _ => ?_))
      replace ht := ht.call h9
      exact z_iret ok dX4_move_21 (zW_i (by simp [oMove, oRefuse, oTold, mu, ej, c5, c13]) ht)
set_option maxHeartbeats 4000000 in
set_option maxRecDepth 100000 in
theorem m_X4_copies {E : zE} {H : Heap} {m : Nat} {ad : Nat → Nat} {M : MS} {nf nt ni nh : Nat} (i : Nat) (hm : MP E H m ad M) (hw : mWF M nf nt ni nh) (hi : i < 40) (hlt : ni < 40) : zM E 22 yX4_copies (ws_ yX4_copies cX4_copies 3 (some .int)) 0 0 H [.ref m, .int (nI i)] (zRw (.int (M 14 0)) (mTo E H m ad (mCopy M i))) zNX := by
  refine z_of [some (.ref m), some (.int (nI i)), none] pn_X4 (Nat.le_of_ble_eq_true rfl) rfl (fun κ ok ho => ?_)
  have ht := mTo.rf hm
  have hl := hw.lim
  refine z_aload_n ok dX4_copies_0 rfl ?_
  refine g_X4_98 ok ht.1.ob dX4_copies_1 ?_
  rw [hw.ni]
  refine z_istore_2 ok dX4_copies_4 ?_
  refine z_aload_n ok dX4_copies_5 rfl ?_
  refine z_dup ok dX4_copies_6 ?_
  refine g_X4_98 ok ht.1.ob dX4_copies_7 ?_
  refine z_iconst ok dX4_copies_10 zic_1 ?_
  refine z_iadd ok dX4_copies_11 ?_
  refine p_X4_98 ok ht.1.1 dX4_copies_12 (fun H12 w12 => ?_)
  replace ht := ht.put 14 w12 rfl
  refine z_aload_n ok dX4_copies_15 rfl ?_
  refine g_X4_28 ok ht.1.ob dX4_copies_16 ?_
  refine z_iload_n ok dX4_copies_19 rfl ?_
  refine z_aload_n ok dX4_copies_20 rfl ?_
  refine g_X4_28 ok ht.1.ob dX4_copies_21 ?_
  refine z_iload_n ok dX4_copies_24 rfl ?_
  refine z_iald ok ht.1.a15 rfl (by omega) dX4_copies_25 ?_
  refine z_iast ok ht.1.a15 rfl (by omega) dX4_copies_26 (fun H26 w26 => ?_)
  replace ht := ht.st 15 w26 rfl
  refine z_aload_n ok dX4_copies_27 rfl ?_
  refine g_X4_31 ok ht.1.ob dX4_copies_28 ?_
  refine z_iload_n ok dX4_copies_31 rfl ?_
  refine z_aload_n ok dX4_copies_32 rfl ?_
  refine g_X4_31 ok ht.1.ob dX4_copies_33 ?_
  refine z_iload_n ok dX4_copies_36 rfl ?_
  refine z_iald ok ht.1.a16 rfl (by omega) dX4_copies_37 ?_
  refine z_iast ok ht.1.a16 rfl (by omega) dX4_copies_38 (fun H38 w38 => ?_)
  replace ht := ht.st 16 w38 rfl
  refine z_aload_n ok dX4_copies_39 rfl ?_
  refine g_X4_34 ok ht.1.ob dX4_copies_40 ?_
  refine z_iload_n ok dX4_copies_43 rfl ?_
  refine z_aload_n ok dX4_copies_44 rfl ?_
  refine g_X4_34 ok ht.1.ob dX4_copies_45 ?_
  refine z_iload_n ok dX4_copies_48 rfl ?_
  refine z_iald ok ht.1.a17 rfl (by omega) dX4_copies_49 ?_
  refine z_iast ok ht.1.a17 rfl (by omega) dX4_copies_50 (fun H50 w50 => ?_)
  replace ht := ht.st 17 w50 rfl
  refine z_aload_n ok dX4_copies_51 rfl ?_
  refine g_X4_37 ok ht.1.ob dX4_copies_52 ?_
  refine z_iload_n ok dX4_copies_55 rfl ?_
  refine z_aload_n ok dX4_copies_56 rfl ?_
  refine g_X4_37 ok ht.1.ob dX4_copies_57 ?_
  refine z_iload_n ok dX4_copies_60 rfl ?_
  refine z_iald ok ht.1.a18 rfl (by omega) dX4_copies_61 ?_
  refine z_iast ok ht.1.a18 rfl (by omega) dX4_copies_62 (fun H62 w62 => ?_)
  replace ht := ht.st 18 w62 rfl
  refine z_aload_n ok dX4_copies_63 rfl ?_
  refine g_X4_40 ok ht.1.ob dX4_copies_64 ?_
  refine z_iload_n ok dX4_copies_67 rfl ?_
  refine z_aload_n ok dX4_copies_68 rfl ?_
  refine g_X4_40 ok ht.1.ob dX4_copies_69 ?_
  refine z_iload_n ok dX4_copies_72 rfl ?_
  refine z_iald ok ht.1.a19 rfl (by omega) dX4_copies_73 ?_
  refine z_iast ok ht.1.a19 rfl (by omega) dX4_copies_74 (fun H74 w74 => ?_)
  replace ht := ht.st 19 w74 rfl
  refine z_aload_n ok dX4_copies_75 rfl ?_
  refine g_X4_43 ok ht.1.ob dX4_copies_76 ?_
  refine z_iload_n ok dX4_copies_79 rfl ?_
  refine z_aload_n ok dX4_copies_80 rfl ?_
  refine g_X4_43 ok ht.1.ob dX4_copies_81 ?_
  refine z_iload_n ok dX4_copies_84 rfl ?_
  refine z_iald ok ht.1.a20 rfl (by omega) dX4_copies_85 ?_
  refine z_iast ok ht.1.a20 rfl (by omega) dX4_copies_86 (fun H86 w86 => ?_)
  replace ht := ht.st 20 w86 rfl
  refine z_aload_n ok dX4_copies_87 rfl ?_
  refine g_X4_46 ok ht.1.ob dX4_copies_88 ?_
  refine z_iload_n ok dX4_copies_91 rfl ?_
  refine z_aload_n ok dX4_copies_92 rfl ?_
  refine g_X4_46 ok ht.1.ob dX4_copies_93 ?_
  refine z_iload_n ok dX4_copies_96 rfl ?_
  refine z_iald ok ht.1.a21 rfl (by omega) dX4_copies_97 ?_
  refine z_iast ok ht.1.a21 rfl (by omega) dX4_copies_98 (fun H98 w98 => ?_)
  replace ht := ht.st 21 w98 rfl
  refine z_aload_n ok dX4_copies_99 rfl ?_
  refine z_iload_n ok dX4_copies_100 rfl ?_
  refine v_X4_155 ok (m_X4_becomesRecoverable ni ht.1 (by omega)) ht.1.is dX4_copies_101 zk_nx (zk_Rv (fun H9 h9 _ => ?_))
  replace ht := ht.call h9
  refine z_iload_n ok dX4_copies_104 rfl ?_
  exact z_iret ok dX4_copies_105 ⟨by rw [hw.ni], by rw [mCopy, hw.c14]; exact ht⟩
set_option maxHeartbeats 4000000 in
set_option maxRecDepth 100000 in
theorem m_X4_edit {E : zE} {H : Heap} {m : Nat} {ad : Nat → Nat} {M : MS} {nf nt ni nh : Nat} (i w : Int32) (hm : MP E H m ad M) (hw : mWF M nf nt ni nh) : zM E 37 yX4_edit (ws_ yX4_edit cX4_edit 5 (some .int)) 0 0 H [.ref m, .int i, .int w] (zRw (.int (oEdit M i w).1) (mTo E H m ad (oEdit M i w).2)) zNX := by
  refine z_of [some (.ref m), some (.int i), some (.int w), none, none] pn_X4 (Nat.le_of_ble_eq_true rfl) rfl (fun κ ok ho => ?_)
  have ht := mTo.rf hm
  have hl := hw.lim
  refine z_aload_n ok dX4_edit_0 rfl ?_
  refine z_iload_n ok dX4_edit_1 rfl ?_
  refine v_X4_173 ok (m_X4_isItem _ ht.1) ht.1.is dX4_edit_2 zk_nx (zk_R ?_)
  refine z_ifne (tgt := 14) ok dX4_edit_5 (by decide) (fun c5 => ?_) (fun c5 => ?_)
  · rw [b2i_0] at c5
    obtain ⟨j, hj, rfl⟩ := mIn_idx (n := ni) (by rw [← hw.ni]; simpa using c5) (by omega)
    have ej : cl (nI j) = j := cl_nI (by omega)
    refine z_iload_n ok dX4_edit_14 rfl ?_
    refine v_X4_176 ok (m_X4_isDigit _) dX4_edit_15 zk_nx (zk_R ?_)
    refine z_ifne (tgt := 27) ok dX4_edit_18 (by decide) (fun c18 => ?_) (fun c18 => ?_)
    · rw [b2i_0] at c18
      refine z_iload_n ok dX4_edit_27 rfl ?_
      refine z_aload_n ok dX4_edit_28 rfl ?_
      refine g_X4_34 ok ht.1.ob dX4_edit_29 ?_
      refine z_iload_n ok dX4_edit_32 rfl ?_
      refine z_iald ok ht.1.a17 rfl (by omega) dX4_edit_33 ?_
      refine z_icmpeq (tgt := 49) ok dX4_edit_34 (by decide) (fun c34 => ?_) (fun c34 => ?_)
      · refine z_iconst ok dX4_edit_49 zic_0 ?_
        refine z_istore_3 ok dX4_edit_50 ?_
        refine z_aload_n ok dX4_edit_51 rfl ?_
        refine g_X4_49 ok ht.1.ob dX4_edit_52 ?_
        refine z_iload_n ok dX4_edit_55 rfl ?_
        refine z_iald ok ht.1.a22 rfl (by omega) dX4_edit_56 ?_
        refine z_iconst ok dX4_edit_57 zic_2 ?_
        refine z_icmpge (tgt := 74) ok dX4_edit_58 (by decide) (fun c58 => ?_) (fun c58 => ?_)
        · refine z_aload_n ok dX4_edit_74 rfl ?_
          refine z_iconst ok dX4_edit_75 zic_3 ?_
          refine v_X4_167 ok (m_X4_refuse _ ht.1) ht.1.is dX4_edit_76 zk_nx (zk_Rw (fun H9 h9 _ => ?_))
          replace ht := ht.call h9
          exact z_iret ok dX4_edit_79 (zW_i (by rw [oEdit, if_neg c5, if_neg c18]; simp [oRefuse, oTold, mu, ej, c5, c18, c34, c58]) ht)
        · refine z_iload_n ok dX4_edit_61 rfl ?_
          refine z_ifeq (tgt := 80) ok dX4_edit_62 (by decide) (fun _ => ?_) (fun c62 => absurd c62 (by decide))
          refine z_iconst ok dX4_edit_80 zic_m1 ?_
          refine z_istore_4 ok dX4_edit_81 ?_
          refine z_iload_n ok dX4_edit_83 rfl ?_
          refine z_ifeq (tgt := 94) ok dX4_edit_84 (by decide) (fun _ => ?_) (fun c84 => absurd c84 (by decide))
          refine z_aload_n ok dX4_edit_94 rfl ?_
          refine g_X4_34 ok ht.1.ob dX4_edit_95 ?_
          refine z_iload_n ok dX4_edit_98 rfl ?_
          refine z_iload_n ok dX4_edit_99 rfl ?_
          refine z_iast ok ht.1.a17 rfl (by omega) dX4_edit_100 (fun H100 w100 => ?_)
          replace ht := ht.st 17 w100 rfl
          refine z_iload_n ok dX4_edit_101 rfl ?_
          refine z_ifeq (tgt := 109) ok dX4_edit_102 (by decide) (fun _ => ?_) (fun c102 => absurd c102 (by decide))
          refine z_aload_n ok dX4_edit_109 rfl ?_
          refine z_iload ok dX4_edit_110 rfl ?_
          refine v_X4_161 ok (m_X4_told _ ht.1) ht.1.is dX4_edit_112 zk_nx (zk_Rw (fun H9 h9 _ => ?_))
          replace ht := ht.call h9
          exact z_iret ok dX4_edit_115 (zW_i (by rw [oEdit, if_neg c5, if_neg c18]; simp [oRefuse, oTold, mu, ej, c5, c18, c34, c58]) ht)
      · refine z_aload_n ok dX4_edit_37 rfl ?_
        refine z_iload_n ok dX4_edit_38 rfl ?_
        refine v_X4_137 ok (m_X4_isHeld _ ht.1 hw (by omega)) ht.1.is dX4_edit_39 zk_nx (zk_R ?_)
        refine z_ifeq (tgt := 49) ok dX4_edit_42 (by decide) (fun c42 => ?_) (fun c42 => ?_)
        · rw [b2i_0] at c42
          refine z_iconst ok dX4_edit_49 zic_0 ?_
          refine z_istore_3 ok dX4_edit_50 ?_
          refine z_aload_n ok dX4_edit_51 rfl ?_
          refine g_X4_49 ok ht.1.ob dX4_edit_52 ?_
          refine z_iload_n ok dX4_edit_55 rfl ?_
          refine z_iald ok ht.1.a22 rfl (by omega) dX4_edit_56 ?_
          refine z_iconst ok dX4_edit_57 zic_2 ?_
          refine z_icmpge (tgt := 74) ok dX4_edit_58 (by decide) (fun c58 => ?_) (fun c58 => ?_)
          · refine z_aload_n ok dX4_edit_74 rfl ?_
            refine z_iconst ok dX4_edit_75 zic_3 ?_
            refine v_X4_167 ok (m_X4_refuse _ ht.1) ht.1.is dX4_edit_76 zk_nx (zk_Rw (fun H9 h9 _ => ?_))
            replace ht := ht.call h9
            exact z_iret ok dX4_edit_79 (zW_i (by rw [oEdit, if_neg c5, if_neg c18]; simp [oRefuse, oTold, mu, ej, c5, c18, c34, c42, c58]) ht)
          · refine z_iload_n ok dX4_edit_61 rfl ?_
            refine z_ifeq (tgt := 80) ok dX4_edit_62 (by decide) (fun _ => ?_) (fun c62 => absurd c62 (by decide))
            refine z_iconst ok dX4_edit_80 zic_m1 ?_
            refine z_istore_4 ok dX4_edit_81 ?_
            refine z_iload_n ok dX4_edit_83 rfl ?_
            refine z_ifeq (tgt := 94) ok dX4_edit_84 (by decide) (fun _ => ?_) (fun c84 => absurd c84 (by decide))
            refine z_aload_n ok dX4_edit_94 rfl ?_
            refine g_X4_34 ok ht.1.ob dX4_edit_95 ?_
            refine z_iload_n ok dX4_edit_98 rfl ?_
            refine z_iload_n ok dX4_edit_99 rfl ?_
            refine z_iast ok ht.1.a17 rfl (by omega) dX4_edit_100 (fun H100 w100 => ?_)
            replace ht := ht.st 17 w100 rfl
            refine z_iload_n ok dX4_edit_101 rfl ?_
            refine z_ifeq (tgt := 109) ok dX4_edit_102 (by decide) (fun _ => ?_) (fun c102 => absurd c102 (by decide))
            refine z_aload_n ok dX4_edit_109 rfl ?_
            refine z_iload ok dX4_edit_110 rfl ?_
            refine v_X4_161 ok (m_X4_told _ ht.1) ht.1.is dX4_edit_112 zk_nx (zk_Rw (fun H9 h9 _ => ?_))
            replace ht := ht.call h9
            exact z_iret ok dX4_edit_115 (zW_i (by rw [oEdit, if_neg c5, if_neg c18]; simp [oRefuse, oTold, mu, ej, c5, c18, c34, c42, c58]) ht)
        · rw [b2i_0] at c42
          refine z_iconst ok dX4_edit_45 zic_1 ?_
          refine z_goto (tgt := 50) ok dX4_edit_46 (by decide) ?_
          refine z_istore_3 ok dX4_edit_50 ?_
          refine z_aload_n ok dX4_edit_51 rfl ?_
          refine g_X4_49 ok ht.1.ob dX4_edit_52 ?_
          refine z_iload_n ok dX4_edit_55 rfl ?_
          refine z_iald ok ht.1.a22 rfl (by omega) dX4_edit_56 ?_
          refine z_iconst ok dX4_edit_57 zic_2 ?_
          refine z_icmpge (tgt := 74) ok dX4_edit_58 (by decide) (fun c58 => ?_) (fun c58 => ?_)
          · refine z_aload_n ok dX4_edit_74 rfl ?_
            refine z_iconst ok dX4_edit_75 zic_3 ?_
            refine v_X4_167 ok (m_X4_refuse _ ht.1) ht.1.is dX4_edit_76 zk_nx (zk_Rw (fun H9 h9 _ => ?_))
            replace ht := ht.call h9
            exact z_iret ok dX4_edit_79 (zW_i (by rw [oEdit, if_neg c5, if_neg c18]; simp [oRefuse, oTold, mu, ej, c5, c18, c34, c42, c58]) ht)
          · refine z_iload_n ok dX4_edit_61 rfl ?_
            refine z_ifeq (tgt := 80) ok dX4_edit_62 (by decide) (fun c62 => absurd c62 (by decide)) (fun _ => ?_)
            refine z_aload_n ok dX4_edit_65 rfl ?_
            refine g_X4_98 ok ht.1.ob dX4_edit_66 ?_
            refine z_bipush ok dX4_edit_69 zbc_40 ?_
            refine z_icmpne (tgt := 80) ok dX4_edit_71 (by decide) (fun c71 => ?_) (fun c71 => ?_)
            · have hlt : ni < 40 := by
                have : ni ≠ 40 := fun e => c71 (by rw [hw.ni, e]; rfl)
                omega
              refine z_iconst ok dX4_edit_80 zic_m1 ?_
              refine z_istore_4 ok dX4_edit_81 ?_
              refine z_iload_n ok dX4_edit_83 rfl ?_
              refine z_ifeq (tgt := 94) ok dX4_edit_84 (by decide) (fun c84 => absurd c84 (by decide)) (fun _ => ?_)
              refine z_aload_n ok dX4_edit_87 rfl ?_
              refine z_iload_n ok dX4_edit_88 rfl ?_
              refine v_X4_180 ok (m_X4_copies _ ht.1 hw (by omega) hlt) ht.1.is dX4_edit_89 zk_nx (zk_Rw (fun H9 h9 _ => ?_))
              replace ht := ht.call h9
              refine z_istore_4 ok dX4_edit_92 ?_
              refine z_aload_n ok dX4_edit_94 rfl ?_
              refine g_X4_34 ok ht.1.ob dX4_edit_95 ?_
              refine z_iload_n ok dX4_edit_98 rfl ?_
              refine z_iload_n ok dX4_edit_99 rfl ?_
              refine z_iast ok ht.1.a17 rfl (by omega) dX4_edit_100 (fun H100 w100 => ?_)
              replace ht := ht.st 17 w100 rfl
              refine z_iload_n ok dX4_edit_101 rfl ?_
              refine z_ifeq (tgt := 109) ok dX4_edit_102 (by decide) (fun c102 => absurd c102 (by decide)) (fun _ => ?_)
              refine z_aload_n ok dX4_edit_105 rfl ?_
              refine v_X4_158 ok (m_X4_countsQuota ht.1 ((hw.copy hj hlt).mu (by decide))) ht.1.is dX4_edit_106 zk_nx (zk_Rv (fun H9 h9 _ => ?_))
              replace ht := ht.call h9
              refine z_aload_n ok dX4_edit_109 rfl ?_
              refine z_iload ok dX4_edit_110 rfl ?_
              refine v_X4_161 ok (m_X4_told _ ht.1) ht.1.is dX4_edit_112 zk_nx (zk_Rw (fun H9 h9 _ => ?_))
              replace ht := ht.call h9
              exact z_iret ok dX4_edit_115 (zW_i (by rw [oEdit, if_neg c5, if_neg c18]; simp [oRefuse, oTold, mu, ej, c5, c18, c34, c42, c58, c71]) ht)
            · refine z_aload_n ok dX4_edit_74 rfl ?_
              refine z_iconst ok dX4_edit_75 zic_3 ?_
              refine v_X4_167 ok (m_X4_refuse _ ht.1) ht.1.is dX4_edit_76 zk_nx (zk_Rw (fun H9 h9 _ => ?_))
              replace ht := ht.call h9
              exact z_iret ok dX4_edit_79 (zW_i (by rw [oEdit, if_neg c5, if_neg c18]; simp [oRefuse, oTold, mu, ej, c5, c18, c34, c42, c58, c71]) ht)
    · rw [b2i_0] at c18
      refine z_aload_n ok dX4_edit_21 rfl ?_
      refine z_iconst ok dX4_edit_22 zic_2 ?_
      refine v_X4_167 ok (m_X4_refuse _ ht.1) ht.1.is dX4_edit_23 zk_nx (zk_Rw (fun H9 h9 _ => ?_))
      replace ht := ht.call h9
      exact z_iret ok dX4_edit_26 (zW_i (by simp [oEdit, oRefuse, oTold, mu, ej, c5, c18]) ht)
  · rw [b2i_0] at c5
    have ej : True := trivial
    refine z_aload_n ok dX4_edit_8 rfl ?_
    refine z_iconst ok dX4_edit_9 zic_1 ?_
    refine v_X4_167 ok (m_X4_refuse _ ht.1) ht.1.is dX4_edit_10 zk_nx (zk_Rw (fun H9 h9 _ => ?_))
    replace ht := ht.call h9
    exact z_iret ok dX4_edit_13 (zW_i (by simp [oEdit, oRefuse, oTold, mu, ej, c5]) ht)
set_option maxHeartbeats 4000000 in
set_option maxRecDepth 100000 in
theorem m_X4_delete {E : zE} {H : Heap} {m : Nat} {ad : Nat → Nat} {M : MS} {nf nt ni nh : Nat} (i : Int32) (hm : MP E H m ad M) (hw : mWF M nf nt ni nh) : zM E 36 yX4_delete (ws_ yX4_delete cX4_delete 2 (some .int)) 0 0 H [.ref m, .int i] (zRw (.int (oDelete M i).1) (mTo E H m ad (oDelete M i).2)) zNX := by
  refine z_of [some (.ref m), some (.int i)] pn_X4 (Nat.le_of_ble_eq_true rfl) rfl (fun κ ok ho => ?_)
  have ht := mTo.rf hm
  have hl := hw.lim
  refine z_aload_n ok dX4_delete_0 rfl ?_
  refine z_iload_n ok dX4_delete_1 rfl ?_
  refine v_X4_173 ok (m_X4_isItem _ ht.1) ht.1.is dX4_delete_2 zk_nx (zk_R ?_)
  refine z_ifne (tgt := 14) ok dX4_delete_5 (by decide) (fun c5 => ?_) (fun c5 => ?_)
  · rw [b2i_0] at c5
    obtain ⟨j, hj, rfl⟩ := mIn_idx (n := ni) (by rw [← hw.ni]; simpa using c5) (by omega)
    have ej : cl (nI j) = j := cl_nI (by omega)
    refine z_aload_n ok dX4_delete_14 rfl ?_
    refine g_X4_49 ok ht.1.ob dX4_delete_15 ?_
    refine z_iload_n ok dX4_delete_18 rfl ?_
    refine z_iald ok ht.1.a22 rfl (by omega) dX4_delete_19 ?_
    refine z_iconst ok dX4_delete_20 zic_2 ?_
    refine z_icmplt (tgt := 30) ok dX4_delete_21 (by decide) (fun c21 => ?_) (fun c21 => ?_)
    · refine z_aload_n ok dX4_delete_30 rfl ?_
      refine z_iload_n ok dX4_delete_31 rfl ?_
      refine v_X4_155 ok (m_X4_becomesRecoverable _ ht.1 (by omega)) ht.1.is dX4_delete_32 zk_nx (zk_Rv (fun H9 h9 _ => ?_))
      replace ht := ht.call h9
      refine z_aload_n ok dX4_delete_35 rfl ?_
      refine v_X4_158 ok (m_X4_countsQuota ht.1 hw.rec) ht.1.is dX4_delete_36 zk_nx (zk_Rv (fun H9 h9 _ => ?_))
      replace ht := ht.call h9
      refine z_aload_n ok dX4_delete_39 rfl ?_
      refine z_aload_n ok dX4_delete_40 rfl ?_
      refine g_X4_49 ok ht.1.ob dX4_delete_41 ?_
      refine z_iload_n ok dX4_delete_44 rfl ?_
      refine z_iald ok ht.1.a22 rfl (by omega) dX4_delete_45 ?_
      refine v_X4_161 ok (m_X4_told _ ht.1) ht.1.is dX4_delete_46 zk_nx (zk_Rw (fun H9 h9 _ => ?_))
      replace ht := ht.call h9
      exact z_iret ok dX4_delete_49 (zW_i (by simp [oDelete, oRefuse, oTold, mu, ej, c5, c21]) ht)
    · refine z_aload_n ok dX4_delete_24 rfl ?_
      refine z_iconst ok dX4_delete_25 zic_2 ?_
      refine v_X4_167 ok (m_X4_refuse _ ht.1) ht.1.is dX4_delete_26 zk_nx (zk_Rw (fun H9 h9 _ => ?_))
      replace ht := ht.call h9
      exact z_iret ok dX4_delete_29 (zW_i (by simp [oDelete, oRefuse, oTold, mu, ej, c5, c21]) ht)
  · rw [b2i_0] at c5
    have ej : True := trivial
    refine z_aload_n ok dX4_delete_8 rfl ?_
    refine z_iconst ok dX4_delete_9 zic_1 ?_
    refine v_X4_167 ok (m_X4_refuse _ ht.1) ht.1.is dX4_delete_10 zk_nx (zk_Rw (fun H9 h9 _ => ?_))
    replace ht := ht.call h9
    exact z_iret ok dX4_delete_13 (zW_i (by simp [oDelete, oRefuse, oTold, mu, ej, c5]) ht)
set_option maxHeartbeats 4000000 in
set_option maxRecDepth 100000 in
theorem m_X4_recover {E : zE} {H : Heap} {m : Nat} {ad : Nat → Nat} {M : MS} {nf nt ni nh : Nat} (i : Int32) (hm : MP E H m ad M) (hw : mWF M nf nt ni nh) : zM E 36 yX4_recover (ws_ yX4_recover cX4_recover 2 (some .int)) 0 0 H [.ref m, .int i] (zRw (.int (oRecover M i).1) (mTo E H m ad (oRecover M i).2)) zNX := by
  refine z_of [some (.ref m), some (.int i)] pn_X4 (Nat.le_of_ble_eq_true rfl) rfl (fun κ ok ho => ?_)
  have ht := mTo.rf hm
  have hl := hw.lim
  refine z_aload_n ok dX4_recover_0 rfl ?_
  refine z_iload_n ok dX4_recover_1 rfl ?_
  refine v_X4_173 ok (m_X4_isItem _ ht.1) ht.1.is dX4_recover_2 zk_nx (zk_R ?_)
  refine z_ifne (tgt := 14) ok dX4_recover_5 (by decide) (fun c5 => ?_) (fun c5 => ?_)
  · rw [b2i_0] at c5
    obtain ⟨j, hj, rfl⟩ := mIn_idx (n := ni) (by rw [← hw.ni]; simpa using c5) (by omega)
    have ej : cl (nI j) = j := cl_nI (by omega)
    refine z_aload_n ok dX4_recover_14 rfl ?_
    refine g_X4_49 ok ht.1.ob dX4_recover_15 ?_
    refine z_iload_n ok dX4_recover_18 rfl ?_
    refine z_iald ok ht.1.a22 rfl (by omega) dX4_recover_19 ?_
    refine z_iconst ok dX4_recover_20 zic_2 ?_
    refine z_icmpeq (tgt := 30) ok dX4_recover_21 (by decide) (fun c21 => ?_) (fun c21 => ?_)
    · refine z_aload_n ok dX4_recover_30 rfl ?_
      refine g_X4_49 ok ht.1.ob dX4_recover_31 ?_
      refine z_iload_n ok dX4_recover_34 rfl ?_
      refine z_iconst ok dX4_recover_35 zic_0 ?_
      refine z_iast ok ht.1.a22 rfl (by omega) dX4_recover_36 (fun H36 w36 => ?_)
      replace ht := ht.st 22 w36 rfl
      refine z_aload_n ok dX4_recover_37 rfl ?_
      refine z_aload_n ok dX4_recover_38 rfl ?_
      refine g_X4_101 ok ht.1.ob dX4_recover_39 ?_
      refine z_aload_n ok dX4_recover_42 rfl ?_
      refine g_X4_52 ok ht.1.ob dX4_recover_43 ?_
      refine z_iload_n ok dX4_recover_46 rfl ?_
      refine z_iald ok ht.1.a23 rfl (by omega) dX4_recover_47 ?_
      refine z_isub ok dX4_recover_48 ?_
      refine v_X4_161 ok (m_X4_told _ ht.1) ht.1.is dX4_recover_49 zk_nx (zk_Rw (fun H9 h9 _ => ?_))
      replace ht := ht.call h9
      exact z_iret ok dX4_recover_52 (zW_i (by simp [oRecover, oRefuse, oTold, mu, ej, c5, c21]) ht)
    · refine z_aload_n ok dX4_recover_24 rfl ?_
      refine z_iconst ok dX4_recover_25 zic_2 ?_
      refine v_X4_167 ok (m_X4_refuse _ ht.1) ht.1.is dX4_recover_26 zk_nx (zk_Rw (fun H9 h9 _ => ?_))
      replace ht := ht.call h9
      exact z_iret ok dX4_recover_29 (zW_i (by simp [oRecover, oRefuse, oTold, mu, ej, c5, c21]) ht)
  · rw [b2i_0] at c5
    have ej : True := trivial
    refine z_aload_n ok dX4_recover_8 rfl ?_
    refine z_iconst ok dX4_recover_9 zic_1 ?_
    refine v_X4_167 ok (m_X4_refuse _ ht.1) ht.1.is dX4_recover_10 zk_nx (zk_Rw (fun H9 h9 _ => ?_))
    replace ht := ht.call h9
    exact z_iret ok dX4_recover_13 (zW_i (by simp [oRecover, oRefuse, oTold, mu, ej, c5]) ht)
set_option maxHeartbeats 4000000 in
set_option maxRecDepth 100000 in
theorem m_X4_keep {E : zE} {H : Heap} {m : Nat} {ad : Nat → Nat} {M : MS} {nf nt ni nh : Nat} (w k : Int32) (hm : MP E H m ad M) (hw : mWF M nf nt ni nh) : zM E 36 yX4_keep (ws_ yX4_keep cX4_keep 3 (some .int)) 0 0 H [.ref m, .int w, .int k] (zRw (.int (oKeep M w k).1) (mTo E H m ad (oKeep M w k).2)) zNX := by
  refine z_of [some (.ref m), some (.int w), some (.int k)] pn_X4 (Nat.le_of_ble_eq_true rfl) rfl (fun κ ok ho => ?_)
  have ht := mTo.rf hm
  have hl := hw.lim
  refine z_iload_n ok dX4_keep_0 rfl ?_
  refine z_iconst ok dX4_keep_1 zic_1 ?_
  refine z_bipush ok dX4_keep_2 zbc_60 ?_
  refine v_X4_91 ok (m_X4_in _ _ _) dX4_keep_4 zk_nx (zk_R ?_)
  refine z_ifeq (tgt := 21) ok dX4_keep_7 (by decide) (fun c7 => ?_) (fun c7 => ?_)
  · rw [b2i_0] at c7
    refine z_aload_n ok dX4_keep_21 rfl ?_
    refine z_iconst ok dX4_keep_22 zic_1 ?_
    refine v_X4_167 ok (m_X4_refuse _ ht.1) ht.1.is dX4_keep_23 zk_nx (zk_Rw (fun H9 h9 _ => ?_))
    replace ht := ht.call h9
    exact z_iret ok dX4_keep_26 (zW_i (by simp [oKeep, oRefuse, oTold, mu, c7]) ht)
  · rw [b2i_0] at c7
    refine z_iload_n ok dX4_keep_10 rfl ?_
    refine z_iconst ok dX4_keep_11 zic_0 ?_
    refine z_sipush ok dX4_keep_12 zsc_2000 ?_
    refine v_X4_91 ok (m_X4_in _ _ _) dX4_keep_15 zk_nx (zk_R ?_)
    refine z_ifne (tgt := 27) ok dX4_keep_18 (by decide) (fun c18 => ?_) (fun c18 => ?_)
    · rw [b2i_0] at c18
      refine z_aload_n ok dX4_keep_27 rfl ?_
      refine z_iload_n ok dX4_keep_28 rfl ?_
      refine p_X4_104 ok ht.1.1 dX4_keep_29 (fun H29 w29 => ?_)
      replace ht := ht.put 2 w29 rfl
      refine z_aload_n ok dX4_keep_32 rfl ?_
      refine z_iload_n ok dX4_keep_33 rfl ?_
      refine p_X4_107 ok ht.1.1 dX4_keep_34 (fun H34 w34 => ?_)
      replace ht := ht.put 3 w34 rfl
      refine z_aload_n ok dX4_keep_37 rfl ?_
      refine z_iconst ok dX4_keep_38 zic_0 ?_
      refine p_X4_134 ok ht.1.1 dX4_keep_39 (fun H39 w39 => ?_)
      replace ht := ht.put 4 w39 rfl
      refine z_aload_n ok dX4_keep_42 rfl ?_
      refine v_X4_158 ok (m_X4_countsQuota ht.1 (((hw.mu (by decide)).mu (by decide)).mu (by decide))) ht.1.is dX4_keep_43 zk_nx (zk_Rv (fun H9 h9 _ => ?_))
      replace ht := ht.call h9
      refine z_aload_n ok dX4_keep_46 rfl ?_
      refine z_aload_n ok dX4_keep_47 rfl ?_
      refine g_X4_134 ok ht.1.ob dX4_keep_48 ?_
      refine v_X4_161 ok (m_X4_told _ ht.1) ht.1.is dX4_keep_51 zk_nx (zk_Rw (fun H9 h9 _ => ?_))
      replace ht := ht.call h9
      exact z_iret ok dX4_keep_54 (zW_i (by simp [oKeep, oRefuse, oTold, mu, c7, c18]) ht)
    · rw [b2i_0] at c18
      refine z_aload_n ok dX4_keep_21 rfl ?_
      refine z_iconst ok dX4_keep_22 zic_1 ?_
      refine v_X4_167 ok (m_X4_refuse _ ht.1) ht.1.is dX4_keep_23 zk_nx (zk_Rw (fun H9 h9 _ => ?_))
      replace ht := ht.call h9
      exact z_iret ok dX4_keep_26 (zW_i (by simp [oKeep, oRefuse, oTold, mu, c7, c18]) ht)
