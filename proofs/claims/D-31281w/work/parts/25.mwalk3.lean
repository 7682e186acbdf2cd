/-! walks of the twin, printed by gen/model.py -/
set_option maxRecDepth 100000
set_option maxHeartbeats 4000000 in
set_option maxRecDepth 100000 in
theorem m_X4_purge {E : zE} {H : Heap} {m : Nat} {ad : Nat → Nat} {M : MS} {nf nt ni nh : Nat} (i : Int32) (hm : MP E H m ad M) (hw : mWF M nf nt ni nh) : zM E 36 yX4_purge (ws_ yX4_purge cX4_purge 2 (some .boolean)) 0 0 H [.ref m, .int i] (zRw (.int (oPurge M i).1) (mTo E H m ad (oPurge M i).2)) zNX := by
  refine z_of [some (.ref m), some (.int i)] pn_X4 (Nat.le_of_ble_eq_true rfl) rfl (fun κ ok ho => ?_)
  have ht := mTo.rf hm
  have hl := hw.lim
  refine z_aload_n ok dX4_purge_0 rfl ?_
  refine z_iload_n ok dX4_purge_1 rfl ?_
  refine v_X4_173 ok (m_X4_isItem _ ht.1) ht.1.is dX4_purge_2 zk_nx (zk_R ?_)
  refine z_ifne (tgt := 15) ok dX4_purge_5 (by decide) (fun c5 => ?_) (fun c5 => ?_)
  · rw [b2i_0] at c5
    obtain ⟨j, hj, rfl⟩ := mIn_idx (n := ni) (by rw [← hw.ni]; simpa using c5) (by omega)
    have ej : cl (nI j) = j := cl_nI (by omega)
    refine z_aload_n ok dX4_purge_15 rfl ?_
    refine g_X4_49 ok ht.1.ob dX4_purge_16 ?_
    refine z_iload_n ok dX4_purge_19 rfl ?_
    refine z_iald ok ht.1.a22 rfl (by omega) dX4_purge_20 ?_
    refine z_iconst ok dX4_purge_21 zic_2 ?_
    refine z_icmpeq (tgt := 32) ok dX4_purge_22 (by decide) (fun c22 => ?_) (fun c22 => ?_)
    · refine z_aload_n ok dX4_purge_32 rfl ?_
      refine z_iconst ok dX4_purge_33 zic_0 ?_
      refine p_X4_84 ok ht.1.1 dX4_purge_34 (fun H34 w34 => ?_)
      replace ht := ht.put 0 w34 rfl
      refine z_aload_n ok dX4_purge_37 rfl ?_
      refine z_iload_n ok dX4_purge_38 rfl ?_
      refine v_X4_137 ok (m_X4_isHeld _ ht.1 (hw.mu (by decide)) (by omega)) ht.1.is dX4_purge_39 zk_nx (zk_R ?_)
      rw [show mHeld (mu M 0 0 0) j = mHeld M j from (mEq.rf.mu (by decide)).held j]
      refine z_ifeq (tgt := 47) ok dX4_purge_42 (by decide) (fun c42 => ?_) (fun c42 => ?_)
      · rw [b2i_0] at c42
        refine z_aload_n ok dX4_purge_47 rfl ?_
        refine z_iload_n ok dX4_purge_48 rfl ?_
        refine v_X4_148 ok (m_X4_becomesGone _ ht.1 (by omega)) ht.1.is dX4_purge_49 zk_nx (zk_Rv (fun H9 h9 _ => ?_))
        replace ht := ht.call h9
        refine z_iconst ok dX4_purge_52 zic_1 ?_
        exact z_zret ok dX4_purge_53 rfl (zW_i (by simp [oPurge, oRefuse, mu, ej, c5, c22, c42]) ht)
      · rw [b2i_0] at c42
        refine z_iconst ok dX4_purge_45 zic_0 ?_
        exact z_zret ok dX4_purge_46 rfl (zW_i (by simp [oPurge, oRefuse, mu, ej, c5, c22, c42]) ht)
    · refine z_aload_n ok dX4_purge_25 rfl ?_
      refine z_iconst ok dX4_purge_26 zic_2 ?_
      refine p_X4_84 ok ht.1.1 dX4_purge_27 (fun H27 w27 => ?_)
      replace ht := ht.put 0 w27 rfl
      refine z_iconst ok dX4_purge_30 zic_0 ?_
      exact z_zret ok dX4_purge_31 rfl (zW_i (by simp [oPurge, oRefuse, mu, ej, c5, c22]) ht)
  · rw [b2i_0] at c5
    have ej : True := trivial
    refine z_aload_n ok dX4_purge_8 rfl ?_
    refine z_iconst ok dX4_purge_9 zic_1 ?_
    refine p_X4_84 ok ht.1.1 dX4_purge_10 (fun H10 w10 => ?_)
    replace ht := ht.put 0 w10 rfl
    refine z_iconst ok dX4_purge_13 zic_0 ?_
    exact z_zret ok dX4_purge_14 rfl (zW_i (by simp [oPurge, oRefuse, mu, ej, c5]) ht)
set_option maxHeartbeats 4000000 in
set_option maxRecDepth 100000 in
theorem m_X4_pass {E : zE} {H : Heap} {m : Nat} {ad : Nat → Nat} {M : MS} {nf nt ni nh : Nat} (k : Int32) (hm : MP E H m ad M) (hw : mWF M nf nt ni nh) : zM E 40 yX4_pass (ws_ yX4_pass cX4_pass 3 (some .int)) 0 0 H [.ref m, .int k] (zRw (.int (oPass M k).1) (mTo E H m ad (oPass M k).2)) zNX := by
  refine z_of [some (.ref m), some (.int k), none] pn_X4 (Nat.le_of_ble_eq_true rfl) rfl (fun κ ok ho => ?_)
  have hl := hw.lim
  have ht := mTo.rf hm
  have hwA : mWF (mu M 4 0 0) nf nt ni nh := hw.mu (by decide)
  generalize hA : mu M 4 0 0 = MA at hwA
  refine z_iload_n ok dX4_pass_0 rfl ?_
  refine z_iconst ok dX4_pass_1 zic_1 ?_
  refine z_sipush ok dX4_pass_2 zsc_400 ?_
  refine v_X4_91 ok (m_X4_in _ _ _) dX4_pass_5 zk_nx (zk_R ?_)
  refine z_ifne (tgt := 17) ok dX4_pass_8 (by decide) (fun c8 => ?_) (fun c8 => ?_)
  · skip
    refine z_aload_n ok dX4_pass_17 rfl ?_
    refine z_iconst ok dX4_pass_18 zic_0 ?_
    refine p_X4_134 ok ht.1.1 dX4_pass_19 (fun H19 w19 => ?_)
    replace ht := ht.put 4 w19 rfl
    refine z_iconst ok dX4_pass_22 zic_0 ?_
    refine z_istore_2 ok dX4_pass_23 ?_
    rw [b2i_0] at c8
    have hk : mIn k (nI 1) (nI 400) = true := by rw [show nI 1 = 1 by decide, show nI 400 = 400 by decide]; simpa using c8
    obtain ⟨q, -, hq, rfl⟩ := mIn_nn hk (by omega) (by omega)
    rw [hA] at ht
    have k1 : ∀ (t j : Nat) (H1 : Heap), q - j < t → j ≤ q → mTo E H m ad (mDays MA j) H1 → zV κ E H1 0 0 24 [some (.ref m), some (.int (nI q)), some (.int (nI j))] [] := by
      intro t
      induction t with
      | zero => intro j H1 h1; omega
      | succ t ih =>
        intro j H1 h1 h2 ht
        have hw := hwA.days j
        refine z_iload_n ok dX4_pass_24 rfl ?_
        refine z_iload_n ok dX4_pass_25 rfl ?_
        refine z_icmpge (tgt := 39) ok dX4_pass_26 (by decide) (fun c26 => ?_) (fun c26 => ?_)
        · rw [nI_leI (by omega) (by omega)] at c26
          refine z_aload_n ok dX4_pass_39 rfl ?_
          refine z_aload_n ok dX4_pass_40 rfl ?_
          refine g_X4_134 ok ht.1.ob dX4_pass_41 ?_
          refine v_X4_161 ok (m_X4_told _ ht.1) ht.1.is dX4_pass_44 zk_nx (zk_Rw (fun H9 h9 _ => ?_))
          replace ht := ht.call h9
          exact z_iret ok dX4_pass_47 (zW_i (by rw [oPass, if_neg c8, hA, cl_nI (by omega), show q = j by omega]; rfl) ht)
        · rw [nI_leI (by omega) (by omega)] at c26
          refine z_aload_n ok dX4_pass_29 rfl ?_
          refine v_X4_183 ok (m_X4_dayPasses ht.1 hw) ht.1.is dX4_pass_30 zk_nx (zk_Rv (fun H9 h9 _ => ?_))
          replace ht := ht.call h9
          refine z_iinc_2 ok dX4_pass_33 (zinc1 _) ?_
          refine z_goto (tgt := 24) ok dX4_pass_36 (by decide) ?_
          exact ih (j + 1) _ (by omega) (by omega) ht
    exact k1 (q + 1) 0 _ (by omega) (by omega) ht
  · rw [b2i_0] at c8
    refine z_aload_n ok dX4_pass_11 rfl ?_
    refine z_iconst ok dX4_pass_12 zic_1 ?_
    refine v_X4_167 ok (m_X4_refuse _ ht.1) ht.1.is dX4_pass_13 zk_nx (zk_Rw (fun H9 h9 _ => ?_))
    replace ht := ht.call h9
    exact z_iret ok dX4_pass_16 (zW_i (by rw [oPass, if_pos c8]; rfl) ht)
set_option maxHeartbeats 4000000 in
set_option maxRecDepth 100000 in
theorem m_X4_hold {E : zE} {H : Heap} {m : Nat} {ad : Nat → Nat} {M : MS} {nf nt ni nh : Nat} (s w f t : Int32) (hm : MP E H m ad M) (hw : mWF M nf nt ni nh) : zM E 36 yX4_hold (ws_ yX4_hold cX4_hold 5 (some .int)) 0 0 H [.ref m, .int s, .int w, .int f, .int t] (zRw (.int (oHold M s w f t).1) (mTo E H m ad (oHold M s w f t).2)) zNX := by
  refine z_of [some (.ref m), some (.int s), some (.int w), some (.int f), some (.int t)] pn_X4 (Nat.le_of_ble_eq_true rfl) rfl (fun κ ok ho => ?_)
  have ht := mTo.rf hm
  have hl := hw.lim
  refine z_iload_n ok dX4_hold_0 rfl ?_
  refine z_iconst ok dX4_hold_1 zic_m1 ?_
  refine z_bipush ok dX4_hold_2 zbc_9 ?_
  refine v_X4_91 ok (m_X4_in _ _ _) dX4_hold_4 zk_nx (zk_R ?_)
  refine z_ifeq (tgt := 30) ok dX4_hold_7 (by decide) (fun c7 => ?_) (fun c7 => ?_)
  · rw [b2i_0] at c7
    refine z_aload_n ok dX4_hold_30 rfl ?_
    refine z_iconst ok dX4_hold_31 zic_1 ?_
    refine v_X4_167 ok (m_X4_refuse _ ht.1) ht.1.is dX4_hold_32 zk_nx (zk_Rw (fun H9 h9 _ => ?_))
    replace ht := ht.call h9
    exact z_iret ok dX4_hold_35 (zW_i (by simp [oHold, oRefuse, oTold, mu, hw.c26, c7]) ht)
  · rw [b2i_0] at c7
    refine z_iload_n ok dX4_hold_10 rfl ?_
    refine z_iconst ok dX4_hold_11 zic_m1 ?_
    refine z_bipush ok dX4_hold_12 zbc_9 ?_
    refine v_X4_91 ok (m_X4_in _ _ _) dX4_hold_14 zk_nx (zk_R ?_)
    refine z_ifeq (tgt := 30) ok dX4_hold_17 (by decide) (fun c17 => ?_) (fun c17 => ?_)
    · rw [b2i_0] at c17
      refine z_aload_n ok dX4_hold_30 rfl ?_
      refine z_iconst ok dX4_hold_31 zic_1 ?_
      refine v_X4_167 ok (m_X4_refuse _ ht.1) ht.1.is dX4_hold_32 zk_nx (zk_Rw (fun H9 h9 _ => ?_))
      replace ht := ht.call h9
      exact z_iret ok dX4_hold_35 (zW_i (by simp [oHold, oRefuse, oTold, mu, hw.c26, c7, c17]) ht)
    · rw [b2i_0] at c17
      refine z_iload_n ok dX4_hold_20 rfl ?_
      refine z_iflt (tgt := 30) ok dX4_hold_21 (by decide) (fun c21 => ?_) (fun c21 => ?_)
      · refine z_aload_n ok dX4_hold_30 rfl ?_
        refine z_iconst ok dX4_hold_31 zic_1 ?_
        refine v_X4_167 ok (m_X4_refuse _ ht.1) ht.1.is dX4_hold_32 zk_nx (zk_Rw (fun H9 h9 _ => ?_))
        replace ht := ht.call h9
        exact z_iret ok dX4_hold_35 (zW_i (by simp [oHold, oRefuse, oTold, mu, hw.c26, c7, c17, c21]) ht)
      · refine z_iload ok dX4_hold_24 rfl ?_
        refine z_iload_n ok dX4_hold_26 rfl ?_
        refine z_icmpge (tgt := 36) ok dX4_hold_27 (by decide) (fun c27 => ?_) (fun c27 => ?_)
        · have c27 := Int32.not_lt.mpr c27
          refine z_aload_n ok dX4_hold_36 rfl ?_
          refine g_X4_113 ok ht.1.ob dX4_hold_37 ?_
          refine z_bipush ok dX4_hold_40 zbc_6 ?_
          refine z_icmpne (tgt := 51) ok dX4_hold_42 (by decide) (fun c42 => ?_) (fun c42 => ?_)
          · have hlt : nh < 6 := by
              have : nh ≠ 6 := fun e => c42 (by rw [hw.nh, e]; rfl)
              omega
            refine z_aload_n ok dX4_hold_51 rfl ?_
            refine g_X4_62 ok ht.1.ob dX4_hold_52 ?_
            refine z_aload_n ok dX4_hold_55 rfl ?_
            refine g_X4_113 ok ht.1.ob dX4_hold_56 ?_
            refine z_iload_n ok dX4_hold_59 rfl ?_
            refine z_iast ok ht.1.a27 hw.nh (by omega) dX4_hold_60 (fun H60 w60 => ?_)
            replace ht := ht.st 27 w60 rfl
            refine z_aload_n ok dX4_hold_61 rfl ?_
            refine g_X4_65 ok ht.1.ob dX4_hold_62 ?_
            refine z_aload_n ok dX4_hold_65 rfl ?_
            refine g_X4_113 ok ht.1.ob dX4_hold_66 ?_
            refine z_iload_n ok dX4_hold_69 rfl ?_
            refine z_iast ok ht.1.a28 hw.nh (by omega) dX4_hold_70 (fun H70 w70 => ?_)
            replace ht := ht.st 28 w70 rfl
            refine z_aload_n ok dX4_hold_71 rfl ?_
            refine g_X4_68 ok ht.1.ob dX4_hold_72 ?_
            refine z_aload_n ok dX4_hold_75 rfl ?_
            refine g_X4_113 ok ht.1.ob dX4_hold_76 ?_
            refine z_iload_n ok dX4_hold_79 rfl ?_
            refine z_iast ok ht.1.a29 hw.nh (by omega) dX4_hold_80 (fun H80 w80 => ?_)
            replace ht := ht.st 29 w80 rfl
            refine z_aload_n ok dX4_hold_81 rfl ?_
            refine g_X4_71 ok ht.1.ob dX4_hold_82 ?_
            refine z_aload_n ok dX4_hold_85 rfl ?_
            refine g_X4_113 ok ht.1.ob dX4_hold_86 ?_
            refine z_iload ok dX4_hold_89 rfl ?_
            refine z_iast ok ht.1.a30 hw.nh (by omega) dX4_hold_91 (fun H91 w91 => ?_)
            replace ht := ht.st 30 w91 rfl
            refine z_aload_n ok dX4_hold_92 rfl ?_
            refine g_X4_74 ok ht.1.ob dX4_hold_93 ?_
            refine z_aload_n ok dX4_hold_96 rfl ?_
            refine g_X4_113 ok ht.1.ob dX4_hold_97 ?_
            refine z_iconst ok dX4_hold_100 zic_0 ?_
            refine z_zast ok (show vp_nar .boolean 0 = 0 by decide) ht.1.a31 hw.nh (by omega) dX4_hold_101 (fun H101 w101 => ?_)
            replace ht := ht.st 31 w101 rfl
            refine z_aload_n ok dX4_hold_102 rfl ?_
            refine z_dup ok dX4_hold_103 ?_
            refine g_X4_113 ok ht.1.ob dX4_hold_104 ?_
            refine z_iconst ok dX4_hold_107 zic_1 ?_
            refine z_iadd ok dX4_hold_108 ?_
            refine p_X4_113 ok ht.1.1 dX4_hold_109 (fun H109 w109 => ?_)
            replace ht := ht.put 26 w109 rfl
            refine z_aload_n ok dX4_hold_112 rfl ?_
            refine z_aload_n ok dX4_hold_113 rfl ?_
            refine g_X4_113 ok ht.1.ob dX4_hold_114 ?_
            refine z_iconst ok dX4_hold_117 zic_1 ?_
            refine z_isub ok dX4_hold_118 ?_
            refine v_X4_161 ok (m_X4_told _ ht.1) ht.1.is dX4_hold_119 zk_nx (zk_Rw (fun H9 h9 _ => ?_))
            replace ht := ht.call h9
            exact z_iret ok dX4_hold_122 (zW_i (by simp [oHold, oRefuse, oTold, mu, hw.c26, c7, c17, c21, c27, c42]) ht)
          · refine z_aload_n ok dX4_hold_45 rfl ?_
            refine z_iconst ok dX4_hold_46 zic_2 ?_
            refine v_X4_167 ok (m_X4_refuse _ ht.1) ht.1.is dX4_hold_47 zk_nx (zk_Rw (fun H9 h9 _ => ?_))
            replace ht := ht.call h9
            exact z_iret ok dX4_hold_50 (zW_i (by simp [oHold, oRefuse, oTold, mu, hw.c26, c7, c17, c21, c27, c42]) ht)
        · have c27 := Int32.not_le.mp c27
          refine z_aload_n ok dX4_hold_30 rfl ?_
          refine z_iconst ok dX4_hold_31 zic_1 ?_
          refine v_X4_167 ok (m_X4_refuse _ ht.1) ht.1.is dX4_hold_32 zk_nx (zk_Rw (fun H9 h9 _ => ?_))
          replace ht := ht.call h9
          exact z_iret ok dX4_hold_35 (zW_i (by simp [oHold, oRefuse, oTold, mu, hw.c26, c7, c17, c21, c27]) ht)
set_option maxHeartbeats 4000000 in
set_option maxRecDepth 100000 in
theorem m_X4_release {E : zE} {H : Heap} {m : Nat} {ad : Nat → Nat} {M : MS} {nf nt ni nh : Nat} (v : Int32) (hm : MP E H m ad M) (hw : mWF M nf nt ni nh) : zM E 36 yX4_release (ws_ yX4_release cX4_release 4 (some .int)) 0 0 H [.ref m, .int v] (zRw (.int (oRelease M v).1) (mTo E H m ad (oRelease M v).2)) zNX := by
  refine z_of [some (.ref m), some (.int v), none, none] pn_X4 (Nat.le_of_ble_eq_true rfl) rfl (fun κ ok ho => ?_)
  have hl := hw.lim
  have ht0 := mTo.rf hm
  have k2 : ∀ (h : Nat), h < nh → oRelease M v = oTold (mu (mWas M ni) 31 h 1) (mRelF (mu (mWas M ni) 31 h 1) ni) → ∀ (t j : Nat) (H1 : Heap), ni - j < t → j ≤ ni → mTo E H m ad (mu (mWas M ni) 31 h 1) H1 → zV κ E H1 0 0 73 [some (.ref m), some (.int (nI h)), some (.int (mRelF (mu (mWas M ni) 31 h 1) j)), some (.int (nI j))] [] := by
    intro h hh hop t
    induction t with
    | zero => intro j H1 h1; omega
    | succ t ih =>
      intro j H1 h1 h2 ht
      have hw2 : mWF (mu (mWas M ni) 31 h 1) nf nt ni nh := (hw.was ni).mu (by decide)
      generalize hA : mu (mWas M ni) 31 h 1 = MA at ht hw2 hop ih ⊢
      refine z_iload_n ok dX4_release_73 rfl ?_
      refine z_aload_n ok dX4_release_74 rfl ?_
      refine g_X4_98 ok ht.1.ob dX4_release_75 ?_
      refine z_icmpge (tgt := 107) ok dX4_release_78 (by decide) (fun c78 => ?_) (fun c78 => ?_)
      · rw [hw2.ni, nI_leI (by omega) (by omega)] at c78
        refine z_aload_n ok dX4_release_107 rfl ?_
        refine z_iload_n ok dX4_release_108 rfl ?_
        refine v_X4_161 ok (m_X4_told _ ht.1) ht.1.is dX4_release_109 zk_nx (zk_Rw (fun H9 h9 _ => ?_))
        replace ht := ht.call h9
        exact z_iret ok dX4_release_112 (zW_i (by rw [hop, show ni = j by omega]; rfl) ht)
      · rw [hw2.ni, nI_leI (by omega) (by omega)] at c78
        refine z_aload_n ok dX4_release_81 rfl ?_
        refine g_X4_58 ok ht.1.ob dX4_release_82 ?_
        refine z_iload_n ok dX4_release_85 rfl ?_
        refine z_zald ok ht.1.a25 rfl (by omega) dX4_release_86 ?_
        refine z_ifeq (tgt := 101) ok dX4_release_87 (by decide) (fun c87 => ?_) (fun c87 => ?_)
        · have e : mRelF MA (j + 1) = mRelF MA j := if_neg (fun z => z.1 c87)
          refine z_iinc_3 ok dX4_release_101 (zinc1 _) ?_
          refine z_goto (tgt := 73) ok dX4_release_104 (by decide) ?_
          have e2 : mRelF MA (j + 1) = _ := e
          first | (rw [← e2]; exact ih (j + 1) _ (by omega) (by omega) ht) | (rw [show mRelF MA j + Int32.ofInt 1 = mRelF MA (j + 1) from e2.symm]; exact ih (j + 1) _ (by omega) (by omega) ht)
        · refine z_aload_n ok dX4_release_90 rfl ?_
          refine z_iload_n ok dX4_release_91 rfl ?_
          refine v_X4_137 ok (m_X4_isHeld _ ht.1 hw2 (by omega)) ht.1.is dX4_release_92 zk_nx (zk_R ?_)
          refine z_ifne (tgt := 101) ok dX4_release_95 (by decide) (fun c95 => ?_) (fun c95 => ?_)
          · rw [b2i_0] at c95
            have e : mRelF MA (j + 1) = mRelF MA j := if_neg (fun z => c95 z.2)
            refine z_iinc_3 ok dX4_release_101 (zinc1 _) ?_
            refine z_goto (tgt := 73) ok dX4_release_104 (by decide) ?_
            have e2 : mRelF MA (j + 1) = _ := e
            first | (rw [← e2]; exact ih (j + 1) _ (by omega) (by omega) ht) | (rw [show mRelF MA j + Int32.ofInt 1 = mRelF MA (j + 1) from e2.symm]; exact ih (j + 1) _ (by omega) (by omega) ht)
          · rw [b2i_0] at c95
            have e : mRelF MA (j + 1) = mRelF MA j + 1 := if_pos ⟨c87, c95⟩
            refine z_iinc_2 ok dX4_release_98 rfl ?_
            refine z_iinc_3 ok dX4_release_101 (zinc1 _) ?_
            refine z_goto (tgt := 73) ok dX4_release_104 (by decide) ?_
            have e2 : mRelF MA (j + 1) = _ := e
            first | (rw [← e2]; exact ih (j + 1) _ (by omega) (by omega) ht) | (rw [show mRelF MA j + Int32.ofInt 1 = mRelF MA (j + 1) from e2.symm]; exact ih (j + 1) _ (by omega) (by omega) ht)
  have k1 : ∀ (h : Nat), h < nh → oRelease M v = oTold (mu (mWas M ni) 31 h 1) (mRelF (mu (mWas M ni) 31 h 1) ni) → ∀ (t j : Nat) (H1 : Heap), ni - j < t → j ≤ ni → mTo E H m ad (mWas M j) H1 → zV κ E H1 0 0 37 [some (.ref m), some (.int (nI h)), some (.int (nI j)), none] [] := by
    intro h hh hop t
    induction t with
    | zero => intro j H1 h1; omega
    | succ t ih =>
      intro j H1 h1 h2 ht
      have hw2 := hw.was j
      refine z_iload_n ok dX4_release_37 rfl ?_
      refine z_aload_n ok dX4_release_38 rfl ?_
      refine g_X4_98 ok ht.1.ob dX4_release_39 ?_
      refine z_icmpge (tgt := 62) ok dX4_release_42 (by decide) (fun c42 => ?_) (fun c42 => ?_)
      · rw [hw2.ni, nI_leI (by omega) (by omega)] at c42
        rw [show j = ni by omega] at ht
        refine z_aload_n ok dX4_release_62 rfl ?_
        refine g_X4_74 ok ht.1.ob dX4_release_63 ?_
        refine z_iload_n ok dX4_release_66 rfl ?_
        refine z_iconst ok dX4_release_67 zic_1 ?_
        refine z_zast ok (show vp_nar .boolean 1 = 1 by decide) ht.1.a31 rfl (by omega) dX4_release_68 (fun H68 w68 => ?_)
        replace ht := ht.st 31 w68 rfl
        refine z_iconst ok dX4_release_69 zic_0 ?_
        refine z_istore_2 ok dX4_release_70 ?_
        refine z_iconst ok dX4_release_71 zic_0 ?_
        refine z_istore_3 ok dX4_release_72 ?_
        exact k2 h hh hop (ni + 1) 0 _ (by omega) (by omega) ht
      · rw [hw2.ni, nI_leI (by omega) (by omega)] at c42
        refine z_aload_n ok dX4_release_45 rfl ?_
        refine g_X4_58 ok ht.1.ob dX4_release_46 ?_
        refine z_iload_n ok dX4_release_49 rfl ?_
        refine z_aload_n ok dX4_release_50 rfl ?_
        refine z_iload_n ok dX4_release_51 rfl ?_
        refine v_X4_137 ok (m_X4_isHeld _ ht.1 hw2 (by omega)) ht.1.is dX4_release_52 zk_nx (zk_R ?_)
        refine z_zast ok (b2i_vn _) ht.1.a25 rfl (by omega) dX4_release_55 (fun H55 w55 => ?_)
        replace ht := ht.st 25 w55 rfl
        refine z_iinc_2 ok dX4_release_56 (zinc1 _) ?_
        refine z_goto (tgt := 37) ok dX4_release_59 (by decide) ?_
        exact ih (j + 1) _ (by omega) (by omega) ht
  have ht := ht0
  refine z_iload_n ok dX4_release_0 rfl ?_
  refine z_iconst ok dX4_release_1 zic_0 ?_
  refine z_aload_n ok dX4_release_2 rfl ?_
  refine g_X4_113 ok ht.1.ob dX4_release_3 ?_
  refine z_iconst ok dX4_release_6 zic_1 ?_
  refine z_isub ok dX4_release_7 ?_
  refine v_X4_91 ok (m_X4_in _ _ _) dX4_release_8 zk_nx (zk_R ?_)
  refine z_ifne (tgt := 20) ok dX4_release_11 (by decide) (fun c11 => ?_) (fun c11 => ?_)
  · rw [b2i_0] at c11
    obtain ⟨h, hh, rfl⟩ := mIn_idx (n := nh) (by rw [← hw.nh]; simpa using c11) (by omega)
    have eh : cl (nI h) = h := cl_nI (by omega)
    refine z_aload_n ok dX4_release_20 rfl ?_
    refine g_X4_74 ok ht.1.ob dX4_release_21 ?_
    refine z_iload_n ok dX4_release_24 rfl ?_
    refine z_zald ok ht.1.a31 rfl (by omega) dX4_release_25 ?_
    refine z_ifeq (tgt := 35) ok dX4_release_26 (by decide) (fun c26 => ?_) (fun c26 => ?_)
    · have hop : oRelease M (nI h) = oTold (mu (mWas M ni) 31 h 1) (mRelF (mu (mWas M ni) 31 h 1) ni) := by rw [oRelease, if_neg c11, eh, if_neg (fun z => z c26), hw.c14]
      refine z_iconst ok dX4_release_35 zic_0 ?_
      refine z_istore_2 ok dX4_release_36 ?_
      exact k1 h hh hop (ni + 1) 0 _ (by omega) (by omega) ht
    · refine z_aload_n ok dX4_release_29 rfl ?_
      refine z_iconst ok dX4_release_30 zic_2 ?_
      refine v_X4_167 ok (m_X4_refuse _ ht.1) ht.1.is dX4_release_31 zk_nx (zk_Rw (fun H9 h9 _ => ?_))
      replace ht := ht.call h9
      exact z_iret ok dX4_release_34 (zW_i (by simp [oRelease, oRefuse, oTold, mu, eh, c11, c26]) ht)
  · rw [b2i_0] at c11
    have eh : True := trivial
    refine z_aload_n ok dX4_release_14 rfl ?_
    refine z_iconst ok dX4_release_15 zic_1 ?_
    refine v_X4_167 ok (m_X4_refuse _ ht.1) ht.1.is dX4_release_16 zk_nx (zk_Rw (fun H9 h9 _ => ?_))
    replace ht := ht.call h9
    exact z_iret ok dX4_release_19 (zW_i (by simp [oRelease, oRefuse, oTold, mu, eh, c11]) ht)
set_option maxHeartbeats 4000000 in
set_option maxRecDepth 100000 in
theorem m_X4_holds {E : zE} {H : Heap} {m : Nat} {ad : Nat → Nat} {M : MS} {nf nt ni nh : Nat} (v : Int32) (hm : MP E H m ad M) (hw : mWF M nf nt ni nh) : zM E 36 yX4_holds (ws_ yX4_holds cX4_holds 4 (some .int)) 0 0 H [.ref m, .int v] (zRw (.int (oHolds M v).1) (mTo E H m ad (oHolds M v).2)) zNX := by
  refine z_of [some (.ref m), some (.int v), none, none] pn_X4 (Nat.le_of_ble_eq_true rfl) rfl (fun κ ok ho => ?_)
  have hl := hw.lim
  have ht := mTo.rf hm
  have k1 : ∀ (i : Nat), i < ni → oHolds M v = oTold M (mSetF M i nh) → ∀ (t j : Nat), nh - j < t → j ≤ nh → zV κ E H 0 0 18 [some (.ref m), some (.int (nI i)), some (.int (mSetF M i j)), some (.int (nI j))] [] := by
    intro i hi hop t
    induction t with
    | zero => intro j h1; omega
    | succ t ih =>
      intro j h1 h2
      refine z_iload_n ok dX4_holds_18 rfl ?_
      refine z_aload_n ok dX4_holds_19 rfl ?_
      refine g_X4_113 ok ht.1.ob dX4_holds_20 ?_
      refine z_icmpge (tgt := 47) ok dX4_holds_23 (by decide) (fun c23 => ?_) (fun c23 => ?_)
      · rw [hw.nh, nI_leI (by omega) (by omega)] at c23
        refine z_aload_n ok dX4_holds_47 rfl ?_
        refine z_iload_n ok dX4_holds_48 rfl ?_
        refine v_X4_161 ok (m_X4_told _ ht.1) ht.1.is dX4_holds_49 zk_nx (zk_Rw (fun H9 h9 _ => ?_))
        replace ht := ht.call h9
        exact z_iret ok dX4_holds_52 (zW_i (by rw [hop, show nh = j by omega]; rfl) ht)
      · rw [hw.nh, nI_leI (by omega) (by omega)] at c23
        refine z_aload_n ok dX4_holds_26 rfl ?_
        refine z_iload_n ok dX4_holds_27 rfl ?_
        refine z_iload_n ok dX4_holds_28 rfl ?_
        refine v_X4_130 ok (m_X4_holdsItem _ _ ht.1 (by omega) (by omega)) ht.1.is dX4_holds_29 zk_nx (zk_R ?_)
        refine z_ifeq (tgt := 41) ok dX4_holds_32 (by decide) (fun c32 => ?_) (fun c32 => ?_)
        · rw [b2i_0] at c32
          have e : mSetF M i (j + 1) = mSetF M i j := if_neg (fun z => by rw [c32] at z; exact absurd z (by decide))
          refine z_iinc_3 ok dX4_holds_41 (zinc1 _) ?_
          refine z_goto (tgt := 18) ok dX4_holds_44 (by decide) ?_
          rw [← e]
          exact ih (j + 1) (by omega) (by omega)
        · rw [b2i_0] at c32
          have e : mSetF M i (j + 1) = mSetF M i j ||| (1 <<< (nI j &&& 31)) := if_pos (by simpa using c32)
          refine z_iload_n ok dX4_holds_35 rfl ?_
          refine z_iconst ok dX4_holds_36 zic_1 ?_
          refine z_iload_n ok dX4_holds_37 rfl ?_
          refine z_ishl ok dX4_holds_38 ?_
          refine z_ior ok dX4_holds_39 ?_
          refine z_istore_2 ok dX4_holds_40 ?_
          refine z_iinc_3 ok dX4_holds_41 (zinc1 _) ?_
          refine z_goto (tgt := 18) ok dX4_holds_44 (by decide) ?_
          rw [← e]
          exact ih (j + 1) (by omega) (by omega)
  refine z_aload_n ok dX4_holds_0 rfl ?_
  refine z_iload_n ok dX4_holds_1 rfl ?_
  refine v_X4_173 ok (m_X4_isItem _ ht.1) ht.1.is dX4_holds_2 zk_nx (zk_R ?_)
  refine z_ifne (tgt := 14) ok dX4_holds_5 (by decide) (fun c5 => ?_) (fun c5 => ?_)
  · rw [b2i_0] at c5
    obtain ⟨i, hi, rfl⟩ := mIn_idx (n := ni) (by rw [← hw.ni]; simpa using c5) (by omega)
    have ei : cl (nI i) = i := cl_nI (by omega)
    refine z_iconst ok dX4_holds_14 zic_0 ?_
    refine z_istore_2 ok dX4_holds_15 ?_
    refine z_iconst ok dX4_holds_16 zic_0 ?_
    refine z_istore_3 ok dX4_holds_17 ?_
    exact k1 i hi (by rw [oHolds, if_neg c5, ei, hw.c26]) (nh + 1) 0 (by omega) (by omega)
  · rw [b2i_0] at c5
    have ei : True := trivial
    refine z_aload_n ok dX4_holds_8 rfl ?_
    refine z_iconst ok dX4_holds_9 zic_1 ?_
    refine v_X4_167 ok (m_X4_refuse _ ht.1) ht.1.is dX4_holds_10 zk_nx (zk_Rw (fun H9 h9 _ => ?_))
    replace ht := ht.call h9
    exact z_iret ok dX4_holds_13 (zW_i (by simp [oHolds, oRefuse, oTold, mu, ei, c5]) ht)
set_option maxHeartbeats 4000000 in
set_option maxRecDepth 100000 in
theorem m_X4_today {E : zE} {H : Heap} {m : Nat} {ad : Nat → Nat} {M : MS} {nf nt ni nh : Nat} (hm : MP E H m ad M) (hw : mWF M nf nt ni nh) : zM E 36 yX4_today (ws_ yX4_today cX4_today 1 (some .int)) 0 0 H [.ref m] (zRw (.int (oToday M).1) (mTo E H m ad (oToday M).2)) zNX := by
  refine z_of [some (.ref m)] pn_X4 (Nat.le_of_ble_eq_true rfl) rfl (fun κ ok ho => ?_)
  have ht := mTo.rf hm
  have hl := hw.lim
  refine z_aload_n ok dX4_today_0 rfl ?_
  refine z_aload_n ok dX4_today_1 rfl ?_
  refine g_X4_101 ok ht.1.ob dX4_today_2 ?_
  refine v_X4_161 ok (m_X4_told _ ht.1) ht.1.is dX4_today_5 zk_nx (zk_Rw (fun H9 h9 _ => ?_))
  replace ht := ht.call h9
  exact z_iret ok dX4_today_8 (zW_i (by simp [oToday, oRefuse, oTold, mu]) ht)
set_option maxHeartbeats 4000000 in
set_option maxRecDepth 100000 in
theorem m_X4_state {E : zE} {H : Heap} {m : Nat} {ad : Nat → Nat} {M : MS} {nf nt ni nh : Nat} (i : Int32) (hm : MP E H m ad M) (hw : mWF M nf nt ni nh) : zM E 36 yX4_state (ws_ yX4_state cX4_state 2 (some .int)) 0 0 H [.ref m, .int i] (zRw (.int (oState M i).1) (mTo E H m ad (oState M i).2)) zNX := by
  refine z_of [some (.ref m), some (.int i)] pn_X4 (Nat.le_of_ble_eq_true rfl) rfl (fun κ ok ho => ?_)
  have ht := mTo.rf hm
  have hl := hw.lim
  refine z_aload_n ok dX4_state_0 rfl ?_
  refine z_iload_n ok dX4_state_1 rfl ?_
  refine v_X4_173 ok (m_X4_isItem _ ht.1) ht.1.is dX4_state_2 zk_nx (zk_R ?_)
  refine z_ifne (tgt := 14) ok dX4_state_5 (by decide) (fun c5 => ?_) (fun c5 => ?_)
  · rw [b2i_0] at c5
    obtain ⟨j, hj, rfl⟩ := mIn_idx (n := ni) (by rw [← hw.ni]; simpa using c5) (by omega)
    have ej : cl (nI j) = j := cl_nI (by omega)
    refine z_aload_n ok dX4_state_14 rfl ?_
    refine z_aload_n ok dX4_state_15 rfl ?_
    refine g_X4_49 ok ht.1.ob dX4_state_16 ?_
    refine z_iload_n ok dX4_state_19 rfl ?_
    refine z_iald ok ht.1.a22 rfl (by omega) dX4_state_20 ?_
    refine v_X4_161 ok (m_X4_told _ ht.1) ht.1.is dX4_state_21 zk_nx (zk_Rw (fun H9 h9 _ => ?_))
    replace ht := ht.call h9
    exact z_iret ok dX4_state_24 (zW_i (by simp [oState, oRefuse, oTold, mu, ej, c5]) ht)
  · rw [b2i_0] at c5
    have ej : True := trivial
    refine z_aload_n ok dX4_state_8 rfl ?_
    refine z_iconst ok dX4_state_9 zic_1 ?_
    refine v_X4_167 ok (m_X4_refuse _ ht.1) ht.1.is dX4_state_10 zk_nx (zk_Rw (fun H9 h9 _ => ?_))
    replace ht := ht.call h9
    exact z_iret ok dX4_state_13 (zW_i (by simp [oState, oRefuse, oTold, mu, ej, c5]) ht)
set_option maxHeartbeats 4000000 in
set_option maxRecDepth 100000 in
theorem m_X4_tagOf {E : zE} {H : Heap} {m : Nat} {ad : Nat → Nat} {M : MS} {nf nt ni nh : Nat} (i : Int32) (hm : MP E H m ad M) (hw : mWF M nf nt ni nh) : zM E 36 yX4_tagOf (ws_ yX4_tagOf cX4_tagOf 2 (some .int)) 0 0 H [.ref m, .int i] (zRw (.int (oTagOf M i).1) (mTo E H m ad (oTagOf M i).2)) zNX := by
  refine z_of [some (.ref m), some (.int i)] pn_X4 (Nat.le_of_ble_eq_true rfl) rfl (fun κ ok ho => ?_)
  have ht := mTo.rf hm
  have hl := hw.lim
  refine z_aload_n ok dX4_tagOf_0 rfl ?_
  refine z_iload_n ok dX4_tagOf_1 rfl ?_
  refine v_X4_173 ok (m_X4_isItem _ ht.1) ht.1.is dX4_tagOf_2 zk_nx (zk_R ?_)
  refine z_ifne (tgt := 14) ok dX4_tagOf_5 (by decide) (fun c5 => ?_) (fun c5 => ?_)
  · rw [b2i_0] at c5
    obtain ⟨j, hj, rfl⟩ := mIn_idx (n := ni) (by rw [← hw.ni]; simpa using c5) (by omega)
    have ej : cl (nI j) = j := cl_nI (by omega)
    refine z_aload_n ok dX4_tagOf_14 rfl ?_
    refine z_aload_n ok dX4_tagOf_15 rfl ?_
    refine z_iload_n ok dX4_tagOf_16 rfl ?_
    refine v_X4_120 ok (m_X4_countingTag _ ht.1 hw hj) ht.1.is dX4_tagOf_17 zk_nx (zk_R ?_)
    refine v_X4_161 ok (m_X4_told _ ht.1) ht.1.is dX4_tagOf_20 zk_nx (zk_Rw (fun H9 h9 _ => ?_))
    replace ht := ht.call h9
    exact z_iret ok dX4_tagOf_23 (zW_i (by simp [oTagOf, oRefuse, oTold, mu, ej, c5]) ht)
  · rw [b2i_0] at c5
    have ej : True := trivial
    refine z_aload_n ok dX4_tagOf_8 rfl ?_
    refine z_iconst ok dX4_tagOf_9 zic_1 ?_
    refine v_X4_167 ok (m_X4_refuse _ ht.1) ht.1.is dX4_tagOf_10 zk_nx (zk_Rw (fun H9 h9 _ => ?_))
    replace ht := ht.call h9
    exact z_iret ok dX4_tagOf_13 (zW_i (by simp [oTagOf, oRefuse, oTold, mu, ej, c5]) ht)
set_option maxHeartbeats 4000000 in
set_option maxRecDepth 100000 in
theorem m_X4_ruleOf {E : zE} {H : Heap} {m : Nat} {ad : Nat → Nat} {M : MS} {nf nt ni nh : Nat} (i : Int32) (hm : MP E H m ad M) (hw : mWF M nf nt ni nh) : zM E 36 yX4_ruleOf (ws_ yX4_ruleOf cX4_ruleOf 3 (some .int)) 0 0 H [.ref m, .int i] (zRw (.int (oRuleOf M i).1) (mTo E H m ad (oRuleOf M i).2)) zNX := by
  refine z_of [some (.ref m), some (.int i), none] pn_X4 (Nat.le_of_ble_eq_true rfl) rfl (fun κ ok ho => ?_)
  have ht := mTo.rf hm
  have hl := hw.lim
  refine z_aload_n ok dX4_ruleOf_0 rfl ?_
  refine z_iload_n ok dX4_ruleOf_1 rfl ?_
  refine v_X4_173 ok (m_X4_isItem _ ht.1) ht.1.is dX4_ruleOf_2 zk_nx (zk_R ?_)
  refine z_ifne (tgt := 14) ok dX4_ruleOf_5 (by decide) (fun c5 => ?_) (fun c5 => ?_)
  · rw [b2i_0] at c5
    obtain ⟨j, hj, rfl⟩ := mIn_idx (n := ni) (by rw [← hw.ni]; simpa using c5) (by omega)
    have ej : cl (nI j) = j := cl_nI (by omega)
    refine z_aload_n ok dX4_ruleOf_14 rfl ?_
    refine g_X4_43 ok ht.1.ob dX4_ruleOf_15 ?_
    refine z_iload_n ok dX4_ruleOf_18 rfl ?_
    refine z_iald ok ht.1.a20 rfl (by omega) dX4_ruleOf_19 ?_
    refine z_iconst ok dX4_ruleOf_20 zic_m1 ?_
    refine z_icmpeq (tgt := 30) ok dX4_ruleOf_21 (by decide) (fun c21 => ?_) (fun c21 => ?_)
    · refine z_aload_n ok dX4_ruleOf_30 rfl ?_
      refine z_iload_n ok dX4_ruleOf_31 rfl ?_
      refine v_X4_116 ok (m_X4_tellingFolder _ ht.1 hw hj) ht.1.is dX4_ruleOf_32 zk_nx (zk_R ?_)
      refine z_istore_2 ok dX4_ruleOf_35 ?_
      refine z_iload_n ok dX4_ruleOf_36 rfl ?_
      refine z_iconst ok dX4_ruleOf_37 zic_m1 ?_
      refine z_icmpeq (tgt := 50) ok dX4_ruleOf_38 (by decide) (fun c38 => ?_) (fun c38 => ?_)
      · refine z_aload_n ok dX4_ruleOf_50 rfl ?_
        refine g_X4_110 ok ht.1.ob dX4_ruleOf_51 ?_
        refine z_iconst ok dX4_ruleOf_54 zic_m1 ?_
        refine z_icmpeq (tgt := 64) ok dX4_ruleOf_55 (by decide) (fun c55 => ?_) (fun c55 => ?_)
        · refine z_aload_n ok dX4_ruleOf_64 rfl ?_
          refine z_iconst ok dX4_ruleOf_65 zic_m1 ?_
          refine v_X4_161 ok (m_X4_told _ ht.1) ht.1.is dX4_ruleOf_66 zk_nx (zk_Rw (fun H9 h9 _ => ?_))
          replace ht := ht.call h9
          exact z_iret ok dX4_ruleOf_69 (zW_i (by simp [oRuleOf, oRefuse, oTold, mu, mRule, ej, c5, c21, c38, c55]) ht)
        · refine z_aload_n ok dX4_ruleOf_58 rfl ?_
          refine z_iconst ok dX4_ruleOf_59 zic_2 ?_
          refine v_X4_161 ok (m_X4_told _ ht.1) ht.1.is dX4_ruleOf_60 zk_nx (zk_Rw (fun H9 h9 _ => ?_))
          replace ht := ht.call h9
          exact z_iret ok dX4_ruleOf_63 (zW_i (by simp [oRuleOf, oRefuse, oTold, mu, mRule, ej, c5, c21, c38, c55]) ht)
      · refine z_aload_n ok dX4_ruleOf_41 rfl ?_
        refine z_bipush ok dX4_ruleOf_42 zbc_10 ?_
        refine z_iload_n ok dX4_ruleOf_44 rfl ?_
        refine z_iadd ok dX4_ruleOf_45 ?_
        refine v_X4_161 ok (m_X4_told _ ht.1) ht.1.is dX4_ruleOf_46 zk_nx (zk_Rw (fun H9 h9 _ => ?_))
        replace ht := ht.call h9
        exact z_iret ok dX4_ruleOf_49 (zW_i (by simp [oRuleOf, oRefuse, oTold, mu, mRule, ej, c5, c21, c38]) ht)
    · refine z_aload_n ok dX4_ruleOf_24 rfl ?_
      refine z_iconst ok dX4_ruleOf_25 zic_1 ?_
      refine v_X4_161 ok (m_X4_told _ ht.1) ht.1.is dX4_ruleOf_26 zk_nx (zk_Rw (fun H9 h9 _ => ?_))
      replace ht := ht.call h9
      exact z_iret ok dX4_ruleOf_29 (zW_i (by simp [oRuleOf, oRefuse, oTold, mu, mRule, ej, c5, c21]) ht)
  · rw [b2i_0] at c5
    have ej : True := trivial
    refine z_aload_n ok dX4_ruleOf_8 rfl ?_
    refine z_iconst ok dX4_ruleOf_9 zic_1 ?_
    refine v_X4_167 ok (m_X4_refuse _ ht.1) ht.1.is dX4_ruleOf_10 zk_nx (zk_Rw (fun H9 h9 _ => ?_))
    replace ht := ht.call h9
    exact z_iret ok dX4_ruleOf_13 (zW_i (by simp [oRuleOf, oRefuse, oTold, mu, mRule, ej, c5]) ht)
set_option maxHeartbeats 4000000 in
set_option maxRecDepth 100000 in
theorem m_X4_due {E : zE} {H : Heap} {m : Nat} {ad : Nat → Nat} {M : MS} {nf nt ni nh : Nat} (i : Int32) (hm : MP E H m ad M) (hw : mWF M nf nt ni nh) : zM E 36 yX4_due (ws_ yX4_due cX4_due 2 (some .int)) 0 0 H [.ref m, .int i] (zRw (.int (oDue M i).1) (mTo E H m ad (oDue M i).2)) zNX := by
  refine z_of [some (.ref m), some (.int i)] pn_X4 (Nat.le_of_ble_eq_true rfl) rfl (fun κ ok ho => ?_)
  have ht := mTo.rf hm
  have hl := hw.lim
  refine z_aload_n ok dX4_due_0 rfl ?_
  refine z_iload_n ok dX4_due_1 rfl ?_
  refine v_X4_173 ok (m_X4_isItem _ ht.1) ht.1.is dX4_due_2 zk_nx (zk_R ?_)
  refine z_ifne (tgt := 14) ok dX4_due_5 (by decide) (fun c5 => ?_) (fun c5 => ?_)
  · rw [b2i_0] at c5
    obtain ⟨j, hj, rfl⟩ := mIn_idx (n := ni) (by rw [← hw.ni]; simpa using c5) (by omega)
    have ej : cl (nI j) = j := cl_nI (by omega)
    refine z_aload_n ok dX4_due_14 rfl ?_
    refine z_aload_n ok dX4_due_15 rfl ?_
    refine z_iload_n ok dX4_due_16 rfl ?_
    refine v_X4_127 ok (m_X4_dueDay _ ht.1 hw hj) ht.1.is dX4_due_17 zk_nx (zk_R ?_)
    refine v_X4_161 ok (m_X4_told _ ht.1) ht.1.is dX4_due_20 zk_nx (zk_Rw (fun H9 h9 _ => ?_))
    replace ht := ht.call h9
    exact z_iret ok dX4_due_23 (zW_i (by simp [oDue, oRefuse, oTold, mu, ej, c5]) ht)
  · rw [b2i_0] at c5
    have ej : True := trivial
    refine z_aload_n ok dX4_due_8 rfl ?_
    refine z_iconst ok dX4_due_9 zic_1 ?_
    refine v_X4_167 ok (m_X4_refuse _ ht.1) ht.1.is dX4_due_10 zk_nx (zk_Rw (fun H9 h9 _ => ?_))
    replace ht := ht.call h9
    exact z_iret ok dX4_due_13 (zW_i (by simp [oDue, oRefuse, oTold, mu, ej, c5]) ht)
set_option maxHeartbeats 4000000 in
set_option maxRecDepth 100000 in
theorem m_X4_later {E : zE} {H : Heap} (a b : Int32)  : zM E 20 yX4_later (ws_ yX4_later cX4_later 2 (some .int)) 0 0 H [.int a, .int b] (zR H (.int (mLater a b))) zNX := by
  refine z_of [some (.int a), some (.int b)] pn_X4 (Nat.le_of_ble_eq_true rfl) rfl (fun κ ok ho => ?_)
  refine z_iload_n ok dX4_later_0 rfl ?_
  refine z_iload_n ok dX4_later_1 rfl ?_
  refine z_icmple (tgt := 7) ok dX4_later_2 (by decide) (fun c2 => ?_) (fun c2 => ?_)
  · refine z_iload_n ok dX4_later_7 rfl ?_
    exact z_iret ok dX4_later_8 (zR_i (by rw [mLater, if_neg (fun z => absurd c2 (Int32.not_le.mpr z))]))
  · refine z_iload_n ok dX4_later_5 rfl ?_
    exact z_iret ok dX4_later_6 (zR_i (by rw [mLater, if_pos (Int32.not_le.mp c2)]))
set_option maxHeartbeats 4000000 in
set_option maxRecDepth 100000 in
theorem m_X4_endDay {E : zE} {H : Heap} {m : Nat} {ad : Nat → Nat} {M : MS} {nf nt ni nh : Nat} (i : Nat) (hm : MP E H m ad M) (hw : mWF M nf nt ni nh) (hi : i < ni) : zM E 32 yX4_endDay (ws_ yX4_endDay cX4_endDay 4 (some .int)) 0 0 H [.ref m, .int (nI i)] (zR H (.int (mEnd M i))) zNX := by
  refine z_of [some (.ref m), some (.int (nI i)), none, none] pn_X4 (Nat.le_of_ble_eq_true rfl) rfl (fun κ ok ho => ?_)
  have hl := hw.lim
  refine z_aload_n ok dX4_endDay_0 rfl ?_
  refine g_X4_49 ok hm.ob dX4_endDay_1 ?_
  refine z_iload_n ok dX4_endDay_4 rfl ?_
  refine z_iald ok hm.a22 rfl (by omega) dX4_endDay_5 ?_
  refine z_iconst ok dX4_endDay_6 zic_3 ?_
  refine z_icmpne (tgt := 17) ok dX4_endDay_7 (by decide) (fun c7 => ?_) (fun c7 => ?_)
  · refine z_aload_n ok dX4_endDay_17 rfl ?_
    refine z_iload_n ok dX4_endDay_18 rfl ?_
    refine v_X4_137 ok (m_X4_isHeld _ hm hw (by omega)) hm.is dX4_endDay_19 zk_nx (zk_R ?_)
    refine z_ifeq (tgt := 27) ok dX4_endDay_22 (by decide) (fun c22 => ?_) (fun c22 => ?_)
    · rw [b2i_0] at c22
      refine z_aload_n ok dX4_endDay_27 rfl ?_
      refine g_X4_49 ok hm.ob dX4_endDay_28 ?_
      refine z_iload_n ok dX4_endDay_31 rfl ?_
      refine z_iald ok hm.a22 rfl (by omega) dX4_endDay_32 ?_
      refine z_iconst ok dX4_endDay_33 zic_2 ?_
      refine z_icmpne (tgt := 58) ok dX4_endDay_34 (by decide) (fun c34 => ?_) (fun c34 => ?_)
      · refine z_aload_n ok dX4_endDay_58 rfl ?_
        refine z_iload_n ok dX4_endDay_59 rfl ?_
        refine v_X4_120 ok (m_X4_countingTag _ hm hw hi) hm.is dX4_endDay_60 zk_nx (zk_R ?_)
        refine z_istore_2 ok dX4_endDay_63 ?_
        refine z_aload_n ok dX4_endDay_64 rfl ?_
        refine z_iload_n ok dX4_endDay_65 rfl ?_
        refine v_X4_127 ok (m_X4_dueDay _ hm hw hi) hm.is dX4_endDay_66 zk_nx (zk_R ?_)
        refine z_istore_3 ok dX4_endDay_69 ?_
        refine z_iload_n ok dX4_endDay_70 rfl ?_
        refine z_iconst ok dX4_endDay_71 zic_m1 ?_
        refine z_icmpeq (tgt := 80) ok dX4_endDay_72 (by decide) (fun c72 => ?_) (fun c72 => ?_)
        · refine z_iconst ok dX4_endDay_80 zic_m1 ?_
          exact z_iret ok dX4_endDay_81 (zR_i (by rw [mEnd, if_neg c7, if_neg (by rw [c22]; decide), if_neg c34, if_pos (by first | exact Or.inl c72 | exact Or.inr c77)]))
        · refine z_iload_n ok dX4_endDay_75 rfl ?_
          refine z_iconst ok dX4_endDay_76 zic_m1 ?_
          refine z_icmpne (tgt := 82) ok dX4_endDay_77 (by decide) (fun c77 => ?_) (fun c77 => ?_)
          · rcases mCnt_pt hw hi with e | ⟨t, ht, e⟩
            · exact absurd e c72
            have et : cl (nI t) = t := cl_nI (by omega)
            refine z_aload_n ok dX4_endDay_82 rfl ?_
            refine g_X4_16 ok hm.ob dX4_endDay_83 ?_
            refine z_iload_n ok dX4_endDay_86 rfl ?_
            refine z_iald ok hm.a10 e (by omega) dX4_endDay_87 ?_
            refine z_ifeq (tgt := 93) ok dX4_endDay_88 (by decide) (fun c88 => ?_) (fun c88 => ?_)
            · refine z_iload_n ok dX4_endDay_93 rfl ?_
              refine z_aload_n ok dX4_endDay_94 rfl ?_
              refine g_X4_101 ok hm.ob dX4_endDay_95 ?_
              refine z_iconst ok dX4_endDay_98 zic_1 ?_
              refine z_iadd ok dX4_endDay_99 ?_
              refine v_X4_186 ok (m_X4_later _ _) dX4_endDay_100 zk_nx (zk_R ?_)
              refine z_aload_n ok dX4_endDay_103 rfl ?_
              refine g_X4_104 ok hm.ob dX4_endDay_104 ?_
              refine z_iadd ok dX4_endDay_107 ?_
              exact z_iret ok dX4_endDay_108 (zR_i (by rw [mEnd, if_neg c7, if_neg (by rw [c22]; decide), if_neg c34, if_neg (fun z => z.elim c72 c77), e, et, if_neg (fun z => z c88)]))
            · refine z_iconst ok dX4_endDay_91 zic_m1 ?_
              exact z_iret ok dX4_endDay_92 (zR_i (by rw [mEnd, if_neg c7, if_neg (by rw [c22]; decide), if_neg c34, if_neg (fun z => z.elim c72 c77), e, et, if_pos c88]))
          · refine z_iconst ok dX4_endDay_80 zic_m1 ?_
            exact z_iret ok dX4_endDay_81 (zR_i (by rw [mEnd, if_neg c7, if_neg (by rw [c22]; decide), if_neg c34, if_pos (by first | exact Or.inl c72 | exact Or.inr c77)]))
      · refine z_aload_n ok dX4_endDay_37 rfl ?_
        refine g_X4_52 ok hm.ob dX4_endDay_38 ?_
        refine z_iload_n ok dX4_endDay_41 rfl ?_
        refine z_iald ok hm.a23 rfl (by omega) dX4_endDay_42 ?_
        refine z_aload_n ok dX4_endDay_43 rfl ?_
        refine g_X4_104 ok hm.ob dX4_endDay_44 ?_
        refine z_iadd ok dX4_endDay_47 ?_
        refine z_aload_n ok dX4_endDay_48 rfl ?_
        refine g_X4_101 ok hm.ob dX4_endDay_49 ?_
        refine z_iconst ok dX4_endDay_52 zic_1 ?_
        refine z_iadd ok dX4_endDay_53 ?_
        refine v_X4_186 ok (m_X4_later _ _) dX4_endDay_54 zk_nx (zk_R ?_)
        exact z_iret ok dX4_endDay_57 (zR_i (by rw [mEnd, if_neg c7, if_neg (by rw [c22]; decide), if_pos c34]))
    · rw [b2i_0] at c22
      refine z_iconst ok dX4_endDay_25 zic_m1 ?_
      exact z_iret ok dX4_endDay_26 (zR_i (by rw [mEnd, if_neg c7, if_pos (by simpa using c22)]))
  · refine z_aload_n ok dX4_endDay_10 rfl ?_
    refine g_X4_55 ok hm.ob dX4_endDay_11 ?_
    refine z_iload_n ok dX4_endDay_14 rfl ?_
    refine z_iald ok hm.a24 rfl (by omega) dX4_endDay_15 ?_
    exact z_iret ok dX4_endDay_16 (zR_i (by rw [mEnd, if_pos c7]))
set_option maxHeartbeats 4000000 in
set_option maxRecDepth 100000 in
theorem m_X4_end {E : zE} {H : Heap} {m : Nat} {ad : Nat → Nat} {M : MS} {nf nt ni nh : Nat} (i : Int32) (hm : MP E H m ad M) (hw : mWF M nf nt ni nh) : zM E 36 yX4_end (ws_ yX4_end cX4_end 2 (some .int)) 0 0 H [.ref m, .int i] (zRw (.int (oEnd M i).1) (mTo E H m ad (oEnd M i).2)) zNX := by
  refine z_of [some (.ref m), some (.int i)] pn_X4 (Nat.le_of_ble_eq_true rfl) rfl (fun κ ok ho => ?_)
  have ht := mTo.rf hm
  have hl := hw.lim
  refine z_aload_n ok dX4_end_0 rfl ?_
  refine z_iload_n ok dX4_end_1 rfl ?_
  refine v_X4_173 ok (m_X4_isItem _ ht.1) ht.1.is dX4_end_2 zk_nx (zk_R ?_)
  refine z_ifne (tgt := 14) ok dX4_end_5 (by decide) (fun c5 => ?_) (fun c5 => ?_)
  · rw [b2i_0] at c5
    obtain ⟨j, hj, rfl⟩ := mIn_idx (n := ni) (by rw [← hw.ni]; simpa using c5) (by omega)
    have ej : cl (nI j) = j := cl_nI (by omega)
    refine z_aload_n ok dX4_end_14 rfl ?_
    refine z_aload_n ok dX4_end_15 rfl ?_
    refine z_iload_n ok dX4_end_16 rfl ?_
    refine v_X4_189 ok (m_X4_endDay _ ht.1 hw hj) ht.1.is dX4_end_17 zk_nx (zk_R ?_)
    refine v_X4_161 ok (m_X4_told _ ht.1) ht.1.is dX4_end_20 zk_nx (zk_Rw (fun H9 h9 _ => ?_))
    replace ht := ht.call h9
    exact z_iret ok dX4_end_23 (zW_i (by simp [oEnd, oRefuse, oTold, mu, ej, c5]) ht)
  · rw [b2i_0] at c5
    have ej : True := trivial
    refine z_aload_n ok dX4_end_8 rfl ?_
    refine z_iconst ok dX4_end_9 zic_1 ?_
    refine v_X4_167 ok (m_X4_refuse _ ht.1) ht.1.is dX4_end_10 zk_nx (zk_Rw (fun H9 h9 _ => ?_))
    replace ht := ht.call h9
    exact z_iret ok dX4_end_13 (zW_i (by simp [oEnd, oRefuse, oTold, mu, ej, c5]) ht)
set_option maxHeartbeats 4000000 in
set_option maxRecDepth 100000 in
theorem m_X4_firstOut {E : zE} {H : Heap} {m : Nat} {ad : Nat → Nat} {M : MS} {nf nt ni nh : Nat} (hm : MP E H m ad M) (hw : mWF M nf nt ni nh) : zM E 36 yX4_firstOut (ws_ yX4_firstOut cX4_firstOut 2 (some .int)) 0 0 H [.ref m] (zRw (.int (oFirstOut M).1) (mTo E H m ad (oFirstOut M).2)) zNX := by
  refine z_of [some (.ref m), none] pn_X4 (Nat.le_of_ble_eq_true rfl) rfl (fun κ ok ho => ?_)
  have ht := mTo.rf hm
  have hl := hw.lim
  refine z_aload_n ok dX4_firstOut_0 rfl ?_
  refine v_X4_141 ok (m_X4_outFirst ht.1 hw) ht.1.is dX4_firstOut_1 zk_nx (zk_R ?_)
  refine z_istore_1 ok dX4_firstOut_4 ?_
  refine z_iload_n ok dX4_firstOut_5 rfl ?_
  refine z_iconst ok dX4_firstOut_6 zic_m1 ?_
  refine z_icmpne (tgt := 16) ok dX4_firstOut_7 (by decide) (fun c7 => ?_) (fun c7 => ?_)
  · refine z_aload_n ok dX4_firstOut_16 rfl ?_
    refine z_iload_n ok dX4_firstOut_17 rfl ?_
    refine v_X4_161 ok (m_X4_told _ ht.1) ht.1.is dX4_firstOut_18 zk_nx (zk_Rw (fun H9 h9 _ => ?_))
    replace ht := ht.call h9
    exact z_iret ok dX4_firstOut_21 (zW_i (by simp [oFirstOut, oRefuse, oTold, mu, c7]) ht)
  · refine z_aload_n ok dX4_firstOut_10 rfl ?_
    refine z_iconst ok dX4_firstOut_11 zic_1 ?_
    refine v_X4_167 ok (m_X4_refuse _ ht.1) ht.1.is dX4_firstOut_12 zk_nx (zk_Rw (fun H9 h9 _ => ?_))
    replace ht := ht.call h9
    exact z_iret ok dX4_firstOut_15 (zW_i (by simp [oFirstOut, oRefuse, oTold, mu, c7]) ht)
set_option maxHeartbeats 4000000 in
set_option maxRecDepth 100000 in
theorem m_X4_errors {E : zE} {H : Heap} {m : Nat} {ad : Nat → Nat} {M : MS} (hm : MP E H m ad M) : zM E 36 yX4_errors (ws_ yX4_errors cX4_errors 1 (some .int)) 0 0 H [.ref m] (zRw (.int 0) (mTo E H m ad (mu M 0 0 0))) zNX := by
  refine z_of [some (.ref m)] pn_X4 (Nat.le_of_ble_eq_true rfl) rfl (fun κ ok ho => ?_)
  have ht := mTo.rf hm
  refine z_aload_n ok dX4_errors_0 rfl ?_
  refine z_iconst ok dX4_errors_1 zic_0 ?_
  refine v_X4_161 ok (m_X4_told _ ht.1) ht.1.is dX4_errors_2 zk_nx (zk_Rw (fun H9 h9 _ => ?_))
  replace ht := ht.call h9
  exact z_iret ok dX4_errors_5 ⟨rfl, ht⟩
set_option maxHeartbeats 4000000 in
set_option maxRecDepth 100000 in
theorem m_X4_count {E : zE} {H : Heap} {m : Nat} {ad : Nat → Nat} {M : MS} {nf nt ni nh : Nat} (s x : Int32) (hm : MP E H m ad M) (hw : mWF M nf nt ni nh) : zM E 36 yX4_count (ws_ yX4_count cX4_count 5 (some .int)) 0 0 H [.ref m, .int s, .int x] (zRw (.int (oCount M s x).1) (mTo E H m ad (oCount M s x).2)) zNX := by
  refine z_of [some (.ref m), some (.int s), some (.int x), none, none] pn_X4 (Nat.le_of_ble_eq_true rfl) rfl (fun κ ok ho => ?_)
  have hl := hw.lim
  have ht := mTo.rf hm
  have k1 : oCount M s x = oTold M (mCountF M s ni) → ∀ (t j : Nat), ni - j < t → j ≤ ni → zV κ E H 0 0 34 [some (.ref m), some (.int s), some (.int 0), some (.int (mCountF M s j)), some (.int (nI j))] [] := by
    intro hop t
    induction t with
    | zero => intro j h1; omega
    | succ t ih =>
      intro j h1 h2
      refine z_iload ok dX4_count_34 rfl ?_
      refine z_aload_n ok dX4_count_36 rfl ?_
      refine g_X4_98 ok ht.1.ob dX4_count_37 ?_
      refine z_icmpge (tgt := 63) ok dX4_count_40 (by decide) (fun c40 => ?_) (fun c40 => ?_)
      · rw [hw.ni, nI_leI (by omega) (by omega)] at c40
        refine z_aload_n ok dX4_count_63 rfl ?_
        refine z_iload_n ok dX4_count_64 rfl ?_
        refine v_X4_161 ok (m_X4_told _ ht.1) ht.1.is dX4_count_65 zk_nx (zk_Rw (fun H9 h9 _ => ?_))
        replace ht := ht.call h9
        exact z_iret ok dX4_count_68 (zW_i (by rw [hop, show ni = j by omega]; rfl) ht)
      · rw [hw.ni, nI_leI (by omega) (by omega)] at c40
        refine z_aload_n ok dX4_count_43 rfl ?_
        refine g_X4_49 ok ht.1.ob dX4_count_44 ?_
        refine z_iload ok dX4_count_47 rfl ?_
        refine z_iald ok ht.1.a22 rfl (by omega) dX4_count_49 ?_
        refine z_iload_n ok dX4_count_50 rfl ?_
        refine z_icmpne (tgt := 57) ok dX4_count_51 (by decide) (fun c51 => ?_) (fun c51 => ?_)
        · have e : mCountF M s (j + 1) = mCountF M s j := if_neg c51
          refine z_iinc_4 ok dX4_count_57 (zinc1 _) ?_
          refine z_goto (tgt := 34) ok dX4_count_60 (by decide) ?_
          first | exact ih (j + 1) (by omega) (by omega) | (rw [← e]; exact ih (j + 1) (by omega) (by omega))
        · have e : mCountF M s (j + 1) = mCountF M s j + 1 := if_pos c51
          refine z_iinc_3 ok dX4_count_54 e.symm ?_
          refine z_iinc_4 ok dX4_count_57 (zinc1 _) ?_
          refine z_goto (tgt := 34) ok dX4_count_60 (by decide) ?_
          first | exact ih (j + 1) (by omega) (by omega) | (rw [← e]; exact ih (j + 1) (by omega) (by omega))
  refine z_iload_n ok dX4_count_0 rfl ?_
  refine z_iconst ok dX4_count_1 zic_0 ?_
  refine z_iconst ok dX4_count_2 zic_3 ?_
  refine v_X4_91 ok (m_X4_in _ _ _) dX4_count_3 zk_nx (zk_R ?_)
  refine z_ifne (tgt := 15) ok dX4_count_6 (by decide) (fun c6 => ?_) (fun c6 => ?_)
  · rw [b2i_0] at c6
    refine z_iload_n ok dX4_count_15 rfl ?_
    refine z_ifeq (tgt := 29) ok dX4_count_16 (by decide) (fun c16 => ?_) (fun c16 => ?_)
    · subst c16
      refine z_iconst ok dX4_count_29 zic_0 ?_
      refine z_istore_3 ok dX4_count_30 ?_
      refine z_iconst ok dX4_count_31 zic_0 ?_
      refine z_istore_4 ok dX4_count_32 ?_
      exact k1 (by rw [oCount, if_neg c6, if_neg (fun z => z rfl), hw.c14]) (ni + 1) 0 (by omega) (by omega)
    · refine z_aload_n ok dX4_count_19 rfl ?_
      refine z_aload_n ok dX4_count_20 rfl ?_
      refine z_iload_n ok dX4_count_21 rfl ?_
      refine v_X4_145 ok (m_X4_sumOf _ ht.1 hw) ht.1.is dX4_count_22 zk_nx (zk_R ?_)
      refine v_X4_161 ok (m_X4_told _ ht.1) ht.1.is dX4_count_25 zk_nx (zk_Rw (fun H9 h9 _ => ?_))
      replace ht := ht.call h9
      exact z_iret ok dX4_count_28 (zW_i (by simp [oCount, oRefuse, oTold, mu, c6, c16]) ht)
  · rw [b2i_0] at c6
    refine z_aload_n ok dX4_count_9 rfl ?_
    refine z_iconst ok dX4_count_10 zic_1 ?_
    refine v_X4_167 ok (m_X4_refuse _ ht.1) ht.1.is dX4_count_11 zk_nx (zk_Rw (fun H9 h9 _ => ?_))
    replace ht := ht.call h9
    exact z_iret ok dX4_count_14 (zW_i (by simp [oCount, oRefuse, oTold, mu, c6]) ht)
set_option maxHeartbeats 4000000 in
set_option maxRecDepth 100000 in
theorem m_X4_writes {E : zE} {H : Heap} {m : Nat} {ad : Nat → Nat} {M : MS} (o : Nat) (c : Int32) (hm : MP E H m ad M) (hov : M 33 0 = nI o) (hol : o < 60) (hc : c.toInt8.toInt32 = c) : zM E 20 yX4_writes (ws_ yX4_writes cX4_writes 2 none) 0 0 H [.ref m, .int c] (zRv (mTo E H m ad (mWr M c))) zNX := by
  refine z_of [some (.ref m), some (.int c)] pn_X4 (Nat.le_of_ble_eq_true rfl) rfl (fun κ ok ho => ?_)
  have ht := mTo.rf hm
  have eo : cl (M 33 0) = o := by rw [hov]; exact cl_nI (by omega)
  refine z_aload_n ok dX4_writes_0 rfl ?_
  refine g_X4_77 ok ht.1.ob dX4_writes_1 ?_
  refine z_aload_n ok dX4_writes_4 rfl ?_
  refine g_X4_192 ok ht.1.ob dX4_writes_5 ?_
  refine z_iload_n ok dX4_writes_8 rfl ?_
  refine z_i2b ok dX4_writes_9 ?_
  refine z_bast ok (show vp_nar .byte c.toInt8.toInt32 = c by rw [vp_nar_byte, hc, hc]) ht.1.a32 hov (by omega) dX4_writes_10 (fun H10 w10 => ?_)
  replace ht := ht.st 32 w10 rfl
  refine z_aload_n ok dX4_writes_11 rfl ?_
  refine z_dup ok dX4_writes_12 ?_
  refine g_X4_192 ok ht.1.ob dX4_writes_13 ?_
  refine z_iconst ok dX4_writes_16 zic_1 ?_
  refine z_iadd ok dX4_writes_17 ?_
  refine p_X4_192 ok ht.1.1 dX4_writes_18 (fun H18 w18 => ?_)
  replace ht := ht.put 33 w18 rfl
  exact z_vret ok dX4_writes_21 ⟨rfl, by rw [mWr, eo]; exact ht⟩
