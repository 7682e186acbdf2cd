/-! walks of the twin, printed by gen/model.py -/
set_option maxRecDepth 100000
set_option maxHeartbeats 4000000 in
set_option maxRecDepth 100000 in
theorem m_X4_writesState {E : zE} {H : Heap} {m : Nat} {ad : Nat → Nat} {M : MS} (o : Nat) (s : Int32) (hm : MP E H m ad M) (hov : M 33 0 = nI o) (hol : o + 8 ≤ 60) : zM E 21 yX4_writesState (ws_ yX4_writesState cX4_writesState 2 none) 0 0 H [.ref m, .int s] (zRv (mTo E H m ad (mWrL M (mWord s)))) zNX := by
  refine z_of [some (.ref m), some (.int s)] pn_X4 (Nat.le_of_ble_eq_true rfl) rfl (fun κ ok ho => ?_)
  have ht := mTo.rf hm
  refine z_iload_n ok dX4_writesState_0 rfl ?_
  refine z_ifne (tgt := 19) ok dX4_writesState_1 (by decide) (fun c1 => ?_) (fun c1 => ?_)
  · refine z_iload_n ok dX4_writesState_19 rfl ?_
    refine z_iconst ok dX4_writesState_20 zic_1 ?_
    refine z_icmpne (tgt := 75) ok dX4_writesState_21 (by decide) (fun c21 => ?_) (fun c21 => ?_)
    · refine z_iload_n ok dX4_writesState_75 rfl ?_
      refine z_iconst ok dX4_writesState_76 zic_2 ?_
      refine z_icmpne (tgt := 125) ok dX4_writesState_77 (by decide) (fun c77 => ?_) (fun c77 => ?_)
      · refine z_aload_n ok dX4_writesState_125 rfl ?_
        refine z_bipush ok dX4_writesState_126 zbc_103 ?_
        refine v_X4_195 ok (m_X4_writes _ _ ht.1 hov (by omega) (by decide)) ht.1.is dX4_writesState_128 zk_nx (zk_Rv (fun H9 h9 _ => ?_))
        replace ht := ht.call h9
        replace hov := hov_wr h9 hov
        refine z_aload_n ok dX4_writesState_131 rfl ?_
        refine z_bipush ok dX4_writesState_132 zbc_111 ?_
        refine v_X4_195 ok (m_X4_writes _ _ ht.1 hov (by omega) (by decide)) ht.1.is dX4_writesState_134 zk_nx (zk_Rv (fun H9 h9 _ => ?_))
        replace ht := ht.call h9
        replace hov := hov_wr h9 hov
        refine z_aload_n ok dX4_writesState_137 rfl ?_
        refine z_bipush ok dX4_writesState_138 zbc_110 ?_
        refine v_X4_195 ok (m_X4_writes _ _ ht.1 hov (by omega) (by decide)) ht.1.is dX4_writesState_140 zk_nx (zk_Rv (fun H9 h9 _ => ?_))
        replace ht := ht.call h9
        replace hov := hov_wr h9 hov
        refine z_aload_n ok dX4_writesState_143 rfl ?_
        refine z_bipush ok dX4_writesState_144 zbc_101 ?_
        refine v_X4_195 ok (m_X4_writes _ _ ht.1 hov (by omega) (by decide)) ht.1.is dX4_writesState_146 zk_nx (zk_Rv (fun H9 h9 _ => ?_))
        replace ht := ht.call h9
        replace hov := hov_wr h9 hov
        exact z_vret ok dX4_writesState_149 ⟨rfl, by simp only [mWord]; simp [c1, c21, c77]; exact ht⟩
      · refine z_aload_n ok dX4_writesState_80 rfl ?_
        refine z_bipush ok dX4_writesState_81 zbc_100 ?_
        refine v_X4_195 ok (m_X4_writes _ _ ht.1 hov (by omega) (by decide)) ht.1.is dX4_writesState_83 zk_nx (zk_Rv (fun H9 h9 _ => ?_))
        replace ht := ht.call h9
        replace hov := hov_wr h9 hov
        refine z_aload_n ok dX4_writesState_86 rfl ?_
        refine z_bipush ok dX4_writesState_87 zbc_101 ?_
        refine v_X4_195 ok (m_X4_writes _ _ ht.1 hov (by omega) (by decide)) ht.1.is dX4_writesState_89 zk_nx (zk_Rv (fun H9 h9 _ => ?_))
        replace ht := ht.call h9
        replace hov := hov_wr h9 hov
        refine z_aload_n ok dX4_writesState_92 rfl ?_
        refine z_bipush ok dX4_writesState_93 zbc_108 ?_
        refine v_X4_195 ok (m_X4_writes _ _ ht.1 hov (by omega) (by decide)) ht.1.is dX4_writesState_95 zk_nx (zk_Rv (fun H9 h9 _ => ?_))
        replace ht := ht.call h9
        replace hov := hov_wr h9 hov
        refine z_aload_n ok dX4_writesState_98 rfl ?_
        refine z_bipush ok dX4_writesState_99 zbc_101 ?_
        refine v_X4_195 ok (m_X4_writes _ _ ht.1 hov (by omega) (by decide)) ht.1.is dX4_writesState_101 zk_nx (zk_Rv (fun H9 h9 _ => ?_))
        replace ht := ht.call h9
        replace hov := hov_wr h9 hov
        refine z_aload_n ok dX4_writesState_104 rfl ?_
        refine z_bipush ok dX4_writesState_105 zbc_116 ?_
        refine v_X4_195 ok (m_X4_writes _ _ ht.1 hov (by omega) (by decide)) ht.1.is dX4_writesState_107 zk_nx (zk_Rv (fun H9 h9 _ => ?_))
        replace ht := ht.call h9
        replace hov := hov_wr h9 hov
        refine z_aload_n ok dX4_writesState_110 rfl ?_
        refine z_bipush ok dX4_writesState_111 zbc_101 ?_
        refine v_X4_195 ok (m_X4_writes _ _ ht.1 hov (by omega) (by decide)) ht.1.is dX4_writesState_113 zk_nx (zk_Rv (fun H9 h9 _ => ?_))
        replace ht := ht.call h9
        replace hov := hov_wr h9 hov
        refine z_aload_n ok dX4_writesState_116 rfl ?_
        refine z_bipush ok dX4_writesState_117 zbc_100 ?_
        refine v_X4_195 ok (m_X4_writes _ _ ht.1 hov (by omega) (by decide)) ht.1.is dX4_writesState_119 zk_nx (zk_Rv (fun H9 h9 _ => ?_))
        replace ht := ht.call h9
        replace hov := hov_wr h9 hov
        refine z_goto (tgt := 149) ok dX4_writesState_122 (by decide) ?_
        exact z_vret ok dX4_writesState_149 ⟨rfl, by simp only [mWord]; simp [c1, c21, c77]; exact ht⟩
    · refine z_aload_n ok dX4_writesState_24 rfl ?_
      refine z_bipush ok dX4_writesState_25 zbc_97 ?_
      refine v_X4_195 ok (m_X4_writes _ _ ht.1 hov (by omega) (by decide)) ht.1.is dX4_writesState_27 zk_nx (zk_Rv (fun H9 h9 _ => ?_))
      replace ht := ht.call h9
      replace hov := hov_wr h9 hov
      refine z_aload_n ok dX4_writesState_30 rfl ?_
      refine z_bipush ok dX4_writesState_31 zbc_114 ?_
      refine v_X4_195 ok (m_X4_writes _ _ ht.1 hov (by omega) (by decide)) ht.1.is dX4_writesState_33 zk_nx (zk_Rv (fun H9 h9 _ => ?_))
      replace ht := ht.call h9
      replace hov := hov_wr h9 hov
      refine z_aload_n ok dX4_writesState_36 rfl ?_
      refine z_bipush ok dX4_writesState_37 zbc_99 ?_
      refine v_X4_195 ok (m_X4_writes _ _ ht.1 hov (by omega) (by decide)) ht.1.is dX4_writesState_39 zk_nx (zk_Rv (fun H9 h9 _ => ?_))
      replace ht := ht.call h9
      replace hov := hov_wr h9 hov
      refine z_aload_n ok dX4_writesState_42 rfl ?_
      refine z_bipush ok dX4_writesState_43 zbc_104 ?_
      refine v_X4_195 ok (m_X4_writes _ _ ht.1 hov (by omega) (by decide)) ht.1.is dX4_writesState_45 zk_nx (zk_Rv (fun H9 h9 _ => ?_))
      replace ht := ht.call h9
      replace hov := hov_wr h9 hov
      refine z_aload_n ok dX4_writesState_48 rfl ?_
      refine z_bipush ok dX4_writesState_49 zbc_105 ?_
      refine v_X4_195 ok (m_X4_writes _ _ ht.1 hov (by omega) (by decide)) ht.1.is dX4_writesState_51 zk_nx (zk_Rv (fun H9 h9 _ => ?_))
      replace ht := ht.call h9
      replace hov := hov_wr h9 hov
      refine z_aload_n ok dX4_writesState_54 rfl ?_
      refine z_bipush ok dX4_writesState_55 zbc_118 ?_
      refine v_X4_195 ok (m_X4_writes _ _ ht.1 hov (by omega) (by decide)) ht.1.is dX4_writesState_57 zk_nx (zk_Rv (fun H9 h9 _ => ?_))
      replace ht := ht.call h9
      replace hov := hov_wr h9 hov
      refine z_aload_n ok dX4_writesState_60 rfl ?_
      refine z_bipush ok dX4_writesState_61 zbc_101 ?_
      refine v_X4_195 ok (m_X4_writes _ _ ht.1 hov (by omega) (by decide)) ht.1.is dX4_writesState_63 zk_nx (zk_Rv (fun H9 h9 _ => ?_))
      replace ht := ht.call h9
      replace hov := hov_wr h9 hov
      refine z_aload_n ok dX4_writesState_66 rfl ?_
      refine z_bipush ok dX4_writesState_67 zbc_100 ?_
      refine v_X4_195 ok (m_X4_writes _ _ ht.1 hov (by omega) (by decide)) ht.1.is dX4_writesState_69 zk_nx (zk_Rv (fun H9 h9 _ => ?_))
      replace ht := ht.call h9
      replace hov := hov_wr h9 hov
      refine z_goto (tgt := 149) ok dX4_writesState_72 (by decide) ?_
      exact z_vret ok dX4_writesState_149 ⟨rfl, by simp only [mWord]; simp [c1, c21]; exact ht⟩
  · refine z_aload_n ok dX4_writesState_4 rfl ?_
    refine z_bipush ok dX4_writesState_5 zbc_105 ?_
    refine v_X4_195 ok (m_X4_writes _ _ ht.1 hov (by omega) (by decide)) ht.1.is dX4_writesState_7 zk_nx (zk_Rv (fun H9 h9 _ => ?_))
    replace ht := ht.call h9
    replace hov := hov_wr h9 hov
    refine z_aload_n ok dX4_writesState_10 rfl ?_
    refine z_bipush ok dX4_writesState_11 zbc_110 ?_
    refine v_X4_195 ok (m_X4_writes _ _ ht.1 hov (by omega) (by decide)) ht.1.is dX4_writesState_13 zk_nx (zk_Rv (fun H9 h9 _ => ?_))
    replace ht := ht.call h9
    replace hov := hov_wr h9 hov
    refine z_goto (tgt := 149) ok dX4_writesState_16 (by decide) ?_
    exact z_vret ok dX4_writesState_149 ⟨rfl, by simp only [mWord]; simp [c1]; exact ht⟩
set_option maxHeartbeats 4000000 in
set_option maxRecDepth 100000 in
theorem m_X4_writesNumber {E : zE} {H : Heap} {m : Nat} {ad : Nat → Nat} {M : MS} (o n : Nat) (hm : MP E H m ad M) (hov : M 33 0 = nI o) (hn : n < 1000000) (hol : o + (mNum n).length ≤ 60) : zM E 21 yX4_writesNumber (ws_ yX4_writesNumber cX4_writesNumber 3 none) 0 0 H [.ref m, .int (nI n)] (zRv (mTo E H m ad (mWrL M (mNum n)))) zNX := by
  refine z_of [some (.ref m), some (.int (nI n)), none] pn_X4 (Nat.le_of_ble_eq_true rfl) rfl (fun κ ok ho => ?_)
  have ht0 := mTo.rf hm
  have h5 := mTop_le n
  have kx : ∀ (H1 : Heap), mTo E H m ad (mWrL M (mNum n)) H1 → zV κ E H1 0 0 18 [some (.ref m), some (.int (nI n)), some (.int (nI 0))] [] := by
    intro H1 ht
    refine z_iload_n ok dX4_writesNumber_18 rfl ?_
    refine z_ifle (tgt := 43) ok dX4_writesNumber_19 (by decide) (fun _ => ?_) (fun c19 => absurd c19 (by decide))
    exact z_vret ok dX4_writesNumber_43 ⟨rfl, ht⟩
  have k2 : ∀ (p o : Nat) (M1 : MS) (H1 : Heap), p ≤ 5 → mTo E H m ad M1 H1 → M1 33 0 = nI o → o + (p + 1) ≤ 60 → mWrL M1 (mDigs n p) = mWrL M (mNum n) → zV κ E H1 0 0 18 [some (.ref m), some (.int (nI n)), some (.int (nI (10 ^ p)))] [] := by
    intro p
    induction p with
    | zero =>
      intro o M1 H1 hp ht hov hol hM
      refine z_iload_n ok dX4_writesNumber_18 rfl ?_
      refine z_ifle (tgt := 43) ok dX4_writesNumber_19 (by decide) (fun c19 => absurd c19 (nI_nle (pow5 hp).2 (by have := (pow5 hp).1; omega))) (fun _ => ?_)
      refine z_aload_n ok dX4_writesNumber_22 rfl ?_
      refine z_bipush ok dX4_writesNumber_23 zbc_48 ?_
      refine z_iload_n ok dX4_writesNumber_25 rfl ?_
      refine z_iload_n ok dX4_writesNumber_26 rfl ?_
      refine z_idiv ok dX4_writesNumber_27 (nI_ne0 (pow5 hp).2 (by have := (pow5 hp).1; omega)) ?_
      refine z_bipush ok dX4_writesNumber_28 zbc_10 ?_
      refine z_irem ok dX4_writesNumber_30 (by decide) ?_
      refine z_iadd ok dX4_writesNumber_31 ?_
      rw [dig_e hn hp]
      refine v_X4_195 ok (m_X4_writes _ _ ht.1 hov (by omega) (dig_b _ (Nat.mod_lt _ (by decide)))) ht.1.is dX4_writesNumber_32 zk_nx (zk_Rv (fun H9 h9 _ => ?_))
      replace ht := ht.call h9
      replace hov := hov_wr h9 hov
      refine z_iload_n ok dX4_writesNumber_35 rfl ?_
      refine z_bipush ok dX4_writesNumber_36 zbc_10 ?_
      refine z_idiv ok dX4_writesNumber_38 (by decide) ?_
      rw [show nI (10 ^ 0) / 10 = nI 0 by decide]
      refine z_istore_2 ok dX4_writesNumber_39 ?_
      refine z_goto (tgt := 18) ok dX4_writesNumber_40 (by decide) ?_
      refine kx _ ?_
      rw [← hM]
      exact (show n / 10 ^ 0 = n by simp) ▸ ht
    | succ p ih =>
      intro o M1 H1 hp ht hov hol hM
      refine z_iload_n ok dX4_writesNumber_18 rfl ?_
      refine z_ifle (tgt := 43) ok dX4_writesNumber_19 (by decide) (fun c19 => absurd c19 (nI_nle (pow5 hp).2 (by have := (pow5 hp).1; omega))) (fun _ => ?_)
      refine z_aload_n ok dX4_writesNumber_22 rfl ?_
      refine z_bipush ok dX4_writesNumber_23 zbc_48 ?_
      refine z_iload_n ok dX4_writesNumber_25 rfl ?_
      refine z_iload_n ok dX4_writesNumber_26 rfl ?_
      refine z_idiv ok dX4_writesNumber_27 (nI_ne0 (pow5 hp).2 (by have := (pow5 hp).1; omega)) ?_
      refine z_bipush ok dX4_writesNumber_28 zbc_10 ?_
      refine z_irem ok dX4_writesNumber_30 (by decide) ?_
      refine z_iadd ok dX4_writesNumber_31 ?_
      rw [dig_e hn hp]
      refine v_X4_195 ok (m_X4_writes _ _ ht.1 hov (by omega) (dig_b _ (Nat.mod_lt _ (by decide)))) ht.1.is dX4_writesNumber_32 zk_nx (zk_Rv (fun H9 h9 _ => ?_))
      replace ht := ht.call h9
      replace hov := hov_wr h9 hov
      refine z_iload_n ok dX4_writesNumber_35 rfl ?_
      refine z_bipush ok dX4_writesNumber_36 zbc_10 ?_
      refine z_idiv ok dX4_writesNumber_38 (by decide) ?_
      rw [show nI (10 ^ (p + 1)) / 10 = nI (10 ^ p) from (pk_div (d := 10) (by have := (pow5 hp).1; omega) (by decide) (by decide)).trans (by rw [Nat.pow_succ, Nat.mul_div_cancel _ (by decide)])]
      refine z_istore_2 ok dX4_writesNumber_39 ?_
      refine z_goto (tgt := 18) ok dX4_writesNumber_40 (by decide) ?_
      exact ih (o + 1) _ _ (by omega) ht hov (by omega) hM
  have k1 : ∀ (t p : Nat), mTop n - p < t → p ≤ mTop n → zV κ E H 0 0 2 [some (.ref m), some (.int (nI n)), some (.int (nI (10 ^ p)))] [] := by
    intro t
    induction t with
    | zero => intro p h1; omega
    | succ t ih =>
      intro p h1 h2
      have hp : p ≤ 5 := by omega
      obtain ⟨hq1, hq2⟩ := pow5 hp
      have hdv : n / 10 ^ p ≤ n := Nat.div_le_self _ _
      refine z_iload_n ok dX4_writesNumber_2 rfl ?_
      refine z_iload_n ok dX4_writesNumber_3 rfl ?_
      refine z_idiv ok dX4_writesNumber_4 (nI_ne0 hq2 (by omega)) ?_
      rw [pk_div (by omega) (by omega) (by omega)]
      refine z_bipush ok dX4_writesNumber_5 zbc_10 ?_
      refine z_icmplt (tgt := 18) ok dX4_writesNumber_7 (by decide) (fun c7 => ?_) (fun c7 => ?_)
      · rw [show (10 : Int32) = nI 10 from rfl, nI_ltI (by omega) (by omega)] at c7
        have e : p = mTop n := by
          rcases Nat.lt_or_ge p (mTop n) with q | q
          · have := mTop_gt hn q
            omega
          · omega
        exact k2 p o M H hp ht0 hov (by rw [mNum, mDigs_len] at hol; omega) (by rw [mNum, e])
      · rw [show (10 : Int32) = nI 10 from rfl, nI_ltI (by omega) (by omega)] at c7
        have e : p < mTop n := by
          rcases Nat.lt_or_ge p (mTop n) with q | q
          · exact q
          · have e2 : p = mTop n := by omega
            rw [e2] at c7
            exact absurd (mTop_lt hn) c7
        refine z_iload_n ok dX4_writesNumber_10 rfl ?_
        refine z_bipush ok dX4_writesNumber_11 zbc_10 ?_
        refine z_imul ok dX4_writesNumber_13 ?_
        rw [show nI (10 ^ p) * 10 = nI (10 ^ (p + 1)) from (pk_mul (10 ^ p) 10).trans (by rw [Nat.pow_succ])]
        refine z_istore_2 ok dX4_writesNumber_14 ?_
        refine z_goto (tgt := 2) ok dX4_writesNumber_15 (by decide) ?_
        exact ih (p + 1) (by omega) (by omega)
  refine z_iconst ok dX4_writesNumber_0 zic_1 ?_
  refine z_istore_2 ok dX4_writesNumber_1 ?_
  exact k1 (mTop n + 1) 0 (by omega) (by omega)
set_option maxHeartbeats 4000000 in
set_option maxRecDepth 100000 in
theorem m_X4_write {E : zE} {H : Heap} {m : Nat} {ad : Nat → Nat} {M : MS} {nf nt ni nh : Nat} {d0 : Nat} (i : Int32) (hm : MP E H m ad M) (hw : mWF M nf nt ni nh) (hnr : mNR M nt ni d0) (hd0 : d0 ≤ 100000) : zM E 36 yX4_write (ws_ yX4_write cX4_write 3 (some .int)) 0 0 H [.ref m, .int i] (zRw (.int (oWrite M i).1) (mTo E H m ad (oWrite M i).2)) zNX := by
  refine z_of [some (.ref m), some (.int i), none] pn_X4 (Nat.le_of_ble_eq_true rfl) rfl (fun κ ok ho => ?_)
  have ht := mTo.rf hm
  have hl := hw.lim
  refine z_aload_n ok dX4_write_0 rfl ?_
  refine z_iload_n ok dX4_write_1 rfl ?_
  refine v_X4_173 ok (m_X4_isItem _ ht.1) ht.1.is dX4_write_2 zk_nx (zk_R ?_)
  refine z_ifne (tgt := 14) ok dX4_write_5 (by decide) (fun c5 => ?_) (fun c5 => ?_)
  · rw [b2i_0] at c5
    obtain ⟨j, hj, rfl⟩ := mIn_idx (n := ni) (by rw [← hw.ni]; simpa using c5) (by omega)
    have ej : cl (nI j) = j := cl_nI (by omega)
    have hq : mEq M M := mEq.rf
    have hov : mu M 33 0 0 33 0 = nI 0 := mu_s M 33 0 0
    have l1 := mNum_len j
    have l2 := mWord_len (M 22 j)
    refine z_aload_n ok dX4_write_14 rfl ?_
    refine z_iconst ok dX4_write_15 zic_0 ?_
    refine p_X4_192 ok ht.1.1 dX4_write_16 (fun H16 w16 => ?_)
    replace ht := ht.put 33 w16 rfl
    replace hq : mEq M (mu M 33 0 0) := hq.mu (by decide)
    refine z_aload_n ok dX4_write_19 rfl ?_
    refine z_bipush ok dX4_write_20 zbc_105 ?_
    refine v_X4_195 ok (m_X4_writes _ _ ht.1 hov (by omega) (by decide)) ht.1.is dX4_write_22 zk_nx (zk_Rv (fun H9 h9 _ => ?_))
    replace ht := ht.call h9
    replace hov := hov_wr h9 hov
    replace hq := hq_wr h9 hq
    refine z_aload_n ok dX4_write_25 rfl ?_
    refine z_iload_n ok dX4_write_26 rfl ?_
    refine v_X4_198 ok (m_X4_writesNumber _ _ ht.1 hov (by omega) (by have := mNum_len j; omega)) ht.1.is dX4_write_27 zk_nx (zk_Rv (fun H9 h9 _ => ?_))
    replace ht := ht.call h9
    replace hov := hov_wrL h9 hov
    replace hq := hq_wrL h9 hq
    refine z_aload_n ok dX4_write_30 rfl ?_
    refine z_bipush ok dX4_write_31 zbc_32 ?_
    refine v_X4_195 ok (m_X4_writes _ _ ht.1 hov (by omega) (by decide)) ht.1.is dX4_write_33 zk_nx (zk_Rv (fun H9 h9 _ => ?_))
    replace ht := ht.call h9
    replace hov := hov_wr h9 hov
    replace hq := hq_wr h9 hq
    refine z_aload_n ok dX4_write_36 rfl ?_
    refine z_aload_n ok dX4_write_37 rfl ?_
    refine g_X4_49 ok ht.1.ob dX4_write_38 ?_
    refine z_iload_n ok dX4_write_41 rfl ?_
    refine z_iald ok ht.1.a22 rfl (by omega) dX4_write_42 ?_
    rw [congrFun (hq 22 (by decide) (by decide) (by decide)) j]
    refine v_X4_201 ok (m_X4_writesState _ _ ht.1 hov (by omega)) ht.1.is dX4_write_43 zk_nx (zk_Rv (fun H9 h9 _ => ?_))
    replace ht := ht.call h9
    replace hov := hov_wrL h9 hov
    replace hq := hq_wrL h9 hq
    refine z_aload_n ok dX4_write_46 rfl ?_
    refine z_iload_n ok dX4_write_47 rfl ?_
    refine v_X4_189 ok (m_X4_endDay _ ht.1 (hq.wf hw) hj) ht.1.is dX4_write_48 zk_nx (zk_R ?_)
    rw [hq.fin j]
    refine z_istore_2 ok dX4_write_51 ?_
    refine z_iload_n ok dX4_write_52 rfl ?_
    refine z_iconst ok dX4_write_53 zic_m1 ?_
    refine z_icmpeq (tgt := 92) ok dX4_write_54 (by decide) (fun c54 => ?_) (fun c54 => ?_)
    · refine z_aload_n ok dX4_write_92 rfl ?_
      refine z_iload_n ok dX4_write_93 rfl ?_
      refine v_X4_137 ok (m_X4_isHeld _ ht.1 (hq.wf hw) (by omega)) ht.1.is dX4_write_94 zk_nx (zk_R ?_)
      rw [hq.held j]
      refine z_ifeq (tgt := 130) ok dX4_write_97 (by decide) (fun c97 => ?_) (fun c97 => ?_)
      · rw [b2i_0] at c97
        refine z_aload_n ok dX4_write_130 rfl ?_
        refine z_aload_n ok dX4_write_131 rfl ?_
        refine g_X4_192 ok ht.1.ob dX4_write_132 ?_
        refine v_X4_161 ok (m_X4_told _ ht.1) ht.1.is dX4_write_135 zk_nx (zk_Rw (fun H9 h9 _ => ?_))
        replace ht := ht.call h9
        first | have ee := oWr_1 c5 ej c54 c97 | have ee := oWr_2 c5 ej c54 c97 | have ee := oWr_3 c5 ej c54 ex c97 | have ee := oWr_4 c5 ej c54 ex c97
        exact z_iret ok dX4_write_138 (zW_i ee ht)
      · rw [b2i_0] at c97
        refine z_aload_n ok dX4_write_100 rfl ?_
        refine z_bipush ok dX4_write_101 zbc_32 ?_
        refine v_X4_195 ok (m_X4_writes _ _ ht.1 hov (by omega) (by decide)) ht.1.is dX4_write_103 zk_nx (zk_Rv (fun H9 h9 _ => ?_))
        replace ht := ht.call h9
        replace hov := hov_wr h9 hov
        replace hq := hq_wr h9 hq
        refine z_aload_n ok dX4_write_106 rfl ?_
        refine z_bipush ok dX4_write_107 zbc_104 ?_
        refine v_X4_195 ok (m_X4_writes _ _ ht.1 hov (by omega) (by decide)) ht.1.is dX4_write_109 zk_nx (zk_Rv (fun H9 h9 _ => ?_))
        replace ht := ht.call h9
        replace hov := hov_wr h9 hov
        replace hq := hq_wr h9 hq
        refine z_aload_n ok dX4_write_112 rfl ?_
        refine z_bipush ok dX4_write_113 zbc_101 ?_
        refine v_X4_195 ok (m_X4_writes _ _ ht.1 hov (by omega) (by decide)) ht.1.is dX4_write_115 zk_nx (zk_Rv (fun H9 h9 _ => ?_))
        replace ht := ht.call h9
        replace hov := hov_wr h9 hov
        replace hq := hq_wr h9 hq
        refine z_aload_n ok dX4_write_118 rfl ?_
        refine z_bipush ok dX4_write_119 zbc_108 ?_
        refine v_X4_195 ok (m_X4_writes _ _ ht.1 hov (by omega) (by decide)) ht.1.is dX4_write_121 zk_nx (zk_Rv (fun H9 h9 _ => ?_))
        replace ht := ht.call h9
        replace hov := hov_wr h9 hov
        replace hq := hq_wr h9 hq
        refine z_aload_n ok dX4_write_124 rfl ?_
        refine z_bipush ok dX4_write_125 zbc_100 ?_
        refine v_X4_195 ok (m_X4_writes _ _ ht.1 hov (by omega) (by decide)) ht.1.is dX4_write_127 zk_nx (zk_Rv (fun H9 h9 _ => ?_))
        replace ht := ht.call h9
        replace hov := hov_wr h9 hov
        replace hq := hq_wr h9 hq
        refine z_aload_n ok dX4_write_130 rfl ?_
        refine z_aload_n ok dX4_write_131 rfl ?_
        refine g_X4_192 ok ht.1.ob dX4_write_132 ?_
        refine v_X4_161 ok (m_X4_told _ ht.1) ht.1.is dX4_write_135 zk_nx (zk_Rw (fun H9 h9 _ => ?_))
        replace ht := ht.call h9
        first | have ee := oWr_1 c5 ej c54 c97 | have ee := oWr_2 c5 ej c54 c97 | have ee := oWr_3 c5 ej c54 ex c97 | have ee := oWr_4 c5 ej c54 ex c97
        exact z_iret ok dX4_write_138 (zW_i ee ht)
    · rcases mEnd_r hw hnr hd0 hj with e | ⟨x, hx, e⟩
      · exact absurd e c54
      rw [e]
      have l3 := mNum_len x
      have ex : cl (mEnd M j) = x := by
        rw [e]
        exact cl_nI (by omega)
      refine z_aload_n ok dX4_write_57 rfl ?_
      refine z_bipush ok dX4_write_58 zbc_32 ?_
      refine v_X4_195 ok (m_X4_writes _ _ ht.1 hov (by omega) (by decide)) ht.1.is dX4_write_60 zk_nx (zk_Rv (fun H9 h9 _ => ?_))
      replace ht := ht.call h9
      replace hov := hov_wr h9 hov
      replace hq := hq_wr h9 hq
      refine z_aload_n ok dX4_write_63 rfl ?_
      refine z_bipush ok dX4_write_64 zbc_101 ?_
      refine v_X4_195 ok (m_X4_writes _ _ ht.1 hov (by omega) (by decide)) ht.1.is dX4_write_66 zk_nx (zk_Rv (fun H9 h9 _ => ?_))
      replace ht := ht.call h9
      replace hov := hov_wr h9 hov
      replace hq := hq_wr h9 hq
      refine z_aload_n ok dX4_write_69 rfl ?_
      refine z_bipush ok dX4_write_70 zbc_110 ?_
      refine v_X4_195 ok (m_X4_writes _ _ ht.1 hov (by omega) (by decide)) ht.1.is dX4_write_72 zk_nx (zk_Rv (fun H9 h9 _ => ?_))
      replace ht := ht.call h9
      replace hov := hov_wr h9 hov
      replace hq := hq_wr h9 hq
      refine z_aload_n ok dX4_write_75 rfl ?_
      refine z_bipush ok dX4_write_76 zbc_100 ?_
      refine v_X4_195 ok (m_X4_writes _ _ ht.1 hov (by omega) (by decide)) ht.1.is dX4_write_78 zk_nx (zk_Rv (fun H9 h9 _ => ?_))
      replace ht := ht.call h9
      replace hov := hov_wr h9 hov
      replace hq := hq_wr h9 hq
      refine z_aload_n ok dX4_write_81 rfl ?_
      refine z_bipush ok dX4_write_82 zbc_32 ?_
      refine v_X4_195 ok (m_X4_writes _ _ ht.1 hov (by omega) (by decide)) ht.1.is dX4_write_84 zk_nx (zk_Rv (fun H9 h9 _ => ?_))
      replace ht := ht.call h9
      replace hov := hov_wr h9 hov
      replace hq := hq_wr h9 hq
      refine z_aload_n ok dX4_write_87 rfl ?_
      refine z_iload_n ok dX4_write_88 rfl ?_
      refine v_X4_198 ok (m_X4_writesNumber _ _ ht.1 hov (by omega) (by omega)) ht.1.is dX4_write_89 zk_nx (zk_Rv (fun H9 h9 _ => ?_))
      replace ht := ht.call h9
      replace hov := hov_wrL h9 hov
      replace hq := hq_wrL h9 hq
      refine z_aload_n ok dX4_write_92 rfl ?_
      refine z_iload_n ok dX4_write_93 rfl ?_
      refine v_X4_137 ok (m_X4_isHeld _ ht.1 (hq.wf hw) (by omega)) ht.1.is dX4_write_94 zk_nx (zk_R ?_)
      rw [hq.held j]
      refine z_ifeq (tgt := 130) ok dX4_write_97 (by decide) (fun c97 => ?_) (fun c97 => ?_)
      · rw [b2i_0] at c97
        refine z_aload_n ok dX4_write_130 rfl ?_
        refine z_aload_n ok dX4_write_131 rfl ?_
        refine g_X4_192 ok ht.1.ob dX4_write_132 ?_
        refine v_X4_161 ok (m_X4_told _ ht.1) ht.1.is dX4_write_135 zk_nx (zk_Rw (fun H9 h9 _ => ?_))
        replace ht := ht.call h9
        first | have ee := oWr_1 c5 ej c54 c97 | have ee := oWr_2 c5 ej c54 c97 | have ee := oWr_3 c5 ej c54 ex c97 | have ee := oWr_4 c5 ej c54 ex c97
        exact z_iret ok dX4_write_138 (zW_i ee ht)
      · rw [b2i_0] at c97
        refine z_aload_n ok dX4_write_100 rfl ?_
        refine z_bipush ok dX4_write_101 zbc_32 ?_
        refine v_X4_195 ok (m_X4_writes _ _ ht.1 hov (by omega) (by decide)) ht.1.is dX4_write_103 zk_nx (zk_Rv (fun H9 h9 _ => ?_))
        replace ht := ht.call h9
        replace hov := hov_wr h9 hov
        replace hq := hq_wr h9 hq
        refine z_aload_n ok dX4_write_106 rfl ?_
        refine z_bipush ok dX4_write_107 zbc_104 ?_
        refine v_X4_195 ok (m_X4_writes _ _ ht.1 hov (by omega) (by decide)) ht.1.is dX4_write_109 zk_nx (zk_Rv (fun H9 h9 _ => ?_))
        replace ht := ht.call h9
        replace hov := hov_wr h9 hov
        replace hq := hq_wr h9 hq
        refine z_aload_n ok dX4_write_112 rfl ?_
        refine z_bipush ok dX4_write_113 zbc_101 ?_
        refine v_X4_195 ok (m_X4_writes _ _ ht.1 hov (by omega) (by decide)) ht.1.is dX4_write_115 zk_nx (zk_Rv (fun H9 h9 _ => ?_))
        replace ht := ht.call h9
        replace hov := hov_wr h9 hov
        replace hq := hq_wr h9 hq
        refine z_aload_n ok dX4_write_118 rfl ?_
        refine z_bipush ok dX4_write_119 zbc_108 ?_
        refine v_X4_195 ok (m_X4_writes _ _ ht.1 hov (by omega) (by decide)) ht.1.is dX4_write_121 zk_nx (zk_Rv (fun H9 h9 _ => ?_))
        replace ht := ht.call h9
        replace hov := hov_wr h9 hov
        replace hq := hq_wr h9 hq
        refine z_aload_n ok dX4_write_124 rfl ?_
        refine z_bipush ok dX4_write_125 zbc_100 ?_
        refine v_X4_195 ok (m_X4_writes _ _ ht.1 hov (by omega) (by decide)) ht.1.is dX4_write_127 zk_nx (zk_Rv (fun H9 h9 _ => ?_))
        replace ht := ht.call h9
        replace hov := hov_wr h9 hov
        replace hq := hq_wr h9 hq
        refine z_aload_n ok dX4_write_130 rfl ?_
        refine z_aload_n ok dX4_write_131 rfl ?_
        refine g_X4_192 ok ht.1.ob dX4_write_132 ?_
        refine v_X4_161 ok (m_X4_told _ ht.1) ht.1.is dX4_write_135 zk_nx (zk_Rw (fun H9 h9 _ => ?_))
        replace ht := ht.call h9
        first | have ee := oWr_1 c5 ej c54 c97 | have ee := oWr_2 c5 ej c54 c97 | have ee := oWr_3 c5 ej c54 ex c97 | have ee := oWr_4 c5 ej c54 ex c97
        exact z_iret ok dX4_write_138 (zW_i ee ht)
  · rw [b2i_0] at c5
    have ej : True := trivial
    refine z_aload_n ok dX4_write_8 rfl ?_
    refine z_iconst ok dX4_write_9 zic_1 ?_
    refine v_X4_167 ok (m_X4_refuse _ ht.1) ht.1.is dX4_write_10 zk_nx (zk_Rw (fun H9 h9 _ => ?_))
    replace ht := ht.call h9
    exact z_iret ok dX4_write_13 (zW_i (by rw [oWrite, if_pos c5]; rfl) ht)
set_option maxHeartbeats 4000000 in
set_option maxRecDepth 100000 in
theorem m_X4_outputAt {E : zE} {H : Heap} {m : Nat} {ad : Nat → Nat} {M : MS} (o : Nat) (i : Int32) (hm : MP E H m ad M) (hov : M 33 0 = nI o) (hol : o ≤ 60) : zM E 36 yX4_outputAt (ws_ yX4_outputAt cX4_outputAt 2 (some .int)) 0 0 H [.ref m, .int i] (zRw (.int (oOutputAt M i).1) (mTo E H m ad (oOutputAt M i).2)) zNX := by
  refine z_of [some (.ref m), some (.int i)] pn_X4 (Nat.le_of_ble_eq_true rfl) rfl (fun κ ok ho => ?_)
  have ht := mTo.rf hm
  refine z_iload_n ok dX4_outputAt_0 rfl ?_
  refine z_iconst ok dX4_outputAt_1 zic_0 ?_
  refine z_aload_n ok dX4_outputAt_2 rfl ?_
  refine g_X4_192 ok ht.1.ob dX4_outputAt_3 ?_
  refine z_iconst ok dX4_outputAt_6 zic_1 ?_
  refine z_isub ok dX4_outputAt_7 ?_
  refine v_X4_91 ok (m_X4_in _ _ _) dX4_outputAt_8 zk_nx (zk_R ?_)
  refine z_ifne (tgt := 20) ok dX4_outputAt_11 (by decide) (fun c11 => ?_) (fun c11 => ?_)
  · rw [b2i_0] at c11
    obtain ⟨j, hj, rfl⟩ := mIn_idx (n := o) (by rw [← hov]; simpa using c11) (by omega)
    have ej : cl (nI j) = j := cl_nI (by omega)
    refine z_aload_n ok dX4_outputAt_20 rfl ?_
    refine z_aload_n ok dX4_outputAt_21 rfl ?_
    refine g_X4_77 ok ht.1.ob dX4_outputAt_22 ?_
    refine z_iload_n ok dX4_outputAt_25 rfl ?_
    refine z_bald ok ht.1.a32 rfl (by omega) dX4_outputAt_26 ?_
    refine v_X4_161 ok (m_X4_told _ ht.1) ht.1.is dX4_outputAt_27 zk_nx (zk_Rw (fun H9 h9 _ => ?_))
    replace ht := ht.call h9
    exact z_iret ok dX4_outputAt_30 (zW_i (by simp [oOutputAt, oTold, ej, c11]) ht)
  · rw [b2i_0] at c11
    have ej := trivial
    refine z_aload_n ok dX4_outputAt_14 rfl ?_
    refine z_iconst ok dX4_outputAt_15 zic_m1 ?_
    refine v_X4_161 ok (m_X4_told _ ht.1) ht.1.is dX4_outputAt_16 zk_nx (zk_Rw (fun H9 h9 _ => ?_))
    replace ht := ht.call h9
    exact z_iret ok dX4_outputAt_19 (zW_i (by simp [oOutputAt, oTold, ej, c11]) ht)
set_option maxHeartbeats 4000000 in
set_option maxRecDepth 100000 in
theorem m_X4_meanAge {E : zE} {H : Heap} {m : Nat} {ad : Nat → Nat} {M : MS} {nf nt ni nh : Nat} (hm : MP E H m ad M) (hw : mWF M nf nt ni nh) (hfin : ¬ mCountF M 0 (cl (M 14 0)) = 0 → vf_n64 (FP.ddiv (FP.i2d (mAgeF M (cl (M 14 0)))) (FP.i2d (mCountF M 0 (cl (M 14 0)))))) : zM E 36 yX4_meanAge (ws_ yX4_meanAge cX4_meanAge 4 (some .double)) 0 0 H [.ref m] (zRw (.double (mMean M)) (mTo E H m ad (mu M 0 0 0))) zNX := by
  refine z_of [some (.ref m), none, none, none] pn_X4 (Nat.le_of_ble_eq_true rfl) rfl (fun κ ok ho => ?_)
  have hl := hw.lim
  have ht0 := mTo.rf hm
  have k1 : ∀ (t j : Nat) (H1 : Heap), ni - j < t → j ≤ ni → mTo E H m ad (mu M 0 0 0) H1 → zV κ E H1 0 0 11 [some (.ref m), some (.int (mAgeF M j)), some (.int (mCountF M 0 j)), some (.int (nI j))] [] := by
    intro t
    induction t with
    | zero => intro j H1 h1; omega
    | succ t ih =>
      intro j H1 h1 h2 ht
      refine z_iload_n ok dX4_meanAge_11 rfl ?_
      refine z_aload_n ok dX4_meanAge_12 rfl ?_
      refine g_X4_98 ok ht.1.ob dX4_meanAge_13 ?_
      refine z_icmpge (tgt := 51) ok dX4_meanAge_16 (by decide) (fun c16 => ?_) (fun c16 => ?_)
      · change M 14 0 ≤ nI j at c16
        rw [hw.ni, nI_leI (by omega) (by omega)] at c16
        have ej : j = cl (M 14 0) := by rw [hw.c14]; omega
        refine z_iload_n ok dX4_meanAge_51 rfl ?_
        refine z_ifne (tgt := 57) ok dX4_meanAge_52 (by decide) (fun c52 => ?_) (fun c52 => ?_)
        · refine z_iload_n ok dX4_meanAge_57 rfl ?_
          refine z_i2d ok dX4_meanAge_58 ?_
          refine z_iload_n ok dX4_meanAge_59 rfl ?_
          refine z_i2d ok dX4_meanAge_60 ?_
          refine z_ddiv ok dX4_meanAge_61 (by rw [ej]; exact hfin (by rw [← ej]; exact c52)) ?_
          exact z_dret ok dX4_meanAge_62 ⟨by rw [mMean, ← ej, if_neg c52], ht⟩
        · refine z_dconst0 ok dX4_meanAge_55 ?_
          exact z_dret ok dX4_meanAge_56 ⟨by rw [mMean, ← ej, if_pos c52], ht⟩
      · change ¬ M 14 0 ≤ nI j at c16
        rw [hw.ni, nI_leI (by omega) (by omega)] at c16
        refine z_aload_n ok dX4_meanAge_19 rfl ?_
        refine g_X4_49 ok ht.1.ob dX4_meanAge_20 ?_
        refine z_iload_n ok dX4_meanAge_23 rfl ?_
        refine z_iald ok ht.1.a22 rfl (by omega) dX4_meanAge_24 ?_
        refine z_ifne (tgt := 45) ok dX4_meanAge_25 (by decide) (fun c25 => ?_) (fun c25 => ?_)
        · change ¬ M 22 j = 0 at c25
          have e : mAgeF M (j + 1) = mAgeF M j := if_neg c25
          have e2 : mCountF M 0 (j + 1) = mCountF M 0 j := if_neg c25
          refine z_iinc_3 ok dX4_meanAge_45 (zinc1 _) ?_
          refine z_goto (tgt := 11) ok dX4_meanAge_48 (by decide) ?_
          first | exact ih (j + 1) _ (by omega) (by omega) ht | (rw [← e]; exact ih (j + 1) _ (by omega) (by omega) ht) | (rw [← e, ← e2]; exact ih (j + 1) _ (by omega) (by omega) ht)
        · change M 22 j = 0 at c25
          have e : mAgeF M (j + 1) = mAgeF M j + (mu M 0 0 0 1 0 - mu M 0 0 0 19 j) := if_pos c25
          have e2 : mCountF M 0 (j + 1) = mCountF M 0 j + 1 := if_pos c25
          refine z_iload_n ok dX4_meanAge_28 rfl ?_
          refine z_aload_n ok dX4_meanAge_29 rfl ?_
          refine g_X4_101 ok ht.1.ob dX4_meanAge_30 ?_
          refine z_aload_n ok dX4_meanAge_33 rfl ?_
          refine g_X4_40 ok ht.1.ob dX4_meanAge_34 ?_
          refine z_iload_n ok dX4_meanAge_37 rfl ?_
          refine z_iald ok ht.1.a19 rfl (by omega) dX4_meanAge_38 ?_
          refine z_isub ok dX4_meanAge_39 ?_
          refine z_iadd ok dX4_meanAge_40 ?_
          refine z_istore_1 ok dX4_meanAge_41 ?_
          refine z_iinc_2 ok dX4_meanAge_42 e2.symm ?_
          refine z_iinc_3 ok dX4_meanAge_45 (zinc1 _) ?_
          refine z_goto (tgt := 11) ok dX4_meanAge_48 (by decide) ?_
          first | exact ih (j + 1) _ (by omega) (by omega) ht | (rw [← e]; exact ih (j + 1) _ (by omega) (by omega) ht) | (rw [← e, ← e2]; exact ih (j + 1) _ (by omega) (by omega) ht)
  have ht := ht0
  refine z_aload_n ok dX4_meanAge_0 rfl ?_
  refine z_iconst ok dX4_meanAge_1 zic_0 ?_
  refine p_X4_84 ok ht.1.1 dX4_meanAge_2 (fun H2 w2 => ?_)
  replace ht := ht.put 0 w2 rfl
  refine z_iconst ok dX4_meanAge_5 zic_0 ?_
  refine z_istore_1 ok dX4_meanAge_6 ?_
  refine z_iconst ok dX4_meanAge_7 zic_0 ?_
  refine z_istore_2 ok dX4_meanAge_8 ?_
  refine z_iconst ok dX4_meanAge_9 zic_0 ?_
  refine z_istore_3 ok dX4_meanAge_10 ?_
  exact k1 (ni + 1) 0 _ (by omega) (by omega) ht
set_option maxHeartbeats 4000000 in
set_option maxRecDepth 100000 in
theorem m_X4_heldShare {E : zE} {H : Heap} {m : Nat} {ad : Nat → Nat} {M : MS} {nf nt ni nh : Nat} (hm : MP E H m ad M) (hw : mWF M nf nt ni nh) (hfin : ¬ mAliveC M (cl (M 14 0)) = 0 → vf_n32 (FP.fdiv (FP.i2f (mHeldC M (cl (M 14 0)))) (FP.i2f (mAliveC M (cl (M 14 0)))))) : zM E 36 yX4_heldShare (ws_ yX4_heldShare cX4_heldShare 4 (some .float)) 0 0 H [.ref m] (zRw (.float (mShare M)) (mTo E H m ad (mu M 0 0 0))) zNX := by
  refine z_of [some (.ref m), none, none, none] pn_X4 (Nat.le_of_ble_eq_true rfl) rfl (fun κ ok ho => ?_)
  have hl := hw.lim
  have ht0 := mTo.rf hm
  have k1 : ∀ (t j : Nat) (H1 : Heap), ni - j < t → j ≤ ni → mTo E H m ad (mu M 0 0 0) H1 → zV κ E H1 0 0 11 [some (.ref m), some (.int (mHeldC M j)), some (.int (mAliveC M j)), some (.int (nI j))] [] := by
    intro t
    induction t with
    | zero => intro j H1 h1; omega
    | succ t ih =>
      intro j H1 h1 h2 ht
      have hq : mEq M (mu M 0 0 0) := mEq.rf.mu (by decide)
      refine z_iload_n ok dX4_heldShare_11 rfl ?_
      refine z_aload_n ok dX4_heldShare_12 rfl ?_
      refine g_X4_98 ok ht.1.ob dX4_heldShare_13 ?_
      refine z_icmpge (tgt := 49) ok dX4_heldShare_16 (by decide) (fun c16 => ?_) (fun c16 => ?_)
      · change M 14 0 ≤ nI j at c16
        rw [hw.ni, nI_leI (by omega) (by omega)] at c16
        have ej : j = cl (M 14 0) := by rw [hw.c14]; omega
        refine z_iload_n ok dX4_heldShare_49 rfl ?_
        refine z_ifne (tgt := 55) ok dX4_heldShare_50 (by decide) (fun c50 => ?_) (fun c50 => ?_)
        · refine z_iload_n ok dX4_heldShare_55 rfl ?_
          refine z_i2f ok dX4_heldShare_56 ?_
          refine z_iload_n ok dX4_heldShare_57 rfl ?_
          refine z_i2f ok dX4_heldShare_58 ?_
          refine z_fdiv ok dX4_heldShare_59 (by rw [ej]; exact hfin (by rw [← ej]; exact c50)) ?_
          exact z_fret ok dX4_heldShare_60 ⟨by rw [mShare, ← ej, if_neg c50], ht⟩
        · refine z_fconst0 ok dX4_heldShare_53 ?_
          exact z_fret ok dX4_heldShare_54 ⟨by rw [mShare, ← ej, if_pos c50], ht⟩
      · change ¬ M 14 0 ≤ nI j at c16
        rw [hw.ni, nI_leI (by omega) (by omega)] at c16
        refine z_aload_n ok dX4_heldShare_19 rfl ?_
        refine g_X4_49 ok ht.1.ob dX4_heldShare_20 ?_
        refine z_iload_n ok dX4_heldShare_23 rfl ?_
        refine z_iald ok ht.1.a22 rfl (by omega) dX4_heldShare_24 ?_
        refine z_iconst ok dX4_heldShare_25 zic_3 ?_
        refine z_icmpeq (tgt := 32) ok dX4_heldShare_26 (by decide) (fun c26 => ?_) (fun c26 => ?_)
        · change M 22 j = 3 at c26
          have e2 : mAliveC M (j + 1) = mAliveC M j := if_pos c26
          refine z_aload_n ok dX4_heldShare_32 rfl ?_
          refine z_iload_n ok dX4_heldShare_33 rfl ?_
          refine v_X4_137 ok (m_X4_isHeld _ ht.1 (hq.wf hw) (by omega)) ht.1.is dX4_heldShare_34 zk_nx (zk_R ?_)
          rw [hq.held j]
          refine z_ifeq (tgt := 43) ok dX4_heldShare_37 (by decide) (fun c37 => ?_) (fun c37 => ?_)
          · rw [b2i_0] at c37
            have e : mHeldC M (j + 1) = mHeldC M j := if_neg (by rw [c37]; decide)
            refine z_iinc_3 ok dX4_heldShare_43 (zinc1 _) ?_
            refine z_goto (tgt := 11) ok dX4_heldShare_46 (by decide) ?_
            first | exact ih (j + 1) _ (by omega) (by omega) ht | (rw [← e]; exact ih (j + 1) _ (by omega) (by omega) ht) | (rw [← e2]; exact ih (j + 1) _ (by omega) (by omega) ht) | (rw [← e, ← e2]; exact ih (j + 1) _ (by omega) (by omega) ht)
          · rw [b2i_0] at c37
            have e : mHeldC M (j + 1) = mHeldC M j + 1 := if_pos (by simpa using c37)
            refine z_iinc_1 ok dX4_heldShare_40 e.symm ?_
            refine z_iinc_3 ok dX4_heldShare_43 (zinc1 _) ?_
            refine z_goto (tgt := 11) ok dX4_heldShare_46 (by decide) ?_
            first | exact ih (j + 1) _ (by omega) (by omega) ht | (rw [← e]; exact ih (j + 1) _ (by omega) (by omega) ht) | (rw [← e2]; exact ih (j + 1) _ (by omega) (by omega) ht) | (rw [← e, ← e2]; exact ih (j + 1) _ (by omega) (by omega) ht)
        · change ¬ M 22 j = 3 at c26
          have e2 : mAliveC M (j + 1) = mAliveC M j + 1 := if_neg c26
          refine z_iinc_2 ok dX4_heldShare_29 e2.symm ?_
          refine z_aload_n ok dX4_heldShare_32 rfl ?_
          refine z_iload_n ok dX4_heldShare_33 rfl ?_
          refine v_X4_137 ok (m_X4_isHeld _ ht.1 (hq.wf hw) (by omega)) ht.1.is dX4_heldShare_34 zk_nx (zk_R ?_)
          rw [hq.held j]
          refine z_ifeq (tgt := 43) ok dX4_heldShare_37 (by decide) (fun c37 => ?_) (fun c37 => ?_)
          · rw [b2i_0] at c37
            have e : mHeldC M (j + 1) = mHeldC M j := if_neg (by rw [c37]; decide)
            refine z_iinc_3 ok dX4_heldShare_43 (zinc1 _) ?_
            refine z_goto (tgt := 11) ok dX4_heldShare_46 (by decide) ?_
            first | exact ih (j + 1) _ (by omega) (by omega) ht | (rw [← e]; exact ih (j + 1) _ (by omega) (by omega) ht) | (rw [← e2]; exact ih (j + 1) _ (by omega) (by omega) ht) | (rw [← e, ← e2]; exact ih (j + 1) _ (by omega) (by omega) ht)
          · rw [b2i_0] at c37
            have e : mHeldC M (j + 1) = mHeldC M j + 1 := if_pos (by simpa using c37)
            refine z_iinc_1 ok dX4_heldShare_40 e.symm ?_
            refine z_iinc_3 ok dX4_heldShare_43 (zinc1 _) ?_
            refine z_goto (tgt := 11) ok dX4_heldShare_46 (by decide) ?_
            first | exact ih (j + 1) _ (by omega) (by omega) ht | (rw [← e]; exact ih (j + 1) _ (by omega) (by omega) ht) | (rw [← e2]; exact ih (j + 1) _ (by omega) (by omega) ht) | (rw [← e, ← e2]; exact ih (j + 1) _ (by omega) (by omega) ht)
  have ht := ht0
  refine z_aload_n ok dX4_heldShare_0 rfl ?_
  refine z_iconst ok dX4_heldShare_1 zic_0 ?_
  refine p_X4_84 ok ht.1.1 dX4_heldShare_2 (fun H2 w2 => ?_)
  replace ht := ht.put 0 w2 rfl
  refine z_iconst ok dX4_heldShare_5 zic_0 ?_
  refine z_istore_1 ok dX4_heldShare_6 ?_
  refine z_iconst ok dX4_heldShare_7 zic_0 ?_
  refine z_istore_2 ok dX4_heldShare_8 ?_
  refine z_iconst ok dX4_heldShare_9 zic_0 ?_
  refine z_istore_3 ok dX4_heldShare_10 ?_
  exact k1 (ni + 1) 0 _ (by omega) (by omega) ht
set_option maxHeartbeats 4000000 in
set_option maxRecDepth 100000 in
theorem m_X4_init {E : zE} {H : Heap} {m : Nat} (hm : zAt E H m (.inr (3, mV0))) : zM E 32 yX4_init (ws_ yX4_init cX4_init 1 none) 23 578 H [.ref m] (zRv (mNew E H m (mBegins (fun _ _ => 0)))) zNX := by
  refine z_of [some (.ref m)] pn_X4 (Nat.le_of_ble_eq_true rfl) rfl (fun κ ok ho => ?_)
  have hI := MI.start hm
  refine z_aload_n ok dX4_init_0 rfl ?_
  refine z_objInit ok q1906 dX4_init_1 (by omega) ?_
  refine z_aload_n ok dX4_init_4 rfl ?_
  refine z_bipush ok dX4_init_5 zbc_10 ?_
  refine z_newI (N := 10) ok q2014 rfl dX4_init_7 (by omega) (by omega) (fun q7 H7 w7 => ?_)
  refine p_X4_7 ok rfl (hI.at w7) dX4_init_9 (fun H9 w9 => ?_)
  obtain ⟨ad, hI⟩ := hI.step (j := 6) w7 w9 rfl (by decide) (by decide)
  refine z_aload_n ok dX4_init_12 rfl ?_
  refine z_bipush ok dX4_init_13 zbc_10 ?_
  refine z_newI (N := 10) ok q2014 rfl dX4_init_15 (by omega) (by omega) (fun q15 H15 w15 => ?_)
  refine p_X4_13 ok rfl (hI.at w15) dX4_init_17 (fun H17 w17 => ?_)
  obtain ⟨ad, hI⟩ := hI.step (j := 7) w15 w17 rfl (by decide) (by decide)
  refine z_aload_n ok dX4_init_20 rfl ?_
  refine z_bipush ok dX4_init_21 zbc_8 ?_
  refine z_newI (N := 8) ok q2014 rfl dX4_init_23 (by omega) (by omega) (fun q23 H23 w23 => ?_)
  refine p_X4_16 ok rfl (hI.at w23) dX4_init_25 (fun H25 w25 => ?_)
  obtain ⟨ad, hI⟩ := hI.step (j := 10) w23 w25 rfl (by decide) (by decide)
  refine z_aload_n ok dX4_init_28 rfl ?_
  refine z_bipush ok dX4_init_29 zbc_8 ?_
  refine z_newI (N := 8) ok q2014 rfl dX4_init_31 (by omega) (by omega) (fun q31 H31 w31 => ?_)
  refine p_X4_19 ok rfl (hI.at w31) dX4_init_33 (fun H33 w33 => ?_)
  obtain ⟨ad, hI⟩ := hI.step (j := 11) w31 w33 rfl (by decide) (by decide)
  refine z_aload_n ok dX4_init_36 rfl ?_
  refine z_bipush ok dX4_init_37 zbc_8 ?_
  refine z_newI (N := 8) ok q2014 rfl dX4_init_39 (by omega) (by omega) (fun q39 H39 w39 => ?_)
  refine p_X4_22 ok rfl (hI.at w39) dX4_init_41 (fun H41 w41 => ?_)
  obtain ⟨ad, hI⟩ := hI.step (j := 12) w39 w41 rfl (by decide) (by decide)
  refine z_aload_n ok dX4_init_44 rfl ?_
  refine z_iconst ok dX4_init_45 zic_4 ?_
  refine z_newI (N := 4) ok q2014 rfl dX4_init_46 (by omega) (by omega) (fun q46 H46 w46 => ?_)
  refine p_X4_25 ok rfl (hI.at w46) dX4_init_48 (fun H48 w48 => ?_)
  obtain ⟨ad, hI⟩ := hI.step (j := 13) w46 w48 rfl (by decide) (by decide)
  refine z_aload_n ok dX4_init_51 rfl ?_
  refine z_bipush ok dX4_init_52 zbc_40 ?_
  refine z_newI (N := 40) ok q2014 rfl dX4_init_54 (by omega) (by omega) (fun q54 H54 w54 => ?_)
  refine p_X4_28 ok rfl (hI.at w54) dX4_init_56 (fun H56 w56 => ?_)
  obtain ⟨ad, hI⟩ := hI.step (j := 15) w54 w56 rfl (by decide) (by decide)
  refine z_aload_n ok dX4_init_59 rfl ?_
  refine z_bipush ok dX4_init_60 zbc_40 ?_
  refine z_newI (N := 40) ok q2014 rfl dX4_init_62 (by omega) (by omega) (fun q62 H62 w62 => ?_)
  refine p_X4_31 ok rfl (hI.at w62) dX4_init_64 (fun H64 w64 => ?_)
  obtain ⟨ad, hI⟩ := hI.step (j := 16) w62 w64 rfl (by decide) (by decide)
  refine z_aload_n ok dX4_init_67 rfl ?_
  refine z_bipush ok dX4_init_68 zbc_40 ?_
  refine z_newI (N := 40) ok q2014 rfl dX4_init_70 (by omega) (by omega) (fun q70 H70 w70 => ?_)
  refine p_X4_34 ok rfl (hI.at w70) dX4_init_72 (fun H72 w72 => ?_)
  obtain ⟨ad, hI⟩ := hI.step (j := 17) w70 w72 rfl (by decide) (by decide)
  refine z_aload_n ok dX4_init_75 rfl ?_
  refine z_bipush ok dX4_init_76 zbc_40 ?_
  refine z_newI (N := 40) ok q2014 rfl dX4_init_78 (by omega) (by omega) (fun q78 H78 w78 => ?_)
  refine p_X4_37 ok rfl (hI.at w78) dX4_init_80 (fun H80 w80 => ?_)
  obtain ⟨ad, hI⟩ := hI.step (j := 18) w78 w80 rfl (by decide) (by decide)
  refine z_aload_n ok dX4_init_83 rfl ?_
  refine z_bipush ok dX4_init_84 zbc_40 ?_
  refine z_newI (N := 40) ok q2014 rfl dX4_init_86 (by omega) (by omega) (fun q86 H86 w86 => ?_)
  refine p_X4_40 ok rfl (hI.at w86) dX4_init_88 (fun H88 w88 => ?_)
  obtain ⟨ad, hI⟩ := hI.step (j := 19) w86 w88 rfl (by decide) (by decide)
  refine z_aload_n ok dX4_init_91 rfl ?_
  refine z_bipush ok dX4_init_92 zbc_40 ?_
  refine z_newI (N := 40) ok q2014 rfl dX4_init_94 (by omega) (by omega) (fun q94 H94 w94 => ?_)
  refine p_X4_43 ok rfl (hI.at w94) dX4_init_96 (fun H96 w96 => ?_)
  obtain ⟨ad, hI⟩ := hI.step (j := 20) w94 w96 rfl (by decide) (by decide)
  refine z_aload_n ok dX4_init_99 rfl ?_
  refine z_bipush ok dX4_init_100 zbc_40 ?_
  refine z_newI (N := 40) ok q2014 rfl dX4_init_102 (by omega) (by omega) (fun q102 H102 w102 => ?_)
  refine p_X4_46 ok rfl (hI.at w102) dX4_init_104 (fun H104 w104 => ?_)
  obtain ⟨ad, hI⟩ := hI.step (j := 21) w102 w104 rfl (by decide) (by decide)
  refine z_aload_n ok dX4_init_107 rfl ?_
  refine z_bipush ok dX4_init_108 zbc_40 ?_
  refine z_newI (N := 40) ok q2014 rfl dX4_init_110 (by omega) (by omega) (fun q110 H110 w110 => ?_)
  refine p_X4_49 ok rfl (hI.at w110) dX4_init_112 (fun H112 w112 => ?_)
  obtain ⟨ad, hI⟩ := hI.step (j := 22) w110 w112 rfl (by decide) (by decide)
  refine z_aload_n ok dX4_init_115 rfl ?_
  refine z_bipush ok dX4_init_116 zbc_40 ?_
  refine z_newI (N := 40) ok q2014 rfl dX4_init_118 (by omega) (by omega) (fun q118 H118 w118 => ?_)
  refine p_X4_52 ok rfl (hI.at w118) dX4_init_120 (fun H120 w120 => ?_)
  obtain ⟨ad, hI⟩ := hI.step (j := 23) w118 w120 rfl (by decide) (by decide)
  refine z_aload_n ok dX4_init_123 rfl ?_
  refine z_bipush ok dX4_init_124 zbc_40 ?_
  refine z_newI (N := 40) ok q2014 rfl dX4_init_126 (by omega) (by omega) (fun q126 H126 w126 => ?_)
  refine p_X4_55 ok rfl (hI.at w126) dX4_init_128 (fun H128 w128 => ?_)
  obtain ⟨ad, hI⟩ := hI.step (j := 24) w126 w128 rfl (by decide) (by decide)
  refine z_aload_n ok dX4_init_131 rfl ?_
  refine z_bipush ok dX4_init_132 zbc_40 ?_
  refine z_newZ (N := 40) ok q2015 rfl dX4_init_134 (by omega) (by omega) (fun q134 H134 w134 => ?_)
  refine p_X4_58 ok rfl (hI.at w134) dX4_init_136 (fun H136 w136 => ?_)
  obtain ⟨ad, hI⟩ := hI.step (j := 25) w134 w136 rfl (by decide) (by decide)
  refine z_aload_n ok dX4_init_139 rfl ?_
  refine z_bipush ok dX4_init_140 zbc_6 ?_
  refine z_newI (N := 6) ok q2014 rfl dX4_init_142 (by omega) (by omega) (fun q142 H142 w142 => ?_)
  refine p_X4_62 ok rfl (hI.at w142) dX4_init_144 (fun H144 w144 => ?_)
  obtain ⟨ad, hI⟩ := hI.step (j := 27) w142 w144 rfl (by decide) (by decide)
  refine z_aload_n ok dX4_init_147 rfl ?_
  refine z_bipush ok dX4_init_148 zbc_6 ?_
  refine z_newI (N := 6) ok q2014 rfl dX4_init_150 (by omega) (by omega) (fun q150 H150 w150 => ?_)
  refine p_X4_65 ok rfl (hI.at w150) dX4_init_152 (fun H152 w152 => ?_)
  obtain ⟨ad, hI⟩ := hI.step (j := 28) w150 w152 rfl (by decide) (by decide)
  refine z_aload_n ok dX4_init_155 rfl ?_
  refine z_bipush ok dX4_init_156 zbc_6 ?_
  refine z_newI (N := 6) ok q2014 rfl dX4_init_158 (by omega) (by omega) (fun q158 H158 w158 => ?_)
  refine p_X4_68 ok rfl (hI.at w158) dX4_init_160 (fun H160 w160 => ?_)
  obtain ⟨ad, hI⟩ := hI.step (j := 29) w158 w160 rfl (by decide) (by decide)
  refine z_aload_n ok dX4_init_163 rfl ?_
  refine z_bipush ok dX4_init_164 zbc_6 ?_
  refine z_newI (N := 6) ok q2014 rfl dX4_init_166 (by omega) (by omega) (fun q166 H166 w166 => ?_)
  refine p_X4_71 ok rfl (hI.at w166) dX4_init_168 (fun H168 w168 => ?_)
  obtain ⟨ad, hI⟩ := hI.step (j := 30) w166 w168 rfl (by decide) (by decide)
  refine z_aload_n ok dX4_init_171 rfl ?_
  refine z_bipush ok dX4_init_172 zbc_6 ?_
  refine z_newZ (N := 6) ok q2015 rfl dX4_init_174 (by omega) (by omega) (fun q174 H174 w174 => ?_)
  refine p_X4_74 ok rfl (hI.at w174) dX4_init_176 (fun H176 w176 => ?_)
  obtain ⟨ad, hI⟩ := hI.step (j := 31) w174 w176 rfl (by decide) (by decide)
  refine z_aload_n ok dX4_init_179 rfl ?_
  refine z_bipush ok dX4_init_180 zbc_60 ?_
  refine z_newB (N := 60) ok q211 rfl dX4_init_182 (by omega) (by omega) (fun q182 H182 w182 => ?_)
  refine p_X4_77 ok rfl (hI.at w182) dX4_init_184 (fun H184 w184 => ?_)
  obtain ⟨ad, hI⟩ := hI.step (j := 32) w182 w184 rfl (by decide) (by decide)
  refine z_aload_n ok dX4_init_187 rfl ?_
  refine v_X4_81 ok (m_X4_begins hI.fin) hI.fin.is dX4_init_188 zk_nx (zk_Rv (fun H9 h9 _ => ?_))
  exact z_vret ok dX4_init_191 ⟨rfl, hI.done h9⟩
