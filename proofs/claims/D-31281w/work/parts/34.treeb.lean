/-! walks of TreeMap, printed by gen/tree.py -/
set_option maxRecDepth 100000
set_option maxHeartbeats 4000000 in
set_option maxRecDepth 100000 in
theorem t_get_10 {E : zE} {H : Heap} {t a0 a1 k0 v0 k1 v1 kx x e0 : Nat} {s m : Int32} (h : TZ E H H [(t, tM (.ref a0) s m), (a0, tN (.ref k0) (.ref v0) .null (.ref a1) .null 1), (a1, tN (.ref k1) (.ref v1) .null .null (.ref a0) 0)]) (hx : zOb E H kx 14 [.int (nI x)]) (hk0 : zOb E H k0 14 [.int (nI e0)]) (hk1 : zOb E H k1 14 [.int (nI x)]) (hlt : e0 < x ∧ x < 4) : zM E 7 yJ4_get (ws_ yJ4_get cJ4_get 3 (some (.object "java/lang/Object"))) 0 0 H [.ref t, .ref kx] (zR H (.ref v1)) zNX := by
  refine z_of [some (.ref t), some (.ref kx), none] pn_J4 (Nat.le_of_ble_eq_true rfl) rfl (fun κ ok ho => ?_)
  refine z_aload_n ok dJ4_get_0 rfl ?_
  refine z_aload_n ok dJ4_get_1 rfl ?_
  refine v_J4_50 ok (t_getEntry_10 h.self hx hk0 hk1 hlt) (h.is 0 rfl) dJ4_get_2 zk_nx (zk_R ?_)
  refine z_astore_2 ok dJ4_get_5 ?_
  refine z_aload_n ok dJ4_get_6 rfl ?_
  refine z_ifnonnullR (tgt := 14) ok dJ4_get_7 (by decide) ?_
  refine z_aload_n ok dJ4_get_14 rfl ?_
  refine g_J4_58 ok (h.ob 2 rfl) dJ4_get_15 ?_
  exact z_aret ok dJ4_get_18 ⟨rfl, rfl⟩
set_option maxHeartbeats 4000000 in
set_option maxRecDepth 100000 in
theorem t_deleteEntry_4 {E : zE} {H : Heap} {t a0 a1 k0 v0 k1 v1 : Nat} {s m : Int32} (h : TZ E H H [(t, tM (.ref a0) s m), (a0, tN (.ref k0) (.ref v0) .null (.ref a1) .null 1), (a1, tN (.ref k1) (.ref v1) .null .null (.ref a0) 0)]) : zM E 6 yJ4_deleteEntry (ws_ yJ4_deleteEntry cJ4_deleteEntry 3 none) 0 0 H [.ref t, .ref a1] (zRv (fun H1 => TZ E H H1 [(t, tM (.ref a0) (s - 1) (m + 1)), (a0, tN (.ref k0) (.ref v0) .null .null .null 1), (a1, tN (.ref k1) (.ref v1) .null .null .null 0)])) zNX := by
  refine z_of [some (.ref t), some (.ref a1), none] pn_J4 (Nat.le_of_ble_eq_true rfl) rfl (fun κ ok ho => ?_)
  refine z_aload_n ok dJ4_deleteEntry_0 rfl ?_
  refine z_dup ok dJ4_deleteEntry_1 ?_
  refine g_J4_13 ok (h.ob 0 rfl) dJ4_deleteEntry_2 ?_
  refine z_iconst ok dJ4_deleteEntry_5 zic_1 ?_
  refine z_iadd ok dJ4_deleteEntry_6 ?_
  refine p_J4_13 ok (h.at 0 rfl) dJ4_deleteEntry_7 (fun H1 w1 => ?_)
  replace h : TZ E H H1 [(t, tM (.ref a0) s (m + 1)), (a0, tN (.ref k0) (.ref v0) .null (.ref a1) .null 1), (a1, tN (.ref k1) (.ref v1) .null .null (.ref a0) 0)] := h.wr 0 rfl w1
  refine z_aload_n ok dJ4_deleteEntry_10 rfl ?_
  refine z_dup ok dJ4_deleteEntry_11 ?_
  refine g_J4_7 ok (h.ob 0 rfl) dJ4_deleteEntry_12 ?_
  refine z_iconst ok dJ4_deleteEntry_15 zic_1 ?_
  refine z_isub ok dJ4_deleteEntry_16 ?_
  refine p_J4_7 ok (h.at 0 rfl) dJ4_deleteEntry_17 (fun H2 w2 => ?_)
  replace h : TZ E H H2 [(t, tM (.ref a0) (s - 1) (m + 1)), (a0, tN (.ref k0) (.ref v0) .null (.ref a1) .null 1), (a1, tN (.ref k1) (.ref v1) .null .null (.ref a0) 0)] := h.wr 0 rfl w2
  refine z_aload_n ok dJ4_deleteEntry_20 rfl ?_
  refine g_J4_111 ok (h.ob 2 rfl) dJ4_deleteEntry_21 ?_
  refine z_ifnullN (tgt := 57) ok dJ4_deleteEntry_24 (by decide) ?_
  refine z_aload_n ok dJ4_deleteEntry_57 rfl ?_
  refine g_J4_111 ok (h.ob 2 rfl) dJ4_deleteEntry_58 ?_
  refine z_ifnullN (tgt := 71) ok dJ4_deleteEntry_61 (by decide) ?_
  refine z_aload_n ok dJ4_deleteEntry_71 rfl ?_
  refine g_J4_114 ok (h.ob 2 rfl) dJ4_deleteEntry_72 ?_
  refine z_astore_2 ok dJ4_deleteEntry_75 ?_
  refine z_aload_n ok dJ4_deleteEntry_76 rfl ?_
  refine z_ifnullN (tgt := 164) ok dJ4_deleteEntry_77 (by decide) ?_
  refine z_aload_n ok dJ4_deleteEntry_164 rfl ?_
  refine g_J4_124 ok (h.ob 2 rfl) dJ4_deleteEntry_165 ?_
  refine z_ifnonnullR (tgt := 179) ok dJ4_deleteEntry_168 (by decide) ?_
  refine z_aload_n ok dJ4_deleteEntry_179 rfl ?_
  refine g_J4_290 ok (h.ob 2 rfl) dJ4_deleteEntry_180 ?_
  refine z_iconst ok dJ4_deleteEntry_183 zic_1 ?_
  refine z_icmpne (tgt := 192) ok dJ4_deleteEntry_184 (by decide) (fun _ => ?_) (fun c => absurd c (by decide))
  refine z_aload_n ok dJ4_deleteEntry_192 rfl ?_
  refine g_J4_124 ok (h.ob 2 rfl) dJ4_deleteEntry_193 ?_
  refine z_ifnullR ok dJ4_deleteEntry_196 ?_
  refine z_aload_n ok dJ4_deleteEntry_199 rfl ?_
  refine z_aload_n ok dJ4_deleteEntry_200 rfl ?_
  refine g_J4_124 ok (h.ob 2 rfl) dJ4_deleteEntry_201 ?_
  refine g_J4_111 ok (h.ob 1 rfl) dJ4_deleteEntry_204 ?_
  refine z_acmpne (rx := some a1) (ry := none) (tgt := 221) ok dJ4_deleteEntry_207 (by decide) (fun _ => ?_) (fun c => nomatch c)
  refine z_aload_n ok dJ4_deleteEntry_221 rfl ?_
  refine z_aload_n ok dJ4_deleteEntry_222 rfl ?_
  refine g_J4_124 ok (h.ob 2 rfl) dJ4_deleteEntry_223 ?_
  refine g_J4_114 ok (h.ob 1 rfl) dJ4_deleteEntry_226 ?_
  refine z_acmpne (rx := some a1) (ry := some a1) (tgt := 240) ok dJ4_deleteEntry_229 (by decide) (fun c => absurd rfl c) (fun _ => ?_)
  refine z_aload_n ok dJ4_deleteEntry_232 rfl ?_
  refine g_J4_124 ok (h.ob 2 rfl) dJ4_deleteEntry_233 ?_
  refine z_null ok dJ4_deleteEntry_236 ?_
  refine p_J4_114 ok (h.at 1 rfl) dJ4_deleteEntry_237 (fun H3 w3 => ?_)
  replace h : TZ E H H3 [(t, tM (.ref a0) (s - 1) (m + 1)), (a0, tN (.ref k0) (.ref v0) .null .null .null 1), (a1, tN (.ref k1) (.ref v1) .null .null (.ref a0) 0)] := h.wr 1 rfl w3
  refine z_aload_n ok dJ4_deleteEntry_240 rfl ?_
  refine z_null ok dJ4_deleteEntry_241 ?_
  refine p_J4_124 ok (h.at 2 rfl) dJ4_deleteEntry_242 (fun H4 w4 => ?_)
  replace h : TZ E H H4 [(t, tM (.ref a0) (s - 1) (m + 1)), (a0, tN (.ref k0) (.ref v0) .null .null .null 1), (a1, tN (.ref k1) (.ref v1) .null .null .null 0)] := h.wr 2 rfl w4
  exact z_vret ok dJ4_deleteEntry_245 ⟨rfl, h⟩
set_option maxHeartbeats 4000000 in
set_option maxRecDepth 100000 in
theorem t_remove_10 {E : zE} {H : Heap} {t a0 a1 k0 v0 k1 v1 kx x e0 : Nat} {s m : Int32} (h : TZ E H H [(t, tM (.ref a0) s m), (a0, tN (.ref k0) (.ref v0) .null (.ref a1) .null 1), (a1, tN (.ref k1) (.ref v1) .null .null (.ref a0) 0)]) (hx : zOb E H kx 14 [.int (nI x)]) (hk0 : zOb E H k0 14 [.int (nI e0)]) (hk1 : zOb E H k1 14 [.int (nI x)]) (hlt : e0 < x ∧ x < 4) : zM E 8 yJ4_remove (ws_ yJ4_remove cJ4_remove 4 (some (.object "java/lang/Object"))) 0 0 H [.ref t, .ref kx] (zRw (.ref v1) (fun H1 => TZ E H H1 [(t, tM (.ref a0) (s - 1) (m + 1)), (a0, tN (.ref k0) (.ref v0) .null .null .null 1), (a1, tN (.ref k1) (.ref v1) .null .null .null 0)])) zNX := by
  refine z_of [some (.ref t), some (.ref kx), none, none] pn_J4 (Nat.le_of_ble_eq_true rfl) rfl (fun κ ok ho => ?_)
  refine z_aload_n ok dJ4_remove_0 rfl ?_
  refine z_aload_n ok dJ4_remove_1 rfl ?_
  refine v_J4_50 ok (t_getEntry_10 h.self hx hk0 hk1 hlt) (h.is 0 rfl) dJ4_remove_2 zk_nx (zk_R ?_)
  refine z_astore_2 ok dJ4_remove_5 ?_
  refine z_aload_n ok dJ4_remove_6 rfl ?_
  refine z_ifnonnullR (tgt := 12) ok dJ4_remove_7 (by decide) ?_
  refine z_aload_n ok dJ4_remove_12 rfl ?_
  refine g_J4_58 ok (h.ob 2 rfl) dJ4_remove_13 ?_
  refine z_astore_3 ok dJ4_remove_16 ?_
  refine z_aload_n ok dJ4_remove_17 rfl ?_
  refine z_aload_n ok dJ4_remove_18 rfl ?_
  refine v_J4_174 ok (t_deleteEntry_4 h.self) (h.is 0 rfl) dJ4_remove_19 zk_nx (zk_Rv (fun H2 g2 _ => ?_))
  replace h : TZ E H H2 [(t, tM (.ref a0) (s - 1) (m + 1)), (a0, tN (.ref k0) (.ref v0) .null .null .null 1), (a1, tN (.ref k1) (.ref v1) .null .null .null 0)] := h.tr g2 rfl
  refine z_aload_n ok dJ4_remove_22 rfl ?_
  exact z_aret ok dJ4_remove_23 ⟨rfl, h⟩
set_option maxHeartbeats 4000000 in
set_option maxRecDepth 100000 in
theorem t_put_2_10 {E : zE} {H : Heap} {t a0 a1 k0 v0 k1 v1 vx kx x e0 : Nat} {s m : Int32} (h : TZ E H H [(t, tM (.ref a0) s m), (a0, tN (.ref k0) (.ref v0) .null (.ref a1) .null 1), (a1, tN (.ref k1) (.ref v1) .null .null (.ref a0) 0)]) (hx : zOb E H kx 14 [.int (nI x)]) (hk0 : zOb E H k0 14 [.int (nI e0)]) (hk1 : zOb E H k1 14 [.int (nI x)]) (hlt : e0 < x ∧ x < 4) : zM E 8 yJ4_put_2 (ws_ yJ4_put_2 cJ4_put_2 10 (some (.object "java/lang/Object"))) 1 6 H [.ref t, .ref kx, .ref vx, .int 1] (zRw (.ref v1) (fun H1 => TZ E H H1 [(t, tM (.ref a0) s m), (a0, tN (.ref k0) (.ref v0) .null (.ref a1) .null 1), (a1, tN (.ref k1) (.ref vx) .null .null (.ref a0) 0)])) zNX := by
  refine z_of [some (.ref t), some (.ref kx), some (.ref vx), some (.int 1), none, none, none, none, none, none] pn_J4 (Nat.le_of_ble_eq_true rfl) rfl (fun κ ok ho => ?_)
  refine z_aload_n ok dJ4_put_2_0 rfl ?_
  refine g_J4_101 ok (h.ob 0 rfl) dJ4_put_2_1 ?_
  refine z_astore_4 ok dJ4_put_2_4 ?_
  refine z_aload ok dJ4_put_2_6 rfl ?_
  refine z_ifnonnullR (tgt := 19) ok dJ4_put_2_8 (by decide) ?_
  refine z_aload_n ok dJ4_put_2_19 rfl ?_
  refine g_J4_16 ok (h.ob 0 rfl) dJ4_put_2_20 ?_
  refine z_astore_7 ok dJ4_put_2_23 ?_
  refine z_aload ok dJ4_put_2_25 rfl ?_
  refine z_ifnullN (tgt := 112) ok dJ4_put_2_27 (by decide) ?_
  refine z_aload_n ok dJ4_put_2_112 rfl ?_
  refine v_J4_95 ok (m_J17_requireNonNull _) dJ4_put_2_113 zk_nx (zk_R ?_)
  refine z_pop ok dJ4_put_2_116 ?_
  refine z_aload_n ok dJ4_put_2_117 rfl ?_
  refine z_cast ok q678 hx.is (ci := 14) rfl (Or.inr q683) dJ4_put_2_118 ?_
  refine z_astore_8 ok dJ4_put_2_121 ?_
  refine z_aload ok dJ4_put_2_123 rfl ?_
  refine z_astore_6 ok dJ4_put_2_125 ?_
  refine z_aload ok dJ4_put_2_127 rfl ?_
  refine z_aload ok dJ4_put_2_129 rfl ?_
  refine g_J4_105 ok (h.ob 1 rfl) dJ4_put_2_131 ?_
  refine v_J4_107_j22 ok (m_J22_cmpG hx hk0 (by omega)) hx.is dJ4_put_2_134 zk_nx (zk_R ?_)
  refine z_istore_5 ok dJ4_put_2_139 ?_
  refine z_iload ok dJ4_put_2_141 rfl ?_
  refine z_ifge (tgt := 156) ok dJ4_put_2_143 (by decide) (fun _ => ?_) (fun c => absurd c (by decide))
  refine z_iload ok dJ4_put_2_156 rfl ?_
  refine z_ifle (tgt := 171) ok dJ4_put_2_158 (by decide) (fun c => absurd c (by decide)) (fun _ => ?_)
  refine z_aload ok dJ4_put_2_161 rfl ?_
  refine g_J4_114 ok (h.ob 1 rfl) dJ4_put_2_163 ?_
  refine z_astore_4 ok dJ4_put_2_166 ?_
  refine z_goto (tgt := 196) ok dJ4_put_2_168 (by decide) ?_
  refine z_aload ok dJ4_put_2_196 rfl ?_
  refine z_ifnonnullR (tgt := 123) ok dJ4_put_2_198 (by decide) ?_
  refine z_aload ok dJ4_put_2_123 rfl ?_
  refine z_astore_6 ok dJ4_put_2_125 ?_
  refine z_aload ok dJ4_put_2_127 rfl ?_
  refine z_aload ok dJ4_put_2_129 rfl ?_
  refine g_J4_105 ok (h.ob 2 rfl) dJ4_put_2_131 ?_
  refine v_J4_107_j22 ok (m_J22_cmpE hx hk1) hx.is dJ4_put_2_134 zk_nx (zk_R ?_)
  refine z_istore_5 ok dJ4_put_2_139 ?_
  refine z_iload ok dJ4_put_2_141 rfl ?_
  refine z_ifge (tgt := 156) ok dJ4_put_2_143 (by decide) (fun _ => ?_) (fun c => absurd c (by decide))
  refine z_iload ok dJ4_put_2_156 rfl ?_
  refine z_ifle (tgt := 171) ok dJ4_put_2_158 (by decide) (fun _ => ?_) (fun c => absurd c (by decide))
  refine z_aload ok dJ4_put_2_171 rfl ?_
  refine g_J4_58 ok (h.ob 2 rfl) dJ4_put_2_173 ?_
  refine z_astore_9 ok dJ4_put_2_176 ?_
  refine z_iload_n ok dJ4_put_2_178 rfl ?_
  refine z_ifne (tgt := 187) ok dJ4_put_2_179 (by decide) (fun _ => ?_) (fun c => absurd c (by decide))
  refine z_aload ok dJ4_put_2_187 rfl ?_
  refine z_aload_n ok dJ4_put_2_189 rfl ?_
  refine p_J4_58 ok (h.at 2 rfl) dJ4_put_2_190 (fun H1 w1 => ?_)
  replace h : TZ E H H1 [(t, tM (.ref a0) s m), (a0, tN (.ref k0) (.ref v0) .null (.ref a1) .null 1), (a1, tN (.ref k1) (.ref vx) .null .null (.ref a0) 0)] := h.wr 2 rfl w1
  refine z_aload ok dJ4_put_2_193 rfl ?_
  exact z_aret ok dJ4_put_2_195 ⟨rfl, h⟩
set_option maxHeartbeats 4000000 in
set_option maxRecDepth 100000 in
theorem t_put_10 {E : zE} {H : Heap} {t a0 a1 k0 v0 k1 v1 vx kx x e0 : Nat} {s m : Int32} (h : TZ E H H [(t, tM (.ref a0) s m), (a0, tN (.ref k0) (.ref v0) .null (.ref a1) .null 1), (a1, tN (.ref k1) (.ref v1) .null .null (.ref a0) 0)]) (hx : zOb E H kx 14 [.int (nI x)]) (hk0 : zOb E H k0 14 [.int (nI e0)]) (hk1 : zOb E H k1 14 [.int (nI x)]) (hlt : e0 < x ∧ x < 4) : zM E 9 yJ4_put (ws_ yJ4_put cJ4_put 3 (some (.object "java/lang/Object"))) 1 6 H [.ref t, .ref kx, .ref vx] (zRw (.ref v1) (fun H1 => TZ E H H1 [(t, tM (.ref a0) s m), (a0, tN (.ref k0) (.ref v0) .null (.ref a1) .null 1), (a1, tN (.ref k1) (.ref vx) .null .null (.ref a0) 0)])) zNX := by
  refine z_of [some (.ref t), some (.ref kx), some (.ref vx)] pn_J4 (Nat.le_of_ble_eq_true rfl) rfl (fun κ ok ho => ?_)
  refine z_aload_n ok dJ4_put_0 rfl ?_
  refine z_aload_n ok dJ4_put_1 rfl ?_
  refine z_aload_n ok dJ4_put_2 rfl ?_
  refine z_iconst ok dJ4_put_3 zic_1 ?_
  refine v_J4_127 ok (t_put_2_10 h.self hx hk0 hk1 hlt) (h.is 0 rfl) dJ4_put_4 zk_nx (zk_Rw (fun H1 g1 _ => ?_))
  replace h : TZ E H H1 [(t, tM (.ref a0) s m), (a0, tN (.ref k0) (.ref v0) .null (.ref a1) .null 1), (a1, tN (.ref k1) (.ref vx) .null .null (.ref a0) 0)] := h.tr g1 rfl
  exact z_aret ok dJ4_put_7 ⟨rfl, h⟩
set_option maxHeartbeats 4000000 in
set_option maxRecDepth 100000 in
theorem t_getEntry_11 {E : zE} {H : Heap} {t a0 a1 k0 v0 k1 v1 kx x e0 e1 : Nat} {s m : Int32} (h : TZ E H H [(t, tM (.ref a0) s m), (a0, tN (.ref k0) (.ref v0) .null (.ref a1) .null 1), (a1, tN (.ref k1) (.ref v1) .null .null (.ref a0) 0)]) (hx : zOb E H kx 14 [.int (nI x)]) (hk0 : zOb E H k0 14 [.int (nI e0)]) (hk1 : zOb E H k1 14 [.int (nI e1)]) (hlt : x < e0 ∧ e0 < e1 ∧ e1 < 4) : zM E 6 yJ4_getEntry (ws_ yJ4_getEntry cJ4_getEntry 5 (some (.object "java/util/TreeMap$Entry"))) 0 0 H [.ref t, .ref kx] (zR H (.null)) zNX := by
  refine z_of [some (.ref t), some (.ref kx), none, none, none] pn_J4 (Nat.le_of_ble_eq_true rfl) rfl (fun κ ok ho => ?_)
  refine z_aload_n ok dJ4_getEntry_0 rfl ?_
  refine g_J4_16 ok (h.ob 0 rfl) dJ4_getEntry_1 ?_
  refine z_ifnullN (tgt := 13) ok dJ4_getEntry_4 (by decide) ?_
  refine z_aload_n ok dJ4_getEntry_13 rfl ?_
  refine v_J4_95 ok (m_J17_requireNonNull _) dJ4_getEntry_14 zk_nx (zk_R ?_)
  refine z_pop ok dJ4_getEntry_17 ?_
  refine z_aload_n ok dJ4_getEntry_18 rfl ?_
  refine z_cast ok q678 hx.is (ci := 14) rfl (Or.inr q683) dJ4_getEntry_19 ?_
  refine z_astore_2 ok dJ4_getEntry_22 ?_
  refine z_aload_n ok dJ4_getEntry_23 rfl ?_
  refine g_J4_101 ok (h.ob 0 rfl) dJ4_getEntry_24 ?_
  refine z_astore_3 ok dJ4_getEntry_27 ?_
  refine z_aload_n ok dJ4_getEntry_28 rfl ?_
  refine z_ifnullR ok dJ4_getEntry_29 ?_
  refine z_aload_n ok dJ4_getEntry_32 rfl ?_
  refine z_aload_n ok dJ4_getEntry_33 rfl ?_
  refine g_J4_105 ok (h.ob 1 rfl) dJ4_getEntry_34 ?_
  refine v_J4_107_j22 ok (m_J22_cmpL hx hk0 (by omega)) hx.is dJ4_getEntry_37 zk_nx (zk_R ?_)
  refine z_istore_4 ok dJ4_getEntry_42 ?_
  refine z_iload ok dJ4_getEntry_44 rfl ?_
  refine z_ifge (tgt := 57) ok dJ4_getEntry_46 (by decide) (fun c => absurd c (by decide)) (fun _ => ?_)
  refine z_aload_n ok dJ4_getEntry_49 rfl ?_
  refine g_J4_111 ok (h.ob 1 rfl) dJ4_getEntry_50 ?_
  refine z_astore_3 ok dJ4_getEntry_53 ?_
  refine z_goto (tgt := 72) ok dJ4_getEntry_54 (by decide) ?_
  refine z_goto (tgt := 28) ok dJ4_getEntry_72 (by decide) ?_
  refine z_aload_n ok dJ4_getEntry_28 rfl ?_
  refine z_ifnullN (tgt := 75) ok dJ4_getEntry_29 (by decide) ?_
  refine z_null ok dJ4_getEntry_75 ?_
  exact z_aret ok dJ4_getEntry_76 ⟨rfl, rfl⟩
set_option maxHeartbeats 4000000 in
set_option maxRecDepth 100000 in
theorem t_get_11 {E : zE} {H : Heap} {t a0 a1 k0 v0 k1 v1 kx x e0 e1 : Nat} {s m : Int32} (h : TZ E H H [(t, tM (.ref a0) s m), (a0, tN (.ref k0) (.ref v0) .null (.ref a1) .null 1), (a1, tN (.ref k1) (.ref v1) .null .null (.ref a0) 0)]) (hx : zOb E H kx 14 [.int (nI x)]) (hk0 : zOb E H k0 14 [.int (nI e0)]) (hk1 : zOb E H k1 14 [.int (nI e1)]) (hlt : x < e0 ∧ e0 < e1 ∧ e1 < 4) : zM E 7 yJ4_get (ws_ yJ4_get cJ4_get 3 (some (.object "java/lang/Object"))) 0 0 H [.ref t, .ref kx] (zR H (.null)) zNX := by
  refine z_of [some (.ref t), some (.ref kx), none] pn_J4 (Nat.le_of_ble_eq_true rfl) rfl (fun κ ok ho => ?_)
  refine z_aload_n ok dJ4_get_0 rfl ?_
  refine z_aload_n ok dJ4_get_1 rfl ?_
  refine v_J4_50 ok (t_getEntry_11 h.self hx hk0 hk1 hlt) (h.is 0 rfl) dJ4_get_2 zk_nx (zk_R ?_)
  refine z_astore_2 ok dJ4_get_5 ?_
  refine z_aload_n ok dJ4_get_6 rfl ?_
  refine z_ifnonnullN ok dJ4_get_7 ?_
  refine z_null ok dJ4_get_10 ?_
  refine z_goto (tgt := 18) ok dJ4_get_11 (by decide) ?_
  exact z_aret ok dJ4_get_18 ⟨rfl, rfl⟩
set_option maxHeartbeats 4000000 in
set_option maxRecDepth 100000 in
theorem t_remove_11 {E : zE} {H : Heap} {t a0 a1 k0 v0 k1 v1 kx x e0 e1 : Nat} {s m : Int32} (h : TZ E H H [(t, tM (.ref a0) s m), (a0, tN (.ref k0) (.ref v0) .null (.ref a1) .null 1), (a1, tN (.ref k1) (.ref v1) .null .null (.ref a0) 0)]) (hx : zOb E H kx 14 [.int (nI x)]) (hk0 : zOb E H k0 14 [.int (nI e0)]) (hk1 : zOb E H k1 14 [.int (nI e1)]) (hlt : x < e0 ∧ e0 < e1 ∧ e1 < 4) : zM E 8 yJ4_remove (ws_ yJ4_remove cJ4_remove 4 (some (.object "java/lang/Object"))) 0 0 H [.ref t, .ref kx] (zR H (.null)) zNX := by
  refine z_of [some (.ref t), some (.ref kx), none, none] pn_J4 (Nat.le_of_ble_eq_true rfl) rfl (fun κ ok ho => ?_)
  refine z_aload_n ok dJ4_remove_0 rfl ?_
  refine z_aload_n ok dJ4_remove_1 rfl ?_
  refine v_J4_50 ok (t_getEntry_11 h.self hx hk0 hk1 hlt) (h.is 0 rfl) dJ4_remove_2 zk_nx (zk_R ?_)
  refine z_astore_2 ok dJ4_remove_5 ?_
  refine z_aload_n ok dJ4_remove_6 rfl ?_
  refine z_ifnonnullN ok dJ4_remove_7 ?_
  refine z_null ok dJ4_remove_10 ?_
  exact z_aret ok dJ4_remove_11 ⟨rfl, rfl⟩
set_option maxHeartbeats 4000000 in
set_option maxRecDepth 100000 in
theorem t_fixAfterInsertion_5 {E : zE} {H : Heap} {t a0 a1 b k0 v0 k1 v1 kx vx : Nat} {s m : Int32} (h : TZ E H H [(t, tM (.ref a0) s m), (a0, tN (.ref k0) (.ref v0) (.ref b) (.ref a1) .null 1), (a1, tN (.ref k1) (.ref v1) .null .null (.ref a0) 0), (b, tN (.ref kx) (.ref vx) .null .null (.ref a0) 1)]) : zM E 4 yJ4_fixAfterInsertion (ws_ yJ4_fixAfterInsertion cJ4_fixAfterInsertion 3 none) 0 0 H [.ref t, .ref b] (zRv (fun H1 => TZ E H H1 [(t, tM (.ref a0) s m), (a0, tN (.ref k0) (.ref v0) (.ref b) (.ref a1) .null 1), (a1, tN (.ref k1) (.ref v1) .null .null (.ref a0) 0), (b, tN (.ref kx) (.ref vx) .null .null (.ref a0) 0)])) zNX := by
  refine z_of [some (.ref t), some (.ref b), none] pn_J4 (Nat.le_of_ble_eq_true rfl) rfl (fun κ ok ho => ?_)
  refine z_aload_n ok dJ4_fixAfterInsertion_0 rfl ?_
  refine z_iconst ok dJ4_fixAfterInsertion_1 zic_0 ?_
  refine p_J4_290 ok (h.at 3 rfl) dJ4_fixAfterInsertion_2 (fun H1 w1 => ?_)
  replace h : TZ E H H1 [(t, tM (.ref a0) s m), (a0, tN (.ref k0) (.ref v0) (.ref b) (.ref a1) .null 1), (a1, tN (.ref k1) (.ref v1) .null .null (.ref a0) 0), (b, tN (.ref kx) (.ref vx) .null .null (.ref a0) 0)] := h.wr 3 rfl w1
  refine z_aload_n ok dJ4_fixAfterInsertion_5 rfl ?_
  refine z_ifnullR ok dJ4_fixAfterInsertion_6 ?_
  refine z_aload_n ok dJ4_fixAfterInsertion_9 rfl ?_
  refine z_aload_n ok dJ4_fixAfterInsertion_10 rfl ?_
  refine g_J4_101 ok (h.ob 0 rfl) dJ4_fixAfterInsertion_11 ?_
  refine z_acmpeq (rx := some b) (ry := some a0) (tgt := 258) ok dJ4_fixAfterInsertion_14 (by decide) (fun c => absurd c (h.ne 3 1 rfl rfl (by decide))) (fun _ => ?_)
  refine z_aload_n ok dJ4_fixAfterInsertion_17 rfl ?_
  refine g_J4_124 ok (h.ob 3 rfl) dJ4_fixAfterInsertion_18 ?_
  refine g_J4_290 ok (h.ob 1 rfl) dJ4_fixAfterInsertion_21 ?_
  refine z_ifne (tgt := 258) ok dJ4_fixAfterInsertion_24 (by decide) (fun _ => ?_) (fun c => absurd c (by decide))
  refine z_aload_n ok dJ4_fixAfterInsertion_258 rfl ?_
  refine g_J4_101 ok (h.ob 0 rfl) dJ4_fixAfterInsertion_259 ?_
  refine z_iconst ok dJ4_fixAfterInsertion_262 zic_1 ?_
  refine p_J4_290 ok (h.at 1 rfl) dJ4_fixAfterInsertion_263 (fun H2 w2 => ?_)
  replace h : TZ E H H2 [(t, tM (.ref a0) s m), (a0, tN (.ref k0) (.ref v0) (.ref b) (.ref a1) .null 1), (a1, tN (.ref k1) (.ref v1) .null .null (.ref a0) 0), (b, tN (.ref kx) (.ref vx) .null .null (.ref a0) 0)] := h.wr 1 rfl w2
  exact z_vret ok dJ4_fixAfterInsertion_266 ⟨rfl, h⟩
set_option maxHeartbeats 4000000 in
set_option maxRecDepth 100000 in
theorem t_addEntry_5 {E : zE} {H : Heap} {t a0 a1 k0 v0 k1 v1 kx vx : Nat} {s m : Int32} (h : TZ E H H [(t, tM (.ref a0) s m), (a0, tN (.ref k0) (.ref v0) .null (.ref a1) .null 1), (a1, tN (.ref k1) (.ref v1) .null .null (.ref a0) 0)]) : zM E 6 yJ4_addEntry (ws_ yJ4_addEntry cJ4_addEntry 6 none) 1 6 H [.ref t, .ref kx, .ref vx, .ref a0, .int 1] (zRv (fun H1 => ∃ b, H.size ≤ b ∧ TZ E H H1 [(t, tM (.ref a0) (s + 1) (m + 1)), (a0, tN (.ref k0) (.ref v0) (.ref b) (.ref a1) .null 1), (a1, tN (.ref k1) (.ref v1) .null .null (.ref a0) 0), (b, tN (.ref kx) (.ref vx) .null .null (.ref a0) 0)])) zNX := by
  refine z_of [some (.ref t), some (.ref kx), some (.ref vx), some (.ref a0), some (.int 1), none] pn_J4 (Nat.le_of_ble_eq_true rfl) rfl (fun κ ok ho => ?_)
  refine n_J4_59 ok dJ4_addEntry_0 (fun b H1 w1 => ?_)
  have hb : H.size ≤ b := by have h8 := w1.1; have h9 := h.2.2.1; omega
  replace h : TZ E H H1 [(t, tM (.ref a0) s m), (a0, tN (.ref k0) (.ref v0) .null (.ref a1) .null 1), (a1, tN (.ref k1) (.ref v1) .null .null (.ref a0) 0), (b, tN .null .null .null .null .null 0)] := h.mk w1
  refine z_dup ok dJ4_addEntry_3 ?_
  refine z_aload_n ok dJ4_addEntry_4 rfl ?_
  refine z_aload_n ok dJ4_addEntry_5 rfl ?_
  refine z_aload_n ok dJ4_addEntry_6 rfl ?_
  refine v_J4_167 ok (m_J26_init (pp := some a0) (h.at 3 rfl)) dJ4_addEntry_7 zk_nx (zk_Rv (fun H2 w2 _ => ?_))
  replace h : TZ E H H2 [(t, tM (.ref a0) s m), (a0, tN (.ref k0) (.ref v0) .null (.ref a1) .null 1), (a1, tN (.ref k1) (.ref v1) .null .null (.ref a0) 0), (b, tN (.ref kx) (.ref vx) .null .null (.ref a0) 1)] := h.wr 3 rfl w2
  refine z_astore_5 ok dJ4_addEntry_10 ?_
  refine z_iload ok dJ4_addEntry_12 rfl ?_
  refine z_ifeq (tgt := 26) ok dJ4_addEntry_14 (by decide) (fun c => absurd c (by decide)) (fun _ => ?_)
  refine z_aload_n ok dJ4_addEntry_17 rfl ?_
  refine z_aload ok dJ4_addEntry_18 rfl ?_
  refine p_J4_111 ok (h.at 1 rfl) dJ4_addEntry_20 (fun H3 w3 => ?_)
  replace h : TZ E H H3 [(t, tM (.ref a0) s m), (a0, tN (.ref k0) (.ref v0) (.ref b) (.ref a1) .null 1), (a1, tN (.ref k1) (.ref v1) .null .null (.ref a0) 0), (b, tN (.ref kx) (.ref vx) .null .null (.ref a0) 1)] := h.wr 1 rfl w3
  refine z_goto (tgt := 32) ok dJ4_addEntry_23 (by decide) ?_
  refine z_aload_n ok dJ4_addEntry_32 rfl ?_
  refine z_aload ok dJ4_addEntry_33 rfl ?_
  refine v_J4_170 ok (t_fixAfterInsertion_5 h.self) (h.is 0 rfl) dJ4_addEntry_35 zk_nx (zk_Rv (fun H4 g4 _ => ?_))
  replace h : TZ E H H4 [(t, tM (.ref a0) s m), (a0, tN (.ref k0) (.ref v0) (.ref b) (.ref a1) .null 1), (a1, tN (.ref k1) (.ref v1) .null .null (.ref a0) 0), (b, tN (.ref kx) (.ref vx) .null .null (.ref a0) 0)] := h.tr g4 rfl
  refine z_aload_n ok dJ4_addEntry_38 rfl ?_
  refine z_dup ok dJ4_addEntry_39 ?_
  refine g_J4_7 ok (h.ob 0 rfl) dJ4_addEntry_40 ?_
  refine z_iconst ok dJ4_addEntry_43 zic_1 ?_
  refine z_iadd ok dJ4_addEntry_44 ?_
  refine p_J4_7 ok (h.at 0 rfl) dJ4_addEntry_45 (fun H5 w5 => ?_)
  replace h : TZ E H H5 [(t, tM (.ref a0) (s + 1) m), (a0, tN (.ref k0) (.ref v0) (.ref b) (.ref a1) .null 1), (a1, tN (.ref k1) (.ref v1) .null .null (.ref a0) 0), (b, tN (.ref kx) (.ref vx) .null .null (.ref a0) 0)] := h.wr 0 rfl w5
  refine z_aload_n ok dJ4_addEntry_48 rfl ?_
  refine z_dup ok dJ4_addEntry_49 ?_
  refine g_J4_13 ok (h.ob 0 rfl) dJ4_addEntry_50 ?_
  refine z_iconst ok dJ4_addEntry_53 zic_1 ?_
  refine z_iadd ok dJ4_addEntry_54 ?_
  refine p_J4_13 ok (h.at 0 rfl) dJ4_addEntry_55 (fun H6 w6 => ?_)
  replace h : TZ E H H6 [(t, tM (.ref a0) (s + 1) (m + 1)), (a0, tN (.ref k0) (.ref v0) (.ref b) (.ref a1) .null 1), (a1, tN (.ref k1) (.ref v1) .null .null (.ref a0) 0), (b, tN (.ref kx) (.ref vx) .null .null (.ref a0) 0)] := h.wr 0 rfl w6
  exact z_vret ok dJ4_addEntry_58 ⟨rfl, b, hb, h⟩
set_option maxHeartbeats 4000000 in
set_option maxRecDepth 100000 in
theorem t_put_2_11 {E : zE} {H : Heap} {t a0 a1 k0 v0 k1 v1 vx kx x e0 e1 : Nat} {s m : Int32} (h : TZ E H H [(t, tM (.ref a0) s m), (a0, tN (.ref k0) (.ref v0) .null (.ref a1) .null 1), (a1, tN (.ref k1) (.ref v1) .null .null (.ref a0) 0)]) (hx : zOb E H kx 14 [.int (nI x)]) (hk0 : zOb E H k0 14 [.int (nI e0)]) (hk1 : zOb E H k1 14 [.int (nI e1)]) (hlt : x < e0 ∧ e0 < e1 ∧ e1 < 4) : zM E 8 yJ4_put_2 (ws_ yJ4_put_2 cJ4_put_2 10 (some (.object "java/lang/Object"))) 1 6 H [.ref t, .ref kx, .ref vx, .int 1] (zRw (.null) (fun H1 => ∃ b, H.size ≤ b ∧ TZ E H H1 [(t, tM (.ref a0) (s + 1) (m + 1)), (a0, tN (.ref k0) (.ref v0) (.ref b) (.ref a1) .null 1), (a1, tN (.ref k1) (.ref v1) .null .null (.ref a0) 0), (b, tN (.ref kx) (.ref vx) .null .null (.ref a0) 0)])) zNX := by
  refine z_of [some (.ref t), some (.ref kx), some (.ref vx), some (.int 1), none, none, none, none, none, none] pn_J4 (Nat.le_of_ble_eq_true rfl) rfl (fun κ ok ho => ?_)
  refine z_aload_n ok dJ4_put_2_0 rfl ?_
  refine g_J4_101 ok (h.ob 0 rfl) dJ4_put_2_1 ?_
  refine z_astore_4 ok dJ4_put_2_4 ?_
  refine z_aload ok dJ4_put_2_6 rfl ?_
  refine z_ifnonnullR (tgt := 19) ok dJ4_put_2_8 (by decide) ?_
  refine z_aload_n ok dJ4_put_2_19 rfl ?_
  refine g_J4_16 ok (h.ob 0 rfl) dJ4_put_2_20 ?_
  refine z_astore_7 ok dJ4_put_2_23 ?_
  refine z_aload ok dJ4_put_2_25 rfl ?_
  refine z_ifnullN (tgt := 112) ok dJ4_put_2_27 (by decide) ?_
  refine z_aload_n ok dJ4_put_2_112 rfl ?_
  refine v_J4_95 ok (m_J17_requireNonNull _) dJ4_put_2_113 zk_nx (zk_R ?_)
  refine z_pop ok dJ4_put_2_116 ?_
  refine z_aload_n ok dJ4_put_2_117 rfl ?_
  refine z_cast ok q678 hx.is (ci := 14) rfl (Or.inr q683) dJ4_put_2_118 ?_
  refine z_astore_8 ok dJ4_put_2_121 ?_
  refine z_aload ok dJ4_put_2_123 rfl ?_
  refine z_astore_6 ok dJ4_put_2_125 ?_
  refine z_aload ok dJ4_put_2_127 rfl ?_
  refine z_aload ok dJ4_put_2_129 rfl ?_
  refine g_J4_105 ok (h.ob 1 rfl) dJ4_put_2_131 ?_
  refine v_J4_107_j22 ok (m_J22_cmpL hx hk0 (by omega)) hx.is dJ4_put_2_134 zk_nx (zk_R ?_)
  refine z_istore_5 ok dJ4_put_2_139 ?_
  refine z_iload ok dJ4_put_2_141 rfl ?_
  refine z_ifge (tgt := 156) ok dJ4_put_2_143 (by decide) (fun c => absurd c (by decide)) (fun _ => ?_)
  refine z_aload ok dJ4_put_2_146 rfl ?_
  refine g_J4_111 ok (h.ob 1 rfl) dJ4_put_2_148 ?_
  refine z_astore_4 ok dJ4_put_2_151 ?_
  refine z_goto (tgt := 196) ok dJ4_put_2_153 (by decide) ?_
  refine z_aload ok dJ4_put_2_196 rfl ?_
  refine z_ifnonnullN ok dJ4_put_2_198 ?_
  refine z_aload_n ok dJ4_put_2_201 rfl ?_
  refine z_aload_n ok dJ4_put_2_202 rfl ?_
  refine z_aload_n ok dJ4_put_2_203 rfl ?_
  refine z_aload ok dJ4_put_2_204 rfl ?_
  refine z_iload ok dJ4_put_2_206 rfl ?_
  refine z_ifge (tgt := 215) ok dJ4_put_2_208 (by decide) (fun c => absurd c (by decide)) (fun _ => ?_)
  refine z_iconst ok dJ4_put_2_211 zic_1 ?_
  refine z_goto (tgt := 216) ok dJ4_put_2_212 (by decide) ?_
  refine v_J4_139 ok (t_addEntry_5 h.self) (h.is 0 rfl) dJ4_put_2_216 zk_nx (zk_Rv (fun H1 g1 _ => ?_))
  obtain ⟨b, hb, g1⟩ := g1
  replace hb := Nat.le_trans h.2.2.1 hb
  replace h : TZ E H H1 [(t, tM (.ref a0) (s + 1) (m + 1)), (a0, tN (.ref k0) (.ref v0) (.ref b) (.ref a1) .null 1), (a1, tN (.ref k1) (.ref v1) .null .null (.ref a0) 0), (b, tN (.ref kx) (.ref vx) .null .null (.ref a0) 0)] := h.tr1 g1 rfl
  refine z_null ok dJ4_put_2_219 ?_
  exact z_aret ok dJ4_put_2_220 ⟨rfl, b, hb, h⟩
set_option maxHeartbeats 4000000 in
set_option maxRecDepth 100000 in
theorem t_put_11 {E : zE} {H : Heap} {t a0 a1 k0 v0 k1 v1 vx kx x e0 e1 : Nat} {s m : Int32} (h : TZ E H H [(t, tM (.ref a0) s m), (a0, tN (.ref k0) (.ref v0) .null (.ref a1) .null 1), (a1, tN (.ref k1) (.ref v1) .null .null (.ref a0) 0)]) (hx : zOb E H kx 14 [.int (nI x)]) (hk0 : zOb E H k0 14 [.int (nI e0)]) (hk1 : zOb E H k1 14 [.int (nI e1)]) (hlt : x < e0 ∧ e0 < e1 ∧ e1 < 4) : zM E 9 yJ4_put (ws_ yJ4_put cJ4_put 3 (some (.object "java/lang/Object"))) 1 6 H [.ref t, .ref kx, .ref vx] (zRw (.null) (fun H1 => ∃ b, H.size ≤ b ∧ TZ E H H1 [(t, tM (.ref a0) (s + 1) (m + 1)), (a0, tN (.ref k0) (.ref v0) (.ref b) (.ref a1) .null 1), (a1, tN (.ref k1) (.ref v1) .null .null (.ref a0) 0), (b, tN (.ref kx) (.ref vx) .null .null (.ref a0) 0)])) zNX := by
  refine z_of [some (.ref t), some (.ref kx), some (.ref vx)] pn_J4 (Nat.le_of_ble_eq_true rfl) rfl (fun κ ok ho => ?_)
  refine z_aload_n ok dJ4_put_0 rfl ?_
  refine z_aload_n ok dJ4_put_1 rfl ?_
  refine z_aload_n ok dJ4_put_2 rfl ?_
  refine z_iconst ok dJ4_put_3 zic_1 ?_
  refine v_J4_127 ok (t_put_2_11 h.self hx hk0 hk1 hlt) (h.is 0 rfl) dJ4_put_4 zk_nx (zk_Rw (fun H1 g1 _ => ?_))
  obtain ⟨b, hb, g1⟩ := g1
  replace hb := Nat.le_trans h.2.2.1 hb
  replace h : TZ E H H1 [(t, tM (.ref a0) (s + 1) (m + 1)), (a0, tN (.ref k0) (.ref v0) (.ref b) (.ref a1) .null 1), (a1, tN (.ref k1) (.ref v1) .null .null (.ref a0) 0), (b, tN (.ref kx) (.ref vx) .null .null (.ref a0) 0)] := h.tr1 g1 rfl
  exact z_aret ok dJ4_put_7 ⟨rfl, b, hb, h⟩
set_option maxHeartbeats 4000000 in
set_option maxRecDepth 100000 in
theorem t_getEntry_12 {E : zE} {H : Heap} {t a0 a1 k0 v0 k1 v1 kx x e0 e1 : Nat} {s m : Int32} (h : TZ E H H [(t, tM (.ref a0) s m), (a0, tN (.ref k0) (.ref v0) .null (.ref a1) .null 1), (a1, tN (.ref k1) (.ref v1) .null .null (.ref a0) 0)]) (hx : zOb E H kx 14 [.int (nI x)]) (hk0 : zOb E H k0 14 [.int (nI e0)]) (hk1 : zOb E H k1 14 [.int (nI e1)]) (hlt : e0 < x ∧ x < e1 ∧ e1 < 4) : zM E 6 yJ4_getEntry (ws_ yJ4_getEntry cJ4_getEntry 5 (some (.object "java/util/TreeMap$Entry"))) 0 0 H [.ref t, .ref kx] (zR H (.null)) zNX := by
  refine z_of [some (.ref t), some (.ref kx), none, none, none] pn_J4 (Nat.le_of_ble_eq_true rfl) rfl (fun κ ok ho => ?_)
  refine z_aload_n ok dJ4_getEntry_0 rfl ?_
  refine g_J4_16 ok (h.ob 0 rfl) dJ4_getEntry_1 ?_
  refine z_ifnullN (tgt := 13) ok dJ4_getEntry_4 (by decide) ?_
  refine z_aload_n ok dJ4_getEntry_13 rfl ?_
  refine v_J4_95 ok (m_J17_requireNonNull _) dJ4_getEntry_14 zk_nx (zk_R ?_)
  refine z_pop ok dJ4_getEntry_17 ?_
  refine z_aload_n ok dJ4_getEntry_18 rfl ?_
  refine z_cast ok q678 hx.is (ci := 14) rfl (Or.inr q683) dJ4_getEntry_19 ?_
  refine z_astore_2 ok dJ4_getEntry_22 ?_
  refine z_aload_n ok dJ4_getEntry_23 rfl ?_
  refine g_J4_101 ok (h.ob 0 rfl) dJ4_getEntry_24 ?_
  refine z_astore_3 ok dJ4_getEntry_27 ?_
  refine z_aload_n ok dJ4_getEntry_28 rfl ?_
  refine z_ifnullR ok dJ4_getEntry_29 ?_
  refine z_aload_n ok dJ4_getEntry_32 rfl ?_
  refine z_aload_n ok dJ4_getEntry_33 rfl ?_
  refine g_J4_105 ok (h.ob 1 rfl) dJ4_getEntry_34 ?_
  refine v_J4_107_j22 ok (m_J22_cmpG hx hk0 (by omega)) hx.is dJ4_getEntry_37 zk_nx (zk_R ?_)
  refine z_istore_4 ok dJ4_getEntry_42 ?_
  refine z_iload ok dJ4_getEntry_44 rfl ?_
  refine z_ifge (tgt := 57) ok dJ4_getEntry_46 (by decide) (fun _ => ?_) (fun c => absurd c (by decide))
  refine z_iload ok dJ4_getEntry_57 rfl ?_
  refine z_ifle (tgt := 70) ok dJ4_getEntry_59 (by decide) (fun c => absurd c (by decide)) (fun _ => ?_)
  refine z_aload_n ok dJ4_getEntry_62 rfl ?_
  refine g_J4_114 ok (h.ob 1 rfl) dJ4_getEntry_63 ?_
  refine z_astore_3 ok dJ4_getEntry_66 ?_
  refine z_goto (tgt := 72) ok dJ4_getEntry_67 (by decide) ?_
  refine z_goto (tgt := 28) ok dJ4_getEntry_72 (by decide) ?_
  refine z_aload_n ok dJ4_getEntry_28 rfl ?_
  refine z_ifnullR ok dJ4_getEntry_29 ?_
  refine z_aload_n ok dJ4_getEntry_32 rfl ?_
  refine z_aload_n ok dJ4_getEntry_33 rfl ?_
  refine g_J4_105 ok (h.ob 2 rfl) dJ4_getEntry_34 ?_
  refine v_J4_107_j22 ok (m_J22_cmpL hx hk1 (by omega)) hx.is dJ4_getEntry_37 zk_nx (zk_R ?_)
  refine z_istore_4 ok dJ4_getEntry_42 ?_
  refine z_iload ok dJ4_getEntry_44 rfl ?_
  refine z_ifge (tgt := 57) ok dJ4_getEntry_46 (by decide) (fun c => absurd c (by decide)) (fun _ => ?_)
  refine z_aload_n ok dJ4_getEntry_49 rfl ?_
  refine g_J4_111 ok (h.ob 2 rfl) dJ4_getEntry_50 ?_
  refine z_astore_3 ok dJ4_getEntry_53 ?_
  refine z_goto (tgt := 72) ok dJ4_getEntry_54 (by decide) ?_
  refine z_goto (tgt := 28) ok dJ4_getEntry_72 (by decide) ?_
  refine z_aload_n ok dJ4_getEntry_28 rfl ?_
  refine z_ifnullN (tgt := 75) ok dJ4_getEntry_29 (by decide) ?_
  refine z_null ok dJ4_getEntry_75 ?_
  exact z_aret ok dJ4_getEntry_76 ⟨rfl, rfl⟩
set_option maxHeartbeats 4000000 in
set_option maxRecDepth 100000 in
theorem t_get_12 {E : zE} {H : Heap} {t a0 a1 k0 v0 k1 v1 kx x e0 e1 : Nat} {s m : Int32} (h : TZ E H H [(t, tM (.ref a0) s m), (a0, tN (.ref k0) (.ref v0) .null (.ref a1) .null 1), (a1, tN (.ref k1) (.ref v1) .null .null (.ref a0) 0)]) (hx : zOb E H kx 14 [.int (nI x)]) (hk0 : zOb E H k0 14 [.int (nI e0)]) (hk1 : zOb E H k1 14 [.int (nI e1)]) (hlt : e0 < x ∧ x < e1 ∧ e1 < 4) : zM E 7 yJ4_get (ws_ yJ4_get cJ4_get 3 (some (.object "java/lang/Object"))) 0 0 H [.ref t, .ref kx] (zR H (.null)) zNX := by
  refine z_of [some (.ref t), some (.ref kx), none] pn_J4 (Nat.le_of_ble_eq_true rfl) rfl (fun κ ok ho => ?_)
  refine z_aload_n ok dJ4_get_0 rfl ?_
  refine z_aload_n ok dJ4_get_1 rfl ?_
  refine v_J4_50 ok (t_getEntry_12 h.self hx hk0 hk1 hlt) (h.is 0 rfl) dJ4_get_2 zk_nx (zk_R ?_)
  refine z_astore_2 ok dJ4_get_5 ?_
  refine z_aload_n ok dJ4_get_6 rfl ?_
  refine z_ifnonnullN ok dJ4_get_7 ?_
  refine z_null ok dJ4_get_10 ?_
  refine z_goto (tgt := 18) ok dJ4_get_11 (by decide) ?_
  exact z_aret ok dJ4_get_18 ⟨rfl, rfl⟩
set_option maxHeartbeats 4000000 in
set_option maxRecDepth 100000 in
theorem t_remove_12 {E : zE} {H : Heap} {t a0 a1 k0 v0 k1 v1 kx x e0 e1 : Nat} {s m : Int32} (h : TZ E H H [(t, tM (.ref a0) s m), (a0, tN (.ref k0) (.ref v0) .null (.ref a1) .null 1), (a1, tN (.ref k1) (.ref v1) .null .null (.ref a0) 0)]) (hx : zOb E H kx 14 [.int (nI x)]) (hk0 : zOb E H k0 14 [.int (nI e0)]) (hk1 : zOb E H k1 14 [.int (nI e1)]) (hlt : e0 < x ∧ x < e1 ∧ e1 < 4) : zM E 8 yJ4_remove (ws_ yJ4_remove cJ4_remove 4 (some (.object "java/lang/Object"))) 0 0 H [.ref t, .ref kx] (zR H (.null)) zNX := by
  refine z_of [some (.ref t), some (.ref kx), none, none] pn_J4 (Nat.le_of_ble_eq_true rfl) rfl (fun κ ok ho => ?_)
  refine z_aload_n ok dJ4_remove_0 rfl ?_
  refine z_aload_n ok dJ4_remove_1 rfl ?_
  refine v_J4_50 ok (t_getEntry_12 h.self hx hk0 hk1 hlt) (h.is 0 rfl) dJ4_remove_2 zk_nx (zk_R ?_)
  refine z_astore_2 ok dJ4_remove_5 ?_
  refine z_aload_n ok dJ4_remove_6 rfl ?_
  refine z_ifnonnullN ok dJ4_remove_7 ?_
  refine z_null ok dJ4_remove_10 ?_
  exact z_aret ok dJ4_remove_11 ⟨rfl, rfl⟩
set_option maxHeartbeats 4000000 in
set_option maxRecDepth 100000 in
theorem t_rotateRight_2 {E : zE} {H : Heap} {t a0 a1 b k0 v0 k1 v1 kx vx : Nat} {s m : Int32} (h : TZ E H H [(t, tM (.ref a0) s m), (a0, tN (.ref k0) (.ref v0) .null (.ref a1) .null 1), (a1, tN (.ref k1) (.ref v1) (.ref b) .null (.ref a0) 0), (b, tN (.ref kx) (.ref vx) .null .null (.ref a1) 0)]) : zM E 3 yJ4_rotateRight (ws_ yJ4_rotateRight cJ4_rotateRight 3 none) 0 0 H [.ref t, .ref a1] (zRv (fun H1 => TZ E H H1 [(t, tM (.ref a0) s m), (a0, tN (.ref k0) (.ref v0) .null (.ref b) .null 1), (a1, tN (.ref k1) (.ref v1) .null .null (.ref b) 0), (b, tN (.ref kx) (.ref vx) .null (.ref a1) (.ref a0) 0)])) zNX := by
  refine z_of [some (.ref t), some (.ref a1), none] pn_J4 (Nat.le_of_ble_eq_true rfl) rfl (fun κ ok ho => ?_)
  refine z_aload_n ok dJ4_rotateRight_0 rfl ?_
  refine z_ifnullR ok dJ4_rotateRight_1 ?_
  refine z_aload_n ok dJ4_rotateRight_4 rfl ?_
  refine g_J4_111 ok (h.ob 2 rfl) dJ4_rotateRight_5 ?_
  refine z_astore_2 ok dJ4_rotateRight_8 ?_
  refine z_aload_n ok dJ4_rotateRight_9 rfl ?_
  refine z_aload_n ok dJ4_rotateRight_10 rfl ?_
  refine g_J4_114 ok (h.ob 3 rfl) dJ4_rotateRight_11 ?_
  refine p_J4_111 ok (h.at 2 rfl) dJ4_rotateRight_14 (fun H1 w1 => ?_)
  replace h : TZ E H H1 [(t, tM (.ref a0) s m), (a0, tN (.ref k0) (.ref v0) .null (.ref a1) .null 1), (a1, tN (.ref k1) (.ref v1) .null .null (.ref a0) 0), (b, tN (.ref kx) (.ref vx) .null .null (.ref a1) 0)] := h.wr 2 rfl w1
  refine z_aload_n ok dJ4_rotateRight_17 rfl ?_
  refine g_J4_114 ok (h.ob 3 rfl) dJ4_rotateRight_18 ?_
  refine z_ifnullN (tgt := 32) ok dJ4_rotateRight_21 (by decide) ?_
  refine z_aload_n ok dJ4_rotateRight_32 rfl ?_
  refine z_aload_n ok dJ4_rotateRight_33 rfl ?_
  refine g_J4_124 ok (h.ob 2 rfl) dJ4_rotateRight_34 ?_
  refine p_J4_124 ok (h.at 3 rfl) dJ4_rotateRight_37 (fun H2 w2 => ?_)
  replace h : TZ E H H2 [(t, tM (.ref a0) s m), (a0, tN (.ref k0) (.ref v0) .null (.ref a1) .null 1), (a1, tN (.ref k1) (.ref v1) .null .null (.ref a0) 0), (b, tN (.ref kx) (.ref vx) .null .null (.ref a0) 0)] := h.wr 3 rfl w2
  refine z_aload_n ok dJ4_rotateRight_40 rfl ?_
  refine g_J4_124 ok (h.ob 2 rfl) dJ4_rotateRight_41 ?_
  refine z_ifnonnullR (tgt := 55) ok dJ4_rotateRight_44 (by decide) ?_
  refine z_aload_n ok dJ4_rotateRight_55 rfl ?_
  refine g_J4_124 ok (h.ob 2 rfl) dJ4_rotateRight_56 ?_
  refine g_J4_114 ok (h.ob 1 rfl) dJ4_rotateRight_59 ?_
  refine z_aload_n ok dJ4_rotateRight_62 rfl ?_
  refine z_acmpne (rx := some a1) (ry := some a1) (tgt := 77) ok dJ4_rotateRight_63 (by decide) (fun c => absurd rfl c) (fun _ => ?_)
  refine z_aload_n ok dJ4_rotateRight_66 rfl ?_
  refine g_J4_124 ok (h.ob 2 rfl) dJ4_rotateRight_67 ?_
  refine z_aload_n ok dJ4_rotateRight_70 rfl ?_
  refine p_J4_114 ok (h.at 1 rfl) dJ4_rotateRight_71 (fun H3 w3 => ?_)
  replace h : TZ E H H3 [(t, tM (.ref a0) s m), (a0, tN (.ref k0) (.ref v0) .null (.ref b) .null 1), (a1, tN (.ref k1) (.ref v1) .null .null (.ref a0) 0), (b, tN (.ref kx) (.ref vx) .null .null (.ref a0) 0)] := h.wr 1 rfl w3
  refine z_goto (tgt := 85) ok dJ4_rotateRight_74 (by decide) ?_
  refine z_aload_n ok dJ4_rotateRight_85 rfl ?_
  refine z_aload_n ok dJ4_rotateRight_86 rfl ?_
  refine p_J4_114 ok (h.at 3 rfl) dJ4_rotateRight_87 (fun H4 w4 => ?_)
  replace h : TZ E H H4 [(t, tM (.ref a0) s m), (a0, tN (.ref k0) (.ref v0) .null (.ref b) .null 1), (a1, tN (.ref k1) (.ref v1) .null .null (.ref a0) 0), (b, tN (.ref kx) (.ref vx) .null (.ref a1) (.ref a0) 0)] := h.wr 3 rfl w4
  refine z_aload_n ok dJ4_rotateRight_90 rfl ?_
  refine z_aload_n ok dJ4_rotateRight_91 rfl ?_
  refine p_J4_124 ok (h.at 2 rfl) dJ4_rotateRight_92 (fun H5 w5 => ?_)
  replace h : TZ E H H5 [(t, tM (.ref a0) s m), (a0, tN (.ref k0) (.ref v0) .null (.ref b) .null 1), (a1, tN (.ref k1) (.ref v1) .null .null (.ref b) 0), (b, tN (.ref kx) (.ref vx) .null (.ref a1) (.ref a0) 0)] := h.wr 2 rfl w5
  exact z_vret ok dJ4_rotateRight_95 ⟨rfl, h⟩
set_option maxHeartbeats 4000000 in
set_option maxRecDepth 100000 in
theorem t_rotateLeft_1 {E : zE} {H : Heap} {t a0 a1 b k0 v0 k1 v1 kx vx : Nat} {s m : Int32} (h : TZ E H H [(t, tM (.ref a0) s m), (a0, tN (.ref k0) (.ref v0) .null (.ref b) .null 0), (a1, tN (.ref k1) (.ref v1) .null .null (.ref b) 0), (b, tN (.ref kx) (.ref vx) .null (.ref a1) (.ref a0) 1)]) : zM E 3 yJ4_rotateLeft (ws_ yJ4_rotateLeft cJ4_rotateLeft 3 none) 0 0 H [.ref t, .ref a0] (zRv (fun H1 => TZ E H H1 [(t, tM (.ref b) s m), (a0, tN (.ref k0) (.ref v0) .null .null (.ref b) 0), (a1, tN (.ref k1) (.ref v1) .null .null (.ref b) 0), (b, tN (.ref kx) (.ref vx) (.ref a0) (.ref a1) .null 1)])) zNX := by
  refine z_of [some (.ref t), some (.ref a0), none] pn_J4 (Nat.le_of_ble_eq_true rfl) rfl (fun κ ok ho => ?_)
  refine z_aload_n ok dJ4_rotateLeft_0 rfl ?_
  refine z_ifnullR ok dJ4_rotateLeft_1 ?_
  refine z_aload_n ok dJ4_rotateLeft_4 rfl ?_
  refine g_J4_114 ok (h.ob 1 rfl) dJ4_rotateLeft_5 ?_
  refine z_astore_2 ok dJ4_rotateLeft_8 ?_
  refine z_aload_n ok dJ4_rotateLeft_9 rfl ?_
  refine z_aload_n ok dJ4_rotateLeft_10 rfl ?_
  refine g_J4_111 ok (h.ob 3 rfl) dJ4_rotateLeft_11 ?_
  refine p_J4_114 ok (h.at 1 rfl) dJ4_rotateLeft_14 (fun H1 w1 => ?_)
  replace h : TZ E H H1 [(t, tM (.ref a0) s m), (a0, tN (.ref k0) (.ref v0) .null .null .null 0), (a1, tN (.ref k1) (.ref v1) .null .null (.ref b) 0), (b, tN (.ref kx) (.ref vx) .null (.ref a1) (.ref a0) 1)] := h.wr 1 rfl w1
  refine z_aload_n ok dJ4_rotateLeft_17 rfl ?_
  refine g_J4_111 ok (h.ob 3 rfl) dJ4_rotateLeft_18 ?_
  refine z_ifnullN (tgt := 32) ok dJ4_rotateLeft_21 (by decide) ?_
  refine z_aload_n ok dJ4_rotateLeft_32 rfl ?_
  refine z_aload_n ok dJ4_rotateLeft_33 rfl ?_
  refine g_J4_124 ok (h.ob 1 rfl) dJ4_rotateLeft_34 ?_
  refine p_J4_124 ok (h.at 3 rfl) dJ4_rotateLeft_37 (fun H2 w2 => ?_)
  replace h : TZ E H H2 [(t, tM (.ref a0) s m), (a0, tN (.ref k0) (.ref v0) .null .null .null 0), (a1, tN (.ref k1) (.ref v1) .null .null (.ref b) 0), (b, tN (.ref kx) (.ref vx) .null (.ref a1) .null 1)] := h.wr 3 rfl w2
  refine z_aload_n ok dJ4_rotateLeft_40 rfl ?_
  refine g_J4_124 ok (h.ob 1 rfl) dJ4_rotateLeft_41 ?_
  refine z_ifnonnullN ok dJ4_rotateLeft_44 ?_
  refine z_aload_n ok dJ4_rotateLeft_47 rfl ?_
  refine z_aload_n ok dJ4_rotateLeft_48 rfl ?_
  refine p_J4_101 ok (h.at 0 rfl) dJ4_rotateLeft_49 (fun H3 w3 => ?_)
  replace h : TZ E H H3 [(t, tM (.ref b) s m), (a0, tN (.ref k0) (.ref v0) .null .null .null 0), (a1, tN (.ref k1) (.ref v1) .null .null (.ref b) 0), (b, tN (.ref kx) (.ref vx) .null (.ref a1) .null 1)] := h.wr 0 rfl w3
  refine z_goto (tgt := 85) ok dJ4_rotateLeft_52 (by decide) ?_
  refine z_aload_n ok dJ4_rotateLeft_85 rfl ?_
  refine z_aload_n ok dJ4_rotateLeft_86 rfl ?_
  refine p_J4_111 ok (h.at 3 rfl) dJ4_rotateLeft_87 (fun H4 w4 => ?_)
  replace h : TZ E H H4 [(t, tM (.ref b) s m), (a0, tN (.ref k0) (.ref v0) .null .null .null 0), (a1, tN (.ref k1) (.ref v1) .null .null (.ref b) 0), (b, tN (.ref kx) (.ref vx) (.ref a0) (.ref a1) .null 1)] := h.wr 3 rfl w4
  refine z_aload_n ok dJ4_rotateLeft_90 rfl ?_
  refine z_aload_n ok dJ4_rotateLeft_91 rfl ?_
  refine p_J4_124 ok (h.at 1 rfl) dJ4_rotateLeft_92 (fun H5 w5 => ?_)
  replace h : TZ E H H5 [(t, tM (.ref b) s m), (a0, tN (.ref k0) (.ref v0) .null .null (.ref b) 0), (a1, tN (.ref k1) (.ref v1) .null .null (.ref b) 0), (b, tN (.ref kx) (.ref vx) (.ref a0) (.ref a1) .null 1)] := h.wr 1 rfl w5
  exact z_vret ok dJ4_rotateLeft_95 ⟨rfl, h⟩
set_option maxHeartbeats 4000000 in
set_option maxRecDepth 100000 in
theorem t_fixAfterInsertion_6 {E : zE} {H : Heap} {t a0 a1 b k0 v0 k1 v1 kx vx : Nat} {s m : Int32} (h : TZ E H H [(t, tM (.ref a0) s m), (a0, tN (.ref k0) (.ref v0) .null (.ref a1) .null 1), (a1, tN (.ref k1) (.ref v1) (.ref b) .null (.ref a0) 0), (b, tN (.ref kx) (.ref vx) .null .null (.ref a1) 1)]) : zM E 4 yJ4_fixAfterInsertion (ws_ yJ4_fixAfterInsertion cJ4_fixAfterInsertion 3 none) 0 0 H [.ref t, .ref b] (zRv (fun H1 => TZ E H H1 [(t, tM (.ref b) s m), (a0, tN (.ref k0) (.ref v0) .null .null (.ref b) 0), (a1, tN (.ref k1) (.ref v1) .null .null (.ref b) 0), (b, tN (.ref kx) (.ref vx) (.ref a0) (.ref a1) .null 1)])) zNX := by
  refine z_of [some (.ref t), some (.ref b), none] pn_J4 (Nat.le_of_ble_eq_true rfl) rfl (fun κ ok ho => ?_)
  refine z_aload_n ok dJ4_fixAfterInsertion_0 rfl ?_
  refine z_iconst ok dJ4_fixAfterInsertion_1 zic_0 ?_
  refine p_J4_290 ok (h.at 3 rfl) dJ4_fixAfterInsertion_2 (fun H1 w1 => ?_)
  replace h : TZ E H H1 [(t, tM (.ref a0) s m), (a0, tN (.ref k0) (.ref v0) .null (.ref a1) .null 1), (a1, tN (.ref k1) (.ref v1) (.ref b) .null (.ref a0) 0), (b, tN (.ref kx) (.ref vx) .null .null (.ref a1) 0)] := h.wr 3 rfl w1
  refine z_aload_n ok dJ4_fixAfterInsertion_5 rfl ?_
  refine z_ifnullR ok dJ4_fixAfterInsertion_6 ?_
  refine z_aload_n ok dJ4_fixAfterInsertion_9 rfl ?_
  refine z_aload_n ok dJ4_fixAfterInsertion_10 rfl ?_
  refine g_J4_101 ok (h.ob 0 rfl) dJ4_fixAfterInsertion_11 ?_
  refine z_acmpeq (rx := some b) (ry := some a0) (tgt := 258) ok dJ4_fixAfterInsertion_14 (by decide) (fun c => absurd c (h.ne 3 1 rfl rfl (by decide))) (fun _ => ?_)
  refine z_aload_n ok dJ4_fixAfterInsertion_17 rfl ?_
  refine g_J4_124 ok (h.ob 3 rfl) dJ4_fixAfterInsertion_18 ?_
  refine g_J4_290 ok (h.ob 2 rfl) dJ4_fixAfterInsertion_21 ?_
  refine z_ifne (tgt := 258) ok dJ4_fixAfterInsertion_24 (by decide) (fun c => absurd c (by decide)) (fun _ => ?_)
  refine z_aload_n ok dJ4_fixAfterInsertion_27 rfl ?_
  refine v_J4_294 ok (m_J4_parentOf (r := some a1) (h.ob 3 rfl)) dJ4_fixAfterInsertion_28 zk_nx (zk_R ?_)
  refine z_aload_n ok dJ4_fixAfterInsertion_31 rfl ?_
  refine v_J4_294 ok (m_J4_parentOf (r := some a1) (h.ob 3 rfl)) dJ4_fixAfterInsertion_32 zk_nx (zk_R ?_)
  refine v_J4_294 ok (m_J4_parentOf (r := some a0) (h.ob 2 rfl)) dJ4_fixAfterInsertion_35 zk_nx (zk_R ?_)
  refine v_J4_297 ok (m_J4_leftOf (r := none) (h.ob 1 rfl)) dJ4_fixAfterInsertion_38 zk_nx (zk_R ?_)
  refine z_acmpne (rx := some a1) (ry := none) (tgt := 151) ok dJ4_fixAfterInsertion_41 (by decide) (fun _ => ?_) (fun c => nomatch c)
  refine z_aload_n ok dJ4_fixAfterInsertion_151 rfl ?_
  refine v_J4_294 ok (m_J4_parentOf (r := some a1) (h.ob 3 rfl)) dJ4_fixAfterInsertion_152 zk_nx (zk_R ?_)
  refine v_J4_294 ok (m_J4_parentOf (r := some a0) (h.ob 2 rfl)) dJ4_fixAfterInsertion_155 zk_nx (zk_R ?_)
  refine v_J4_297 ok (m_J4_leftOf (r := none) (h.ob 1 rfl)) dJ4_fixAfterInsertion_158 zk_nx (zk_R ?_)
  refine z_astore_2 ok dJ4_fixAfterInsertion_161 ?_
  refine z_aload_n ok dJ4_fixAfterInsertion_162 rfl ?_
  refine v_J4_303 ok m_J4_colorOfN dJ4_fixAfterInsertion_163 zk_nx (zk_R ?_)
  refine z_ifne (tgt := 204) ok dJ4_fixAfterInsertion_166 (by decide) (fun _ => ?_) (fun c => absurd c (by decide))
  refine z_aload_n ok dJ4_fixAfterInsertion_204 rfl ?_
  refine z_aload_n ok dJ4_fixAfterInsertion_205 rfl ?_
  refine v_J4_294 ok (m_J4_parentOf (r := some a1) (h.ob 3 rfl)) dJ4_fixAfterInsertion_206 zk_nx (zk_R ?_)
  refine v_J4_297 ok (m_J4_leftOf (r := some b) (h.ob 2 rfl)) dJ4_fixAfterInsertion_209 zk_nx (zk_R ?_)
  refine z_acmpne (rx := some b) (ry := some b) (tgt := 225) ok dJ4_fixAfterInsertion_212 (by decide) (fun c => absurd rfl c) (fun _ => ?_)
  refine z_aload_n ok dJ4_fixAfterInsertion_215 rfl ?_
  refine v_J4_294 ok (m_J4_parentOf (r := some a1) (h.ob 3 rfl)) dJ4_fixAfterInsertion_216 zk_nx (zk_R ?_)
  refine z_astore_1 ok dJ4_fixAfterInsertion_219 ?_
  refine z_aload_n ok dJ4_fixAfterInsertion_220 rfl ?_
  refine z_aload_n ok dJ4_fixAfterInsertion_221 rfl ?_
  refine v_J4_314 ok (t_rotateRight_2 h.self) (h.is 0 rfl) dJ4_fixAfterInsertion_222 zk_nx (zk_Rv (fun H2 g2 _ => ?_))
  replace h : TZ E H H2 [(t, tM (.ref a0) s m), (a0, tN (.ref k0) (.ref v0) .null (.ref b) .null 1), (a1, tN (.ref k1) (.ref v1) .null .null (.ref b) 0), (b, tN (.ref kx) (.ref vx) .null (.ref a1) (.ref a0) 0)] := h.tr g2 rfl
  refine z_aload_n ok dJ4_fixAfterInsertion_225 rfl ?_
  refine v_J4_294 ok (m_J4_parentOf (r := some b) (h.ob 2 rfl)) dJ4_fixAfterInsertion_226 zk_nx (zk_R ?_)
  refine z_iconst ok dJ4_fixAfterInsertion_229 zic_1 ?_
  refine v_J4_307 ok (m_J4_setColor1 (h.at 3 rfl)) dJ4_fixAfterInsertion_230 zk_nx (zk_Rv (fun H3 w3 _ => ?_))
  replace h : TZ E H H3 [(t, tM (.ref a0) s m), (a0, tN (.ref k0) (.ref v0) .null (.ref b) .null 1), (a1, tN (.ref k1) (.ref v1) .null .null (.ref b) 0), (b, tN (.ref kx) (.ref vx) .null (.ref a1) (.ref a0) 1)] := h.wr 3 rfl w3
  refine z_aload_n ok dJ4_fixAfterInsertion_233 rfl ?_
  refine v_J4_294 ok (m_J4_parentOf (r := some b) (h.ob 2 rfl)) dJ4_fixAfterInsertion_234 zk_nx (zk_R ?_)
  refine v_J4_294 ok (m_J4_parentOf (r := some a0) (h.ob 3 rfl)) dJ4_fixAfterInsertion_237 zk_nx (zk_R ?_)
  refine z_iconst ok dJ4_fixAfterInsertion_240 zic_0 ?_
  refine v_J4_307 ok (m_J4_setColor0 (h.at 1 rfl)) dJ4_fixAfterInsertion_241 zk_nx (zk_Rv (fun H4 w4 _ => ?_))
  replace h : TZ E H H4 [(t, tM (.ref a0) s m), (a0, tN (.ref k0) (.ref v0) .null (.ref b) .null 0), (a1, tN (.ref k1) (.ref v1) .null .null (.ref b) 0), (b, tN (.ref kx) (.ref vx) .null (.ref a1) (.ref a0) 1)] := h.wr 1 rfl w4
  refine z_aload_n ok dJ4_fixAfterInsertion_244 rfl ?_
  refine z_aload_n ok dJ4_fixAfterInsertion_245 rfl ?_
  refine v_J4_294 ok (m_J4_parentOf (r := some b) (h.ob 2 rfl)) dJ4_fixAfterInsertion_246 zk_nx (zk_R ?_)
  refine v_J4_294 ok (m_J4_parentOf (r := some a0) (h.ob 3 rfl)) dJ4_fixAfterInsertion_249 zk_nx (zk_R ?_)
  refine v_J4_311 ok (t_rotateLeft_1 h.self) (h.is 0 rfl) dJ4_fixAfterInsertion_252 zk_nx (zk_Rv (fun H5 g5 _ => ?_))
  replace h : TZ E H H5 [(t, tM (.ref b) s m), (a0, tN (.ref k0) (.ref v0) .null .null (.ref b) 0), (a1, tN (.ref k1) (.ref v1) .null .null (.ref b) 0), (b, tN (.ref kx) (.ref vx) (.ref a0) (.ref a1) .null 1)] := h.tr g5 rfl
  refine z_goto (tgt := 5) ok dJ4_fixAfterInsertion_255 (by decide) ?_
  refine z_aload_n ok dJ4_fixAfterInsertion_5 rfl ?_
  refine z_ifnullR ok dJ4_fixAfterInsertion_6 ?_
  refine z_aload_n ok dJ4_fixAfterInsertion_9 rfl ?_
  refine z_aload_n ok dJ4_fixAfterInsertion_10 rfl ?_
  refine g_J4_101 ok (h.ob 0 rfl) dJ4_fixAfterInsertion_11 ?_
  refine z_acmpeq (rx := some a1) (ry := some b) (tgt := 258) ok dJ4_fixAfterInsertion_14 (by decide) (fun c => absurd c (h.ne 2 3 rfl rfl (by decide))) (fun _ => ?_)
  refine z_aload_n ok dJ4_fixAfterInsertion_17 rfl ?_
  refine g_J4_124 ok (h.ob 2 rfl) dJ4_fixAfterInsertion_18 ?_
  refine g_J4_290 ok (h.ob 3 rfl) dJ4_fixAfterInsertion_21 ?_
  refine z_ifne (tgt := 258) ok dJ4_fixAfterInsertion_24 (by decide) (fun _ => ?_) (fun c => absurd c (by decide))
  refine z_aload_n ok dJ4_fixAfterInsertion_258 rfl ?_
  refine g_J4_101 ok (h.ob 0 rfl) dJ4_fixAfterInsertion_259 ?_
  refine z_iconst ok dJ4_fixAfterInsertion_262 zic_1 ?_
  refine p_J4_290 ok (h.at 3 rfl) dJ4_fixAfterInsertion_263 (fun H6 w6 => ?_)
  replace h : TZ E H H6 [(t, tM (.ref b) s m), (a0, tN (.ref k0) (.ref v0) .null .null (.ref b) 0), (a1, tN (.ref k1) (.ref v1) .null .null (.ref b) 0), (b, tN (.ref kx) (.ref vx) (.ref a0) (.ref a1) .null 1)] := h.wr 3 rfl w6
  exact z_vret ok dJ4_fixAfterInsertion_266 ⟨rfl, h⟩
set_option maxHeartbeats 4000000 in
set_option maxRecDepth 100000 in
theorem t_addEntry_6 {E : zE} {H : Heap} {t a0 a1 k0 v0 k1 v1 kx vx : Nat} {s m : Int32} (h : TZ E H H [(t, tM (.ref a0) s m), (a0, tN (.ref k0) (.ref v0) .null (.ref a1) .null 1), (a1, tN (.ref k1) (.ref v1) .null .null (.ref a0) 0)]) : zM E 6 yJ4_addEntry (ws_ yJ4_addEntry cJ4_addEntry 6 none) 1 6 H [.ref t, .ref kx, .ref vx, .ref a1, .int 1] (zRv (fun H1 => ∃ b, H.size ≤ b ∧ TZ E H H1 [(t, tM (.ref b) (s + 1) (m + 1)), (a0, tN (.ref k0) (.ref v0) .null .null (.ref b) 0), (a1, tN (.ref k1) (.ref v1) .null .null (.ref b) 0), (b, tN (.ref kx) (.ref vx) (.ref a0) (.ref a1) .null 1)])) zNX := by
  refine z_of [some (.ref t), some (.ref kx), some (.ref vx), some (.ref a1), some (.int 1), none] pn_J4 (Nat.le_of_ble_eq_true rfl) rfl (fun κ ok ho => ?_)
  refine n_J4_59 ok dJ4_addEntry_0 (fun b H1 w1 => ?_)
  have hb : H.size ≤ b := by have h8 := w1.1; have h9 := h.2.2.1; omega
  replace h : TZ E H H1 [(t, tM (.ref a0) s m), (a0, tN (.ref k0) (.ref v0) .null (.ref a1) .null 1), (a1, tN (.ref k1) (.ref v1) .null .null (.ref a0) 0), (b, tN .null .null .null .null .null 0)] := h.mk w1
  refine z_dup ok dJ4_addEntry_3 ?_
  refine z_aload_n ok dJ4_addEntry_4 rfl ?_
  refine z_aload_n ok dJ4_addEntry_5 rfl ?_
  refine z_aload_n ok dJ4_addEntry_6 rfl ?_
  refine v_J4_167 ok (m_J26_init (pp := some a1) (h.at 3 rfl)) dJ4_addEntry_7 zk_nx (zk_Rv (fun H2 w2 _ => ?_))
  replace h : TZ E H H2 [(t, tM (.ref a0) s m), (a0, tN (.ref k0) (.ref v0) .null (.ref a1) .null 1), (a1, tN (.ref k1) (.ref v1) .null .null (.ref a0) 0), (b, tN (.ref kx) (.ref vx) .null .null (.ref a1) 1)] := h.wr 3 rfl w2
  refine z_astore_5 ok dJ4_addEntry_10 ?_
  refine z_iload ok dJ4_addEntry_12 rfl ?_
  refine z_ifeq (tgt := 26) ok dJ4_addEntry_14 (by decide) (fun c => absurd c (by decide)) (fun _ => ?_)
  refine z_aload_n ok dJ4_addEntry_17 rfl ?_
  refine z_aload ok dJ4_addEntry_18 rfl ?_
  refine p_J4_111 ok (h.at 2 rfl) dJ4_addEntry_20 (fun H3 w3 => ?_)
  replace h : TZ E H H3 [(t, tM (.ref a0) s m), (a0, tN (.ref k0) (.ref v0) .null (.ref a1) .null 1), (a1, tN (.ref k1) (.ref v1) (.ref b) .null (.ref a0) 0), (b, tN (.ref kx) (.ref vx) .null .null (.ref a1) 1)] := h.wr 2 rfl w3
  refine z_goto (tgt := 32) ok dJ4_addEntry_23 (by decide) ?_
  refine z_aload_n ok dJ4_addEntry_32 rfl ?_
  refine z_aload ok dJ4_addEntry_33 rfl ?_
  refine v_J4_170 ok (t_fixAfterInsertion_6 h.self) (h.is 0 rfl) dJ4_addEntry_35 zk_nx (zk_Rv (fun H4 g4 _ => ?_))
  replace h : TZ E H H4 [(t, tM (.ref b) s m), (a0, tN (.ref k0) (.ref v0) .null .null (.ref b) 0), (a1, tN (.ref k1) (.ref v1) .null .null (.ref b) 0), (b, tN (.ref kx) (.ref vx) (.ref a0) (.ref a1) .null 1)] := h.tr g4 rfl
  refine z_aload_n ok dJ4_addEntry_38 rfl ?_
  refine z_dup ok dJ4_addEntry_39 ?_
  refine g_J4_7 ok (h.ob 0 rfl) dJ4_addEntry_40 ?_
  refine z_iconst ok dJ4_addEntry_43 zic_1 ?_
  refine z_iadd ok dJ4_addEntry_44 ?_
  refine p_J4_7 ok (h.at 0 rfl) dJ4_addEntry_45 (fun H5 w5 => ?_)
  replace h : TZ E H H5 [(t, tM (.ref b) (s + 1) m), (a0, tN (.ref k0) (.ref v0) .null .null (.ref b) 0), (a1, tN (.ref k1) (.ref v1) .null .null (.ref b) 0), (b, tN (.ref kx) (.ref vx) (.ref a0) (.ref a1) .null 1)] := h.wr 0 rfl w5
  refine z_aload_n ok dJ4_addEntry_48 rfl ?_
  refine z_dup ok dJ4_addEntry_49 ?_
  refine g_J4_13 ok (h.ob 0 rfl) dJ4_addEntry_50 ?_
  refine z_iconst ok dJ4_addEntry_53 zic_1 ?_
  refine z_iadd ok dJ4_addEntry_54 ?_
  refine p_J4_13 ok (h.at 0 rfl) dJ4_addEntry_55 (fun H6 w6 => ?_)
  replace h : TZ E H H6 [(t, tM (.ref b) (s + 1) (m + 1)), (a0, tN (.ref k0) (.ref v0) .null .null (.ref b) 0), (a1, tN (.ref k1) (.ref v1) .null .null (.ref b) 0), (b, tN (.ref kx) (.ref vx) (.ref a0) (.ref a1) .null 1)] := h.wr 0 rfl w6
  exact z_vret ok dJ4_addEntry_58 ⟨rfl, b, hb, h⟩
set_option maxHeartbeats 4000000 in
set_option maxRecDepth 100000 in
theorem t_put_2_12 {E : zE} {H : Heap} {t a0 a1 k0 v0 k1 v1 vx kx x e0 e1 : Nat} {s m : Int32} (h : TZ E H H [(t, tM (.ref a0) s m), (a0, tN (.ref k0) (.ref v0) .null (.ref a1) .null 1), (a1, tN (.ref k1) (.ref v1) .null .null (.ref a0) 0)]) (hx : zOb E H kx 14 [.int (nI x)]) (hk0 : zOb E H k0 14 [.int (nI e0)]) (hk1 : zOb E H k1 14 [.int (nI e1)]) (hlt : e0 < x ∧ x < e1 ∧ e1 < 4) : zM E 8 yJ4_put_2 (ws_ yJ4_put_2 cJ4_put_2 10 (some (.object "java/lang/Object"))) 1 6 H [.ref t, .ref kx, .ref vx, .int 1] (zRw (.null) (fun H1 => ∃ b, H.size ≤ b ∧ TZ E H H1 [(t, tM (.ref b) (s + 1) (m + 1)), (a0, tN (.ref k0) (.ref v0) .null .null (.ref b) 0), (a1, tN (.ref k1) (.ref v1) .null .null (.ref b) 0), (b, tN (.ref kx) (.ref vx) (.ref a0) (.ref a1) .null 1)])) zNX := by
  refine z_of [some (.ref t), some (.ref kx), some (.ref vx), some (.int 1), none, none, none, none, none, none] pn_J4 (Nat.le_of_ble_eq_true rfl) rfl (fun κ ok ho => ?_)
  refine z_aload_n ok dJ4_put_2_0 rfl ?_
  refine g_J4_101 ok (h.ob 0 rfl) dJ4_put_2_1 ?_
  refine z_astore_4 ok dJ4_put_2_4 ?_
  refine z_aload ok dJ4_put_2_6 rfl ?_
  refine z_ifnonnullR (tgt := 19) ok dJ4_put_2_8 (by decide) ?_
  refine z_aload_n ok dJ4_put_2_19 rfl ?_
  refine g_J4_16 ok (h.ob 0 rfl) dJ4_put_2_20 ?_
  refine z_astore_7 ok dJ4_put_2_23 ?_
  refine z_aload ok dJ4_put_2_25 rfl ?_
  refine z_ifnullN (tgt := 112) ok dJ4_put_2_27 (by decide) ?_
  refine z_aload_n ok dJ4_put_2_112 rfl ?_
  refine v_J4_95 ok (m_J17_requireNonNull _) dJ4_put_2_113 zk_nx (zk_R ?_)
  refine z_pop ok dJ4_put_2_116 ?_
  refine z_aload_n ok dJ4_put_2_117 rfl ?_
  refine z_cast ok q678 hx.is (ci := 14) rfl (Or.inr q683) dJ4_put_2_118 ?_
  refine z_astore_8 ok dJ4_put_2_121 ?_
  refine z_aload ok dJ4_put_2_123 rfl ?_
  refine z_astore_6 ok dJ4_put_2_125 ?_
  refine z_aload ok dJ4_put_2_127 rfl ?_
  refine z_aload ok dJ4_put_2_129 rfl ?_
  refine g_J4_105 ok (h.ob 1 rfl) dJ4_put_2_131 ?_
  refine v_J4_107_j22 ok (m_J22_cmpG hx hk0 (by omega)) hx.is dJ4_put_2_134 zk_nx (zk_R ?_)
  refine z_istore_5 ok dJ4_put_2_139 ?_
  refine z_iload ok dJ4_put_2_141 rfl ?_
  refine z_ifge (tgt := 156) ok dJ4_put_2_143 (by decide) (fun _ => ?_) (fun c => absurd c (by decide))
  refine z_iload ok dJ4_put_2_156 rfl ?_
  refine z_ifle (tgt := 171) ok dJ4_put_2_158 (by decide) (fun c => absurd c (by decide)) (fun _ => ?_)
  refine z_aload ok dJ4_put_2_161 rfl ?_
  refine g_J4_114 ok (h.ob 1 rfl) dJ4_put_2_163 ?_
  refine z_astore_4 ok dJ4_put_2_166 ?_
  refine z_goto (tgt := 196) ok dJ4_put_2_168 (by decide) ?_
  refine z_aload ok dJ4_put_2_196 rfl ?_
  refine z_ifnonnullR (tgt := 123) ok dJ4_put_2_198 (by decide) ?_
  refine z_aload ok dJ4_put_2_123 rfl ?_
  refine z_astore_6 ok dJ4_put_2_125 ?_
  refine z_aload ok dJ4_put_2_127 rfl ?_
  refine z_aload ok dJ4_put_2_129 rfl ?_
  refine g_J4_105 ok (h.ob 2 rfl) dJ4_put_2_131 ?_
  refine v_J4_107_j22 ok (m_J22_cmpL hx hk1 (by omega)) hx.is dJ4_put_2_134 zk_nx (zk_R ?_)
  refine z_istore_5 ok dJ4_put_2_139 ?_
  refine z_iload ok dJ4_put_2_141 rfl ?_
  refine z_ifge (tgt := 156) ok dJ4_put_2_143 (by decide) (fun c => absurd c (by decide)) (fun _ => ?_)
  refine z_aload ok dJ4_put_2_146 rfl ?_
  refine g_J4_111 ok (h.ob 2 rfl) dJ4_put_2_148 ?_
  refine z_astore_4 ok dJ4_put_2_151 ?_
  refine z_goto (tgt := 196) ok dJ4_put_2_153 (by decide) ?_
  refine z_aload ok dJ4_put_2_196 rfl ?_
  refine z_ifnonnullN ok dJ4_put_2_198 ?_
  refine z_aload_n ok dJ4_put_2_201 rfl ?_
  refine z_aload_n ok dJ4_put_2_202 rfl ?_
  refine z_aload_n ok dJ4_put_2_203 rfl ?_
  refine z_aload ok dJ4_put_2_204 rfl ?_
  refine z_iload ok dJ4_put_2_206 rfl ?_
  refine z_ifge (tgt := 215) ok dJ4_put_2_208 (by decide) (fun c => absurd c (by decide)) (fun _ => ?_)
  refine z_iconst ok dJ4_put_2_211 zic_1 ?_
  refine z_goto (tgt := 216) ok dJ4_put_2_212 (by decide) ?_
  refine v_J4_139 ok (t_addEntry_6 h.self) (h.is 0 rfl) dJ4_put_2_216 zk_nx (zk_Rv (fun H1 g1 _ => ?_))
  obtain ⟨b, hb, g1⟩ := g1
  replace hb := Nat.le_trans h.2.2.1 hb
  replace h : TZ E H H1 [(t, tM (.ref b) (s + 1) (m + 1)), (a0, tN (.ref k0) (.ref v0) .null .null (.ref b) 0), (a1, tN (.ref k1) (.ref v1) .null .null (.ref b) 0), (b, tN (.ref kx) (.ref vx) (.ref a0) (.ref a1) .null 1)] := h.tr1 g1 rfl
  refine z_null ok dJ4_put_2_219 ?_
  exact z_aret ok dJ4_put_2_220 ⟨rfl, b, hb, h⟩
set_option maxHeartbeats 4000000 in
set_option maxRecDepth 100000 in
theorem t_put_12 {E : zE} {H : Heap} {t a0 a1 k0 v0 k1 v1 vx kx x e0 e1 : Nat} {s m : Int32} (h : TZ E H H [(t, tM (.ref a0) s m), (a0, tN (.ref k0) (.ref v0) .null (.ref a1) .null 1), (a1, tN (.ref k1) (.ref v1) .null .null (.ref a0) 0)]) (hx : zOb E H kx 14 [.int (nI x)]) (hk0 : zOb E H k0 14 [.int (nI e0)]) (hk1 : zOb E H k1 14 [.int (nI e1)]) (hlt : e0 < x ∧ x < e1 ∧ e1 < 4) : zM E 9 yJ4_put (ws_ yJ4_put cJ4_put 3 (some (.object "java/lang/Object"))) 1 6 H [.ref t, .ref kx, .ref vx] (zRw (.null) (fun H1 => ∃ b, H.size ≤ b ∧ TZ E H H1 [(t, tM (.ref b) (s + 1) (m + 1)), (a0, tN (.ref k0) (.ref v0) .null .null (.ref b) 0), (a1, tN (.ref k1) (.ref v1) .null .null (.ref b) 0), (b, tN (.ref kx) (.ref vx) (.ref a0) (.ref a1) .null 1)])) zNX := by
  refine z_of [some (.ref t), some (.ref kx), some (.ref vx)] pn_J4 (Nat.le_of_ble_eq_true rfl) rfl (fun κ ok ho => ?_)
  refine z_aload_n ok dJ4_put_0 rfl ?_
  refine z_aload_n ok dJ4_put_1 rfl ?_
  refine z_aload_n ok dJ4_put_2 rfl ?_
  refine z_iconst ok dJ4_put_3 zic_1 ?_
  refine v_J4_127 ok (t_put_2_12 h.self hx hk0 hk1 hlt) (h.is 0 rfl) dJ4_put_4 zk_nx (zk_Rw (fun H1 g1 _ => ?_))
  obtain ⟨b, hb, g1⟩ := g1
  replace hb := Nat.le_trans h.2.2.1 hb
  replace h : TZ E H H1 [(t, tM (.ref b) (s + 1) (m + 1)), (a0, tN (.ref k0) (.ref v0) .null .null (.ref b) 0), (a1, tN (.ref k1) (.ref v1) .null .null (.ref b) 0), (b, tN (.ref kx) (.ref vx) (.ref a0) (.ref a1) .null 1)] := h.tr1 g1 rfl
  exact z_aret ok dJ4_put_7 ⟨rfl, b, hb, h⟩
set_option maxHeartbeats 4000000 in
set_option maxRecDepth 100000 in
theorem t_getEntry_13 {E : zE} {H : Heap} {t a0 a1 k0 v0 k1 v1 kx x e0 e1 : Nat} {s m : Int32} (h : TZ E H H [(t, tM (.ref a0) s m), (a0, tN (.ref k0) (.ref v0) .null (.ref a1) .null 1), (a1, tN (.ref k1) (.ref v1) .null .null (.ref a0) 0)]) (hx : zOb E H kx 14 [.int (nI x)]) (hk0 : zOb E H k0 14 [.int (nI e0)]) (hk1 : zOb E H k1 14 [.int (nI e1)]) (hlt : e0 < e1 ∧ e1 < x ∧ x < 4) : zM E 6 yJ4_getEntry (ws_ yJ4_getEntry cJ4_getEntry 5 (some (.object "java/util/TreeMap$Entry"))) 0 0 H [.ref t, .ref kx] (zR H (.null)) zNX := by
  refine z_of [some (.ref t), some (.ref kx), none, none, none] pn_J4 (Nat.le_of_ble_eq_true rfl) rfl (fun κ ok ho => ?_)
  refine z_aload_n ok dJ4_getEntry_0 rfl ?_
  refine g_J4_16 ok (h.ob 0 rfl) dJ4_getEntry_1 ?_
  refine z_ifnullN (tgt := 13) ok dJ4_getEntry_4 (by decide) ?_
  refine z_aload_n ok dJ4_getEntry_13 rfl ?_
  refine v_J4_95 ok (m_J17_requireNonNull _) dJ4_getEntry_14 zk_nx (zk_R ?_)
  refine z_pop ok dJ4_getEntry_17 ?_
  refine z_aload_n ok dJ4_getEntry_18 rfl ?_
  refine z_cast ok q678 hx.is (ci := 14) rfl (Or.inr q683) dJ4_getEntry_19 ?_
  refine z_astore_2 ok dJ4_getEntry_22 ?_
  refine z_aload_n ok dJ4_getEntry_23 rfl ?_
  refine g_J4_101 ok (h.ob 0 rfl) dJ4_getEntry_24 ?_
  refine z_astore_3 ok dJ4_getEntry_27 ?_
  refine z_aload_n ok dJ4_getEntry_28 rfl ?_
  refine z_ifnullR ok dJ4_getEntry_29 ?_
  refine z_aload_n ok dJ4_getEntry_32 rfl ?_
  refine z_aload_n ok dJ4_getEntry_33 rfl ?_
  refine g_J4_105 ok (h.ob 1 rfl) dJ4_getEntry_34 ?_
  refine v_J4_107_j22 ok (m_J22_cmpG hx hk0 (by omega)) hx.is dJ4_getEntry_37 zk_nx (zk_R ?_)
  refine z_istore_4 ok dJ4_getEntry_42 ?_
  refine z_iload ok dJ4_getEntry_44 rfl ?_
  refine z_ifge (tgt := 57) ok dJ4_getEntry_46 (by decide) (fun _ => ?_) (fun c => absurd c (by decide))
  refine z_iload ok dJ4_getEntry_57 rfl ?_
  refine z_ifle (tgt := 70) ok dJ4_getEntry_59 (by decide) (fun c => absurd c (by decide)) (fun _ => ?_)
  refine z_aload_n ok dJ4_getEntry_62 rfl ?_
  refine g_J4_114 ok (h.ob 1 rfl) dJ4_getEntry_63 ?_
  refine z_astore_3 ok dJ4_getEntry_66 ?_
  refine z_goto (tgt := 72) ok dJ4_getEntry_67 (by decide) ?_
  refine z_goto (tgt := 28) ok dJ4_getEntry_72 (by decide) ?_
  refine z_aload_n ok dJ4_getEntry_28 rfl ?_
  refine z_ifnullR ok dJ4_getEntry_29 ?_
  refine z_aload_n ok dJ4_getEntry_32 rfl ?_
  refine z_aload_n ok dJ4_getEntry_33 rfl ?_
  refine g_J4_105 ok (h.ob 2 rfl) dJ4_getEntry_34 ?_
  refine v_J4_107_j22 ok (m_J22_cmpG hx hk1 (by omega)) hx.is dJ4_getEntry_37 zk_nx (zk_R ?_)
  refine z_istore_4 ok dJ4_getEntry_42 ?_
  refine z_iload ok dJ4_getEntry_44 rfl ?_
  refine z_ifge (tgt := 57) ok dJ4_getEntry_46 (by decide) (fun _ => ?_) (fun c => absurd c (by decide))
  refine z_iload ok dJ4_getEntry_57 rfl ?_
  refine z_ifle (tgt := 70) ok dJ4_getEntry_59 (by decide) (fun c => absurd c (by decide)) (fun _ => ?_)
  refine z_aload_n ok dJ4_getEntry_62 rfl ?_
  refine g_J4_114 ok (h.ob 2 rfl) dJ4_getEntry_63 ?_
  refine z_astore_3 ok dJ4_getEntry_66 ?_
  refine z_goto (tgt := 72) ok dJ4_getEntry_67 (by decide) ?_
  refine z_goto (tgt := 28) ok dJ4_getEntry_72 (by decide) ?_
  refine z_aload_n ok dJ4_getEntry_28 rfl ?_
  refine z_ifnullN (tgt := 75) ok dJ4_getEntry_29 (by decide) ?_
  refine z_null ok dJ4_getEntry_75 ?_
  exact z_aret ok dJ4_getEntry_76 ⟨rfl, rfl⟩
set_option maxHeartbeats 4000000 in
set_option maxRecDepth 100000 in
theorem t_get_13 {E : zE} {H : Heap} {t a0 a1 k0 v0 k1 v1 kx x e0 e1 : Nat} {s m : Int32} (h : TZ E H H [(t, tM (.ref a0) s m), (a0, tN (.ref k0) (.ref v0) .null (.ref a1) .null 1), (a1, tN (.ref k1) (.ref v1) .null .null (.ref a0) 0)]) (hx : zOb E H kx 14 [.int (nI x)]) (hk0 : zOb E H k0 14 [.int (nI e0)]) (hk1 : zOb E H k1 14 [.int (nI e1)]) (hlt : e0 < e1 ∧ e1 < x ∧ x < 4) : zM E 7 yJ4_get (ws_ yJ4_get cJ4_get 3 (some (.object "java/lang/Object"))) 0 0 H [.ref t, .ref kx] (zR H (.null)) zNX := by
  refine z_of [some (.ref t), some (.ref kx), none] pn_J4 (Nat.le_of_ble_eq_true rfl) rfl (fun κ ok ho => ?_)
  refine z_aload_n ok dJ4_get_0 rfl ?_
  refine z_aload_n ok dJ4_get_1 rfl ?_
  refine v_J4_50 ok (t_getEntry_13 h.self hx hk0 hk1 hlt) (h.is 0 rfl) dJ4_get_2 zk_nx (zk_R ?_)
  refine z_astore_2 ok dJ4_get_5 ?_
  refine z_aload_n ok dJ4_get_6 rfl ?_
  refine z_ifnonnullN ok dJ4_get_7 ?_
  refine z_null ok dJ4_get_10 ?_
  refine z_goto (tgt := 18) ok dJ4_get_11 (by decide) ?_
  exact z_aret ok dJ4_get_18 ⟨rfl, rfl⟩
set_option maxHeartbeats 4000000 in
set_option maxRecDepth 100000 in
theorem t_remove_13 {E : zE} {H : Heap} {t a0 a1 k0 v0 k1 v1 kx x e0 e1 : Nat} {s m : Int32} (h : TZ E H H [(t, tM (.ref a0) s m), (a0, tN (.ref k0) (.ref v0) .null (.ref a1) .null 1), (a1, tN (.ref k1) (.ref v1) .null .null (.ref a0) 0)]) (hx : zOb E H kx 14 [.int (nI x)]) (hk0 : zOb E H k0 14 [.int (nI e0)]) (hk1 : zOb E H k1 14 [.int (nI e1)]) (hlt : e0 < e1 ∧ e1 < x ∧ x < 4) : zM E 8 yJ4_remove (ws_ yJ4_remove cJ4_remove 4 (some (.object "java/lang/Object"))) 0 0 H [.ref t, .ref kx] (zR H (.null)) zNX := by
  refine z_of [some (.ref t), some (.ref kx), none, none] pn_J4 (Nat.le_of_ble_eq_true rfl) rfl (fun κ ok ho => ?_)
  refine z_aload_n ok dJ4_remove_0 rfl ?_
  refine z_aload_n ok dJ4_remove_1 rfl ?_
  refine v_J4_50 ok (t_getEntry_13 h.self hx hk0 hk1 hlt) (h.is 0 rfl) dJ4_remove_2 zk_nx (zk_R ?_)
  refine z_astore_2 ok dJ4_remove_5 ?_
  refine z_aload_n ok dJ4_remove_6 rfl ?_
  refine z_ifnonnullN ok dJ4_remove_7 ?_
  refine z_null ok dJ4_remove_10 ?_
  exact z_aret ok dJ4_remove_11 ⟨rfl, rfl⟩
set_option maxHeartbeats 4000000 in
set_option maxRecDepth 100000 in
theorem t_rotateLeft_2 {E : zE} {H : Heap} {t a0 a1 b k0 v0 k1 v1 kx vx : Nat} {s m : Int32} (h : TZ E H H [(t, tM (.ref a0) s m), (a0, tN (.ref k0) (.ref v0) .null (.ref a1) .null 0), (a1, tN (.ref k1) (.ref v1) .null (.ref b) (.ref a0) 1), (b, tN (.ref kx) (.ref vx) .null .null (.ref a1) 0)]) : zM E 3 yJ4_rotateLeft (ws_ yJ4_rotateLeft cJ4_rotateLeft 3 none) 0 0 H [.ref t, .ref a0] (zRv (fun H1 => TZ E H H1 [(t, tM (.ref a1) s m), (a0, tN (.ref k0) (.ref v0) .null .null (.ref a1) 0), (a1, tN (.ref k1) (.ref v1) (.ref a0) (.ref b) .null 1), (b, tN (.ref kx) (.ref vx) .null .null (.ref a1) 0)])) zNX := by
  refine z_of [some (.ref t), some (.ref a0), none] pn_J4 (Nat.le_of_ble_eq_true rfl) rfl (fun κ ok ho => ?_)
  refine z_aload_n ok dJ4_rotateLeft_0 rfl ?_
  refine z_ifnullR ok dJ4_rotateLeft_1 ?_
  refine z_aload_n ok dJ4_rotateLeft_4 rfl ?_
  refine g_J4_114 ok (h.ob 1 rfl) dJ4_rotateLeft_5 ?_
  refine z_astore_2 ok dJ4_rotateLeft_8 ?_
  refine z_aload_n ok dJ4_rotateLeft_9 rfl ?_
  refine z_aload_n ok dJ4_rotateLeft_10 rfl ?_
  refine g_J4_111 ok (h.ob 2 rfl) dJ4_rotateLeft_11 ?_
  refine p_J4_114 ok (h.at 1 rfl) dJ4_rotateLeft_14 (fun H1 w1 => ?_)
  replace h : TZ E H H1 [(t, tM (.ref a0) s m), (a0, tN (.ref k0) (.ref v0) .null .null .null 0), (a1, tN (.ref k1) (.ref v1) .null (.ref b) (.ref a0) 1), (b, tN (.ref kx) (.ref vx) .null .null (.ref a1) 0)] := h.wr 1 rfl w1
  refine z_aload_n ok dJ4_rotateLeft_17 rfl ?_
  refine g_J4_111 ok (h.ob 2 rfl) dJ4_rotateLeft_18 ?_
  refine z_ifnullN (tgt := 32) ok dJ4_rotateLeft_21 (by decide) ?_
  refine z_aload_n ok dJ4_rotateLeft_32 rfl ?_
  refine z_aload_n ok dJ4_rotateLeft_33 rfl ?_
  refine g_J4_124 ok (h.ob 1 rfl) dJ4_rotateLeft_34 ?_
  refine p_J4_124 ok (h.at 2 rfl) dJ4_rotateLeft_37 (fun H2 w2 => ?_)
  replace h : TZ E H H2 [(t, tM (.ref a0) s m), (a0, tN (.ref k0) (.ref v0) .null .null .null 0), (a1, tN (.ref k1) (.ref v1) .null (.ref b) .null 1), (b, tN (.ref kx) (.ref vx) .null .null (.ref a1) 0)] := h.wr 2 rfl w2
  refine z_aload_n ok dJ4_rotateLeft_40 rfl ?_
  refine g_J4_124 ok (h.ob 1 rfl) dJ4_rotateLeft_41 ?_
  refine z_ifnonnullN ok dJ4_rotateLeft_44 ?_
  refine z_aload_n ok dJ4_rotateLeft_47 rfl ?_
  refine z_aload_n ok dJ4_rotateLeft_48 rfl ?_
  refine p_J4_101 ok (h.at 0 rfl) dJ4_rotateLeft_49 (fun H3 w3 => ?_)
  replace h : TZ E H H3 [(t, tM (.ref a1) s m), (a0, tN (.ref k0) (.ref v0) .null .null .null 0), (a1, tN (.ref k1) (.ref v1) .null (.ref b) .null 1), (b, tN (.ref kx) (.ref vx) .null .null (.ref a1) 0)] := h.wr 0 rfl w3
  refine z_goto (tgt := 85) ok dJ4_rotateLeft_52 (by decide) ?_
  refine z_aload_n ok dJ4_rotateLeft_85 rfl ?_
  refine z_aload_n ok dJ4_rotateLeft_86 rfl ?_
  refine p_J4_111 ok (h.at 2 rfl) dJ4_rotateLeft_87 (fun H4 w4 => ?_)
  replace h : TZ E H H4 [(t, tM (.ref a1) s m), (a0, tN (.ref k0) (.ref v0) .null .null .null 0), (a1, tN (.ref k1) (.ref v1) (.ref a0) (.ref b) .null 1), (b, tN (.ref kx) (.ref vx) .null .null (.ref a1) 0)] := h.wr 2 rfl w4
  refine z_aload_n ok dJ4_rotateLeft_90 rfl ?_
  refine z_aload_n ok dJ4_rotateLeft_91 rfl ?_
  refine p_J4_124 ok (h.at 1 rfl) dJ4_rotateLeft_92 (fun H5 w5 => ?_)
  replace h : TZ E H H5 [(t, tM (.ref a1) s m), (a0, tN (.ref k0) (.ref v0) .null .null (.ref a1) 0), (a1, tN (.ref k1) (.ref v1) (.ref a0) (.ref b) .null 1), (b, tN (.ref kx) (.ref vx) .null .null (.ref a1) 0)] := h.wr 1 rfl w5
  exact z_vret ok dJ4_rotateLeft_95 ⟨rfl, h⟩
set_option maxHeartbeats 4000000 in
set_option maxRecDepth 100000 in
theorem t_fixAfterInsertion_7 {E : zE} {H : Heap} {t a0 a1 b k0 v0 k1 v1 kx vx : Nat} {s m : Int32} (h : TZ E H H [(t, tM (.ref a0) s m), (a0, tN (.ref k0) (.ref v0) .null (.ref a1) .null 1), (a1, tN (.ref k1) (.ref v1) .null (.ref b) (.ref a0) 0), (b, tN (.ref kx) (.ref vx) .null .null (.ref a1) 1)]) : zM E 4 yJ4_fixAfterInsertion (ws_ yJ4_fixAfterInsertion cJ4_fixAfterInsertion 3 none) 0 0 H [.ref t, .ref b] (zRv (fun H1 => TZ E H H1 [(t, tM (.ref a1) s m), (a0, tN (.ref k0) (.ref v0) .null .null (.ref a1) 0), (a1, tN (.ref k1) (.ref v1) (.ref a0) (.ref b) .null 1), (b, tN (.ref kx) (.ref vx) .null .null (.ref a1) 0)])) zNX := by
  refine z_of [some (.ref t), some (.ref b), none] pn_J4 (Nat.le_of_ble_eq_true rfl) rfl (fun κ ok ho => ?_)
  refine z_aload_n ok dJ4_fixAfterInsertion_0 rfl ?_
  refine z_iconst ok dJ4_fixAfterInsertion_1 zic_0 ?_
  refine p_J4_290 ok (h.at 3 rfl) dJ4_fixAfterInsertion_2 (fun H1 w1 => ?_)
  replace h : TZ E H H1 [(t, tM (.ref a0) s m), (a0, tN (.ref k0) (.ref v0) .null (.ref a1) .null 1), (a1, tN (.ref k1) (.ref v1) .null (.ref b) (.ref a0) 0), (b, tN (.ref kx) (.ref vx) .null .null (.ref a1) 0)] := h.wr 3 rfl w1
  refine z_aload_n ok dJ4_fixAfterInsertion_5 rfl ?_
  refine z_ifnullR ok dJ4_fixAfterInsertion_6 ?_
  refine z_aload_n ok dJ4_fixAfterInsertion_9 rfl ?_
  refine z_aload_n ok dJ4_fixAfterInsertion_10 rfl ?_
  refine g_J4_101 ok (h.ob 0 rfl) dJ4_fixAfterInsertion_11 ?_
  refine z_acmpeq (rx := some b) (ry := some a0) (tgt := 258) ok dJ4_fixAfterInsertion_14 (by decide) (fun c => absurd c (h.ne 3 1 rfl rfl (by decide))) (fun _ => ?_)
  refine z_aload_n ok dJ4_fixAfterInsertion_17 rfl ?_
  refine g_J4_124 ok (h.ob 3 rfl) dJ4_fixAfterInsertion_18 ?_
  refine g_J4_290 ok (h.ob 2 rfl) dJ4_fixAfterInsertion_21 ?_
  refine z_ifne (tgt := 258) ok dJ4_fixAfterInsertion_24 (by decide) (fun c => absurd c (by decide)) (fun _ => ?_)
  refine z_aload_n ok dJ4_fixAfterInsertion_27 rfl ?_
  refine v_J4_294 ok (m_J4_parentOf (r := some a1) (h.ob 3 rfl)) dJ4_fixAfterInsertion_28 zk_nx (zk_R ?_)
  refine z_aload_n ok dJ4_fixAfterInsertion_31 rfl ?_
  refine v_J4_294 ok (m_J4_parentOf (r := some a1) (h.ob 3 rfl)) dJ4_fixAfterInsertion_32 zk_nx (zk_R ?_)
  refine v_J4_294 ok (m_J4_parentOf (r := some a0) (h.ob 2 rfl)) dJ4_fixAfterInsertion_35 zk_nx (zk_R ?_)
  refine v_J4_297 ok (m_J4_leftOf (r := none) (h.ob 1 rfl)) dJ4_fixAfterInsertion_38 zk_nx (zk_R ?_)
  refine z_acmpne (rx := some a1) (ry := none) (tgt := 151) ok dJ4_fixAfterInsertion_41 (by decide) (fun _ => ?_) (fun c => nomatch c)
  refine z_aload_n ok dJ4_fixAfterInsertion_151 rfl ?_
  refine v_J4_294 ok (m_J4_parentOf (r := some a1) (h.ob 3 rfl)) dJ4_fixAfterInsertion_152 zk_nx (zk_R ?_)
  refine v_J4_294 ok (m_J4_parentOf (r := some a0) (h.ob 2 rfl)) dJ4_fixAfterInsertion_155 zk_nx (zk_R ?_)
  refine v_J4_297 ok (m_J4_leftOf (r := none) (h.ob 1 rfl)) dJ4_fixAfterInsertion_158 zk_nx (zk_R ?_)
  refine z_astore_2 ok dJ4_fixAfterInsertion_161 ?_
  refine z_aload_n ok dJ4_fixAfterInsertion_162 rfl ?_
  refine v_J4_303 ok m_J4_colorOfN dJ4_fixAfterInsertion_163 zk_nx (zk_R ?_)
  refine z_ifne (tgt := 204) ok dJ4_fixAfterInsertion_166 (by decide) (fun _ => ?_) (fun c => absurd c (by decide))
  refine z_aload_n ok dJ4_fixAfterInsertion_204 rfl ?_
  refine z_aload_n ok dJ4_fixAfterInsertion_205 rfl ?_
  refine v_J4_294 ok (m_J4_parentOf (r := some a1) (h.ob 3 rfl)) dJ4_fixAfterInsertion_206 zk_nx (zk_R ?_)
  refine v_J4_297 ok (m_J4_leftOf (r := none) (h.ob 2 rfl)) dJ4_fixAfterInsertion_209 zk_nx (zk_R ?_)
  refine z_acmpne (rx := some b) (ry := none) (tgt := 225) ok dJ4_fixAfterInsertion_212 (by decide) (fun _ => ?_) (fun c => nomatch c)
  refine z_aload_n ok dJ4_fixAfterInsertion_225 rfl ?_
  refine v_J4_294 ok (m_J4_parentOf (r := some a1) (h.ob 3 rfl)) dJ4_fixAfterInsertion_226 zk_nx (zk_R ?_)
  refine z_iconst ok dJ4_fixAfterInsertion_229 zic_1 ?_
  refine v_J4_307 ok (m_J4_setColor1 (h.at 2 rfl)) dJ4_fixAfterInsertion_230 zk_nx (zk_Rv (fun H2 w2 _ => ?_))
  replace h : TZ E H H2 [(t, tM (.ref a0) s m), (a0, tN (.ref k0) (.ref v0) .null (.ref a1) .null 1), (a1, tN (.ref k1) (.ref v1) .null (.ref b) (.ref a0) 1), (b, tN (.ref kx) (.ref vx) .null .null (.ref a1) 0)] := h.wr 2 rfl w2
  refine z_aload_n ok dJ4_fixAfterInsertion_233 rfl ?_
  refine v_J4_294 ok (m_J4_parentOf (r := some a1) (h.ob 3 rfl)) dJ4_fixAfterInsertion_234 zk_nx (zk_R ?_)
  refine v_J4_294 ok (m_J4_parentOf (r := some a0) (h.ob 2 rfl)) dJ4_fixAfterInsertion_237 zk_nx (zk_R ?_)
  refine z_iconst ok dJ4_fixAfterInsertion_240 zic_0 ?_
  refine v_J4_307 ok (m_J4_setColor0 (h.at 1 rfl)) dJ4_fixAfterInsertion_241 zk_nx (zk_Rv (fun H3 w3 _ => ?_))
  replace h : TZ E H H3 [(t, tM (.ref a0) s m), (a0, tN (.ref k0) (.ref v0) .null (.ref a1) .null 0), (a1, tN (.ref k1) (.ref v1) .null (.ref b) (.ref a0) 1), (b, tN (.ref kx) (.ref vx) .null .null (.ref a1) 0)] := h.wr 1 rfl w3
  refine z_aload_n ok dJ4_fixAfterInsertion_244 rfl ?_
  refine z_aload_n ok dJ4_fixAfterInsertion_245 rfl ?_
  refine v_J4_294 ok (m_J4_parentOf (r := some a1) (h.ob 3 rfl)) dJ4_fixAfterInsertion_246 zk_nx (zk_R ?_)
  refine v_J4_294 ok (m_J4_parentOf (r := some a0) (h.ob 2 rfl)) dJ4_fixAfterInsertion_249 zk_nx (zk_R ?_)
  refine v_J4_311 ok (t_rotateLeft_2 h.self) (h.is 0 rfl) dJ4_fixAfterInsertion_252 zk_nx (zk_Rv (fun H4 g4 _ => ?_))
  replace h : TZ E H H4 [(t, tM (.ref a1) s m), (a0, tN (.ref k0) (.ref v0) .null .null (.ref a1) 0), (a1, tN (.ref k1) (.ref v1) (.ref a0) (.ref b) .null 1), (b, tN (.ref kx) (.ref vx) .null .null (.ref a1) 0)] := h.tr g4 rfl
  refine z_goto (tgt := 5) ok dJ4_fixAfterInsertion_255 (by decide) ?_
  refine z_aload_n ok dJ4_fixAfterInsertion_5 rfl ?_
  refine z_ifnullR ok dJ4_fixAfterInsertion_6 ?_
  refine z_aload_n ok dJ4_fixAfterInsertion_9 rfl ?_
  refine z_aload_n ok dJ4_fixAfterInsertion_10 rfl ?_
  refine g_J4_101 ok (h.ob 0 rfl) dJ4_fixAfterInsertion_11 ?_
  refine z_acmpeq (rx := some b) (ry := some a1) (tgt := 258) ok dJ4_fixAfterInsertion_14 (by decide) (fun c => absurd c (h.ne 3 2 rfl rfl (by decide))) (fun _ => ?_)
  refine z_aload_n ok dJ4_fixAfterInsertion_17 rfl ?_
  refine g_J4_124 ok (h.ob 3 rfl) dJ4_fixAfterInsertion_18 ?_
  refine g_J4_290 ok (h.ob 2 rfl) dJ4_fixAfterInsertion_21 ?_
  refine z_ifne (tgt := 258) ok dJ4_fixAfterInsertion_24 (by decide) (fun _ => ?_) (fun c => absurd c (by decide))
  refine z_aload_n ok dJ4_fixAfterInsertion_258 rfl ?_
  refine g_J4_101 ok (h.ob 0 rfl) dJ4_fixAfterInsertion_259 ?_
  refine z_iconst ok dJ4_fixAfterInsertion_262 zic_1 ?_
  refine p_J4_290 ok (h.at 2 rfl) dJ4_fixAfterInsertion_263 (fun H5 w5 => ?_)
  replace h : TZ E H H5 [(t, tM (.ref a1) s m), (a0, tN (.ref k0) (.ref v0) .null .null (.ref a1) 0), (a1, tN (.ref k1) (.ref v1) (.ref a0) (.ref b) .null 1), (b, tN (.ref kx) (.ref vx) .null .null (.ref a1) 0)] := h.wr 2 rfl w5
  exact z_vret ok dJ4_fixAfterInsertion_266 ⟨rfl, h⟩
set_option maxHeartbeats 4000000 in
set_option maxRecDepth 100000 in
theorem t_addEntry_7 {E : zE} {H : Heap} {t a0 a1 k0 v0 k1 v1 kx vx : Nat} {s m : Int32} (h : TZ E H H [(t, tM (.ref a0) s m), (a0, tN (.ref k0) (.ref v0) .null (.ref a1) .null 1), (a1, tN (.ref k1) (.ref v1) .null .null (.ref a0) 0)]) : zM E 6 yJ4_addEntry (ws_ yJ4_addEntry cJ4_addEntry 6 none) 1 6 H [.ref t, .ref kx, .ref vx, .ref a1, .int 0] (zRv (fun H1 => ∃ b, H.size ≤ b ∧ TZ E H H1 [(t, tM (.ref a1) (s + 1) (m + 1)), (a0, tN (.ref k0) (.ref v0) .null .null (.ref a1) 0), (a1, tN (.ref k1) (.ref v1) (.ref a0) (.ref b) .null 1), (b, tN (.ref kx) (.ref vx) .null .null (.ref a1) 0)])) zNX := by
  refine z_of [some (.ref t), some (.ref kx), some (.ref vx), some (.ref a1), some (.int 0), none] pn_J4 (Nat.le_of_ble_eq_true rfl) rfl (fun κ ok ho => ?_)
  refine n_J4_59 ok dJ4_addEntry_0 (fun b H1 w1 => ?_)
  have hb : H.size ≤ b := by have h8 := w1.1; have h9 := h.2.2.1; omega
  replace h : TZ E H H1 [(t, tM (.ref a0) s m), (a0, tN (.ref k0) (.ref v0) .null (.ref a1) .null 1), (a1, tN (.ref k1) (.ref v1) .null .null (.ref a0) 0), (b, tN .null .null .null .null .null 0)] := h.mk w1
  refine z_dup ok dJ4_addEntry_3 ?_
  refine z_aload_n ok dJ4_addEntry_4 rfl ?_
  refine z_aload_n ok dJ4_addEntry_5 rfl ?_
  refine z_aload_n ok dJ4_addEntry_6 rfl ?_
  refine v_J4_167 ok (m_J26_init (pp := some a1) (h.at 3 rfl)) dJ4_addEntry_7 zk_nx (zk_Rv (fun H2 w2 _ => ?_))
  replace h : TZ E H H2 [(t, tM (.ref a0) s m), (a0, tN (.ref k0) (.ref v0) .null (.ref a1) .null 1), (a1, tN (.ref k1) (.ref v1) .null .null (.ref a0) 0), (b, tN (.ref kx) (.ref vx) .null .null (.ref a1) 1)] := h.wr 3 rfl w2
  refine z_astore_5 ok dJ4_addEntry_10 ?_
  refine z_iload ok dJ4_addEntry_12 rfl ?_
  refine z_ifeq (tgt := 26) ok dJ4_addEntry_14 (by decide) (fun _ => ?_) (fun c => absurd c (by decide))
  refine z_aload_n ok dJ4_addEntry_26 rfl ?_
  refine z_aload ok dJ4_addEntry_27 rfl ?_
  refine p_J4_114 ok (h.at 2 rfl) dJ4_addEntry_29 (fun H3 w3 => ?_)
  replace h : TZ E H H3 [(t, tM (.ref a0) s m), (a0, tN (.ref k0) (.ref v0) .null (.ref a1) .null 1), (a1, tN (.ref k1) (.ref v1) .null (.ref b) (.ref a0) 0), (b, tN (.ref kx) (.ref vx) .null .null (.ref a1) 1)] := h.wr 2 rfl w3
  refine z_aload_n ok dJ4_addEntry_32 rfl ?_
  refine z_aload ok dJ4_addEntry_33 rfl ?_
  refine v_J4_170 ok (t_fixAfterInsertion_7 h.self) (h.is 0 rfl) dJ4_addEntry_35 zk_nx (zk_Rv (fun H4 g4 _ => ?_))
  replace h : TZ E H H4 [(t, tM (.ref a1) s m), (a0, tN (.ref k0) (.ref v0) .null .null (.ref a1) 0), (a1, tN (.ref k1) (.ref v1) (.ref a0) (.ref b) .null 1), (b, tN (.ref kx) (.ref vx) .null .null (.ref a1) 0)] := h.tr g4 rfl
  refine z_aload_n ok dJ4_addEntry_38 rfl ?_
  refine z_dup ok dJ4_addEntry_39 ?_
  refine g_J4_7 ok (h.ob 0 rfl) dJ4_addEntry_40 ?_
  refine z_iconst ok dJ4_addEntry_43 zic_1 ?_
  refine z_iadd ok dJ4_addEntry_44 ?_
  refine p_J4_7 ok (h.at 0 rfl) dJ4_addEntry_45 (fun H5 w5 => ?_)
  replace h : TZ E H H5 [(t, tM (.ref a1) (s + 1) m), (a0, tN (.ref k0) (.ref v0) .null .null (.ref a1) 0), (a1, tN (.ref k1) (.ref v1) (.ref a0) (.ref b) .null 1), (b, tN (.ref kx) (.ref vx) .null .null (.ref a1) 0)] := h.wr 0 rfl w5
  refine z_aload_n ok dJ4_addEntry_48 rfl ?_
  refine z_dup ok dJ4_addEntry_49 ?_
  refine g_J4_13 ok (h.ob 0 rfl) dJ4_addEntry_50 ?_
  refine z_iconst ok dJ4_addEntry_53 zic_1 ?_
  refine z_iadd ok dJ4_addEntry_54 ?_
  refine p_J4_13 ok (h.at 0 rfl) dJ4_addEntry_55 (fun H6 w6 => ?_)
  replace h : TZ E H H6 [(t, tM (.ref a1) (s + 1) (m + 1)), (a0, tN (.ref k0) (.ref v0) .null .null (.ref a1) 0), (a1, tN (.ref k1) (.ref v1) (.ref a0) (.ref b) .null 1), (b, tN (.ref kx) (.ref vx) .null .null (.ref a1) 0)] := h.wr 0 rfl w6
  exact z_vret ok dJ4_addEntry_58 ⟨rfl, b, hb, h⟩
set_option maxHeartbeats 4000000 in
set_option maxRecDepth 100000 in
theorem t_put_2_13 {E : zE} {H : Heap} {t a0 a1 k0 v0 k1 v1 vx kx x e0 e1 : Nat} {s m : Int32} (h : TZ E H H [(t, tM (.ref a0) s m), (a0, tN (.ref k0) (.ref v0) .null (.ref a1) .null 1), (a1, tN (.ref k1) (.ref v1) .null .null (.ref a0) 0)]) (hx : zOb E H kx 14 [.int (nI x)]) (hk0 : zOb E H k0 14 [.int (nI e0)]) (hk1 : zOb E H k1 14 [.int (nI e1)]) (hlt : e0 < e1 ∧ e1 < x ∧ x < 4) : zM E 8 yJ4_put_2 (ws_ yJ4_put_2 cJ4_put_2 10 (some (.object "java/lang/Object"))) 1 6 H [.ref t, .ref kx, .ref vx, .int 1] (zRw (.null) (fun H1 => ∃ b, H.size ≤ b ∧ TZ E H H1 [(t, tM (.ref a1) (s + 1) (m + 1)), (a0, tN (.ref k0) (.ref v0) .null .null (.ref a1) 0), (a1, tN (.ref k1) (.ref v1) (.ref a0) (.ref b) .null 1), (b, tN (.ref kx) (.ref vx) .null .null (.ref a1) 0)])) zNX := by
  refine z_of [some (.ref t), some (.ref kx), some (.ref vx), some (.int 1), none, none, none, none, none, none] pn_J4 (Nat.le_of_ble_eq_true rfl) rfl (fun κ ok ho => ?_)
  refine z_aload_n ok dJ4_put_2_0 rfl ?_
  refine g_J4_101 ok (h.ob 0 rfl) dJ4_put_2_1 ?_
  refine z_astore_4 ok dJ4_put_2_4 ?_
  refine z_aload ok dJ4_put_2_6 rfl ?_
  refine z_ifnonnullR (tgt := 19) ok dJ4_put_2_8 (by decide) ?_
  refine z_aload_n ok dJ4_put_2_19 rfl ?_
  refine g_J4_16 ok (h.ob 0 rfl) dJ4_put_2_20 ?_
  refine z_astore_7 ok dJ4_put_2_23 ?_
  refine z_aload ok dJ4_put_2_25 rfl ?_
  refine z_ifnullN (tgt := 112) ok dJ4_put_2_27 (by decide) ?_
  refine z_aload_n ok dJ4_put_2_112 rfl ?_
  refine v_J4_95 ok (m_J17_requireNonNull _) dJ4_put_2_113 zk_nx (zk_R ?_)
  refine z_pop ok dJ4_put_2_116 ?_
  refine z_aload_n ok dJ4_put_2_117 rfl ?_
  refine z_cast ok q678 hx.is (ci := 14) rfl (Or.inr q683) dJ4_put_2_118 ?_
  refine z_astore_8 ok dJ4_put_2_121 ?_
  refine z_aload ok dJ4_put_2_123 rfl ?_
  refine z_astore_6 ok dJ4_put_2_125 ?_
  refine z_aload ok dJ4_put_2_127 rfl ?_
  refine z_aload ok dJ4_put_2_129 rfl ?_
  refine g_J4_105 ok (h.ob 1 rfl) dJ4_put_2_131 ?_
  refine v_J4_107_j22 ok (m_J22_cmpG hx hk0 (by omega)) hx.is dJ4_put_2_134 zk_nx (zk_R ?_)
  refine z_istore_5 ok dJ4_put_2_139 ?_
  refine z_iload ok dJ4_put_2_141 rfl ?_
  refine z_ifge (tgt := 156) ok dJ4_put_2_143 (by decide) (fun _ => ?_) (fun c => absurd c (by decide))
  refine z_iload ok dJ4_put_2_156 rfl ?_
  refine z_ifle (tgt := 171) ok dJ4_put_2_158 (by decide) (fun c => absurd c (by decide)) (fun _ => ?_)
  refine z_aload ok dJ4_put_2_161 rfl ?_
  refine g_J4_114 ok (h.ob 1 rfl) dJ4_put_2_163 ?_
  refine z_astore_4 ok dJ4_put_2_166 ?_
  refine z_goto (tgt := 196) ok dJ4_put_2_168 (by decide) ?_
  refine z_aload ok dJ4_put_2_196 rfl ?_
  refine z_ifnonnullR (tgt := 123) ok dJ4_put_2_198 (by decide) ?_
  refine z_aload ok dJ4_put_2_123 rfl ?_
  refine z_astore_6 ok dJ4_put_2_125 ?_
  refine z_aload ok dJ4_put_2_127 rfl ?_
  refine z_aload ok dJ4_put_2_129 rfl ?_
  refine g_J4_105 ok (h.ob 2 rfl) dJ4_put_2_131 ?_
  refine v_J4_107_j22 ok (m_J22_cmpG hx hk1 (by omega)) hx.is dJ4_put_2_134 zk_nx (zk_R ?_)
  refine z_istore_5 ok dJ4_put_2_139 ?_
  refine z_iload ok dJ4_put_2_141 rfl ?_
  refine z_ifge (tgt := 156) ok dJ4_put_2_143 (by decide) (fun _ => ?_) (fun c => absurd c (by decide))
  refine z_iload ok dJ4_put_2_156 rfl ?_
  refine z_ifle (tgt := 171) ok dJ4_put_2_158 (by decide) (fun c => absurd c (by decide)) (fun _ => ?_)
  refine z_aload ok dJ4_put_2_161 rfl ?_
  refine g_J4_114 ok (h.ob 2 rfl) dJ4_put_2_163 ?_
  refine z_astore_4 ok dJ4_put_2_166 ?_
  refine z_goto (tgt := 196) ok dJ4_put_2_168 (by decide) ?_
  refine z_aload ok dJ4_put_2_196 rfl ?_
  refine z_ifnonnullN ok dJ4_put_2_198 ?_
  refine z_aload_n ok dJ4_put_2_201 rfl ?_
  refine z_aload_n ok dJ4_put_2_202 rfl ?_
  refine z_aload_n ok dJ4_put_2_203 rfl ?_
  refine z_aload ok dJ4_put_2_204 rfl ?_
  refine z_iload ok dJ4_put_2_206 rfl ?_
  refine z_ifge (tgt := 215) ok dJ4_put_2_208 (by decide) (fun _ => ?_) (fun c => absurd c (by decide))
  refine z_iconst ok dJ4_put_2_215 zic_0 ?_
  refine v_J4_139 ok (t_addEntry_7 h.self) (h.is 0 rfl) dJ4_put_2_216 zk_nx (zk_Rv (fun H1 g1 _ => ?_))
  obtain ⟨b, hb, g1⟩ := g1
  replace hb := Nat.le_trans h.2.2.1 hb
  replace h : TZ E H H1 [(t, tM (.ref a1) (s + 1) (m + 1)), (a0, tN (.ref k0) (.ref v0) .null .null (.ref a1) 0), (a1, tN (.ref k1) (.ref v1) (.ref a0) (.ref b) .null 1), (b, tN (.ref kx) (.ref vx) .null .null (.ref a1) 0)] := h.tr1 g1 rfl
  refine z_null ok dJ4_put_2_219 ?_
  exact z_aret ok dJ4_put_2_220 ⟨rfl, b, hb, h⟩
set_option maxHeartbeats 4000000 in
set_option maxRecDepth 100000 in
theorem t_put_13 {E : zE} {H : Heap} {t a0 a1 k0 v0 k1 v1 vx kx x e0 e1 : Nat} {s m : Int32} (h : TZ E H H [(t, tM (.ref a0) s m), (a0, tN (.ref k0) (.ref v0) .null (.ref a1) .null 1), (a1, tN (.ref k1) (.ref v1) .null .null (.ref a0) 0)]) (hx : zOb E H kx 14 [.int (nI x)]) (hk0 : zOb E H k0 14 [.int (nI e0)]) (hk1 : zOb E H k1 14 [.int (nI e1)]) (hlt : e0 < e1 ∧ e1 < x ∧ x < 4) : zM E 9 yJ4_put (ws_ yJ4_put cJ4_put 3 (some (.object "java/lang/Object"))) 1 6 H [.ref t, .ref kx, .ref vx] (zRw (.null) (fun H1 => ∃ b, H.size ≤ b ∧ TZ E H H1 [(t, tM (.ref a1) (s + 1) (m + 1)), (a0, tN (.ref k0) (.ref v0) .null .null (.ref a1) 0), (a1, tN (.ref k1) (.ref v1) (.ref a0) (.ref b) .null 1), (b, tN (.ref kx) (.ref vx) .null .null (.ref a1) 0)])) zNX := by
  refine z_of [some (.ref t), some (.ref kx), some (.ref vx)] pn_J4 (Nat.le_of_ble_eq_true rfl) rfl (fun κ ok ho => ?_)
  refine z_aload_n ok dJ4_put_0 rfl ?_
  refine z_aload_n ok dJ4_put_1 rfl ?_
  refine z_aload_n ok dJ4_put_2 rfl ?_
  refine z_iconst ok dJ4_put_3 zic_1 ?_
  refine v_J4_127 ok (t_put_2_13 h.self hx hk0 hk1 hlt) (h.is 0 rfl) dJ4_put_4 zk_nx (zk_Rw (fun H1 g1 _ => ?_))
  obtain ⟨b, hb, g1⟩ := g1
  replace hb := Nat.le_trans h.2.2.1 hb
  replace h : TZ E H H1 [(t, tM (.ref a1) (s + 1) (m + 1)), (a0, tN (.ref k0) (.ref v0) .null .null (.ref a1) 0), (a1, tN (.ref k1) (.ref v1) (.ref a0) (.ref b) .null 1), (b, tN (.ref kx) (.ref vx) .null .null (.ref a1) 0)] := h.tr1 g1 rfl
  exact z_aret ok dJ4_put_7 ⟨rfl, b, hb, h⟩
set_option maxHeartbeats 4000000 in
set_option maxRecDepth 100000 in
theorem t_getEntry_14 {E : zE} {H : Heap} {t a0 a1 a2 k0 v0 k1 v1 k2 v2 kx x e1 e2 : Nat} {s m : Int32} (h : TZ E H H [(t, tM (.ref a1) s m), (a0, tN (.ref k0) (.ref v0) .null .null (.ref a1) 0), (a1, tN (.ref k1) (.ref v1) (.ref a0) (.ref a2) .null 1), (a2, tN (.ref k2) (.ref v2) .null .null (.ref a1) 0)]) (hx : zOb E H kx 14 [.int (nI x)]) (hk0 : zOb E H k0 14 [.int (nI x)]) (hk1 : zOb E H k1 14 [.int (nI e1)]) (hk2 : zOb E H k2 14 [.int (nI e2)]) (hlt : x < e1 ∧ e1 < e2 ∧ e2 < 4) : zM E 6 yJ4_getEntry (ws_ yJ4_getEntry cJ4_getEntry 5 (some (.object "java/util/TreeMap$Entry"))) 0 0 H [.ref t, .ref kx] (zR H (.ref a0)) zNX := by
  refine z_of [some (.ref t), some (.ref kx), none, none, none] pn_J4 (Nat.le_of_ble_eq_true rfl) rfl (fun κ ok ho => ?_)
  refine z_aload_n ok dJ4_getEntry_0 rfl ?_
  refine g_J4_16 ok (h.ob 0 rfl) dJ4_getEntry_1 ?_
  refine z_ifnullN (tgt := 13) ok dJ4_getEntry_4 (by decide) ?_
  refine z_aload_n ok dJ4_getEntry_13 rfl ?_
  refine v_J4_95 ok (m_J17_requireNonNull _) dJ4_getEntry_14 zk_nx (zk_R ?_)
  refine z_pop ok dJ4_getEntry_17 ?_
  refine z_aload_n ok dJ4_getEntry_18 rfl ?_
  refine z_cast ok q678 hx.is (ci := 14) rfl (Or.inr q683) dJ4_getEntry_19 ?_
  refine z_astore_2 ok dJ4_getEntry_22 ?_
  refine z_aload_n ok dJ4_getEntry_23 rfl ?_
  refine g_J4_101 ok (h.ob 0 rfl) dJ4_getEntry_24 ?_
  refine z_astore_3 ok dJ4_getEntry_27 ?_
  refine z_aload_n ok dJ4_getEntry_28 rfl ?_
  refine z_ifnullR ok dJ4_getEntry_29 ?_
  refine z_aload_n ok dJ4_getEntry_32 rfl ?_
  refine z_aload_n ok dJ4_getEntry_33 rfl ?_
  refine g_J4_105 ok (h.ob 2 rfl) dJ4_getEntry_34 ?_
  refine v_J4_107_j22 ok (m_J22_cmpL hx hk1 (by omega)) hx.is dJ4_getEntry_37 zk_nx (zk_R ?_)
  refine z_istore_4 ok dJ4_getEntry_42 ?_
  refine z_iload ok dJ4_getEntry_44 rfl ?_
  refine z_ifge (tgt := 57) ok dJ4_getEntry_46 (by decide) (fun c => absurd c (by decide)) (fun _ => ?_)
  refine z_aload_n ok dJ4_getEntry_49 rfl ?_
  refine g_J4_111 ok (h.ob 2 rfl) dJ4_getEntry_50 ?_
  refine z_astore_3 ok dJ4_getEntry_53 ?_
  refine z_goto (tgt := 72) ok dJ4_getEntry_54 (by decide) ?_
  refine z_goto (tgt := 28) ok dJ4_getEntry_72 (by decide) ?_
  refine z_aload_n ok dJ4_getEntry_28 rfl ?_
  refine z_ifnullR ok dJ4_getEntry_29 ?_
  refine z_aload_n ok dJ4_getEntry_32 rfl ?_
  refine z_aload_n ok dJ4_getEntry_33 rfl ?_
  refine g_J4_105 ok (h.ob 1 rfl) dJ4_getEntry_34 ?_
  refine v_J4_107_j22 ok (m_J22_cmpE hx hk0) hx.is dJ4_getEntry_37 zk_nx (zk_R ?_)
  refine z_istore_4 ok dJ4_getEntry_42 ?_
  refine z_iload ok dJ4_getEntry_44 rfl ?_
  refine z_ifge (tgt := 57) ok dJ4_getEntry_46 (by decide) (fun _ => ?_) (fun c => absurd c (by decide))
  refine z_iload ok dJ4_getEntry_57 rfl ?_
  refine z_ifle (tgt := 70) ok dJ4_getEntry_59 (by decide) (fun _ => ?_) (fun c => absurd c (by decide))
  refine z_aload_n ok dJ4_getEntry_70 rfl ?_
  exact z_aret ok dJ4_getEntry_71 ⟨rfl, rfl⟩
set_option maxHeartbeats 4000000 in
set_option maxRecDepth 100000 in
theorem t_get_14 {E : zE} {H : Heap} {t a0 a1 a2 k0 v0 k1 v1 k2 v2 kx x e1 e2 : Nat} {s m : Int32} (h : TZ E H H [(t, tM (.ref a1) s m), (a0, tN (.ref k0) (.ref v0) .null .null (.ref a1) 0), (a1, tN (.ref k1) (.ref v1) (.ref a0) (.ref a2) .null 1), (a2, tN (.ref k2) (.ref v2) .null .null (.ref a1) 0)]) (hx : zOb E H kx 14 [.int (nI x)]) (hk0 : zOb E H k0 14 [.int (nI x)]) (hk1 : zOb E H k1 14 [.int (nI e1)]) (hk2 : zOb E H k2 14 [.int (nI e2)]) (hlt : x < e1 ∧ e1 < e2 ∧ e2 < 4) : zM E 7 yJ4_get (ws_ yJ4_get cJ4_get 3 (some (.object "java/lang/Object"))) 0 0 H [.ref t, .ref kx] (zR H (.ref v0)) zNX := by
  refine z_of [some (.ref t), some (.ref kx), none] pn_J4 (Nat.le_of_ble_eq_true rfl) rfl (fun κ ok ho => ?_)
  refine z_aload_n ok dJ4_get_0 rfl ?_
  refine z_aload_n ok dJ4_get_1 rfl ?_
  refine v_J4_50 ok (t_getEntry_14 h.self hx hk0 hk1 hk2 hlt) (h.is 0 rfl) dJ4_get_2 zk_nx (zk_R ?_)
  refine z_astore_2 ok dJ4_get_5 ?_
  refine z_aload_n ok dJ4_get_6 rfl ?_
  refine z_ifnonnullR (tgt := 14) ok dJ4_get_7 (by decide) ?_
  refine z_aload_n ok dJ4_get_14 rfl ?_
  refine g_J4_58 ok (h.ob 1 rfl) dJ4_get_15 ?_
  exact z_aret ok dJ4_get_18 ⟨rfl, rfl⟩
set_option maxHeartbeats 4000000 in
set_option maxRecDepth 100000 in
theorem t_deleteEntry_5 {E : zE} {H : Heap} {t a0 a1 a2 k0 v0 k1 v1 k2 v2 : Nat} {s m : Int32} (h : TZ E H H [(t, tM (.ref a1) s m), (a0, tN (.ref k0) (.ref v0) .null .null (.ref a1) 0), (a1, tN (.ref k1) (.ref v1) (.ref a0) (.ref a2) .null 1), (a2, tN (.ref k2) (.ref v2) .null .null (.ref a1) 0)]) : zM E 6 yJ4_deleteEntry (ws_ yJ4_deleteEntry cJ4_deleteEntry 3 none) 0 0 H [.ref t, .ref a0] (zRv (fun H1 => TZ E H H1 [(t, tM (.ref a1) (s - 1) (m + 1)), (a0, tN (.ref k0) (.ref v0) .null .null .null 0), (a1, tN (.ref k1) (.ref v1) .null (.ref a2) .null 1), (a2, tN (.ref k2) (.ref v2) .null .null (.ref a1) 0)])) zNX := by
  refine z_of [some (.ref t), some (.ref a0), none] pn_J4 (Nat.le_of_ble_eq_true rfl) rfl (fun κ ok ho => ?_)
  refine z_aload_n ok dJ4_deleteEntry_0 rfl ?_
  refine z_dup ok dJ4_deleteEntry_1 ?_
  refine g_J4_13 ok (h.ob 0 rfl) dJ4_deleteEntry_2 ?_
  refine z_iconst ok dJ4_deleteEntry_5 zic_1 ?_
  refine z_iadd ok dJ4_deleteEntry_6 ?_
  refine p_J4_13 ok (h.at 0 rfl) dJ4_deleteEntry_7 (fun H1 w1 => ?_)
  replace h : TZ E H H1 [(t, tM (.ref a1) s (m + 1)), (a0, tN (.ref k0) (.ref v0) .null .null (.ref a1) 0), (a1, tN (.ref k1) (.ref v1) (.ref a0) (.ref a2) .null 1), (a2, tN (.ref k2) (.ref v2) .null .null (.ref a1) 0)] := h.wr 0 rfl w1
  refine z_aload_n ok dJ4_deleteEntry_10 rfl ?_
  refine z_dup ok dJ4_deleteEntry_11 ?_
  refine g_J4_7 ok (h.ob 0 rfl) dJ4_deleteEntry_12 ?_
  refine z_iconst ok dJ4_deleteEntry_15 zic_1 ?_
  refine z_isub ok dJ4_deleteEntry_16 ?_
  refine p_J4_7 ok (h.at 0 rfl) dJ4_deleteEntry_17 (fun H2 w2 => ?_)
  replace h : TZ E H H2 [(t, tM (.ref a1) (s - 1) (m + 1)), (a0, tN (.ref k0) (.ref v0) .null .null (.ref a1) 0), (a1, tN (.ref k1) (.ref v1) (.ref a0) (.ref a2) .null 1), (a2, tN (.ref k2) (.ref v2) .null .null (.ref a1) 0)] := h.wr 0 rfl w2
  refine z_aload_n ok dJ4_deleteEntry_20 rfl ?_
  refine g_J4_111 ok (h.ob 1 rfl) dJ4_deleteEntry_21 ?_
  refine z_ifnullN (tgt := 57) ok dJ4_deleteEntry_24 (by decide) ?_
  refine z_aload_n ok dJ4_deleteEntry_57 rfl ?_
  refine g_J4_111 ok (h.ob 1 rfl) dJ4_deleteEntry_58 ?_
  refine z_ifnullN (tgt := 71) ok dJ4_deleteEntry_61 (by decide) ?_
  refine z_aload_n ok dJ4_deleteEntry_71 rfl ?_
  refine g_J4_114 ok (h.ob 1 rfl) dJ4_deleteEntry_72 ?_
  refine z_astore_2 ok dJ4_deleteEntry_75 ?_
  refine z_aload_n ok dJ4_deleteEntry_76 rfl ?_
  refine z_ifnullN (tgt := 164) ok dJ4_deleteEntry_77 (by decide) ?_
  refine z_aload_n ok dJ4_deleteEntry_164 rfl ?_
  refine g_J4_124 ok (h.ob 1 rfl) dJ4_deleteEntry_165 ?_
  refine z_ifnonnullR (tgt := 179) ok dJ4_deleteEntry_168 (by decide) ?_
  refine z_aload_n ok dJ4_deleteEntry_179 rfl ?_
  refine g_J4_290 ok (h.ob 1 rfl) dJ4_deleteEntry_180 ?_
  refine z_iconst ok dJ4_deleteEntry_183 zic_1 ?_
  refine z_icmpne (tgt := 192) ok dJ4_deleteEntry_184 (by decide) (fun _ => ?_) (fun c => absurd c (by decide))
  refine z_aload_n ok dJ4_deleteEntry_192 rfl ?_
  refine g_J4_124 ok (h.ob 1 rfl) dJ4_deleteEntry_193 ?_
  refine z_ifnullR ok dJ4_deleteEntry_196 ?_
  refine z_aload_n ok dJ4_deleteEntry_199 rfl ?_
  refine z_aload_n ok dJ4_deleteEntry_200 rfl ?_
  refine g_J4_124 ok (h.ob 1 rfl) dJ4_deleteEntry_201 ?_
  refine g_J4_111 ok (h.ob 2 rfl) dJ4_deleteEntry_204 ?_
  refine z_acmpne (rx := some a0) (ry := some a0) (tgt := 221) ok dJ4_deleteEntry_207 (by decide) (fun c => absurd rfl c) (fun _ => ?_)
  refine z_aload_n ok dJ4_deleteEntry_210 rfl ?_
  refine g_J4_124 ok (h.ob 1 rfl) dJ4_deleteEntry_211 ?_
  refine z_null ok dJ4_deleteEntry_214 ?_
  refine p_J4_111 ok (h.at 2 rfl) dJ4_deleteEntry_215 (fun H3 w3 => ?_)
  replace h : TZ E H H3 [(t, tM (.ref a1) (s - 1) (m + 1)), (a0, tN (.ref k0) (.ref v0) .null .null (.ref a1) 0), (a1, tN (.ref k1) (.ref v1) .null (.ref a2) .null 1), (a2, tN (.ref k2) (.ref v2) .null .null (.ref a1) 0)] := h.wr 2 rfl w3
  refine z_goto (tgt := 240) ok dJ4_deleteEntry_218 (by decide) ?_
  refine z_aload_n ok dJ4_deleteEntry_240 rfl ?_
  refine z_null ok dJ4_deleteEntry_241 ?_
  refine p_J4_124 ok (h.at 1 rfl) dJ4_deleteEntry_242 (fun H4 w4 => ?_)
  replace h : TZ E H H4 [(t, tM (.ref a1) (s - 1) (m + 1)), (a0, tN (.ref k0) (.ref v0) .null .null .null 0), (a1, tN (.ref k1) (.ref v1) .null (.ref a2) .null 1), (a2, tN (.ref k2) (.ref v2) .null .null (.ref a1) 0)] := h.wr 1 rfl w4
  exact z_vret ok dJ4_deleteEntry_245 ⟨rfl, h⟩
set_option maxHeartbeats 4000000 in
set_option maxRecDepth 100000 in
theorem t_remove_14 {E : zE} {H : Heap} {t a0 a1 a2 k0 v0 k1 v1 k2 v2 kx x e1 e2 : Nat} {s m : Int32} (h : TZ E H H [(t, tM (.ref a1) s m), (a0, tN (.ref k0) (.ref v0) .null .null (.ref a1) 0), (a1, tN (.ref k1) (.ref v1) (.ref a0) (.ref a2) .null 1), (a2, tN (.ref k2) (.ref v2) .null .null (.ref a1) 0)]) (hx : zOb E H kx 14 [.int (nI x)]) (hk0 : zOb E H k0 14 [.int (nI x)]) (hk1 : zOb E H k1 14 [.int (nI e1)]) (hk2 : zOb E H k2 14 [.int (nI e2)]) (hlt : x < e1 ∧ e1 < e2 ∧ e2 < 4) : zM E 8 yJ4_remove (ws_ yJ4_remove cJ4_remove 4 (some (.object "java/lang/Object"))) 0 0 H [.ref t, .ref kx] (zRw (.ref v0) (fun H1 => TZ E H H1 [(t, tM (.ref a1) (s - 1) (m + 1)), (a0, tN (.ref k0) (.ref v0) .null .null .null 0), (a1, tN (.ref k1) (.ref v1) .null (.ref a2) .null 1), (a2, tN (.ref k2) (.ref v2) .null .null (.ref a1) 0)])) zNX := by
  refine z_of [some (.ref t), some (.ref kx), none, none] pn_J4 (Nat.le_of_ble_eq_true rfl) rfl (fun κ ok ho => ?_)
  refine z_aload_n ok dJ4_remove_0 rfl ?_
  refine z_aload_n ok dJ4_remove_1 rfl ?_
  refine v_J4_50 ok (t_getEntry_14 h.self hx hk0 hk1 hk2 hlt) (h.is 0 rfl) dJ4_remove_2 zk_nx (zk_R ?_)
  refine z_astore_2 ok dJ4_remove_5 ?_
  refine z_aload_n ok dJ4_remove_6 rfl ?_
  refine z_ifnonnullR (tgt := 12) ok dJ4_remove_7 (by decide) ?_
  refine z_aload_n ok dJ4_remove_12 rfl ?_
  refine g_J4_58 ok (h.ob 1 rfl) dJ4_remove_13 ?_
  refine z_astore_3 ok dJ4_remove_16 ?_
  refine z_aload_n ok dJ4_remove_17 rfl ?_
  refine z_aload_n ok dJ4_remove_18 rfl ?_
  refine v_J4_174 ok (t_deleteEntry_5 h.self) (h.is 0 rfl) dJ4_remove_19 zk_nx (zk_Rv (fun H2 g2 _ => ?_))
  replace h : TZ E H H2 [(t, tM (.ref a1) (s - 1) (m + 1)), (a0, tN (.ref k0) (.ref v0) .null .null .null 0), (a1, tN (.ref k1) (.ref v1) .null (.ref a2) .null 1), (a2, tN (.ref k2) (.ref v2) .null .null (.ref a1) 0)] := h.tr g2 rfl
  refine z_aload_n ok dJ4_remove_22 rfl ?_
  exact z_aret ok dJ4_remove_23 ⟨rfl, h⟩
set_option maxHeartbeats 4000000 in
set_option maxRecDepth 100000 in
theorem t_put_2_14 {E : zE} {H : Heap} {t a0 a1 a2 k0 v0 k1 v1 k2 v2 vx kx x e1 e2 : Nat} {s m : Int32} (h : TZ E H H [(t, tM (.ref a1) s m), (a0, tN (.ref k0) (.ref v0) .null .null (.ref a1) 0), (a1, tN (.ref k1) (.ref v1) (.ref a0) (.ref a2) .null 1), (a2, tN (.ref k2) (.ref v2) .null .null (.ref a1) 0)]) (hx : zOb E H kx 14 [.int (nI x)]) (hk0 : zOb E H k0 14 [.int (nI x)]) (hk1 : zOb E H k1 14 [.int (nI e1)]) (hk2 : zOb E H k2 14 [.int (nI e2)]) (hlt : x < e1 ∧ e1 < e2 ∧ e2 < 4) : zM E 8 yJ4_put_2 (ws_ yJ4_put_2 cJ4_put_2 10 (some (.object "java/lang/Object"))) 1 6 H [.ref t, .ref kx, .ref vx, .int 1] (zRw (.ref v0) (fun H1 => TZ E H H1 [(t, tM (.ref a1) s m), (a0, tN (.ref k0) (.ref vx) .null .null (.ref a1) 0), (a1, tN (.ref k1) (.ref v1) (.ref a0) (.ref a2) .null 1), (a2, tN (.ref k2) (.ref v2) .null .null (.ref a1) 0)])) zNX := by
  refine z_of [some (.ref t), some (.ref kx), some (.ref vx), some (.int 1), none, none, none, none, none, none] pn_J4 (Nat.le_of_ble_eq_true rfl) rfl (fun κ ok ho => ?_)
  refine z_aload_n ok dJ4_put_2_0 rfl ?_
  refine g_J4_101 ok (h.ob 0 rfl) dJ4_put_2_1 ?_
  refine z_astore_4 ok dJ4_put_2_4 ?_
  refine z_aload ok dJ4_put_2_6 rfl ?_
  refine z_ifnonnullR (tgt := 19) ok dJ4_put_2_8 (by decide) ?_
  refine z_aload_n ok dJ4_put_2_19 rfl ?_
  refine g_J4_16 ok (h.ob 0 rfl) dJ4_put_2_20 ?_
  refine z_astore_7 ok dJ4_put_2_23 ?_
  refine z_aload ok dJ4_put_2_25 rfl ?_
  refine z_ifnullN (tgt := 112) ok dJ4_put_2_27 (by decide) ?_
  refine z_aload_n ok dJ4_put_2_112 rfl ?_
  refine v_J4_95 ok (m_J17_requireNonNull _) dJ4_put_2_113 zk_nx (zk_R ?_)
  refine z_pop ok dJ4_put_2_116 ?_
  refine z_aload_n ok dJ4_put_2_117 rfl ?_
  refine z_cast ok q678 hx.is (ci := 14) rfl (Or.inr q683) dJ4_put_2_118 ?_
  refine z_astore_8 ok dJ4_put_2_121 ?_
  refine z_aload ok dJ4_put_2_123 rfl ?_
  refine z_astore_6 ok dJ4_put_2_125 ?_
  refine z_aload ok dJ4_put_2_127 rfl ?_
  refine z_aload ok dJ4_put_2_129 rfl ?_
  refine g_J4_105 ok (h.ob 2 rfl) dJ4_put_2_131 ?_
  refine v_J4_107_j22 ok (m_J22_cmpL hx hk1 (by omega)) hx.is dJ4_put_2_134 zk_nx (zk_R ?_)
  refine z_istore_5 ok dJ4_put_2_139 ?_
  refine z_iload ok dJ4_put_2_141 rfl ?_
  refine z_ifge (tgt := 156) ok dJ4_put_2_143 (by decide) (fun c => absurd c (by decide)) (fun _ => ?_)
  refine z_aload ok dJ4_put_2_146 rfl ?_
  refine g_J4_111 ok (h.ob 2 rfl) dJ4_put_2_148 ?_
  refine z_astore_4 ok dJ4_put_2_151 ?_
  refine z_goto (tgt := 196) ok dJ4_put_2_153 (by decide) ?_
  refine z_aload ok dJ4_put_2_196 rfl ?_
  refine z_ifnonnullR (tgt := 123) ok dJ4_put_2_198 (by decide) ?_
  refine z_aload ok dJ4_put_2_123 rfl ?_
  refine z_astore_6 ok dJ4_put_2_125 ?_
  refine z_aload ok dJ4_put_2_127 rfl ?_
  refine z_aload ok dJ4_put_2_129 rfl ?_
  refine g_J4_105 ok (h.ob 1 rfl) dJ4_put_2_131 ?_
  refine v_J4_107_j22 ok (m_J22_cmpE hx hk0) hx.is dJ4_put_2_134 zk_nx (zk_R ?_)
  refine z_istore_5 ok dJ4_put_2_139 ?_
  refine z_iload ok dJ4_put_2_141 rfl ?_
  refine z_ifge (tgt := 156) ok dJ4_put_2_143 (by decide) (fun _ => ?_) (fun c => absurd c (by decide))
  refine z_iload ok dJ4_put_2_156 rfl ?_
  refine z_ifle (tgt := 171) ok dJ4_put_2_158 (by decide) (fun _ => ?_) (fun c => absurd c (by decide))
  refine z_aload ok dJ4_put_2_171 rfl ?_
  refine g_J4_58 ok (h.ob 1 rfl) dJ4_put_2_173 ?_
  refine z_astore_9 ok dJ4_put_2_176 ?_
  refine z_iload_n ok dJ4_put_2_178 rfl ?_
  refine z_ifne (tgt := 187) ok dJ4_put_2_179 (by decide) (fun _ => ?_) (fun c => absurd c (by decide))
  refine z_aload ok dJ4_put_2_187 rfl ?_
  refine z_aload_n ok dJ4_put_2_189 rfl ?_
  refine p_J4_58 ok (h.at 1 rfl) dJ4_put_2_190 (fun H1 w1 => ?_)
  replace h : TZ E H H1 [(t, tM (.ref a1) s m), (a0, tN (.ref k0) (.ref vx) .null .null (.ref a1) 0), (a1, tN (.ref k1) (.ref v1) (.ref a0) (.ref a2) .null 1), (a2, tN (.ref k2) (.ref v2) .null .null (.ref a1) 0)] := h.wr 1 rfl w1
  refine z_aload ok dJ4_put_2_193 rfl ?_
  exact z_aret ok dJ4_put_2_195 ⟨rfl, h⟩
set_option maxHeartbeats 4000000 in
set_option maxRecDepth 100000 in
theorem t_put_14 {E : zE} {H : Heap} {t a0 a1 a2 k0 v0 k1 v1 k2 v2 vx kx x e1 e2 : Nat} {s m : Int32} (h : TZ E H H [(t, tM (.ref a1) s m), (a0, tN (.ref k0) (.ref v0) .null .null (.ref a1) 0), (a1, tN (.ref k1) (.ref v1) (.ref a0) (.ref a2) .null 1), (a2, tN (.ref k2) (.ref v2) .null .null (.ref a1) 0)]) (hx : zOb E H kx 14 [.int (nI x)]) (hk0 : zOb E H k0 14 [.int (nI x)]) (hk1 : zOb E H k1 14 [.int (nI e1)]) (hk2 : zOb E H k2 14 [.int (nI e2)]) (hlt : x < e1 ∧ e1 < e2 ∧ e2 < 4) : zM E 9 yJ4_put (ws_ yJ4_put cJ4_put 3 (some (.object "java/lang/Object"))) 1 6 H [.ref t, .ref kx, .ref vx] (zRw (.ref v0) (fun H1 => TZ E H H1 [(t, tM (.ref a1) s m), (a0, tN (.ref k0) (.ref vx) .null .null (.ref a1) 0), (a1, tN (.ref k1) (.ref v1) (.ref a0) (.ref a2) .null 1), (a2, tN (.ref k2) (.ref v2) .null .null (.ref a1) 0)])) zNX := by
  refine z_of [some (.ref t), some (.ref kx), some (.ref vx)] pn_J4 (Nat.le_of_ble_eq_true rfl) rfl (fun κ ok ho => ?_)
  refine z_aload_n ok dJ4_put_0 rfl ?_
  refine z_aload_n ok dJ4_put_1 rfl ?_
  refine z_aload_n ok dJ4_put_2 rfl ?_
  refine z_iconst ok dJ4_put_3 zic_1 ?_
  refine v_J4_127 ok (t_put_2_14 h.self hx hk0 hk1 hk2 hlt) (h.is 0 rfl) dJ4_put_4 zk_nx (zk_Rw (fun H1 g1 _ => ?_))
  replace h : TZ E H H1 [(t, tM (.ref a1) s m), (a0, tN (.ref k0) (.ref vx) .null .null (.ref a1) 0), (a1, tN (.ref k1) (.ref v1) (.ref a0) (.ref a2) .null 1), (a2, tN (.ref k2) (.ref v2) .null .null (.ref a1) 0)] := h.tr g1 rfl
  exact z_aret ok dJ4_put_7 ⟨rfl, h⟩
set_option maxHeartbeats 4000000 in
set_option maxRecDepth 100000 in
theorem t_getEntry_15 {E : zE} {H : Heap} {t a0 a1 a2 k0 v0 k1 v1 k2 v2 kx x e0 e2 : Nat} {s m : Int32} (h : TZ E H H [(t, tM (.ref a1) s m), (a0, tN (.ref k0) (.ref v0) .null .null (.ref a1) 0), (a1, tN (.ref k1) (.ref v1) (.ref a0) (.ref a2) .null 1), (a2, tN (.ref k2) (.ref v2) .null .null (.ref a1) 0)]) (hx : zOb E H kx 14 [.int (nI x)]) (hk0 : zOb E H k0 14 [.int (nI e0)]) (hk1 : zOb E H k1 14 [.int (nI x)]) (hk2 : zOb E H k2 14 [.int (nI e2)]) (hlt : e0 < x ∧ x < e2 ∧ e2 < 4) : zM E 6 yJ4_getEntry (ws_ yJ4_getEntry cJ4_getEntry 5 (some (.object "java/util/TreeMap$Entry"))) 0 0 H [.ref t, .ref kx] (zR H (.ref a1)) zNX := by
  refine z_of [some (.ref t), some (.ref kx), none, none, none] pn_J4 (Nat.le_of_ble_eq_true rfl) rfl (fun κ ok ho => ?_)
  refine z_aload_n ok dJ4_getEntry_0 rfl ?_
  refine g_J4_16 ok (h.ob 0 rfl) dJ4_getEntry_1 ?_
  refine z_ifnullN (tgt := 13) ok dJ4_getEntry_4 (by decide) ?_
  refine z_aload_n ok dJ4_getEntry_13 rfl ?_
  refine v_J4_95 ok (m_J17_requireNonNull _) dJ4_getEntry_14 zk_nx (zk_R ?_)
  refine z_pop ok dJ4_getEntry_17 ?_
  refine z_aload_n ok dJ4_getEntry_18 rfl ?_
  refine z_cast ok q678 hx.is (ci := 14) rfl (Or.inr q683) dJ4_getEntry_19 ?_
  refine z_astore_2 ok dJ4_getEntry_22 ?_
  refine z_aload_n ok dJ4_getEntry_23 rfl ?_
  refine g_J4_101 ok (h.ob 0 rfl) dJ4_getEntry_24 ?_
  refine z_astore_3 ok dJ4_getEntry_27 ?_
  refine z_aload_n ok dJ4_getEntry_28 rfl ?_
  refine z_ifnullR ok dJ4_getEntry_29 ?_
  refine z_aload_n ok dJ4_getEntry_32 rfl ?_
  refine z_aload_n ok dJ4_getEntry_33 rfl ?_
  refine g_J4_105 ok (h.ob 2 rfl) dJ4_getEntry_34 ?_
  refine v_J4_107_j22 ok (m_J22_cmpE hx hk1) hx.is dJ4_getEntry_37 zk_nx (zk_R ?_)
  refine z_istore_4 ok dJ4_getEntry_42 ?_
  refine z_iload ok dJ4_getEntry_44 rfl ?_
  refine z_ifge (tgt := 57) ok dJ4_getEntry_46 (by decide) (fun _ => ?_) (fun c => absurd c (by decide))
  refine z_iload ok dJ4_getEntry_57 rfl ?_
  refine z_ifle (tgt := 70) ok dJ4_getEntry_59 (by decide) (fun _ => ?_) (fun c => absurd c (by decide))
  refine z_aload_n ok dJ4_getEntry_70 rfl ?_
  exact z_aret ok dJ4_getEntry_71 ⟨rfl, rfl⟩
set_option maxHeartbeats 4000000 in
set_option maxRecDepth 100000 in
theorem t_get_15 {E : zE} {H : Heap} {t a0 a1 a2 k0 v0 k1 v1 k2 v2 kx x e0 e2 : Nat} {s m : Int32} (h : TZ E H H [(t, tM (.ref a1) s m), (a0, tN (.ref k0) (.ref v0) .null .null (.ref a1) 0), (a1, tN (.ref k1) (.ref v1) (.ref a0) (.ref a2) .null 1), (a2, tN (.ref k2) (.ref v2) .null .null (.ref a1) 0)]) (hx : zOb E H kx 14 [.int (nI x)]) (hk0 : zOb E H k0 14 [.int (nI e0)]) (hk1 : zOb E H k1 14 [.int (nI x)]) (hk2 : zOb E H k2 14 [.int (nI e2)]) (hlt : e0 < x ∧ x < e2 ∧ e2 < 4) : zM E 7 yJ4_get (ws_ yJ4_get cJ4_get 3 (some (.object "java/lang/Object"))) 0 0 H [.ref t, .ref kx] (zR H (.ref v1)) zNX := by
  refine z_of [some (.ref t), some (.ref kx), none] pn_J4 (Nat.le_of_ble_eq_true rfl) rfl (fun κ ok ho => ?_)
  refine z_aload_n ok dJ4_get_0 rfl ?_
  refine z_aload_n ok dJ4_get_1 rfl ?_
  refine v_J4_50 ok (t_getEntry_15 h.self hx hk0 hk1 hk2 hlt) (h.is 0 rfl) dJ4_get_2 zk_nx (zk_R ?_)
  refine z_astore_2 ok dJ4_get_5 ?_
  refine z_aload_n ok dJ4_get_6 rfl ?_
  refine z_ifnonnullR (tgt := 14) ok dJ4_get_7 (by decide) ?_
  refine z_aload_n ok dJ4_get_14 rfl ?_
  refine g_J4_58 ok (h.ob 2 rfl) dJ4_get_15 ?_
  exact z_aret ok dJ4_get_18 ⟨rfl, rfl⟩
set_option maxHeartbeats 4000000 in
set_option maxRecDepth 100000 in
theorem t_successor_0 {E : zE} {H : Heap} {t a0 a1 a2 k0 v0 k1 v1 k2 v2 : Nat} {s m : Int32} (h : TZ E H H [(t, tM (.ref a1) (s - 1) (m + 1)), (a0, tN (.ref k0) (.ref v0) .null .null (.ref a1) 0), (a1, tN (.ref k1) (.ref v1) (.ref a0) (.ref a2) .null 1), (a2, tN (.ref k2) (.ref v2) .null .null (.ref a1) 0)]) : zM E 2 yJ4_successor (ws_ yJ4_successor cJ4_successor 3 (some (.object "java/util/TreeMap$Entry"))) 0 0 H [.ref a1] (zR H (.ref a2)) zNX := by
  refine z_of [some (.ref a1), none, none] pn_J4 (Nat.le_of_ble_eq_true rfl) rfl (fun κ ok ho => ?_)
  refine z_aload_n ok dJ4_successor_0 rfl ?_
  refine z_ifnonnullR (tgt := 6) ok dJ4_successor_1 (by decide) ?_
  refine z_aload_n ok dJ4_successor_6 rfl ?_
  refine g_J4_114 ok (h.ob 2 rfl) dJ4_successor_7 ?_
  refine z_ifnullR ok dJ4_successor_10 ?_
  refine z_aload_n ok dJ4_successor_13 rfl ?_
  refine g_J4_114 ok (h.ob 2 rfl) dJ4_successor_14 ?_
  refine z_astore_1 ok dJ4_successor_17 ?_
  refine z_aload_n ok dJ4_successor_18 rfl ?_
  refine g_J4_111 ok (h.ob 3 rfl) dJ4_successor_19 ?_
  refine z_ifnullN (tgt := 33) ok dJ4_successor_22 (by decide) ?_
  refine z_aload_n ok dJ4_successor_33 rfl ?_
  exact z_aret ok dJ4_successor_34 ⟨rfl, rfl⟩
set_option maxHeartbeats 4000000 in
set_option maxRecDepth 100000 in
theorem t_deleteEntry_6 {E : zE} {H : Heap} {t a0 a1 a2 k0 v0 k1 v1 k2 v2 : Nat} {s m : Int32} (h : TZ E H H [(t, tM (.ref a1) s m), (a0, tN (.ref k0) (.ref v0) .null .null (.ref a1) 0), (a1, tN (.ref k1) (.ref v1) (.ref a0) (.ref a2) .null 1), (a2, tN (.ref k2) (.ref v2) .null .null (.ref a1) 0)]) : zM E 6 yJ4_deleteEntry (ws_ yJ4_deleteEntry cJ4_deleteEntry 3 none) 0 0 H [.ref t, .ref a1] (zRv (fun H1 => TZ E H H1 [(t, tM (.ref a1) (s - 1) (m + 1)), (a0, tN (.ref k0) (.ref v0) .null .null (.ref a1) 0), (a1, tN (.ref k2) (.ref v2) (.ref a0) .null .null 1), (a2, tN (.ref k2) (.ref v2) .null .null .null 0)])) zNX := by
  refine z_of [some (.ref t), some (.ref a1), none] pn_J4 (Nat.le_of_ble_eq_true rfl) rfl (fun κ ok ho => ?_)
  refine z_aload_n ok dJ4_deleteEntry_0 rfl ?_
  refine z_dup ok dJ4_deleteEntry_1 ?_
  refine g_J4_13 ok (h.ob 0 rfl) dJ4_deleteEntry_2 ?_
  refine z_iconst ok dJ4_deleteEntry_5 zic_1 ?_
  refine z_iadd ok dJ4_deleteEntry_6 ?_
  refine p_J4_13 ok (h.at 0 rfl) dJ4_deleteEntry_7 (fun H1 w1 => ?_)
  replace h : TZ E H H1 [(t, tM (.ref a1) s (m + 1)), (a0, tN (.ref k0) (.ref v0) .null .null (.ref a1) 0), (a1, tN (.ref k1) (.ref v1) (.ref a0) (.ref a2) .null 1), (a2, tN (.ref k2) (.ref v2) .null .null (.ref a1) 0)] := h.wr 0 rfl w1
  refine z_aload_n ok dJ4_deleteEntry_10 rfl ?_
  refine z_dup ok dJ4_deleteEntry_11 ?_
  refine g_J4_7 ok (h.ob 0 rfl) dJ4_deleteEntry_12 ?_
  refine z_iconst ok dJ4_deleteEntry_15 zic_1 ?_
  refine z_isub ok dJ4_deleteEntry_16 ?_
  refine p_J4_7 ok (h.at 0 rfl) dJ4_deleteEntry_17 (fun H2 w2 => ?_)
  replace h : TZ E H H2 [(t, tM (.ref a1) (s - 1) (m + 1)), (a0, tN (.ref k0) (.ref v0) .null .null (.ref a1) 0), (a1, tN (.ref k1) (.ref v1) (.ref a0) (.ref a2) .null 1), (a2, tN (.ref k2) (.ref v2) .null .null (.ref a1) 0)] := h.wr 0 rfl w2
  refine z_aload_n ok dJ4_deleteEntry_20 rfl ?_
  refine g_J4_111 ok (h.ob 2 rfl) dJ4_deleteEntry_21 ?_
  refine z_ifnullR ok dJ4_deleteEntry_24 ?_
  refine z_aload_n ok dJ4_deleteEntry_27 rfl ?_
  refine g_J4_114 ok (h.ob 2 rfl) dJ4_deleteEntry_28 ?_
  refine z_ifnullR ok dJ4_deleteEntry_31 ?_
  refine z_aload_n ok dJ4_deleteEntry_34 rfl ?_
  refine v_J4_68 ok (t_successor_0 h.self) dJ4_deleteEntry_35 zk_nx (zk_R ?_)
  refine z_astore_2 ok dJ4_deleteEntry_38 ?_
  refine z_aload_n ok dJ4_deleteEntry_39 rfl ?_
  refine z_aload_n ok dJ4_deleteEntry_40 rfl ?_
  refine g_J4_105 ok (h.ob 3 rfl) dJ4_deleteEntry_41 ?_
  refine p_J4_105 ok (h.at 2 rfl) dJ4_deleteEntry_44 (fun H4 w4 => ?_)
  replace h : TZ E H H4 [(t, tM (.ref a1) (s - 1) (m + 1)), (a0, tN (.ref k0) (.ref v0) .null .null (.ref a1) 0), (a1, tN (.ref k2) (.ref v1) (.ref a0) (.ref a2) .null 1), (a2, tN (.ref k2) (.ref v2) .null .null (.ref a1) 0)] := h.wr 2 rfl w4
  refine z_aload_n ok dJ4_deleteEntry_47 rfl ?_
  refine z_aload_n ok dJ4_deleteEntry_48 rfl ?_
  refine g_J4_58 ok (h.ob 3 rfl) dJ4_deleteEntry_49 ?_
  refine p_J4_58 ok (h.at 2 rfl) dJ4_deleteEntry_52 (fun H5 w5 => ?_)
  replace h : TZ E H H5 [(t, tM (.ref a1) (s - 1) (m + 1)), (a0, tN (.ref k0) (.ref v0) .null .null (.ref a1) 0), (a1, tN (.ref k2) (.ref v2) (.ref a0) (.ref a2) .null 1), (a2, tN (.ref k2) (.ref v2) .null .null (.ref a1) 0)] := h.wr 2 rfl w5
  refine z_aload_n ok dJ4_deleteEntry_55 rfl ?_
  refine z_astore_1 ok dJ4_deleteEntry_56 ?_
  refine z_aload_n ok dJ4_deleteEntry_57 rfl ?_
  refine g_J4_111 ok (h.ob 3 rfl) dJ4_deleteEntry_58 ?_
  refine z_ifnullN (tgt := 71) ok dJ4_deleteEntry_61 (by decide) ?_
  refine z_aload_n ok dJ4_deleteEntry_71 rfl ?_
  refine g_J4_114 ok (h.ob 3 rfl) dJ4_deleteEntry_72 ?_
  refine z_astore_2 ok dJ4_deleteEntry_75 ?_
  refine z_aload_n ok dJ4_deleteEntry_76 rfl ?_
  refine z_ifnullN (tgt := 164) ok dJ4_deleteEntry_77 (by decide) ?_
  refine z_aload_n ok dJ4_deleteEntry_164 rfl ?_
  refine g_J4_124 ok (h.ob 3 rfl) dJ4_deleteEntry_165 ?_
  refine z_ifnonnullR (tgt := 179) ok dJ4_deleteEntry_168 (by decide) ?_
  refine z_aload_n ok dJ4_deleteEntry_179 rfl ?_
  refine g_J4_290 ok (h.ob 3 rfl) dJ4_deleteEntry_180 ?_
  refine z_iconst ok dJ4_deleteEntry_183 zic_1 ?_
  refine z_icmpne (tgt := 192) ok dJ4_deleteEntry_184 (by decide) (fun _ => ?_) (fun c => absurd c (by decide))
  refine z_aload_n ok dJ4_deleteEntry_192 rfl ?_
  refine g_J4_124 ok (h.ob 3 rfl) dJ4_deleteEntry_193 ?_
  refine z_ifnullR ok dJ4_deleteEntry_196 ?_
  refine z_aload_n ok dJ4_deleteEntry_199 rfl ?_
  refine z_aload_n ok dJ4_deleteEntry_200 rfl ?_
  refine g_J4_124 ok (h.ob 3 rfl) dJ4_deleteEntry_201 ?_
  refine g_J4_111 ok (h.ob 2 rfl) dJ4_deleteEntry_204 ?_
  refine z_acmpne (rx := some a2) (ry := some a0) (tgt := 221) ok dJ4_deleteEntry_207 (by decide) (fun _ => ?_) (fun c => absurd c (h.ne 3 1 rfl rfl (by decide)))
  refine z_aload_n ok dJ4_deleteEntry_221 rfl ?_
  refine z_aload_n ok dJ4_deleteEntry_222 rfl ?_
  refine g_J4_124 ok (h.ob 3 rfl) dJ4_deleteEntry_223 ?_
  refine g_J4_114 ok (h.ob 2 rfl) dJ4_deleteEntry_226 ?_
  refine z_acmpne (rx := some a2) (ry := some a2) (tgt := 240) ok dJ4_deleteEntry_229 (by decide) (fun c => absurd rfl c) (fun _ => ?_)
  refine z_aload_n ok dJ4_deleteEntry_232 rfl ?_
  refine g_J4_124 ok (h.ob 3 rfl) dJ4_deleteEntry_233 ?_
  refine z_null ok dJ4_deleteEntry_236 ?_
  refine p_J4_114 ok (h.at 2 rfl) dJ4_deleteEntry_237 (fun H6 w6 => ?_)
  replace h : TZ E H H6 [(t, tM (.ref a1) (s - 1) (m + 1)), (a0, tN (.ref k0) (.ref v0) .null .null (.ref a1) 0), (a1, tN (.ref k2) (.ref v2) (.ref a0) .null .null 1), (a2, tN (.ref k2) (.ref v2) .null .null (.ref a1) 0)] := h.wr 2 rfl w6
  refine z_aload_n ok dJ4_deleteEntry_240 rfl ?_
  refine z_null ok dJ4_deleteEntry_241 ?_
  refine p_J4_124 ok (h.at 3 rfl) dJ4_deleteEntry_242 (fun H7 w7 => ?_)
  replace h : TZ E H H7 [(t, tM (.ref a1) (s - 1) (m + 1)), (a0, tN (.ref k0) (.ref v0) .null .null (.ref a1) 0), (a1, tN (.ref k2) (.ref v2) (.ref a0) .null .null 1), (a2, tN (.ref k2) (.ref v2) .null .null .null 0)] := h.wr 3 rfl w7
  exact z_vret ok dJ4_deleteEntry_245 ⟨rfl, h⟩
set_option maxHeartbeats 4000000 in
set_option maxRecDepth 100000 in
theorem t_remove_15 {E : zE} {H : Heap} {t a0 a1 a2 k0 v0 k1 v1 k2 v2 kx x e0 e2 : Nat} {s m : Int32} (h : TZ E H H [(t, tM (.ref a1) s m), (a0, tN (.ref k0) (.ref v0) .null .null (.ref a1) 0), (a1, tN (.ref k1) (.ref v1) (.ref a0) (.ref a2) .null 1), (a2, tN (.ref k2) (.ref v2) .null .null (.ref a1) 0)]) (hx : zOb E H kx 14 [.int (nI x)]) (hk0 : zOb E H k0 14 [.int (nI e0)]) (hk1 : zOb E H k1 14 [.int (nI x)]) (hk2 : zOb E H k2 14 [.int (nI e2)]) (hlt : e0 < x ∧ x < e2 ∧ e2 < 4) : zM E 8 yJ4_remove (ws_ yJ4_remove cJ4_remove 4 (some (.object "java/lang/Object"))) 0 0 H [.ref t, .ref kx] (zRw (.ref v1) (fun H1 => TZ E H H1 [(t, tM (.ref a1) (s - 1) (m + 1)), (a0, tN (.ref k0) (.ref v0) .null .null (.ref a1) 0), (a1, tN (.ref k2) (.ref v2) (.ref a0) .null .null 1), (a2, tN (.ref k2) (.ref v2) .null .null .null 0)])) zNX := by
  refine z_of [some (.ref t), some (.ref kx), none, none] pn_J4 (Nat.le_of_ble_eq_true rfl) rfl (fun κ ok ho => ?_)
  refine z_aload_n ok dJ4_remove_0 rfl ?_
  refine z_aload_n ok dJ4_remove_1 rfl ?_
  refine v_J4_50 ok (t_getEntry_15 h.self hx hk0 hk1 hk2 hlt) (h.is 0 rfl) dJ4_remove_2 zk_nx (zk_R ?_)
  refine z_astore_2 ok dJ4_remove_5 ?_
  refine z_aload_n ok dJ4_remove_6 rfl ?_
  refine z_ifnonnullR (tgt := 12) ok dJ4_remove_7 (by decide) ?_
  refine z_aload_n ok dJ4_remove_12 rfl ?_
  refine g_J4_58 ok (h.ob 2 rfl) dJ4_remove_13 ?_
  refine z_astore_3 ok dJ4_remove_16 ?_
  refine z_aload_n ok dJ4_remove_17 rfl ?_
  refine z_aload_n ok dJ4_remove_18 rfl ?_
  refine v_J4_174 ok (t_deleteEntry_6 h.self) (h.is 0 rfl) dJ4_remove_19 zk_nx (zk_Rv (fun H2 g2 _ => ?_))
  replace h : TZ E H H2 [(t, tM (.ref a1) (s - 1) (m + 1)), (a0, tN (.ref k0) (.ref v0) .null .null (.ref a1) 0), (a1, tN (.ref k2) (.ref v2) (.ref a0) .null .null 1), (a2, tN (.ref k2) (.ref v2) .null .null .null 0)] := h.tr g2 rfl
  refine z_aload_n ok dJ4_remove_22 rfl ?_
  exact z_aret ok dJ4_remove_23 ⟨rfl, h⟩
set_option maxHeartbeats 4000000 in
set_option maxRecDepth 100000 in
theorem t_put_2_15 {E : zE} {H : Heap} {t a0 a1 a2 k0 v0 k1 v1 k2 v2 vx kx x e0 e2 : Nat} {s m : Int32} (h : TZ E H H [(t, tM (.ref a1) s m), (a0, tN (.ref k0) (.ref v0) .null .null (.ref a1) 0), (a1, tN (.ref k1) (.ref v1) (.ref a0) (.ref a2) .null 1), (a2, tN (.ref k2) (.ref v2) .null .null (.ref a1) 0)]) (hx : zOb E H kx 14 [.int (nI x)]) (hk0 : zOb E H k0 14 [.int (nI e0)]) (hk1 : zOb E H k1 14 [.int (nI x)]) (hk2 : zOb E H k2 14 [.int (nI e2)]) (hlt : e0 < x ∧ x < e2 ∧ e2 < 4) : zM E 8 yJ4_put_2 (ws_ yJ4_put_2 cJ4_put_2 10 (some (.object "java/lang/Object"))) 1 6 H [.ref t, .ref kx, .ref vx, .int 1] (zRw (.ref v1) (fun H1 => TZ E H H1 [(t, tM (.ref a1) s m), (a0, tN (.ref k0) (.ref v0) .null .null (.ref a1) 0), (a1, tN (.ref k1) (.ref vx) (.ref a0) (.ref a2) .null 1), (a2, tN (.ref k2) (.ref v2) .null .null (.ref a1) 0)])) zNX := by
  refine z_of [some (.ref t), some (.ref kx), some (.ref vx), some (.int 1), none, none, none, none, none, none] pn_J4 (Nat.le_of_ble_eq_true rfl) rfl (fun κ ok ho => ?_)
  refine z_aload_n ok dJ4_put_2_0 rfl ?_
  refine g_J4_101 ok (h.ob 0 rfl) dJ4_put_2_1 ?_
  refine z_astore_4 ok dJ4_put_2_4 ?_
  refine z_aload ok dJ4_put_2_6 rfl ?_
  refine z_ifnonnullR (tgt := 19) ok dJ4_put_2_8 (by decide) ?_
  refine z_aload_n ok dJ4_put_2_19 rfl ?_
  refine g_J4_16 ok (h.ob 0 rfl) dJ4_put_2_20 ?_
  refine z_astore_7 ok dJ4_put_2_23 ?_
  refine z_aload ok dJ4_put_2_25 rfl ?_
  refine z_ifnullN (tgt := 112) ok dJ4_put_2_27 (by decide) ?_
  refine z_aload_n ok dJ4_put_2_112 rfl ?_
  refine v_J4_95 ok (m_J17_requireNonNull _) dJ4_put_2_113 zk_nx (zk_R ?_)
  refine z_pop ok dJ4_put_2_116 ?_
  refine z_aload_n ok dJ4_put_2_117 rfl ?_
  refine z_cast ok q678 hx.is (ci := 14) rfl (Or.inr q683) dJ4_put_2_118 ?_
  refine z_astore_8 ok dJ4_put_2_121 ?_
  refine z_aload ok dJ4_put_2_123 rfl ?_
  refine z_astore_6 ok dJ4_put_2_125 ?_
  refine z_aload ok dJ4_put_2_127 rfl ?_
  refine z_aload ok dJ4_put_2_129 rfl ?_
  refine g_J4_105 ok (h.ob 2 rfl) dJ4_put_2_131 ?_
  refine v_J4_107_j22 ok (m_J22_cmpE hx hk1) hx.is dJ4_put_2_134 zk_nx (zk_R ?_)
  refine z_istore_5 ok dJ4_put_2_139 ?_
  refine z_iload ok dJ4_put_2_141 rfl ?_
  refine z_ifge (tgt := 156) ok dJ4_put_2_143 (by decide) (fun _ => ?_) (fun c => absurd c (by decide))
  refine z_iload ok dJ4_put_2_156 rfl ?_
  refine z_ifle (tgt := 171) ok dJ4_put_2_158 (by decide) (fun _ => ?_) (fun c => absurd c (by decide))
  refine z_aload ok dJ4_put_2_171 rfl ?_
  refine g_J4_58 ok (h.ob 2 rfl) dJ4_put_2_173 ?_
  refine z_astore_9 ok dJ4_put_2_176 ?_
  refine z_iload_n ok dJ4_put_2_178 rfl ?_
  refine z_ifne (tgt := 187) ok dJ4_put_2_179 (by decide) (fun _ => ?_) (fun c => absurd c (by decide))
  refine z_aload ok dJ4_put_2_187 rfl ?_
  refine z_aload_n ok dJ4_put_2_189 rfl ?_
  refine p_J4_58 ok (h.at 2 rfl) dJ4_put_2_190 (fun H1 w1 => ?_)
  replace h : TZ E H H1 [(t, tM (.ref a1) s m), (a0, tN (.ref k0) (.ref v0) .null .null (.ref a1) 0), (a1, tN (.ref k1) (.ref vx) (.ref a0) (.ref a2) .null 1), (a2, tN (.ref k2) (.ref v2) .null .null (.ref a1) 0)] := h.wr 2 rfl w1
  refine z_aload ok dJ4_put_2_193 rfl ?_
  exact z_aret ok dJ4_put_2_195 ⟨rfl, h⟩
set_option maxHeartbeats 4000000 in
set_option maxRecDepth 100000 in
theorem t_put_15 {E : zE} {H : Heap} {t a0 a1 a2 k0 v0 k1 v1 k2 v2 vx kx x e0 e2 : Nat} {s m : Int32} (h : TZ E H H [(t, tM (.ref a1) s m), (a0, tN (.ref k0) (.ref v0) .null .null (.ref a1) 0), (a1, tN (.ref k1) (.ref v1) (.ref a0) (.ref a2) .null 1), (a2, tN (.ref k2) (.ref v2) .null .null (.ref a1) 0)]) (hx : zOb E H kx 14 [.int (nI x)]) (hk0 : zOb E H k0 14 [.int (nI e0)]) (hk1 : zOb E H k1 14 [.int (nI x)]) (hk2 : zOb E H k2 14 [.int (nI e2)]) (hlt : e0 < x ∧ x < e2 ∧ e2 < 4) : zM E 9 yJ4_put (ws_ yJ4_put cJ4_put 3 (some (.object "java/lang/Object"))) 1 6 H [.ref t, .ref kx, .ref vx] (zRw (.ref v1) (fun H1 => TZ E H H1 [(t, tM (.ref a1) s m), (a0, tN (.ref k0) (.ref v0) .null .null (.ref a1) 0), (a1, tN (.ref k1) (.ref vx) (.ref a0) (.ref a2) .null 1), (a2, tN (.ref k2) (.ref v2) .null .null (.ref a1) 0)])) zNX := by
  refine z_of [some (.ref t), some (.ref kx), some (.ref vx)] pn_J4 (Nat.le_of_ble_eq_true rfl) rfl (fun κ ok ho => ?_)
  refine z_aload_n ok dJ4_put_0 rfl ?_
  refine z_aload_n ok dJ4_put_1 rfl ?_
  refine z_aload_n ok dJ4_put_2 rfl ?_
  refine z_iconst ok dJ4_put_3 zic_1 ?_
  refine v_J4_127 ok (t_put_2_15 h.self hx hk0 hk1 hk2 hlt) (h.is 0 rfl) dJ4_put_4 zk_nx (zk_Rw (fun H1 g1 _ => ?_))
  replace h : TZ E H H1 [(t, tM (.ref a1) s m), (a0, tN (.ref k0) (.ref v0) .null .null (.ref a1) 0), (a1, tN (.ref k1) (.ref vx) (.ref a0) (.ref a2) .null 1), (a2, tN (.ref k2) (.ref v2) .null .null (.ref a1) 0)] := h.tr g1 rfl
  exact z_aret ok dJ4_put_7 ⟨rfl, h⟩
set_option maxHeartbeats 4000000 in
set_option maxRecDepth 100000 in
theorem t_getEntry_16 {E : zE} {H : Heap} {t a0 a1 a2 k0 v0 k1 v1 k2 v2 kx x e0 e1 : Nat} {s m : Int32} (h : TZ E H H [(t, tM (.ref a1) s m), (a0, tN (.ref k0) (.ref v0) .null .null (.ref a1) 0), (a1, tN (.ref k1) (.ref v1) (.ref a0) (.ref a2) .null 1), (a2, tN (.ref k2) (.ref v2) .null .null (.ref a1) 0)]) (hx : zOb E H kx 14 [.int (nI x)]) (hk0 : zOb E H k0 14 [.int (nI e0)]) (hk1 : zOb E H k1 14 [.int (nI e1)]) (hk2 : zOb E H k2 14 [.int (nI x)]) (hlt : e0 < e1 ∧ e1 < x ∧ x < 4) : zM E 6 yJ4_getEntry (ws_ yJ4_getEntry cJ4_getEntry 5 (some (.object "java/util/TreeMap$Entry"))) 0 0 H [.ref t, .ref kx] (zR H (.ref a2)) zNX := by
  refine z_of [some (.ref t), some (.ref kx), none, none, none] pn_J4 (Nat.le_of_ble_eq_true rfl) rfl (fun κ ok ho => ?_)
  refine z_aload_n ok dJ4_getEntry_0 rfl ?_
  refine g_J4_16 ok (h.ob 0 rfl) dJ4_getEntry_1 ?_
  refine z_ifnullN (tgt := 13) ok dJ4_getEntry_4 (by decide) ?_
  refine z_aload_n ok dJ4_getEntry_13 rfl ?_
  refine v_J4_95 ok (m_J17_requireNonNull _) dJ4_getEntry_14 zk_nx (zk_R ?_)
  refine z_pop ok dJ4_getEntry_17 ?_
  refine z_aload_n ok dJ4_getEntry_18 rfl ?_
  refine z_cast ok q678 hx.is (ci := 14) rfl (Or.inr q683) dJ4_getEntry_19 ?_
  refine z_astore_2 ok dJ4_getEntry_22 ?_
  refine z_aload_n ok dJ4_getEntry_23 rfl ?_
  refine g_J4_101 ok (h.ob 0 rfl) dJ4_getEntry_24 ?_
  refine z_astore_3 ok dJ4_getEntry_27 ?_
  refine z_aload_n ok dJ4_getEntry_28 rfl ?_
  refine z_ifnullR ok dJ4_getEntry_29 ?_
  refine z_aload_n ok dJ4_getEntry_32 rfl ?_
  refine z_aload_n ok dJ4_getEntry_33 rfl ?_
  refine g_J4_105 ok (h.ob 2 rfl) dJ4_getEntry_34 ?_
  refine v_J4_107_j22 ok (m_J22_cmpG hx hk1 (by omega)) hx.is dJ4_getEntry_37 zk_nx (zk_R ?_)
  refine z_istore_4 ok dJ4_getEntry_42 ?_
  refine z_iload ok dJ4_getEntry_44 rfl ?_
  refine z_ifge (tgt := 57) ok dJ4_getEntry_46 (by decide) (fun _ => ?_) (fun c => absurd c (by decide))
  refine z_iload ok dJ4_getEntry_57 rfl ?_
  refine z_ifle (tgt := 70) ok dJ4_getEntry_59 (by decide) (fun c => absurd c (by decide)) (fun _ => ?_)
  refine z_aload_n ok dJ4_getEntry_62 rfl ?_
  refine g_J4_114 ok (h.ob 2 rfl) dJ4_getEntry_63 ?_
  refine z_astore_3 ok dJ4_getEntry_66 ?_
  refine z_goto (tgt := 72) ok dJ4_getEntry_67 (by decide) ?_
  refine z_goto (tgt := 28) ok dJ4_getEntry_72 (by decide) ?_
  refine z_aload_n ok dJ4_getEntry_28 rfl ?_
  refine z_ifnullR ok dJ4_getEntry_29 ?_
  refine z_aload_n ok dJ4_getEntry_32 rfl ?_
  refine z_aload_n ok dJ4_getEntry_33 rfl ?_
  refine g_J4_105 ok (h.ob 3 rfl) dJ4_getEntry_34 ?_
  refine v_J4_107_j22 ok (m_J22_cmpE hx hk2) hx.is dJ4_getEntry_37 zk_nx (zk_R ?_)
  refine z_istore_4 ok dJ4_getEntry_42 ?_
  refine z_iload ok dJ4_getEntry_44 rfl ?_
  refine z_ifge (tgt := 57) ok dJ4_getEntry_46 (by decide) (fun _ => ?_) (fun c => absurd c (by decide))
  refine z_iload ok dJ4_getEntry_57 rfl ?_
  refine z_ifle (tgt := 70) ok dJ4_getEntry_59 (by decide) (fun _ => ?_) (fun c => absurd c (by decide))
  refine z_aload_n ok dJ4_getEntry_70 rfl ?_
  exact z_aret ok dJ4_getEntry_71 ⟨rfl, rfl⟩
set_option maxHeartbeats 4000000 in
set_option maxRecDepth 100000 in
theorem t_get_16 {E : zE} {H : Heap} {t a0 a1 a2 k0 v0 k1 v1 k2 v2 kx x e0 e1 : Nat} {s m : Int32} (h : TZ E H H [(t, tM (.ref a1) s m), (a0, tN (.ref k0) (.ref v0) .null .null (.ref a1) 0), (a1, tN (.ref k1) (.ref v1) (.ref a0) (.ref a2) .null 1), (a2, tN (.ref k2) (.ref v2) .null .null (.ref a1) 0)]) (hx : zOb E H kx 14 [.int (nI x)]) (hk0 : zOb E H k0 14 [.int (nI e0)]) (hk1 : zOb E H k1 14 [.int (nI e1)]) (hk2 : zOb E H k2 14 [.int (nI x)]) (hlt : e0 < e1 ∧ e1 < x ∧ x < 4) : zM E 7 yJ4_get (ws_ yJ4_get cJ4_get 3 (some (.object "java/lang/Object"))) 0 0 H [.ref t, .ref kx] (zR H (.ref v2)) zNX := by
  refine z_of [some (.ref t), some (.ref kx), none] pn_J4 (Nat.le_of_ble_eq_true rfl) rfl (fun κ ok ho => ?_)
  refine z_aload_n ok dJ4_get_0 rfl ?_
  refine z_aload_n ok dJ4_get_1 rfl ?_
  refine v_J4_50 ok (t_getEntry_16 h.self hx hk0 hk1 hk2 hlt) (h.is 0 rfl) dJ4_get_2 zk_nx (zk_R ?_)
  refine z_astore_2 ok dJ4_get_5 ?_
  refine z_aload_n ok dJ4_get_6 rfl ?_
  refine z_ifnonnullR (tgt := 14) ok dJ4_get_7 (by decide) ?_
  refine z_aload_n ok dJ4_get_14 rfl ?_
  refine g_J4_58 ok (h.ob 3 rfl) dJ4_get_15 ?_
  exact z_aret ok dJ4_get_18 ⟨rfl, rfl⟩
set_option maxHeartbeats 4000000 in
set_option maxRecDepth 100000 in
theorem t_deleteEntry_7 {E : zE} {H : Heap} {t a0 a1 a2 k0 v0 k1 v1 k2 v2 : Nat} {s m : Int32} (h : TZ E H H [(t, tM (.ref a1) s m), (a0, tN (.ref k0) (.ref v0) .null .null (.ref a1) 0), (a1, tN (.ref k1) (.ref v1) (.ref a0) (.ref a2) .null 1), (a2, tN (.ref k2) (.ref v2) .null .null (.ref a1) 0)]) : zM E 6 yJ4_deleteEntry (ws_ yJ4_deleteEntry cJ4_deleteEntry 3 none) 0 0 H [.ref t, .ref a2] (zRv (fun H1 => TZ E H H1 [(t, tM (.ref a1) (s - 1) (m + 1)), (a0, tN (.ref k0) (.ref v0) .null .null (.ref a1) 0), (a1, tN (.ref k1) (.ref v1) (.ref a0) .null .null 1), (a2, tN (.ref k2) (.ref v2) .null .null .null 0)])) zNX := by
  refine z_of [some (.ref t), some (.ref a2), none] pn_J4 (Nat.le_of_ble_eq_true rfl) rfl (fun κ ok ho => ?_)
  refine z_aload_n ok dJ4_deleteEntry_0 rfl ?_
  refine z_dup ok dJ4_deleteEntry_1 ?_
  refine g_J4_13 ok (h.ob 0 rfl) dJ4_deleteEntry_2 ?_
  refine z_iconst ok dJ4_deleteEntry_5 zic_1 ?_
  refine z_iadd ok dJ4_deleteEntry_6 ?_
  refine p_J4_13 ok (h.at 0 rfl) dJ4_deleteEntry_7 (fun H1 w1 => ?_)
  replace h : TZ E H H1 [(t, tM (.ref a1) s (m + 1)), (a0, tN (.ref k0) (.ref v0) .null .null (.ref a1) 0), (a1, tN (.ref k1) (.ref v1) (.ref a0) (.ref a2) .null 1), (a2, tN (.ref k2) (.ref v2) .null .null (.ref a1) 0)] := h.wr 0 rfl w1
  refine z_aload_n ok dJ4_deleteEntry_10 rfl ?_
  refine z_dup ok dJ4_deleteEntry_11 ?_
  refine g_J4_7 ok (h.ob 0 rfl) dJ4_deleteEntry_12 ?_
  refine z_iconst ok dJ4_deleteEntry_15 zic_1 ?_
  refine z_isub ok dJ4_deleteEntry_16 ?_
  refine p_J4_7 ok (h.at 0 rfl) dJ4_deleteEntry_17 (fun H2 w2 => ?_)
  replace h : TZ E H H2 [(t, tM (.ref a1) (s - 1) (m + 1)), (a0, tN (.ref k0) (.ref v0) .null .null (.ref a1) 0), (a1, tN (.ref k1) (.ref v1) (.ref a0) (.ref a2) .null 1), (a2, tN (.ref k2) (.ref v2) .null .null (.ref a1) 0)] := h.wr 0 rfl w2
  refine z_aload_n ok dJ4_deleteEntry_20 rfl ?_
  refine g_J4_111 ok (h.ob 3 rfl) dJ4_deleteEntry_21 ?_
  refine z_ifnullN (tgt := 57) ok dJ4_deleteEntry_24 (by decide) ?_
  refine z_aload_n ok dJ4_deleteEntry_57 rfl ?_
  refine g_J4_111 ok (h.ob 3 rfl) dJ4_deleteEntry_58 ?_
  refine z_ifnullN (tgt := 71) ok dJ4_deleteEntry_61 (by decide) ?_
  refine z_aload_n ok dJ4_deleteEntry_71 rfl ?_
  refine g_J4_114 ok (h.ob 3 rfl) dJ4_deleteEntry_72 ?_
  refine z_astore_2 ok dJ4_deleteEntry_75 ?_
  refine z_aload_n ok dJ4_deleteEntry_76 rfl ?_
  refine z_ifnullN (tgt := 164) ok dJ4_deleteEntry_77 (by decide) ?_
  refine z_aload_n ok dJ4_deleteEntry_164 rfl ?_
  refine g_J4_124 ok (h.ob 3 rfl) dJ4_deleteEntry_165 ?_
  refine z_ifnonnullR (tgt := 179) ok dJ4_deleteEntry_168 (by decide) ?_
  refine z_aload_n ok dJ4_deleteEntry_179 rfl ?_
  refine g_J4_290 ok (h.ob 3 rfl) dJ4_deleteEntry_180 ?_
  refine z_iconst ok dJ4_deleteEntry_183 zic_1 ?_
  refine z_icmpne (tgt := 192) ok dJ4_deleteEntry_184 (by decide) (fun _ => ?_) (fun c => absurd c (by decide))
  refine z_aload_n ok dJ4_deleteEntry_192 rfl ?_
  refine g_J4_124 ok (h.ob 3 rfl) dJ4_deleteEntry_193 ?_
  refine z_ifnullR ok dJ4_deleteEntry_196 ?_
  refine z_aload_n ok dJ4_deleteEntry_199 rfl ?_
  refine z_aload_n ok dJ4_deleteEntry_200 rfl ?_
  refine g_J4_124 ok (h.ob 3 rfl) dJ4_deleteEntry_201 ?_
  refine g_J4_111 ok (h.ob 2 rfl) dJ4_deleteEntry_204 ?_
  refine z_acmpne (rx := some a2) (ry := some a0) (tgt := 221) ok dJ4_deleteEntry_207 (by decide) (fun _ => ?_) (fun c => absurd c (h.ne 3 1 rfl rfl (by decide)))
  refine z_aload_n ok dJ4_deleteEntry_221 rfl ?_
  refine z_aload_n ok dJ4_deleteEntry_222 rfl ?_
  refine g_J4_124 ok (h.ob 3 rfl) dJ4_deleteEntry_223 ?_
  refine g_J4_114 ok (h.ob 2 rfl) dJ4_deleteEntry_226 ?_
  refine z_acmpne (rx := some a2) (ry := some a2) (tgt := 240) ok dJ4_deleteEntry_229 (by decide) (fun c => absurd rfl c) (fun _ => ?_)
  refine z_aload_n ok dJ4_deleteEntry_232 rfl ?_
  refine g_J4_124 ok (h.ob 3 rfl) dJ4_deleteEntry_233 ?_
  refine z_null ok dJ4_deleteEntry_236 ?_
  refine p_J4_114 ok (h.at 2 rfl) dJ4_deleteEntry_237 (fun H3 w3 => ?_)
  replace h : TZ E H H3 [(t, tM (.ref a1) (s - 1) (m + 1)), (a0, tN (.ref k0) (.ref v0) .null .null (.ref a1) 0), (a1, tN (.ref k1) (.ref v1) (.ref a0) .null .null 1), (a2, tN (.ref k2) (.ref v2) .null .null (.ref a1) 0)] := h.wr 2 rfl w3
  refine z_aload_n ok dJ4_deleteEntry_240 rfl ?_
  refine z_null ok dJ4_deleteEntry_241 ?_
  refine p_J4_124 ok (h.at 3 rfl) dJ4_deleteEntry_242 (fun H4 w4 => ?_)
  replace h : TZ E H H4 [(t, tM (.ref a1) (s - 1) (m + 1)), (a0, tN (.ref k0) (.ref v0) .null .null (.ref a1) 0), (a1, tN (.ref k1) (.ref v1) (.ref a0) .null .null 1), (a2, tN (.ref k2) (.ref v2) .null .null .null 0)] := h.wr 3 rfl w4
  exact z_vret ok dJ4_deleteEntry_245 ⟨rfl, h⟩
set_option maxHeartbeats 4000000 in
set_option maxRecDepth 100000 in
theorem t_remove_16 {E : zE} {H : Heap} {t a0 a1 a2 k0 v0 k1 v1 k2 v2 kx x e0 e1 : Nat} {s m : Int32} (h : TZ E H H [(t, tM (.ref a1) s m), (a0, tN (.ref k0) (.ref v0) .null .null (.ref a1) 0), (a1, tN (.ref k1) (.ref v1) (.ref a0) (.ref a2) .null 1), (a2, tN (.ref k2) (.ref v2) .null .null (.ref a1) 0)]) (hx : zOb E H kx 14 [.int (nI x)]) (hk0 : zOb E H k0 14 [.int (nI e0)]) (hk1 : zOb E H k1 14 [.int (nI e1)]) (hk2 : zOb E H k2 14 [.int (nI x)]) (hlt : e0 < e1 ∧ e1 < x ∧ x < 4) : zM E 8 yJ4_remove (ws_ yJ4_remove cJ4_remove 4 (some (.object "java/lang/Object"))) 0 0 H [.ref t, .ref kx] (zRw (.ref v2) (fun H1 => TZ E H H1 [(t, tM (.ref a1) (s - 1) (m + 1)), (a0, tN (.ref k0) (.ref v0) .null .null (.ref a1) 0), (a1, tN (.ref k1) (.ref v1) (.ref a0) .null .null 1), (a2, tN (.ref k2) (.ref v2) .null .null .null 0)])) zNX := by
  refine z_of [some (.ref t), some (.ref kx), none, none] pn_J4 (Nat.le_of_ble_eq_true rfl) rfl (fun κ ok ho => ?_)
  refine z_aload_n ok dJ4_remove_0 rfl ?_
  refine z_aload_n ok dJ4_remove_1 rfl ?_
  refine v_J4_50 ok (t_getEntry_16 h.self hx hk0 hk1 hk2 hlt) (h.is 0 rfl) dJ4_remove_2 zk_nx (zk_R ?_)
  refine z_astore_2 ok dJ4_remove_5 ?_
  refine z_aload_n ok dJ4_remove_6 rfl ?_
  refine z_ifnonnullR (tgt := 12) ok dJ4_remove_7 (by decide) ?_
  refine z_aload_n ok dJ4_remove_12 rfl ?_
  refine g_J4_58 ok (h.ob 3 rfl) dJ4_remove_13 ?_
  refine z_astore_3 ok dJ4_remove_16 ?_
  refine z_aload_n ok dJ4_remove_17 rfl ?_
  refine z_aload_n ok dJ4_remove_18 rfl ?_
  refine v_J4_174 ok (t_deleteEntry_7 h.self) (h.is 0 rfl) dJ4_remove_19 zk_nx (zk_Rv (fun H2 g2 _ => ?_))
  replace h : TZ E H H2 [(t, tM (.ref a1) (s - 1) (m + 1)), (a0, tN (.ref k0) (.ref v0) .null .null (.ref a1) 0), (a1, tN (.ref k1) (.ref v1) (.ref a0) .null .null 1), (a2, tN (.ref k2) (.ref v2) .null .null .null 0)] := h.tr g2 rfl
  refine z_aload_n ok dJ4_remove_22 rfl ?_
  exact z_aret ok dJ4_remove_23 ⟨rfl, h⟩
set_option maxHeartbeats 4000000 in
set_option maxRecDepth 100000 in
theorem t_put_2_16 {E : zE} {H : Heap} {t a0 a1 a2 k0 v0 k1 v1 k2 v2 vx kx x e0 e1 : Nat} {s m : Int32} (h : TZ E H H [(t, tM (.ref a1) s m), (a0, tN (.ref k0) (.ref v0) .null .null (.ref a1) 0), (a1, tN (.ref k1) (.ref v1) (.ref a0) (.ref a2) .null 1), (a2, tN (.ref k2) (.ref v2) .null .null (.ref a1) 0)]) (hx : zOb E H kx 14 [.int (nI x)]) (hk0 : zOb E H k0 14 [.int (nI e0)]) (hk1 : zOb E H k1 14 [.int (nI e1)]) (hk2 : zOb E H k2 14 [.int (nI x)]) (hlt : e0 < e1 ∧ e1 < x ∧ x < 4) : zM E 8 yJ4_put_2 (ws_ yJ4_put_2 cJ4_put_2 10 (some (.object "java/lang/Object"))) 1 6 H [.ref t, .ref kx, .ref vx, .int 1] (zRw (.ref v2) (fun H1 => TZ E H H1 [(t, tM (.ref a1) s m), (a0, tN (.ref k0) (.ref v0) .null .null (.ref a1) 0), (a1, tN (.ref k1) (.ref v1) (.ref a0) (.ref a2) .null 1), (a2, tN (.ref k2) (.ref vx) .null .null (.ref a1) 0)])) zNX := by
  refine z_of [some (.ref t), some (.ref kx), some (.ref vx), some (.int 1), none, none, none, none, none, none] pn_J4 (Nat.le_of_ble_eq_true rfl) rfl (fun κ ok ho => ?_)
  refine z_aload_n ok dJ4_put_2_0 rfl ?_
  refine g_J4_101 ok (h.ob 0 rfl) dJ4_put_2_1 ?_
  refine z_astore_4 ok dJ4_put_2_4 ?_
  refine z_aload ok dJ4_put_2_6 rfl ?_
  refine z_ifnonnullR (tgt := 19) ok dJ4_put_2_8 (by decide) ?_
  refine z_aload_n ok dJ4_put_2_19 rfl ?_
  refine g_J4_16 ok (h.ob 0 rfl) dJ4_put_2_20 ?_
  refine z_astore_7 ok dJ4_put_2_23 ?_
  refine z_aload ok dJ4_put_2_25 rfl ?_
  refine z_ifnullN (tgt := 112) ok dJ4_put_2_27 (by decide) ?_
  refine z_aload_n ok dJ4_put_2_112 rfl ?_
  refine v_J4_95 ok (m_J17_requireNonNull _) dJ4_put_2_113 zk_nx (zk_R ?_)
  refine z_pop ok dJ4_put_2_116 ?_
  refine z_aload_n ok dJ4_put_2_117 rfl ?_
  refine z_cast ok q678 hx.is (ci := 14) rfl (Or.inr q683) dJ4_put_2_118 ?_
  refine z_astore_8 ok dJ4_put_2_121 ?_
  refine z_aload ok dJ4_put_2_123 rfl ?_
  refine z_astore_6 ok dJ4_put_2_125 ?_
  refine z_aload ok dJ4_put_2_127 rfl ?_
  refine z_aload ok dJ4_put_2_129 rfl ?_
  refine g_J4_105 ok (h.ob 2 rfl) dJ4_put_2_131 ?_
  refine v_J4_107_j22 ok (m_J22_cmpG hx hk1 (by omega)) hx.is dJ4_put_2_134 zk_nx (zk_R ?_)
  refine z_istore_5 ok dJ4_put_2_139 ?_
  refine z_iload ok dJ4_put_2_141 rfl ?_
  refine z_ifge (tgt := 156) ok dJ4_put_2_143 (by decide) (fun _ => ?_) (fun c => absurd c (by decide))
  refine z_iload ok dJ4_put_2_156 rfl ?_
  refine z_ifle (tgt := 171) ok dJ4_put_2_158 (by decide) (fun c => absurd c (by decide)) (fun _ => ?_)
  refine z_aload ok dJ4_put_2_161 rfl ?_
  refine g_J4_114 ok (h.ob 2 rfl) dJ4_put_2_163 ?_
  refine z_astore_4 ok dJ4_put_2_166 ?_
  refine z_goto (tgt := 196) ok dJ4_put_2_168 (by decide) ?_
  refine z_aload ok dJ4_put_2_196 rfl ?_
  refine z_ifnonnullR (tgt := 123) ok dJ4_put_2_198 (by decide) ?_
  refine z_aload ok dJ4_put_2_123 rfl ?_
  refine z_astore_6 ok dJ4_put_2_125 ?_
  refine z_aload ok dJ4_put_2_127 rfl ?_
  refine z_aload ok dJ4_put_2_129 rfl ?_
  refine g_J4_105 ok (h.ob 3 rfl) dJ4_put_2_131 ?_
  refine v_J4_107_j22 ok (m_J22_cmpE hx hk2) hx.is dJ4_put_2_134 zk_nx (zk_R ?_)
  refine z_istore_5 ok dJ4_put_2_139 ?_
  refine z_iload ok dJ4_put_2_141 rfl ?_
  refine z_ifge (tgt := 156) ok dJ4_put_2_143 (by decide) (fun _ => ?_) (fun c => absurd c (by decide))
  refine z_iload ok dJ4_put_2_156 rfl ?_
  refine z_ifle (tgt := 171) ok dJ4_put_2_158 (by decide) (fun _ => ?_) (fun c => absurd c (by decide))
  refine z_aload ok dJ4_put_2_171 rfl ?_
  refine g_J4_58 ok (h.ob 3 rfl) dJ4_put_2_173 ?_
  refine z_astore_9 ok dJ4_put_2_176 ?_
  refine z_iload_n ok dJ4_put_2_178 rfl ?_
  refine z_ifne (tgt := 187) ok dJ4_put_2_179 (by decide) (fun _ => ?_) (fun c => absurd c (by decide))
  refine z_aload ok dJ4_put_2_187 rfl ?_
  refine z_aload_n ok dJ4_put_2_189 rfl ?_
  refine p_J4_58 ok (h.at 3 rfl) dJ4_put_2_190 (fun H1 w1 => ?_)
  replace h : TZ E H H1 [(t, tM (.ref a1) s m), (a0, tN (.ref k0) (.ref v0) .null .null (.ref a1) 0), (a1, tN (.ref k1) (.ref v1) (.ref a0) (.ref a2) .null 1), (a2, tN (.ref k2) (.ref vx) .null .null (.ref a1) 0)] := h.wr 3 rfl w1
  refine z_aload ok dJ4_put_2_193 rfl ?_
  exact z_aret ok dJ4_put_2_195 ⟨rfl, h⟩
set_option maxHeartbeats 4000000 in
set_option maxRecDepth 100000 in
theorem t_put_16 {E : zE} {H : Heap} {t a0 a1 a2 k0 v0 k1 v1 k2 v2 vx kx x e0 e1 : Nat} {s m : Int32} (h : TZ E H H [(t, tM (.ref a1) s m), (a0, tN (.ref k0) (.ref v0) .null .null (.ref a1) 0), (a1, tN (.ref k1) (.ref v1) (.ref a0) (.ref a2) .null 1), (a2, tN (.ref k2) (.ref v2) .null .null (.ref a1) 0)]) (hx : zOb E H kx 14 [.int (nI x)]) (hk0 : zOb E H k0 14 [.int (nI e0)]) (hk1 : zOb E H k1 14 [.int (nI e1)]) (hk2 : zOb E H k2 14 [.int (nI x)]) (hlt : e0 < e1 ∧ e1 < x ∧ x < 4) : zM E 9 yJ4_put (ws_ yJ4_put cJ4_put 3 (some (.object "java/lang/Object"))) 1 6 H [.ref t, .ref kx, .ref vx] (zRw (.ref v2) (fun H1 => TZ E H H1 [(t, tM (.ref a1) s m), (a0, tN (.ref k0) (.ref v0) .null .null (.ref a1) 0), (a1, tN (.ref k1) (.ref v1) (.ref a0) (.ref a2) .null 1), (a2, tN (.ref k2) (.ref vx) .null .null (.ref a1) 0)])) zNX := by
  refine z_of [some (.ref t), some (.ref kx), some (.ref vx)] pn_J4 (Nat.le_of_ble_eq_true rfl) rfl (fun κ ok ho => ?_)
  refine z_aload_n ok dJ4_put_0 rfl ?_
  refine z_aload_n ok dJ4_put_1 rfl ?_
  refine z_aload_n ok dJ4_put_2 rfl ?_
  refine z_iconst ok dJ4_put_3 zic_1 ?_
  refine v_J4_127 ok (t_put_2_16 h.self hx hk0 hk1 hk2 hlt) (h.is 0 rfl) dJ4_put_4 zk_nx (zk_Rw (fun H1 g1 _ => ?_))
  replace h : TZ E H H1 [(t, tM (.ref a1) s m), (a0, tN (.ref k0) (.ref v0) .null .null (.ref a1) 0), (a1, tN (.ref k1) (.ref v1) (.ref a0) (.ref a2) .null 1), (a2, tN (.ref k2) (.ref vx) .null .null (.ref a1) 0)] := h.tr g1 rfl
  exact z_aret ok dJ4_put_7 ⟨rfl, h⟩
set_option maxHeartbeats 4000000 in
set_option maxRecDepth 100000 in
theorem t_getEntry_17 {E : zE} {H : Heap} {t a0 a1 a2 k0 v0 k1 v1 k2 v2 kx x e0 e1 e2 : Nat} {s m : Int32} (h : TZ E H H [(t, tM (.ref a1) s m), (a0, tN (.ref k0) (.ref v0) .null .null (.ref a1) 0), (a1, tN (.ref k1) (.ref v1) (.ref a0) (.ref a2) .null 1), (a2, tN (.ref k2) (.ref v2) .null .null (.ref a1) 0)]) (hx : zOb E H kx 14 [.int (nI x)]) (hk0 : zOb E H k0 14 [.int (nI e0)]) (hk1 : zOb E H k1 14 [.int (nI e1)]) (hk2 : zOb E H k2 14 [.int (nI e2)]) (hlt : x < e0 ∧ e0 < e1 ∧ e1 < e2 ∧ e2 < 4) : zM E 6 yJ4_getEntry (ws_ yJ4_getEntry cJ4_getEntry 5 (some (.object "java/util/TreeMap$Entry"))) 0 0 H [.ref t, .ref kx] (zR H (.null)) zNX := by
  refine z_of [some (.ref t), some (.ref kx), none, none, none] pn_J4 (Nat.le_of_ble_eq_true rfl) rfl (fun κ ok ho => ?_)
  refine z_aload_n ok dJ4_getEntry_0 rfl ?_
  refine g_J4_16 ok (h.ob 0 rfl) dJ4_getEntry_1 ?_
  refine z_ifnullN (tgt := 13) ok dJ4_getEntry_4 (by decide) ?_
  refine z_aload_n ok dJ4_getEntry_13 rfl ?_
  refine v_J4_95 ok (m_J17_requireNonNull _) dJ4_getEntry_14 zk_nx (zk_R ?_)
  refine z_pop ok dJ4_getEntry_17 ?_
  refine z_aload_n ok dJ4_getEntry_18 rfl ?_
  refine z_cast ok q678 hx.is (ci := 14) rfl (Or.inr q683) dJ4_getEntry_19 ?_
  refine z_astore_2 ok dJ4_getEntry_22 ?_
  refine z_aload_n ok dJ4_getEntry_23 rfl ?_
  refine g_J4_101 ok (h.ob 0 rfl) dJ4_getEntry_24 ?_
  refine z_astore_3 ok dJ4_getEntry_27 ?_
  refine z_aload_n ok dJ4_getEntry_28 rfl ?_
  refine z_ifnullR ok dJ4_getEntry_29 ?_
  refine z_aload_n ok dJ4_getEntry_32 rfl ?_
  refine z_aload_n ok dJ4_getEntry_33 rfl ?_
  refine g_J4_105 ok (h.ob 2 rfl) dJ4_getEntry_34 ?_
  refine v_J4_107_j22 ok (m_J22_cmpL hx hk1 (by omega)) hx.is dJ4_getEntry_37 zk_nx (zk_R ?_)
  refine z_istore_4 ok dJ4_getEntry_42 ?_
  refine z_iload ok dJ4_getEntry_44 rfl ?_
  refine z_ifge (tgt := 57) ok dJ4_getEntry_46 (by decide) (fun c => absurd c (by decide)) (fun _ => ?_)
  refine z_aload_n ok dJ4_getEntry_49 rfl ?_
  refine g_J4_111 ok (h.ob 2 rfl) dJ4_getEntry_50 ?_
  refine z_astore_3 ok dJ4_getEntry_53 ?_
  refine z_goto (tgt := 72) ok dJ4_getEntry_54 (by decide) ?_
  refine z_goto (tgt := 28) ok dJ4_getEntry_72 (by decide) ?_
  refine z_aload_n ok dJ4_getEntry_28 rfl ?_
  refine z_ifnullR ok dJ4_getEntry_29 ?_
  refine z_aload_n ok dJ4_getEntry_32 rfl ?_
  refine z_aload_n ok dJ4_getEntry_33 rfl ?_
  refine g_J4_105 ok (h.ob 1 rfl) dJ4_getEntry_34 ?_
  refine v_J4_107_j22 ok (m_J22_cmpL hx hk0 (by omega)) hx.is dJ4_getEntry_37 zk_nx (zk_R ?_)
  refine z_istore_4 ok dJ4_getEntry_42 ?_
  refine z_iload ok dJ4_getEntry_44 rfl ?_
  refine z_ifge (tgt := 57) ok dJ4_getEntry_46 (by decide) (fun c => absurd c (by decide)) (fun _ => ?_)
  refine z_aload_n ok dJ4_getEntry_49 rfl ?_
  refine g_J4_111 ok (h.ob 1 rfl) dJ4_getEntry_50 ?_
  refine z_astore_3 ok dJ4_getEntry_53 ?_
  refine z_goto (tgt := 72) ok dJ4_getEntry_54 (by decide) ?_
  refine z_goto (tgt := 28) ok dJ4_getEntry_72 (by decide) ?_
  refine z_aload_n ok dJ4_getEntry_28 rfl ?_
  refine z_ifnullN (tgt := 75) ok dJ4_getEntry_29 (by decide) ?_
  refine z_null ok dJ4_getEntry_75 ?_
  exact z_aret ok dJ4_getEntry_76 ⟨rfl, rfl⟩
set_option maxHeartbeats 4000000 in
set_option maxRecDepth 100000 in
theorem t_get_17 {E : zE} {H : Heap} {t a0 a1 a2 k0 v0 k1 v1 k2 v2 kx x e0 e1 e2 : Nat} {s m : Int32} (h : TZ E H H [(t, tM (.ref a1) s m), (a0, tN (.ref k0) (.ref v0) .null .null (.ref a1) 0), (a1, tN (.ref k1) (.ref v1) (.ref a0) (.ref a2) .null 1), (a2, tN (.ref k2) (.ref v2) .null .null (.ref a1) 0)]) (hx : zOb E H kx 14 [.int (nI x)]) (hk0 : zOb E H k0 14 [.int (nI e0)]) (hk1 : zOb E H k1 14 [.int (nI e1)]) (hk2 : zOb E H k2 14 [.int (nI e2)]) (hlt : x < e0 ∧ e0 < e1 ∧ e1 < e2 ∧ e2 < 4) : zM E 7 yJ4_get (ws_ yJ4_get cJ4_get 3 (some (.object "java/lang/Object"))) 0 0 H [.ref t, .ref kx] (zR H (.null)) zNX := by
  refine z_of [some (.ref t), some (.ref kx), none] pn_J4 (Nat.le_of_ble_eq_true rfl) rfl (fun κ ok ho => ?_)
  refine z_aload_n ok dJ4_get_0 rfl ?_
  refine z_aload_n ok dJ4_get_1 rfl ?_
  refine v_J4_50 ok (t_getEntry_17 h.self hx hk0 hk1 hk2 hlt) (h.is 0 rfl) dJ4_get_2 zk_nx (zk_R ?_)
  refine z_astore_2 ok dJ4_get_5 ?_
  refine z_aload_n ok dJ4_get_6 rfl ?_
  refine z_ifnonnullN ok dJ4_get_7 ?_
  refine z_null ok dJ4_get_10 ?_
  refine z_goto (tgt := 18) ok dJ4_get_11 (by decide) ?_
  exact z_aret ok dJ4_get_18 ⟨rfl, rfl⟩
set_option maxHeartbeats 4000000 in
set_option maxRecDepth 100000 in
theorem t_remove_17 {E : zE} {H : Heap} {t a0 a1 a2 k0 v0 k1 v1 k2 v2 kx x e0 e1 e2 : Nat} {s m : Int32} (h : TZ E H H [(t, tM (.ref a1) s m), (a0, tN (.ref k0) (.ref v0) .null .null (.ref a1) 0), (a1, tN (.ref k1) (.ref v1) (.ref a0) (.ref a2) .null 1), (a2, tN (.ref k2) (.ref v2) .null .null (.ref a1) 0)]) (hx : zOb E H kx 14 [.int (nI x)]) (hk0 : zOb E H k0 14 [.int (nI e0)]) (hk1 : zOb E H k1 14 [.int (nI e1)]) (hk2 : zOb E H k2 14 [.int (nI e2)]) (hlt : x < e0 ∧ e0 < e1 ∧ e1 < e2 ∧ e2 < 4) : zM E 8 yJ4_remove (ws_ yJ4_remove cJ4_remove 4 (some (.object "java/lang/Object"))) 0 0 H [.ref t, .ref kx] (zR H (.null)) zNX := by
  refine z_of [some (.ref t), some (.ref kx), none, none] pn_J4 (Nat.le_of_ble_eq_true rfl) rfl (fun κ ok ho => ?_)
  refine z_aload_n ok dJ4_remove_0 rfl ?_
  refine z_aload_n ok dJ4_remove_1 rfl ?_
  refine v_J4_50 ok (t_getEntry_17 h.self hx hk0 hk1 hk2 hlt) (h.is 0 rfl) dJ4_remove_2 zk_nx (zk_R ?_)
  refine z_astore_2 ok dJ4_remove_5 ?_
  refine z_aload_n ok dJ4_remove_6 rfl ?_
  refine z_ifnonnullN ok dJ4_remove_7 ?_
  refine z_null ok dJ4_remove_10 ?_
  exact z_aret ok dJ4_remove_11 ⟨rfl, rfl⟩
set_option maxHeartbeats 4000000 in
set_option maxRecDepth 100000 in
theorem t_fixAfterInsertion_8 {E : zE} {H : Heap} {t a0 a1 a2 b k0 v0 k1 v1 k2 v2 kx vx : Nat} {s m : Int32} (h : TZ E H H [(t, tM (.ref a1) s m), (a0, tN (.ref k0) (.ref v0) (.ref b) .null (.ref a1) 0), (a1, tN (.ref k1) (.ref v1) (.ref a0) (.ref a2) .null 1), (a2, tN (.ref k2) (.ref v2) .null .null (.ref a1) 0), (b, tN (.ref kx) (.ref vx) .null .null (.ref a0) 1)]) : zM E 4 yJ4_fixAfterInsertion (ws_ yJ4_fixAfterInsertion cJ4_fixAfterInsertion 3 none) 0 0 H [.ref t, .ref b] (zRv (fun H1 => TZ E H H1 [(t, tM (.ref a1) s m), (a0, tN (.ref k0) (.ref v0) (.ref b) .null (.ref a1) 1), (a1, tN (.ref k1) (.ref v1) (.ref a0) (.ref a2) .null 1), (a2, tN (.ref k2) (.ref v2) .null .null (.ref a1) 1), (b, tN (.ref kx) (.ref vx) .null .null (.ref a0) 0)])) zNX := by
  refine z_of [some (.ref t), some (.ref b), none] pn_J4 (Nat.le_of_ble_eq_true rfl) rfl (fun κ ok ho => ?_)
  refine z_aload_n ok dJ4_fixAfterInsertion_0 rfl ?_
  refine z_iconst ok dJ4_fixAfterInsertion_1 zic_0 ?_
  refine p_J4_290 ok (h.at 4 rfl) dJ4_fixAfterInsertion_2 (fun H1 w1 => ?_)
  replace h : TZ E H H1 [(t, tM (.ref a1) s m), (a0, tN (.ref k0) (.ref v0) (.ref b) .null (.ref a1) 0), (a1, tN (.ref k1) (.ref v1) (.ref a0) (.ref a2) .null 1), (a2, tN (.ref k2) (.ref v2) .null .null (.ref a1) 0), (b, tN (.ref kx) (.ref vx) .null .null (.ref a0) 0)] := h.wr 4 rfl w1
  refine z_aload_n ok dJ4_fixAfterInsertion_5 rfl ?_
  refine z_ifnullR ok dJ4_fixAfterInsertion_6 ?_
  refine z_aload_n ok dJ4_fixAfterInsertion_9 rfl ?_
  refine z_aload_n ok dJ4_fixAfterInsertion_10 rfl ?_
  refine g_J4_101 ok (h.ob 0 rfl) dJ4_fixAfterInsertion_11 ?_
  refine z_acmpeq (rx := some b) (ry := some a1) (tgt := 258) ok dJ4_fixAfterInsertion_14 (by decide) (fun c => absurd c (h.ne 4 2 rfl rfl (by decide))) (fun _ => ?_)
  refine z_aload_n ok dJ4_fixAfterInsertion_17 rfl ?_
  refine g_J4_124 ok (h.ob 4 rfl) dJ4_fixAfterInsertion_18 ?_
  refine g_J4_290 ok (h.ob 1 rfl) dJ4_fixAfterInsertion_21 ?_
  refine z_ifne (tgt := 258) ok dJ4_fixAfterInsertion_24 (by decide) (fun c => absurd c (by decide)) (fun _ => ?_)
  refine z_aload_n ok dJ4_fixAfterInsertion_27 rfl ?_
  refine v_J4_294 ok (m_J4_parentOf (r := some a0) (h.ob 4 rfl)) dJ4_fixAfterInsertion_28 zk_nx (zk_R ?_)
  refine z_aload_n ok dJ4_fixAfterInsertion_31 rfl ?_
  refine v_J4_294 ok (m_J4_parentOf (r := some a0) (h.ob 4 rfl)) dJ4_fixAfterInsertion_32 zk_nx (zk_R ?_)
  refine v_J4_294 ok (m_J4_parentOf (r := some a1) (h.ob 1 rfl)) dJ4_fixAfterInsertion_35 zk_nx (zk_R ?_)
  refine v_J4_297 ok (m_J4_leftOf (r := some a0) (h.ob 2 rfl)) dJ4_fixAfterInsertion_38 zk_nx (zk_R ?_)
  refine z_acmpne (rx := some a0) (ry := some a0) (tgt := 151) ok dJ4_fixAfterInsertion_41 (by decide) (fun c => absurd rfl c) (fun _ => ?_)
  refine z_aload_n ok dJ4_fixAfterInsertion_44 rfl ?_
  refine v_J4_294 ok (m_J4_parentOf (r := some a0) (h.ob 4 rfl)) dJ4_fixAfterInsertion_45 zk_nx (zk_R ?_)
  refine v_J4_294 ok (m_J4_parentOf (r := some a1) (h.ob 1 rfl)) dJ4_fixAfterInsertion_48 zk_nx (zk_R ?_)
  refine v_J4_300 ok (m_J4_rightOf (r := some a2) (h.ob 2 rfl)) dJ4_fixAfterInsertion_51 zk_nx (zk_R ?_)
  refine z_astore_2 ok dJ4_fixAfterInsertion_54 ?_
  refine z_aload_n ok dJ4_fixAfterInsertion_55 rfl ?_
  refine v_J4_303 ok (m_J4_colorOf (h.ob 3 rfl)) dJ4_fixAfterInsertion_56 zk_nx (zk_R ?_)
  refine z_ifne (tgt := 97) ok dJ4_fixAfterInsertion_59 (by decide) (fun c => absurd c (by decide)) (fun _ => ?_)
  refine z_aload_n ok dJ4_fixAfterInsertion_62 rfl ?_
  refine v_J4_294 ok (m_J4_parentOf (r := some a0) (h.ob 4 rfl)) dJ4_fixAfterInsertion_63 zk_nx (zk_R ?_)
  refine z_iconst ok dJ4_fixAfterInsertion_66 zic_1 ?_
  refine v_J4_307 ok (m_J4_setColor1 (h.at 1 rfl)) dJ4_fixAfterInsertion_67 zk_nx (zk_Rv (fun H2 w2 _ => ?_))
  replace h : TZ E H H2 [(t, tM (.ref a1) s m), (a0, tN (.ref k0) (.ref v0) (.ref b) .null (.ref a1) 1), (a1, tN (.ref k1) (.ref v1) (.ref a0) (.ref a2) .null 1), (a2, tN (.ref k2) (.ref v2) .null .null (.ref a1) 0), (b, tN (.ref kx) (.ref vx) .null .null (.ref a0) 0)] := h.wr 1 rfl w2
  refine z_aload_n ok dJ4_fixAfterInsertion_70 rfl ?_
  refine z_iconst ok dJ4_fixAfterInsertion_71 zic_1 ?_
  refine v_J4_307 ok (m_J4_setColor1 (h.at 3 rfl)) dJ4_fixAfterInsertion_72 zk_nx (zk_Rv (fun H3 w3 _ => ?_))
  replace h : TZ E H H3 [(t, tM (.ref a1) s m), (a0, tN (.ref k0) (.ref v0) (.ref b) .null (.ref a1) 1), (a1, tN (.ref k1) (.ref v1) (.ref a0) (.ref a2) .null 1), (a2, tN (.ref k2) (.ref v2) .null .null (.ref a1) 1), (b, tN (.ref kx) (.ref vx) .null .null (.ref a0) 0)] := h.wr 3 rfl w3
  refine z_aload_n ok dJ4_fixAfterInsertion_75 rfl ?_
  refine v_J4_294 ok (m_J4_parentOf (r := some a0) (h.ob 4 rfl)) dJ4_fixAfterInsertion_76 zk_nx (zk_R ?_)
  refine v_J4_294 ok (m_J4_parentOf (r := some a1) (h.ob 1 rfl)) dJ4_fixAfterInsertion_79 zk_nx (zk_R ?_)
  refine z_iconst ok dJ4_fixAfterInsertion_82 zic_0 ?_
  refine v_J4_307 ok (m_J4_setColor0 (h.at 2 rfl)) dJ4_fixAfterInsertion_83 zk_nx (zk_Rv (fun H4 w4 _ => ?_))
  replace h : TZ E H H4 [(t, tM (.ref a1) s m), (a0, tN (.ref k0) (.ref v0) (.ref b) .null (.ref a1) 1), (a1, tN (.ref k1) (.ref v1) (.ref a0) (.ref a2) .null 0), (a2, tN (.ref k2) (.ref v2) .null .null (.ref a1) 1), (b, tN (.ref kx) (.ref vx) .null .null (.ref a0) 0)] := h.wr 2 rfl w4
  refine z_aload_n ok dJ4_fixAfterInsertion_86 rfl ?_
  refine v_J4_294 ok (m_J4_parentOf (r := some a0) (h.ob 4 rfl)) dJ4_fixAfterInsertion_87 zk_nx (zk_R ?_)
  refine v_J4_294 ok (m_J4_parentOf (r := some a1) (h.ob 1 rfl)) dJ4_fixAfterInsertion_90 zk_nx (zk_R ?_)
  refine z_astore_1 ok dJ4_fixAfterInsertion_93 ?_
  refine z_goto (tgt := 148) ok dJ4_fixAfterInsertion_94 (by decide) ?_
  refine z_goto (tgt := 5) ok dJ4_fixAfterInsertion_148 (by decide) ?_
  refine z_aload_n ok dJ4_fixAfterInsertion_5 rfl ?_
  refine z_ifnullR ok dJ4_fixAfterInsertion_6 ?_
  refine z_aload_n ok dJ4_fixAfterInsertion_9 rfl ?_
  refine z_aload_n ok dJ4_fixAfterInsertion_10 rfl ?_
  refine g_J4_101 ok (h.ob 0 rfl) dJ4_fixAfterInsertion_11 ?_
  refine z_acmpeq (rx := some a1) (ry := some a1) (tgt := 258) ok dJ4_fixAfterInsertion_14 (by decide) (fun _ => ?_) (fun c => absurd rfl c)
  refine z_aload_n ok dJ4_fixAfterInsertion_258 rfl ?_
  refine g_J4_101 ok (h.ob 0 rfl) dJ4_fixAfterInsertion_259 ?_
  refine z_iconst ok dJ4_fixAfterInsertion_262 zic_1 ?_
  refine p_J4_290 ok (h.at 2 rfl) dJ4_fixAfterInsertion_263 (fun H5 w5 => ?_)
  replace h : TZ E H H5 [(t, tM (.ref a1) s m), (a0, tN (.ref k0) (.ref v0) (.ref b) .null (.ref a1) 1), (a1, tN (.ref k1) (.ref v1) (.ref a0) (.ref a2) .null 1), (a2, tN (.ref k2) (.ref v2) .null .null (.ref a1) 1), (b, tN (.ref kx) (.ref vx) .null .null (.ref a0) 0)] := h.wr 2 rfl w5
  exact z_vret ok dJ4_fixAfterInsertion_266 ⟨rfl, h⟩
set_option maxHeartbeats 4000000 in
set_option maxRecDepth 100000 in
theorem t_addEntry_8 {E : zE} {H : Heap} {t a0 a1 a2 k0 v0 k1 v1 k2 v2 kx vx : Nat} {s m : Int32} (h : TZ E H H [(t, tM (.ref a1) s m), (a0, tN (.ref k0) (.ref v0) .null .null (.ref a1) 0), (a1, tN (.ref k1) (.ref v1) (.ref a0) (.ref a2) .null 1), (a2, tN (.ref k2) (.ref v2) .null .null (.ref a1) 0)]) : zM E 6 yJ4_addEntry (ws_ yJ4_addEntry cJ4_addEntry 6 none) 1 6 H [.ref t, .ref kx, .ref vx, .ref a0, .int 1] (zRv (fun H1 => ∃ b, H.size ≤ b ∧ TZ E H H1 [(t, tM (.ref a1) (s + 1) (m + 1)), (a0, tN (.ref k0) (.ref v0) (.ref b) .null (.ref a1) 1), (a1, tN (.ref k1) (.ref v1) (.ref a0) (.ref a2) .null 1), (a2, tN (.ref k2) (.ref v2) .null .null (.ref a1) 1), (b, tN (.ref kx) (.ref vx) .null .null (.ref a0) 0)])) zNX := by
  refine z_of [some (.ref t), some (.ref kx), some (.ref vx), some (.ref a0), some (.int 1), none] pn_J4 (Nat.le_of_ble_eq_true rfl) rfl (fun κ ok ho => ?_)
  refine n_J4_59 ok dJ4_addEntry_0 (fun b H1 w1 => ?_)
  have hb : H.size ≤ b := by have h8 := w1.1; have h9 := h.2.2.1; omega
  replace h : TZ E H H1 [(t, tM (.ref a1) s m), (a0, tN (.ref k0) (.ref v0) .null .null (.ref a1) 0), (a1, tN (.ref k1) (.ref v1) (.ref a0) (.ref a2) .null 1), (a2, tN (.ref k2) (.ref v2) .null .null (.ref a1) 0), (b, tN .null .null .null .null .null 0)] := h.mk w1
  refine z_dup ok dJ4_addEntry_3 ?_
  refine z_aload_n ok dJ4_addEntry_4 rfl ?_
  refine z_aload_n ok dJ4_addEntry_5 rfl ?_
  refine z_aload_n ok dJ4_addEntry_6 rfl ?_
  refine v_J4_167 ok (m_J26_init (pp := some a0) (h.at 4 rfl)) dJ4_addEntry_7 zk_nx (zk_Rv (fun H2 w2 _ => ?_))
  replace h : TZ E H H2 [(t, tM (.ref a1) s m), (a0, tN (.ref k0) (.ref v0) .null .null (.ref a1) 0), (a1, tN (.ref k1) (.ref v1) (.ref a0) (.ref a2) .null 1), (a2, tN (.ref k2) (.ref v2) .null .null (.ref a1) 0), (b, tN (.ref kx) (.ref vx) .null .null (.ref a0) 1)] := h.wr 4 rfl w2
  refine z_astore_5 ok dJ4_addEntry_10 ?_
  refine z_iload ok dJ4_addEntry_12 rfl ?_
  refine z_ifeq (tgt := 26) ok dJ4_addEntry_14 (by decide) (fun c => absurd c (by decide)) (fun _ => ?_)
  refine z_aload_n ok dJ4_addEntry_17 rfl ?_
  refine z_aload ok dJ4_addEntry_18 rfl ?_
  refine p_J4_111 ok (h.at 1 rfl) dJ4_addEntry_20 (fun H3 w3 => ?_)
  replace h : TZ E H H3 [(t, tM (.ref a1) s m), (a0, tN (.ref k0) (.ref v0) (.ref b) .null (.ref a1) 0), (a1, tN (.ref k1) (.ref v1) (.ref a0) (.ref a2) .null 1), (a2, tN (.ref k2) (.ref v2) .null .null (.ref a1) 0), (b, tN (.ref kx) (.ref vx) .null .null (.ref a0) 1)] := h.wr 1 rfl w3
  refine z_goto (tgt := 32) ok dJ4_addEntry_23 (by decide) ?_
  refine z_aload_n ok dJ4_addEntry_32 rfl ?_
  refine z_aload ok dJ4_addEntry_33 rfl ?_
  refine v_J4_170 ok (t_fixAfterInsertion_8 h.self) (h.is 0 rfl) dJ4_addEntry_35 zk_nx (zk_Rv (fun H4 g4 _ => ?_))
  replace h : TZ E H H4 [(t, tM (.ref a1) s m), (a0, tN (.ref k0) (.ref v0) (.ref b) .null (.ref a1) 1), (a1, tN (.ref k1) (.ref v1) (.ref a0) (.ref a2) .null 1), (a2, tN (.ref k2) (.ref v2) .null .null (.ref a1) 1), (b, tN (.ref kx) (.ref vx) .null .null (.ref a0) 0)] := h.tr g4 rfl
  refine z_aload_n ok dJ4_addEntry_38 rfl ?_
  refine z_dup ok dJ4_addEntry_39 ?_
  refine g_J4_7 ok (h.ob 0 rfl) dJ4_addEntry_40 ?_
  refine z_iconst ok dJ4_addEntry_43 zic_1 ?_
  refine z_iadd ok dJ4_addEntry_44 ?_
  refine p_J4_7 ok (h.at 0 rfl) dJ4_addEntry_45 (fun H5 w5 => ?_)
  replace h : TZ E H H5 [(t, tM (.ref a1) (s + 1) m), (a0, tN (.ref k0) (.ref v0) (.ref b) .null (.ref a1) 1), (a1, tN (.ref k1) (.ref v1) (.ref a0) (.ref a2) .null 1), (a2, tN (.ref k2) (.ref v2) .null .null (.ref a1) 1), (b, tN (.ref kx) (.ref vx) .null .null (.ref a0) 0)] := h.wr 0 rfl w5
  refine z_aload_n ok dJ4_addEntry_48 rfl ?_
  refine z_dup ok dJ4_addEntry_49 ?_
  refine g_J4_13 ok (h.ob 0 rfl) dJ4_addEntry_50 ?_
  refine z_iconst ok dJ4_addEntry_53 zic_1 ?_
  refine z_iadd ok dJ4_addEntry_54 ?_
  refine p_J4_13 ok (h.at 0 rfl) dJ4_addEntry_55 (fun H6 w6 => ?_)
  replace h : TZ E H H6 [(t, tM (.ref a1) (s + 1) (m + 1)), (a0, tN (.ref k0) (.ref v0) (.ref b) .null (.ref a1) 1), (a1, tN (.ref k1) (.ref v1) (.ref a0) (.ref a2) .null 1), (a2, tN (.ref k2) (.ref v2) .null .null (.ref a1) 1), (b, tN (.ref kx) (.ref vx) .null .null (.ref a0) 0)] := h.wr 0 rfl w6
  exact z_vret ok dJ4_addEntry_58 ⟨rfl, b, hb, h⟩
set_option maxHeartbeats 4000000 in
set_option maxRecDepth 100000 in
theorem t_put_2_17 {E : zE} {H : Heap} {t a0 a1 a2 k0 v0 k1 v1 k2 v2 vx kx x e0 e1 e2 : Nat} {s m : Int32} (h : TZ E H H [(t, tM (.ref a1) s m), (a0, tN (.ref k0) (.ref v0) .null .null (.ref a1) 0), (a1, tN (.ref k1) (.ref v1) (.ref a0) (.ref a2) .null 1), (a2, tN (.ref k2) (.ref v2) .null .null (.ref a1) 0)]) (hx : zOb E H kx 14 [.int (nI x)]) (hk0 : zOb E H k0 14 [.int (nI e0)]) (hk1 : zOb E H k1 14 [.int (nI e1)]) (hk2 : zOb E H k2 14 [.int (nI e2)]) (hlt : x < e0 ∧ e0 < e1 ∧ e1 < e2 ∧ e2 < 4) : zM E 8 yJ4_put_2 (ws_ yJ4_put_2 cJ4_put_2 10 (some (.object "java/lang/Object"))) 1 6 H [.ref t, .ref kx, .ref vx, .int 1] (zRw (.null) (fun H1 => ∃ b, H.size ≤ b ∧ TZ E H H1 [(t, tM (.ref a1) (s + 1) (m + 1)), (a0, tN (.ref k0) (.ref v0) (.ref b) .null (.ref a1) 1), (a1, tN (.ref k1) (.ref v1) (.ref a0) (.ref a2) .null 1), (a2, tN (.ref k2) (.ref v2) .null .null (.ref a1) 1), (b, tN (.ref kx) (.ref vx) .null .null (.ref a0) 0)])) zNX := by
  refine z_of [some (.ref t), some (.ref kx), some (.ref vx), some (.int 1), none, none, none, none, none, none] pn_J4 (Nat.le_of_ble_eq_true rfl) rfl (fun κ ok ho => ?_)
  refine z_aload_n ok dJ4_put_2_0 rfl ?_
  refine g_J4_101 ok (h.ob 0 rfl) dJ4_put_2_1 ?_
  refine z_astore_4 ok dJ4_put_2_4 ?_
  refine z_aload ok dJ4_put_2_6 rfl ?_
  refine z_ifnonnullR (tgt := 19) ok dJ4_put_2_8 (by decide) ?_
  refine z_aload_n ok dJ4_put_2_19 rfl ?_
  refine g_J4_16 ok (h.ob 0 rfl) dJ4_put_2_20 ?_
  refine z_astore_7 ok dJ4_put_2_23 ?_
  refine z_aload ok dJ4_put_2_25 rfl ?_
  refine z_ifnullN (tgt := 112) ok dJ4_put_2_27 (by decide) ?_
  refine z_aload_n ok dJ4_put_2_112 rfl ?_
  refine v_J4_95 ok (m_J17_requireNonNull _) dJ4_put_2_113 zk_nx (zk_R ?_)
  refine z_pop ok dJ4_put_2_116 ?_
  refine z_aload_n ok dJ4_put_2_117 rfl ?_
  refine z_cast ok q678 hx.is (ci := 14) rfl (Or.inr q683) dJ4_put_2_118 ?_
  refine z_astore_8 ok dJ4_put_2_121 ?_
  refine z_aload ok dJ4_put_2_123 rfl ?_
  refine z_astore_6 ok dJ4_put_2_125 ?_
  refine z_aload ok dJ4_put_2_127 rfl ?_
  refine z_aload ok dJ4_put_2_129 rfl ?_
  refine g_J4_105 ok (h.ob 2 rfl) dJ4_put_2_131 ?_
  refine v_J4_107_j22 ok (m_J22_cmpL hx hk1 (by omega)) hx.is dJ4_put_2_134 zk_nx (zk_R ?_)
  refine z_istore_5 ok dJ4_put_2_139 ?_
  refine z_iload ok dJ4_put_2_141 rfl ?_
  refine z_ifge (tgt := 156) ok dJ4_put_2_143 (by decide) (fun c => absurd c (by decide)) (fun _ => ?_)
  refine z_aload ok dJ4_put_2_146 rfl ?_
  refine g_J4_111 ok (h.ob 2 rfl) dJ4_put_2_148 ?_
  refine z_astore_4 ok dJ4_put_2_151 ?_
  refine z_goto (tgt := 196) ok dJ4_put_2_153 (by decide) ?_
  refine z_aload ok dJ4_put_2_196 rfl ?_
  refine z_ifnonnullR (tgt := 123) ok dJ4_put_2_198 (by decide) ?_
  refine z_aload ok dJ4_put_2_123 rfl ?_
  refine z_astore_6 ok dJ4_put_2_125 ?_
  refine z_aload ok dJ4_put_2_127 rfl ?_
  refine z_aload ok dJ4_put_2_129 rfl ?_
  refine g_J4_105 ok (h.ob 1 rfl) dJ4_put_2_131 ?_
  refine v_J4_107_j22 ok (m_J22_cmpL hx hk0 (by omega)) hx.is dJ4_put_2_134 zk_nx (zk_R ?_)
  refine z_istore_5 ok dJ4_put_2_139 ?_
  refine z_iload ok dJ4_put_2_141 rfl ?_
  refine z_ifge (tgt := 156) ok dJ4_put_2_143 (by decide) (fun c => absurd c (by decide)) (fun _ => ?_)
  refine z_aload ok dJ4_put_2_146 rfl ?_
  refine g_J4_111 ok (h.ob 1 rfl) dJ4_put_2_148 ?_
  refine z_astore_4 ok dJ4_put_2_151 ?_
  refine z_goto (tgt := 196) ok dJ4_put_2_153 (by decide) ?_
  refine z_aload ok dJ4_put_2_196 rfl ?_
  refine z_ifnonnullN ok dJ4_put_2_198 ?_
  refine z_aload_n ok dJ4_put_2_201 rfl ?_
  refine z_aload_n ok dJ4_put_2_202 rfl ?_
  refine z_aload_n ok dJ4_put_2_203 rfl ?_
  refine z_aload ok dJ4_put_2_204 rfl ?_
  refine z_iload ok dJ4_put_2_206 rfl ?_
  refine z_ifge (tgt := 215) ok dJ4_put_2_208 (by decide) (fun c => absurd c (by decide)) (fun _ => ?_)
  refine z_iconst ok dJ4_put_2_211 zic_1 ?_
  refine z_goto (tgt := 216) ok dJ4_put_2_212 (by decide) ?_
  refine v_J4_139 ok (t_addEntry_8 h.self) (h.is 0 rfl) dJ4_put_2_216 zk_nx (zk_Rv (fun H1 g1 _ => ?_))
  obtain ⟨b, hb, g1⟩ := g1
  replace hb := Nat.le_trans h.2.2.1 hb
  replace h : TZ E H H1 [(t, tM (.ref a1) (s + 1) (m + 1)), (a0, tN (.ref k0) (.ref v0) (.ref b) .null (.ref a1) 1), (a1, tN (.ref k1) (.ref v1) (.ref a0) (.ref a2) .null 1), (a2, tN (.ref k2) (.ref v2) .null .null (.ref a1) 1), (b, tN (.ref kx) (.ref vx) .null .null (.ref a0) 0)] := h.tr1 g1 rfl
  refine z_null ok dJ4_put_2_219 ?_
  exact z_aret ok dJ4_put_2_220 ⟨rfl, b, hb, h⟩
set_option maxHeartbeats 4000000 in
set_option maxRecDepth 100000 in
theorem t_put_17 {E : zE} {H : Heap} {t a0 a1 a2 k0 v0 k1 v1 k2 v2 vx kx x e0 e1 e2 : Nat} {s m : Int32} (h : TZ E H H [(t, tM (.ref a1) s m), (a0, tN (.ref k0) (.ref v0) .null .null (.ref a1) 0), (a1, tN (.ref k1) (.ref v1) (.ref a0) (.ref a2) .null 1), (a2, tN (.ref k2) (.ref v2) .null .null (.ref a1) 0)]) (hx : zOb E H kx 14 [.int (nI x)]) (hk0 : zOb E H k0 14 [.int (nI e0)]) (hk1 : zOb E H k1 14 [.int (nI e1)]) (hk2 : zOb E H k2 14 [.int (nI e2)]) (hlt : x < e0 ∧ e0 < e1 ∧ e1 < e2 ∧ e2 < 4) : zM E 9 yJ4_put (ws_ yJ4_put cJ4_put 3 (some (.object "java/lang/Object"))) 1 6 H [.ref t, .ref kx, .ref vx] (zRw (.null) (fun H1 => ∃ b, H.size ≤ b ∧ TZ E H H1 [(t, tM (.ref a1) (s + 1) (m + 1)), (a0, tN (.ref k0) (.ref v0) (.ref b) .null (.ref a1) 1), (a1, tN (.ref k1) (.ref v1) (.ref a0) (.ref a2) .null 1), (a2, tN (.ref k2) (.ref v2) .null .null (.ref a1) 1), (b, tN (.ref kx) (.ref vx) .null .null (.ref a0) 0)])) zNX := by
  refine z_of [some (.ref t), some (.ref kx), some (.ref vx)] pn_J4 (Nat.le_of_ble_eq_true rfl) rfl (fun κ ok ho => ?_)
  refine z_aload_n ok dJ4_put_0 rfl ?_
  refine z_aload_n ok dJ4_put_1 rfl ?_
  refine z_aload_n ok dJ4_put_2 rfl ?_
  refine z_iconst ok dJ4_put_3 zic_1 ?_
  refine v_J4_127 ok (t_put_2_17 h.self hx hk0 hk1 hk2 hlt) (h.is 0 rfl) dJ4_put_4 zk_nx (zk_Rw (fun H1 g1 _ => ?_))
  obtain ⟨b, hb, g1⟩ := g1
  replace hb := Nat.le_trans h.2.2.1 hb
  replace h : TZ E H H1 [(t, tM (.ref a1) (s + 1) (m + 1)), (a0, tN (.ref k0) (.ref v0) (.ref b) .null (.ref a1) 1), (a1, tN (.ref k1) (.ref v1) (.ref a0) (.ref a2) .null 1), (a2, tN (.ref k2) (.ref v2) .null .null (.ref a1) 1), (b, tN (.ref kx) (.ref vx) .null .null (.ref a0) 0)] := h.tr1 g1 rfl
  exact z_aret ok dJ4_put_7 ⟨rfl, b, hb, h⟩
set_option maxHeartbeats 4000000 in
set_option maxRecDepth 100000 in
theorem t_getEntry_18 {E : zE} {H : Heap} {t a0 a1 a2 k0 v0 k1 v1 k2 v2 kx x e0 e1 e2 : Nat} {s m : Int32} (h : TZ E H H [(t, tM (.ref a1) s m), (a0, tN (.ref k0) (.ref v0) .null .null (.ref a1) 0), (a1, tN (.ref k1) (.ref v1) (.ref a0) (.ref a2) .null 1), (a2, tN (.ref k2) (.ref v2) .null .null (.ref a1) 0)]) (hx : zOb E H kx 14 [.int (nI x)]) (hk0 : zOb E H k0 14 [.int (nI e0)]) (hk1 : zOb E H k1 14 [.int (nI e1)]) (hk2 : zOb E H k2 14 [.int (nI e2)]) (hlt : e0 < x ∧ x < e1 ∧ e1 < e2 ∧ e2 < 4) : zM E 6 yJ4_getEntry (ws_ yJ4_getEntry cJ4_getEntry 5 (some (.object "java/util/TreeMap$Entry"))) 0 0 H [.ref t, .ref kx] (zR H (.null)) zNX := by
  refine z_of [some (.ref t), some (.ref kx), none, none, none] pn_J4 (Nat.le_of_ble_eq_true rfl) rfl (fun κ ok ho => ?_)
  refine z_aload_n ok dJ4_getEntry_0 rfl ?_
  refine g_J4_16 ok (h.ob 0 rfl) dJ4_getEntry_1 ?_
  refine z_ifnullN (tgt := 13) ok dJ4_getEntry_4 (by decide) ?_
  refine z_aload_n ok dJ4_getEntry_13 rfl ?_
  refine v_J4_95 ok (m_J17_requireNonNull _) dJ4_getEntry_14 zk_nx (zk_R ?_)
  refine z_pop ok dJ4_getEntry_17 ?_
  refine z_aload_n ok dJ4_getEntry_18 rfl ?_
  refine z_cast ok q678 hx.is (ci := 14) rfl (Or.inr q683) dJ4_getEntry_19 ?_
  refine z_astore_2 ok dJ4_getEntry_22 ?_
  refine z_aload_n ok dJ4_getEntry_23 rfl ?_
  refine g_J4_101 ok (h.ob 0 rfl) dJ4_getEntry_24 ?_
  refine z_astore_3 ok dJ4_getEntry_27 ?_
  refine z_aload_n ok dJ4_getEntry_28 rfl ?_
  refine z_ifnullR ok dJ4_getEntry_29 ?_
  refine z_aload_n ok dJ4_getEntry_32 rfl ?_
  refine z_aload_n ok dJ4_getEntry_33 rfl ?_
  refine g_J4_105 ok (h.ob 2 rfl) dJ4_getEntry_34 ?_
  refine v_J4_107_j22 ok (m_J22_cmpL hx hk1 (by omega)) hx.is dJ4_getEntry_37 zk_nx (zk_R ?_)
  refine z_istore_4 ok dJ4_getEntry_42 ?_
  refine z_iload ok dJ4_getEntry_44 rfl ?_
  refine z_ifge (tgt := 57) ok dJ4_getEntry_46 (by decide) (fun c => absurd c (by decide)) (fun _ => ?_)
  refine z_aload_n ok dJ4_getEntry_49 rfl ?_
  refine g_J4_111 ok (h.ob 2 rfl) dJ4_getEntry_50 ?_
  refine z_astore_3 ok dJ4_getEntry_53 ?_
  refine z_goto (tgt := 72) ok dJ4_getEntry_54 (by decide) ?_
  refine z_goto (tgt := 28) ok dJ4_getEntry_72 (by decide) ?_
  refine z_aload_n ok dJ4_getEntry_28 rfl ?_
  refine z_ifnullR ok dJ4_getEntry_29 ?_
  refine z_aload_n ok dJ4_getEntry_32 rfl ?_
  refine z_aload_n ok dJ4_getEntry_33 rfl ?_
  refine g_J4_105 ok (h.ob 1 rfl) dJ4_getEntry_34 ?_
  refine v_J4_107_j22 ok (m_J22_cmpG hx hk0 (by omega)) hx.is dJ4_getEntry_37 zk_nx (zk_R ?_)
  refine z_istore_4 ok dJ4_getEntry_42 ?_
  refine z_iload ok dJ4_getEntry_44 rfl ?_
  refine z_ifge (tgt := 57) ok dJ4_getEntry_46 (by decide) (fun _ => ?_) (fun c => absurd c (by decide))
  refine z_iload ok dJ4_getEntry_57 rfl ?_
  refine z_ifle (tgt := 70) ok dJ4_getEntry_59 (by decide) (fun c => absurd c (by decide)) (fun _ => ?_)
  refine z_aload_n ok dJ4_getEntry_62 rfl ?_
  refine g_J4_114 ok (h.ob 1 rfl) dJ4_getEntry_63 ?_
  refine z_astore_3 ok dJ4_getEntry_66 ?_
  refine z_goto (tgt := 72) ok dJ4_getEntry_67 (by decide) ?_
  refine z_goto (tgt := 28) ok dJ4_getEntry_72 (by decide) ?_
  refine z_aload_n ok dJ4_getEntry_28 rfl ?_
  refine z_ifnullN (tgt := 75) ok dJ4_getEntry_29 (by decide) ?_
  refine z_null ok dJ4_getEntry_75 ?_
  exact z_aret ok dJ4_getEntry_76 ⟨rfl, rfl⟩
set_option maxHeartbeats 4000000 in
set_option maxRecDepth 100000 in
theorem t_get_18 {E : zE} {H : Heap} {t a0 a1 a2 k0 v0 k1 v1 k2 v2 kx x e0 e1 e2 : Nat} {s m : Int32} (h : TZ E H H [(t, tM (.ref a1) s m), (a0, tN (.ref k0) (.ref v0) .null .null (.ref a1) 0), (a1, tN (.ref k1) (.ref v1) (.ref a0) (.ref a2) .null 1), (a2, tN (.ref k2) (.ref v2) .null .null (.ref a1) 0)]) (hx : zOb E H kx 14 [.int (nI x)]) (hk0 : zOb E H k0 14 [.int (nI e0)]) (hk1 : zOb E H k1 14 [.int (nI e1)]) (hk2 : zOb E H k2 14 [.int (nI e2)]) (hlt : e0 < x ∧ x < e1 ∧ e1 < e2 ∧ e2 < 4) : zM E 7 yJ4_get (ws_ yJ4_get cJ4_get 3 (some (.object "java/lang/Object"))) 0 0 H [.ref t, .ref kx] (zR H (.null)) zNX := by
  refine z_of [some (.ref t), some (.ref kx), none] pn_J4 (Nat.le_of_ble_eq_true rfl) rfl (fun κ ok ho => ?_)
  refine z_aload_n ok dJ4_get_0 rfl ?_
  refine z_aload_n ok dJ4_get_1 rfl ?_
  refine v_J4_50 ok (t_getEntry_18 h.self hx hk0 hk1 hk2 hlt) (h.is 0 rfl) dJ4_get_2 zk_nx (zk_R ?_)
  refine z_astore_2 ok dJ4_get_5 ?_
  refine z_aload_n ok dJ4_get_6 rfl ?_
  refine z_ifnonnullN ok dJ4_get_7 ?_
  refine z_null ok dJ4_get_10 ?_
  refine z_goto (tgt := 18) ok dJ4_get_11 (by decide) ?_
  exact z_aret ok dJ4_get_18 ⟨rfl, rfl⟩
set_option maxHeartbeats 4000000 in
set_option maxRecDepth 100000 in
theorem t_remove_18 {E : zE} {H : Heap} {t a0 a1 a2 k0 v0 k1 v1 k2 v2 kx x e0 e1 e2 : Nat} {s m : Int32} (h : TZ E H H [(t, tM (.ref a1) s m), (a0, tN (.ref k0) (.ref v0) .null .null (.ref a1) 0), (a1, tN (.ref k1) (.ref v1) (.ref a0) (.ref a2) .null 1), (a2, tN (.ref k2) (.ref v2) .null .null (.ref a1) 0)]) (hx : zOb E H kx 14 [.int (nI x)]) (hk0 : zOb E H k0 14 [.int (nI e0)]) (hk1 : zOb E H k1 14 [.int (nI e1)]) (hk2 : zOb E H k2 14 [.int (nI e2)]) (hlt : e0 < x ∧ x < e1 ∧ e1 < e2 ∧ e2 < 4) : zM E 8 yJ4_remove (ws_ yJ4_remove cJ4_remove 4 (some (.object "java/lang/Object"))) 0 0 H [.ref t, .ref kx] (zR H (.null)) zNX := by
  refine z_of [some (.ref t), some (.ref kx), none, none] pn_J4 (Nat.le_of_ble_eq_true rfl) rfl (fun κ ok ho => ?_)
  refine z_aload_n ok dJ4_remove_0 rfl ?_
  refine z_aload_n ok dJ4_remove_1 rfl ?_
  refine v_J4_50 ok (t_getEntry_18 h.self hx hk0 hk1 hk2 hlt) (h.is 0 rfl) dJ4_remove_2 zk_nx (zk_R ?_)
  refine z_astore_2 ok dJ4_remove_5 ?_
  refine z_aload_n ok dJ4_remove_6 rfl ?_
  refine z_ifnonnullN ok dJ4_remove_7 ?_
  refine z_null ok dJ4_remove_10 ?_
  exact z_aret ok dJ4_remove_11 ⟨rfl, rfl⟩
set_option maxHeartbeats 4000000 in
set_option maxRecDepth 100000 in
theorem t_fixAfterInsertion_9 {E : zE} {H : Heap} {t a0 a1 a2 b k0 v0 k1 v1 k2 v2 kx vx : Nat} {s m : Int32} (h : TZ E H H [(t, tM (.ref a1) s m), (a0, tN (.ref k0) (.ref v0) .null (.ref b) (.ref a1) 0), (a1, tN (.ref k1) (.ref v1) (.ref a0) (.ref a2) .null 1), (a2, tN (.ref k2) (.ref v2) .null .null (.ref a1) 0), (b, tN (.ref kx) (.ref vx) .null .null (.ref a0) 1)]) : zM E 4 yJ4_fixAfterInsertion (ws_ yJ4_fixAfterInsertion cJ4_fixAfterInsertion 3 none) 0 0 H [.ref t, .ref b] (zRv (fun H1 => TZ E H H1 [(t, tM (.ref a1) s m), (a0, tN (.ref k0) (.ref v0) .null (.ref b) (.ref a1) 1), (a1, tN (.ref k1) (.ref v1) (.ref a0) (.ref a2) .null 1), (a2, tN (.ref k2) (.ref v2) .null .null (.ref a1) 1), (b, tN (.ref kx) (.ref vx) .null .null (.ref a0) 0)])) zNX := by
  refine z_of [some (.ref t), some (.ref b), none] pn_J4 (Nat.le_of_ble_eq_true rfl) rfl (fun κ ok ho => ?_)
  refine z_aload_n ok dJ4_fixAfterInsertion_0 rfl ?_
  refine z_iconst ok dJ4_fixAfterInsertion_1 zic_0 ?_
  refine p_J4_290 ok (h.at 4 rfl) dJ4_fixAfterInsertion_2 (fun H1 w1 => ?_)
  replace h : TZ E H H1 [(t, tM (.ref a1) s m), (a0, tN (.ref k0) (.ref v0) .null (.ref b) (.ref a1) 0), (a1, tN (.ref k1) (.ref v1) (.ref a0) (.ref a2) .null 1), (a2, tN (.ref k2) (.ref v2) .null .null (.ref a1) 0), (b, tN (.ref kx) (.ref vx) .null .null (.ref a0) 0)] := h.wr 4 rfl w1
  refine z_aload_n ok dJ4_fixAfterInsertion_5 rfl ?_
  refine z_ifnullR ok dJ4_fixAfterInsertion_6 ?_
  refine z_aload_n ok dJ4_fixAfterInsertion_9 rfl ?_
  refine z_aload_n ok dJ4_fixAfterInsertion_10 rfl ?_
  refine g_J4_101 ok (h.ob 0 rfl) dJ4_fixAfterInsertion_11 ?_
  refine z_acmpeq (rx := some b) (ry := some a1) (tgt := 258) ok dJ4_fixAfterInsertion_14 (by decide) (fun c => absurd c (h.ne 4 2 rfl rfl (by decide))) (fun _ => ?_)
  refine z_aload_n ok dJ4_fixAfterInsertion_17 rfl ?_
  refine g_J4_124 ok (h.ob 4 rfl) dJ4_fixAfterInsertion_18 ?_
  refine g_J4_290 ok (h.ob 1 rfl) dJ4_fixAfterInsertion_21 ?_
  refine z_ifne (tgt := 258) ok dJ4_fixAfterInsertion_24 (by decide) (fun c => absurd c (by decide)) (fun _ => ?_)
  refine z_aload_n ok dJ4_fixAfterInsertion_27 rfl ?_
  refine v_J4_294 ok (m_J4_parentOf (r := some a0) (h.ob 4 rfl)) dJ4_fixAfterInsertion_28 zk_nx (zk_R ?_)
  refine z_aload_n ok dJ4_fixAfterInsertion_31 rfl ?_
  refine v_J4_294 ok (m_J4_parentOf (r := some a0) (h.ob 4 rfl)) dJ4_fixAfterInsertion_32 zk_nx (zk_R ?_)
  refine v_J4_294 ok (m_J4_parentOf (r := some a1) (h.ob 1 rfl)) dJ4_fixAfterInsertion_35 zk_nx (zk_R ?_)
  refine v_J4_297 ok (m_J4_leftOf (r := some a0) (h.ob 2 rfl)) dJ4_fixAfterInsertion_38 zk_nx (zk_R ?_)
  refine z_acmpne (rx := some a0) (ry := some a0) (tgt := 151) ok dJ4_fixAfterInsertion_41 (by decide) (fun c => absurd rfl c) (fun _ => ?_)
  refine z_aload_n ok dJ4_fixAfterInsertion_44 rfl ?_
  refine v_J4_294 ok (m_J4_parentOf (r := some a0) (h.ob 4 rfl)) dJ4_fixAfterInsertion_45 zk_nx (zk_R ?_)
  refine v_J4_294 ok (m_J4_parentOf (r := some a1) (h.ob 1 rfl)) dJ4_fixAfterInsertion_48 zk_nx (zk_R ?_)
  refine v_J4_300 ok (m_J4_rightOf (r := some a2) (h.ob 2 rfl)) dJ4_fixAfterInsertion_51 zk_nx (zk_R ?_)
  refine z_astore_2 ok dJ4_fixAfterInsertion_54 ?_
  refine z_aload_n ok dJ4_fixAfterInsertion_55 rfl ?_
  refine v_J4_303 ok (m_J4_colorOf (h.ob 3 rfl)) dJ4_fixAfterInsertion_56 zk_nx (zk_R ?_)
  refine z_ifne (tgt := 97) ok dJ4_fixAfterInsertion_59 (by decide) (fun c => absurd c (by decide)) (fun _ => ?_)
  refine z_aload_n ok dJ4_fixAfterInsertion_62 rfl ?_
  refine v_J4_294 ok (m_J4_parentOf (r := some a0) (h.ob 4 rfl)) dJ4_fixAfterInsertion_63 zk_nx (zk_R ?_)
  refine z_iconst ok dJ4_fixAfterInsertion_66 zic_1 ?_
  refine v_J4_307 ok (m_J4_setColor1 (h.at 1 rfl)) dJ4_fixAfterInsertion_67 zk_nx (zk_Rv (fun H2 w2 _ => ?_))
  replace h : TZ E H H2 [(t, tM (.ref a1) s m), (a0, tN (.ref k0) (.ref v0) .null (.ref b) (.ref a1) 1), (a1, tN (.ref k1) (.ref v1) (.ref a0) (.ref a2) .null 1), (a2, tN (.ref k2) (.ref v2) .null .null (.ref a1) 0), (b, tN (.ref kx) (.ref vx) .null .null (.ref a0) 0)] := h.wr 1 rfl w2
  refine z_aload_n ok dJ4_fixAfterInsertion_70 rfl ?_
  refine z_iconst ok dJ4_fixAfterInsertion_71 zic_1 ?_
  refine v_J4_307 ok (m_J4_setColor1 (h.at 3 rfl)) dJ4_fixAfterInsertion_72 zk_nx (zk_Rv (fun H3 w3 _ => ?_))
  replace h : TZ E H H3 [(t, tM (.ref a1) s m), (a0, tN (.ref k0) (.ref v0) .null (.ref b) (.ref a1) 1), (a1, tN (.ref k1) (.ref v1) (.ref a0) (.ref a2) .null 1), (a2, tN (.ref k2) (.ref v2) .null .null (.ref a1) 1), (b, tN (.ref kx) (.ref vx) .null .null (.ref a0) 0)] := h.wr 3 rfl w3
  refine z_aload_n ok dJ4_fixAfterInsertion_75 rfl ?_
  refine v_J4_294 ok (m_J4_parentOf (r := some a0) (h.ob 4 rfl)) dJ4_fixAfterInsertion_76 zk_nx (zk_R ?_)
  refine v_J4_294 ok (m_J4_parentOf (r := some a1) (h.ob 1 rfl)) dJ4_fixAfterInsertion_79 zk_nx (zk_R ?_)
  refine z_iconst ok dJ4_fixAfterInsertion_82 zic_0 ?_
  refine v_J4_307 ok (m_J4_setColor0 (h.at 2 rfl)) dJ4_fixAfterInsertion_83 zk_nx (zk_Rv (fun H4 w4 _ => ?_))
  replace h : TZ E H H4 [(t, tM (.ref a1) s m), (a0, tN (.ref k0) (.ref v0) .null (.ref b) (.ref a1) 1), (a1, tN (.ref k1) (.ref v1) (.ref a0) (.ref a2) .null 0), (a2, tN (.ref k2) (.ref v2) .null .null (.ref a1) 1), (b, tN (.ref kx) (.ref vx) .null .null (.ref a0) 0)] := h.wr 2 rfl w4
  refine z_aload_n ok dJ4_fixAfterInsertion_86 rfl ?_
  refine v_J4_294 ok (m_J4_parentOf (r := some a0) (h.ob 4 rfl)) dJ4_fixAfterInsertion_87 zk_nx (zk_R ?_)
  refine v_J4_294 ok (m_J4_parentOf (r := some a1) (h.ob 1 rfl)) dJ4_fixAfterInsertion_90 zk_nx (zk_R ?_)
  refine z_astore_1 ok dJ4_fixAfterInsertion_93 ?_
  refine z_goto (tgt := 148) ok dJ4_fixAfterInsertion_94 (by decide) ?_
  refine z_goto (tgt := 5) ok dJ4_fixAfterInsertion_148 (by decide) ?_
  refine z_aload_n ok dJ4_fixAfterInsertion_5 rfl ?_
  refine z_ifnullR ok dJ4_fixAfterInsertion_6 ?_
  refine z_aload_n ok dJ4_fixAfterInsertion_9 rfl ?_
  refine z_aload_n ok dJ4_fixAfterInsertion_10 rfl ?_
  refine g_J4_101 ok (h.ob 0 rfl) dJ4_fixAfterInsertion_11 ?_
  refine z_acmpeq (rx := some a1) (ry := some a1) (tgt := 258) ok dJ4_fixAfterInsertion_14 (by decide) (fun _ => ?_) (fun c => absurd rfl c)
  refine z_aload_n ok dJ4_fixAfterInsertion_258 rfl ?_
  refine g_J4_101 ok (h.ob 0 rfl) dJ4_fixAfterInsertion_259 ?_
  refine z_iconst ok dJ4_fixAfterInsertion_262 zic_1 ?_
  refine p_J4_290 ok (h.at 2 rfl) dJ4_fixAfterInsertion_263 (fun H5 w5 => ?_)
  replace h : TZ E H H5 [(t, tM (.ref a1) s m), (a0, tN (.ref k0) (.ref v0) .null (.ref b) (.ref a1) 1), (a1, tN (.ref k1) (.ref v1) (.ref a0) (.ref a2) .null 1), (a2, tN (.ref k2) (.ref v2) .null .null (.ref a1) 1), (b, tN (.ref kx) (.ref vx) .null .null (.ref a0) 0)] := h.wr 2 rfl w5
  exact z_vret ok dJ4_fixAfterInsertion_266 ⟨rfl, h⟩
set_option maxHeartbeats 4000000 in
set_option maxRecDepth 100000 in
theorem t_addEntry_9 {E : zE} {H : Heap} {t a0 a1 a2 k0 v0 k1 v1 k2 v2 kx vx : Nat} {s m : Int32} (h : TZ E H H [(t, tM (.ref a1) s m), (a0, tN (.ref k0) (.ref v0) .null .null (.ref a1) 0), (a1, tN (.ref k1) (.ref v1) (.ref a0) (.ref a2) .null 1), (a2, tN (.ref k2) (.ref v2) .null .null (.ref a1) 0)]) : zM E 6 yJ4_addEntry (ws_ yJ4_addEntry cJ4_addEntry 6 none) 1 6 H [.ref t, .ref kx, .ref vx, .ref a0, .int 0] (zRv (fun H1 => ∃ b, H.size ≤ b ∧ TZ E H H1 [(t, tM (.ref a1) (s + 1) (m + 1)), (a0, tN (.ref k0) (.ref v0) .null (.ref b) (.ref a1) 1), (a1, tN (.ref k1) (.ref v1) (.ref a0) (.ref a2) .null 1), (a2, tN (.ref k2) (.ref v2) .null .null (.ref a1) 1), (b, tN (.ref kx) (.ref vx) .null .null (.ref a0) 0)])) zNX := by
  refine z_of [some (.ref t), some (.ref kx), some (.ref vx), some (.ref a0), some (.int 0), none] pn_J4 (Nat.le_of_ble_eq_true rfl) rfl (fun κ ok ho => ?_)
  refine n_J4_59 ok dJ4_addEntry_0 (fun b H1 w1 => ?_)
  have hb : H.size ≤ b := by have h8 := w1.1; have h9 := h.2.2.1; omega
  replace h : TZ E H H1 [(t, tM (.ref a1) s m), (a0, tN (.ref k0) (.ref v0) .null .null (.ref a1) 0), (a1, tN (.ref k1) (.ref v1) (.ref a0) (.ref a2) .null 1), (a2, tN (.ref k2) (.ref v2) .null .null (.ref a1) 0), (b, tN .null .null .null .null .null 0)] := h.mk w1
  refine z_dup ok dJ4_addEntry_3 ?_
  refine z_aload_n ok dJ4_addEntry_4 rfl ?_
  refine z_aload_n ok dJ4_addEntry_5 rfl ?_
  refine z_aload_n ok dJ4_addEntry_6 rfl ?_
  refine v_J4_167 ok (m_J26_init (pp := some a0) (h.at 4 rfl)) dJ4_addEntry_7 zk_nx (zk_Rv (fun H2 w2 _ => ?_))
  replace h : TZ E H H2 [(t, tM (.ref a1) s m), (a0, tN (.ref k0) (.ref v0) .null .null (.ref a1) 0), (a1, tN (.ref k1) (.ref v1) (.ref a0) (.ref a2) .null 1), (a2, tN (.ref k2) (.ref v2) .null .null (.ref a1) 0), (b, tN (.ref kx) (.ref vx) .null .null (.ref a0) 1)] := h.wr 4 rfl w2
  refine z_astore_5 ok dJ4_addEntry_10 ?_
  refine z_iload ok dJ4_addEntry_12 rfl ?_
  refine z_ifeq (tgt := 26) ok dJ4_addEntry_14 (by decide) (fun _ => ?_) (fun c => absurd c (by decide))
  refine z_aload_n ok dJ4_addEntry_26 rfl ?_
  refine z_aload ok dJ4_addEntry_27 rfl ?_
  refine p_J4_114 ok (h.at 1 rfl) dJ4_addEntry_29 (fun H3 w3 => ?_)
  replace h : TZ E H H3 [(t, tM (.ref a1) s m), (a0, tN (.ref k0) (.ref v0) .null (.ref b) (.ref a1) 0), (a1, tN (.ref k1) (.ref v1) (.ref a0) (.ref a2) .null 1), (a2, tN (.ref k2) (.ref v2) .null .null (.ref a1) 0), (b, tN (.ref kx) (.ref vx) .null .null (.ref a0) 1)] := h.wr 1 rfl w3
  refine z_aload_n ok dJ4_addEntry_32 rfl ?_
  refine z_aload ok dJ4_addEntry_33 rfl ?_
  refine v_J4_170 ok (t_fixAfterInsertion_9 h.self) (h.is 0 rfl) dJ4_addEntry_35 zk_nx (zk_Rv (fun H4 g4 _ => ?_))
  replace h : TZ E H H4 [(t, tM (.ref a1) s m), (a0, tN (.ref k0) (.ref v0) .null (.ref b) (.ref a1) 1), (a1, tN (.ref k1) (.ref v1) (.ref a0) (.ref a2) .null 1), (a2, tN (.ref k2) (.ref v2) .null .null (.ref a1) 1), (b, tN (.ref kx) (.ref vx) .null .null (.ref a0) 0)] := h.tr g4 rfl
  refine z_aload_n ok dJ4_addEntry_38 rfl ?_
  refine z_dup ok dJ4_addEntry_39 ?_
  refine g_J4_7 ok (h.ob 0 rfl) dJ4_addEntry_40 ?_
  refine z_iconst ok dJ4_addEntry_43 zic_1 ?_
  refine z_iadd ok dJ4_addEntry_44 ?_
  refine p_J4_7 ok (h.at 0 rfl) dJ4_addEntry_45 (fun H5 w5 => ?_)
  replace h : TZ E H H5 [(t, tM (.ref a1) (s + 1) m), (a0, tN (.ref k0) (.ref v0) .null (.ref b) (.ref a1) 1), (a1, tN (.ref k1) (.ref v1) (.ref a0) (.ref a2) .null 1), (a2, tN (.ref k2) (.ref v2) .null .null (.ref a1) 1), (b, tN (.ref kx) (.ref vx) .null .null (.ref a0) 0)] := h.wr 0 rfl w5
  refine z_aload_n ok dJ4_addEntry_48 rfl ?_
  refine z_dup ok dJ4_addEntry_49 ?_
  refine g_J4_13 ok (h.ob 0 rfl) dJ4_addEntry_50 ?_
  refine z_iconst ok dJ4_addEntry_53 zic_1 ?_
  refine z_iadd ok dJ4_addEntry_54 ?_
  refine p_J4_13 ok (h.at 0 rfl) dJ4_addEntry_55 (fun H6 w6 => ?_)
  replace h : TZ E H H6 [(t, tM (.ref a1) (s + 1) (m + 1)), (a0, tN (.ref k0) (.ref v0) .null (.ref b) (.ref a1) 1), (a1, tN (.ref k1) (.ref v1) (.ref a0) (.ref a2) .null 1), (a2, tN (.ref k2) (.ref v2) .null .null (.ref a1) 1), (b, tN (.ref kx) (.ref vx) .null .null (.ref a0) 0)] := h.wr 0 rfl w6
  exact z_vret ok dJ4_addEntry_58 ⟨rfl, b, hb, h⟩
set_option maxHeartbeats 4000000 in
set_option maxRecDepth 100000 in
theorem t_put_2_18 {E : zE} {H : Heap} {t a0 a1 a2 k0 v0 k1 v1 k2 v2 vx kx x e0 e1 e2 : Nat} {s m : Int32} (h : TZ E H H [(t, tM (.ref a1) s m), (a0, tN (.ref k0) (.ref v0) .null .null (.ref a1) 0), (a1, tN (.ref k1) (.ref v1) (.ref a0) (.ref a2) .null 1), (a2, tN (.ref k2) (.ref v2) .null .null (.ref a1) 0)]) (hx : zOb E H kx 14 [.int (nI x)]) (hk0 : zOb E H k0 14 [.int (nI e0)]) (hk1 : zOb E H k1 14 [.int (nI e1)]) (hk2 : zOb E H k2 14 [.int (nI e2)]) (hlt : e0 < x ∧ x < e1 ∧ e1 < e2 ∧ e2 < 4) : zM E 8 yJ4_put_2 (ws_ yJ4_put_2 cJ4_put_2 10 (some (.object "java/lang/Object"))) 1 6 H [.ref t, .ref kx, .ref vx, .int 1] (zRw (.null) (fun H1 => ∃ b, H.size ≤ b ∧ TZ E H H1 [(t, tM (.ref a1) (s + 1) (m + 1)), (a0, tN (.ref k0) (.ref v0) .null (.ref b) (.ref a1) 1), (a1, tN (.ref k1) (.ref v1) (.ref a0) (.ref a2) .null 1), (a2, tN (.ref k2) (.ref v2) .null .null (.ref a1) 1), (b, tN (.ref kx) (.ref vx) .null .null (.ref a0) 0)])) zNX := by
  refine z_of [some (.ref t), some (.ref kx), some (.ref vx), some (.int 1), none, none, none, none, none, none] pn_J4 (Nat.le_of_ble_eq_true rfl) rfl (fun κ ok ho => ?_)
  refine z_aload_n ok dJ4_put_2_0 rfl ?_
  refine g_J4_101 ok (h.ob 0 rfl) dJ4_put_2_1 ?_
  refine z_astore_4 ok dJ4_put_2_4 ?_
  refine z_aload ok dJ4_put_2_6 rfl ?_
  refine z_ifnonnullR (tgt := 19) ok dJ4_put_2_8 (by decide) ?_
  refine z_aload_n ok dJ4_put_2_19 rfl ?_
  refine g_J4_16 ok (h.ob 0 rfl) dJ4_put_2_20 ?_
  refine z_astore_7 ok dJ4_put_2_23 ?_
  refine z_aload ok dJ4_put_2_25 rfl ?_
  refine z_ifnullN (tgt := 112) ok dJ4_put_2_27 (by decide) ?_
  refine z_aload_n ok dJ4_put_2_112 rfl ?_
  refine v_J4_95 ok (m_J17_requireNonNull _) dJ4_put_2_113 zk_nx (zk_R ?_)
  refine z_pop ok dJ4_put_2_116 ?_
  refine z_aload_n ok dJ4_put_2_117 rfl ?_
  refine z_cast ok q678 hx.is (ci := 14) rfl (Or.inr q683) dJ4_put_2_118 ?_
  refine z_astore_8 ok dJ4_put_2_121 ?_
  refine z_aload ok dJ4_put_2_123 rfl ?_
  refine z_astore_6 ok dJ4_put_2_125 ?_
  refine z_aload ok dJ4_put_2_127 rfl ?_
  refine z_aload ok dJ4_put_2_129 rfl ?_
  refine g_J4_105 ok (h.ob 2 rfl) dJ4_put_2_131 ?_
  refine v_J4_107_j22 ok (m_J22_cmpL hx hk1 (by omega)) hx.is dJ4_put_2_134 zk_nx (zk_R ?_)
  refine z_istore_5 ok dJ4_put_2_139 ?_
  refine z_iload ok dJ4_put_2_141 rfl ?_
  refine z_ifge (tgt := 156) ok dJ4_put_2_143 (by decide) (fun c => absurd c (by decide)) (fun _ => ?_)
  refine z_aload ok dJ4_put_2_146 rfl ?_
  refine g_J4_111 ok (h.ob 2 rfl) dJ4_put_2_148 ?_
  refine z_astore_4 ok dJ4_put_2_151 ?_
  refine z_goto (tgt := 196) ok dJ4_put_2_153 (by decide) ?_
  refine z_aload ok dJ4_put_2_196 rfl ?_
  refine z_ifnonnullR (tgt := 123) ok dJ4_put_2_198 (by decide) ?_
  refine z_aload ok dJ4_put_2_123 rfl ?_
  refine z_astore_6 ok dJ4_put_2_125 ?_
  refine z_aload ok dJ4_put_2_127 rfl ?_
  refine z_aload ok dJ4_put_2_129 rfl ?_
  refine g_J4_105 ok (h.ob 1 rfl) dJ4_put_2_131 ?_
  refine v_J4_107_j22 ok (m_J22_cmpG hx hk0 (by omega)) hx.is dJ4_put_2_134 zk_nx (zk_R ?_)
  refine z_istore_5 ok dJ4_put_2_139 ?_
  refine z_iload ok dJ4_put_2_141 rfl ?_
  refine z_ifge (tgt := 156) ok dJ4_put_2_143 (by decide) (fun _ => ?_) (fun c => absurd c (by decide))
  refine z_iload ok dJ4_put_2_156 rfl ?_
  refine z_ifle (tgt := 171) ok dJ4_put_2_158 (by decide) (fun c => absurd c (by decide)) (fun _ => ?_)
  refine z_aload ok dJ4_put_2_161 rfl ?_
  refine g_J4_114 ok (h.ob 1 rfl) dJ4_put_2_163 ?_
  refine z_astore_4 ok dJ4_put_2_166 ?_
  refine z_goto (tgt := 196) ok dJ4_put_2_168 (by decide) ?_
  refine z_aload ok dJ4_put_2_196 rfl ?_
  refine z_ifnonnullN ok dJ4_put_2_198 ?_
  refine z_aload_n ok dJ4_put_2_201 rfl ?_
  refine z_aload_n ok dJ4_put_2_202 rfl ?_
  refine z_aload_n ok dJ4_put_2_203 rfl ?_
  refine z_aload ok dJ4_put_2_204 rfl ?_
  refine z_iload ok dJ4_put_2_206 rfl ?_
  refine z_ifge (tgt := 215) ok dJ4_put_2_208 (by decide) (fun _ => ?_) (fun c => absurd c (by decide))
  refine z_iconst ok dJ4_put_2_215 zic_0 ?_
  refine v_J4_139 ok (t_addEntry_9 h.self) (h.is 0 rfl) dJ4_put_2_216 zk_nx (zk_Rv (fun H1 g1 _ => ?_))
  obtain ⟨b, hb, g1⟩ := g1
  replace hb := Nat.le_trans h.2.2.1 hb
  replace h : TZ E H H1 [(t, tM (.ref a1) (s + 1) (m + 1)), (a0, tN (.ref k0) (.ref v0) .null (.ref b) (.ref a1) 1), (a1, tN (.ref k1) (.ref v1) (.ref a0) (.ref a2) .null 1), (a2, tN (.ref k2) (.ref v2) .null .null (.ref a1) 1), (b, tN (.ref kx) (.ref vx) .null .null (.ref a0) 0)] := h.tr1 g1 rfl
  refine z_null ok dJ4_put_2_219 ?_
  exact z_aret ok dJ4_put_2_220 ⟨rfl, b, hb, h⟩
