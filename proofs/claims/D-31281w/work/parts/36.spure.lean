/-! StringBuilder: Latin-1 texts of at most 34 signs -/
set_option maxRecDepth 100000
theorem nI_sh0 {a : Nat} (h : a < 2 ^ 31) : nI a >>> ((0 : Int32) &&& 31) = nI a := by
  have := pk_shrN h ((0 : Int32) &&& 31) 0 (by decide)
  simpa using this
theorem nI_shl0 {a : Nat} (h : a < 2 ^ 31) : nI a <<< ((0 : Int32) &&& 31) = nI a := by
  have := pk_shlN (n := a) ((0 : Int32) &&& 31) 0 (by decide) (by omega)
  simpa using this
/-- the builder b, its row a, its text l -/
def SB (E : zE) (H : Heap) (b a : Nat) (l : List Int32) : Prop :=
  ∃ (ml : Int32) (cap : Nat) (f : Nat → Int32), zAt E H b (.inr (12, [.ref a, .int 0, .int ml, .int (nI l.length)])) ∧ zAt E H a (zI E 3 cap f) ∧ a ≠ b ∧ l.length ≤ cap ∧ (cap = 16 ∨ cap = 34) ∧ (∀ k, fits .byte (.int (f k)) = true) ∧ ∀ k, k < l.length → f k = l.getD k 0
/-- .. with room for cap signs, cnt taken -/
def SBr (E : zE) (H : Heap) (b a cap : Nat) (cnt : Int32) (ml : Int32) (f : Nat → Int32) : Prop := zAt E H b (.inr (12, [.ref a, .int 0, .int ml, .int cnt])) ∧ zAt E H a (zI E 3 cap f) ∧ a ≠ b ∧ (cap = 16 ∨ cap = 34) ∧ ∀ k, fits .byte (.int (f k)) = true
/-- room was made: the same text, maybe in a new row -/
def SBe (E : zE) (H : Heap) (b a : Nat) (cnt ml : Int32) (n min : Nat) (f : Nat → Int32) (H1 : Heap) : Prop := ∃ a' cap' f', SBr E H1 b a' cap' cnt ml f' ∧ min ≤ cap' ∧ (∀ k, k < n → f' k = f k) ∧ (a' = a ∨ H.size ≤ a') ∧ H.size ≤ H1.size ∧ ∀ r : Nat, r < H.size → r ≠ b → r ≠ a → H1[r]? = H[r]?
theorem zAt.ne {E : zE} {H : Heap} {a b : Nat} {e : va_E} (h : zAt E H a e) (hb : H.size ≤ b) : b ≠ a := by
  have := h.lt
  omega
theorem fit0 : fits .byte (.int 0) = true := by decide
theorem cpy_fit {f : Nat → Int32} {n : Nat} (h : ∀ k, fits .byte (.int (f k)) = true) : ∀ k, fits .byte (.int (va_cpy f (fun _ => 0) 0 0 n k)) = true := fun k => by
  unfold va_cpy
  split
  · exact h _
  · exact fit0
theorem cpy_i {f g : Nat → Int32} {n i : Nat} (h : i < n) : va_cpy f g 0 0 n i = f i := by
  rw [pk_cpy_in (Nat.zero_le _) (by omega)]
  congr 1
  omega
/-- what an append leaves -/
def SBa (E : zE) (H : Heap) (b a : Nat) (l : List Int32) (H1 : Heap) : Prop := ∃ a', SB E H1 b a' l ∧ (a' = a ∨ H.size ≤ a') ∧ H.size ≤ H1.size ∧ ∀ r : Nat, r < H.size → r ≠ b → r ≠ a → H1[r]? = H[r]?
theorem SB.r {E : zE} {H : Heap} {b a : Nat} {l : List Int32} (h : SB E H b a l) : ∃ ml cap f, SBr E H b a cap (nI l.length) ml f ∧ l.length ≤ cap ∧ ∀ k, k < l.length → f k = l.getD k 0 := by
  obtain ⟨ml, cap, f, h1, h2, h3, h4, h5, h6, h7⟩ := h
  exact ⟨ml, cap, f, ⟨h1, h2, h3, h5, h6⟩, h4, h7⟩
/-- an append's end: the row was written, then the count -/
theorem SBe.app {E : zE} {H H1 H2 H3 : Heap} {b a a' cap' min : Nat} {ml ml2 : Int32} {l l2 : List Int32} {f f' f2 : Nat → Int32} (g1 : SBr E H1 b a' cap' (nI l.length) ml f') (gm : min ≤ cap') (hm : min = l.length + l2.length) (g2 : ∀ k, k < l.length → f' k = f k) (g3 : a' = a ∨ H.size ≤ a') (g4 : H.size ≤ H1.size) (g5 : ∀ r : Nat, r < H.size → r ≠ b → r ≠ a → H1[r]? = H[r]?)
    (w1 : zWr E H1 a' (zI E 3 cap' f2) H2) (w2 : zWr E H2 b (.inr (12, [.ref a', .int 0, .int ml2, .int (nI (l.length + l2.length))])) H3) (hf : ∀ k, k < l.length → f k = l.getD k 0) (h2 : ∀ k, k < l.length → f2 k = f' k) (h3 : ∀ k, k < l2.length → f2 (l.length + k) = l2.getD k 0) (hfit : ∀ k, fits .byte (.int (f2 k)) = true) : SBa E H b a (l ++ l2) H3 := by
  obtain ⟨b1, b2, b3, b4, b5⟩ := g1
  refine ⟨a', ⟨ml2, cap', f2, by rw [List.length_append]; exact w2.1, w1.1.kept (w2.2.2 a' b3), b3, by rw [List.length_append]; omega, b4, hfit, fun k hk => ?_⟩, g3, by rw [w2.2.1, w1.2.1]; exact g4, fun r q1 q2 q3 => ?_⟩
  · rw [List.length_append] at hk
    by_cases q : k < l.length
    · rw [List.getD_eq_getElem?_getD, List.getElem?_append_left q, ← List.getD_eq_getElem?_getD, h2 k q, g2 k q, hf k q]
    · have e := h3 (k - l.length) (by omega)
      rw [show l.length + (k - l.length) = k by omega] at e
      rw [List.getD_eq_getElem?_getD, List.getElem?_append_right (by omega), ← List.getD_eq_getElem?_getD, e]
  · rw [w2.2.2 r q2, w1.2.2 r (fun z => ?_), g5 r q1 q2 q3]
    rcases g3 with g3 | g3
    · exact q3 (z.trans g3)
    · omega
theorem SBa.tr {E : zE} {H H1 H2 : Heap} {b a : Nat} {l l2 : List Int32} (h : SBa E H b a l H1) (h2 : ∀ a', SB E H1 b a' l → SBa E H1 b a' l2 H2) : SBa E H b a l2 H2 := by
  obtain ⟨a1, s1, s2, s3, s4⟩ := h
  obtain ⟨a2, t1, t2, t3, t4⟩ := h2 a1 s1
  refine ⟨a2, t1, by omega, by omega, fun r q1 q2 q3 => (t4 r (by omega) q2 (by omega)).trans (s4 r q1 q2 q3)⟩
theorem fit_b {c : Int32} (h : c.toInt8.toInt32 = c) : fits .byte (.int c) = true := by
  have := pk_fb c
  rw [h] at this
  exact this
/-- .. where the count is written first -/
theorem SBe.app2 {E : zE} {H H1 H2 H3 : Heap} {b a a' cap' : Nat} {ml ml2 : Int32} {l l2 : List Int32} {f f' f2 : Nat → Int32} (g1 : SBr E H1 b a' cap' (nI l.length) ml f') (gm : l.length + l2.length ≤ cap') (g2 : ∀ k, k < l.length → f' k = f k) (g3 : a' = a ∨ H.size ≤ a') (g4 : H.size ≤ H1.size) (g5 : ∀ r : Nat, r < H.size → r ≠ b → r ≠ a → H1[r]? = H[r]?)
    (w2 : zWr E H1 b (.inr (12, [.ref a', .int 0, .int ml2, .int (nI (l.length + l2.length))])) H2) (w1 : zWr E H2 a' (zI E 3 cap' f2) H3) (hf : ∀ k, k < l.length → f k = l.getD k 0) (h2 : ∀ k, k < l.length → f2 k = f' k) (h3 : ∀ k, k < l2.length → f2 (l.length + k) = l2.getD k 0) (hfit : ∀ k, fits .byte (.int (f2 k)) = true) : SBa E H b a (l ++ l2) H3 := by
  obtain ⟨b1, b2, b3, b4, b5⟩ := g1
  refine ⟨a', ⟨ml2, cap', f2, by rw [List.length_append]; exact w2.1.kept (w1.2.2 b (Ne.symm b3)), w1.1, b3, by rw [List.length_append]; omega, b4, hfit, fun k hk => ?_⟩, g3, by rw [w1.2.1, w2.2.1]; exact g4, fun r q1 q2 q3 => ?_⟩
  · rw [List.length_append] at hk
    by_cases q : k < l.length
    · rw [List.getD_eq_getElem?_getD, List.getElem?_append_left q, ← List.getD_eq_getElem?_getD, h2 k q, g2 k q, hf k q]
    · have e := h3 (k - l.length) (by omega)
      rw [show l.length + (k - l.length) = k by omega] at e
      rw [List.getD_eq_getElem?_getD, List.getElem?_append_right (by omega), ← List.getD_eq_getElem?_getD, e]
  · rw [w1.2.2 r (fun z => ?_), w2.2.2 r q2, g5 r q1 q2 q3]
    rcases g3 with g3 | g3
    · exact q3 (z.trans g3)
    · omega
theorem upd_one {f : Nat → Int32} {n : Nat} {c : Int32} : ∀ k, k < [c].length → upd f n c (n + k) = [c].getD k 0 := fun k hk => by
  have e : k = 0 := by
    simp at hk
    omega
  subst e
  exact pk_us
theorem upd_fit {f : Nat → Int32} {n : Nat} {c : Int32} (hf : ∀ k, fits .byte (.int (f k)) = true) (hc : c.toInt8.toInt32 = c) : ∀ k, fits .byte (.int (upd f n c k)) = true := fun k => by
  unfold upd
  split
  · exact fit_b hc
  · exact hf k
theorem neg_toInt {a : Nat} (h : a < 2 ^ 30) : (-(nI a)).toInt = -(a : Int) := by
  rw [Int32.toInt_neg, nI_toInt (by omega)]
  apply Int.bmod_eq_of_le <;> omega
theorem neg_leI {a b : Nat} (ha : a < 2 ^ 30) (hb : b < 2 ^ 30) : (-(nI a) ≤ -(nI b)) ↔ b ≤ a := by
  rw [Int32.le_iff_toInt_le, neg_toInt ha, neg_toInt hb]
  omega
theorem neg_mul10 {a : Nat} : (10 : Int32) * -(nI a) = -(nI (10 * a)) := by
  rw [Int32.mul_neg, show (10 : Int32) = nI 10 from rfl, pk_mul]
theorem neg_neg1 {a : Nat} : -(-(nI a)) = nI a := Int32.neg_neg
theorem neg_div {a : Nat} (h : a < 2 ^ 30) : -(nI a) / 100 = -(nI (a / 100)) := by
  apply Int32.toInt_inj.mp
  rw [Int32.toInt_div, neg_toInt h, neg_toInt (show a / 100 < 2 ^ 30 by omega), show (100 : Int32).toInt = 100 by decide, Int.neg_tdiv, Int.tdiv_eq_ediv_of_nonneg (by omega)]
  have e : (a : Int) / 100 = ((a / 100 : Nat) : Int) := by omega
  rw [e]
  apply Int.bmod_eq_of_le <;> omega
theorem neg_rem {a : Nat} (h : a < 1000000) : -(nI (a / 100)) * 100 - -(nI a) = nI (a % 100) := by
  have e : -(nI (a / 100)) * 100 = -(nI (a / 100 * 100)) := by rw [Int32.neg_mul, show (100 : Int32) = nI 100 from rfl, pk_mul]
  rw [e]
  have e2 : nI a = nI (a / 100 * 100) + nI (a % 100) := by
    rw [nI_add]
    congr 1
    omega
  rw [e2]
  apply Int32.toInt_inj.mp
  rw [Int32.sub_neg, ← Int32.add_assoc, Int32.add_comm (-(nI (a / 100 * 100))), Int32.add_right_neg, Int32.zero_add]
theorem neg_ltI {a b : Nat} (ha : a < 2 ^ 30) (hb : b < 2 ^ 30) : (-(nI a) < -(nI b)) ↔ b < a := by
  rw [Int32.lt_iff_toInt_lt, neg_toInt ha, neg_toInt hb]
  omega
theorem dec1 {q : Nat} (h : 1 ≤ q) : nI q + Int32.ofInt (-1) = nI (q - 1) := by
  obtain ⟨k, rfl⟩ : ∃ k, q = k + 1 := ⟨q - 1, by omega⟩
  exact pk_m1 k
/-- the digits of m end at q -/
def GC (f : Nat → Int32) (q m : Nat) (f' : Nat → Int32) : Prop := (∀ k, (k + (mTop m + 1) < q ∨ q ≤ k) → f' k = f k) ∧ (∀ j, j ≤ mTop m → f' (q - 1 - j) = nI (48 + m / 10 ^ j % 10))
theorem mTop_100 {m : Nat} (h : 100 ≤ m) (h2 : m < 1000000) : mTop m = mTop (m / 100) + 2 := by
  unfold mTop
  repeat' split
  all_goals omega
theorem GC.one {f : Nat → Int32} {q m : Nat} (h : m < 10) (hq : 1 ≤ q) : GC f q m (upd f (q - 1) (nI (48 + m % 10))) := by
  have e : mTop m = 0 := if_pos h
  refine ⟨fun k hk => pk_un (by omega), fun j hj => ?_⟩
  have : j = 0 := by omega
  subst this
  simp [pk_us]
theorem GC.two {f : Nat → Int32} {q m : Nat} (h : 10 ≤ m) (h2 : m < 100) (hq : 2 ≤ q) : GC f q m (upd (upd f (q - 1) (nI (48 + m % 10))) (q - 1 - 1) (nI (48 + m / 10))) := by
  have e : mTop m = 1 := by
    unfold mTop
    rw [if_neg (by omega), if_pos h2]
  refine ⟨fun k hk => by rw [pk_un (by omega), pk_un (by omega)], fun j hj => ?_⟩
  have : j = 0 ∨ j = 1 := by omega
  rcases this with rfl | rfl
  · rw [pk_un (by omega)]
    simp [pk_us]
  · rw [show q - 1 - 1 = q - 1 - 1 from rfl, pk_us, show 48 + m / 10 = 48 + m / 10 ^ 1 % 10 by omega]
theorem GC.step {f f' : Nat → Int32} {q m : Nat} (h : 100 ≤ m) (h2 : m < 1000000) (hq : mTop m + 1 ≤ q) (g : GC (upd (upd f (q - 1) (nI (48 + m % 100 % 10))) (q - 1 - 1) (nI (48 + m % 100 / 10))) (q - 1 - 1) (m / 100) f') : GC f q m f' := by
  obtain ⟨g1, g2⟩ := g
  have e := mTop_100 h h2
  refine ⟨fun k hk => ?_, fun j hj => ?_⟩
  · rw [g1 k (by omega), pk_un (by omega), pk_un (by omega)]
  · by_cases j0 : j = 0
    · subst j0
      rw [g1 _ (by omega), pk_un (by omega), show q - 1 - 0 = q - 1 by omega, pk_us, show m % 100 % 10 = m / 10 ^ 0 % 10 by omega]
    · by_cases j1 : j = 1
      · subst j1
        rw [g1 _ (by omega), pk_us, show m % 100 / 10 = m / 10 ^ 1 % 10 by omega]
      · have := g2 (j - 2) (by omega)
        rw [show q - 1 - 1 - 1 - (j - 2) = q - 1 - j by omega] at this
        rw [this]
        congr 2
        rw [Nat.div_div_eq_div_mul, show (100 : Nat) = 10 ^ 2 from rfl, ← Nat.pow_add, show 2 + (j - 2) = j by omega]
/-- .. as the text of n -/
theorem GC.text {f f' : Nat → Int32} {p n : Nat} (h : GC f (p + (mTop n + 1)) n f') : (∀ k, k < p → f' k = f k) ∧ ∀ k, k < (mNum n).length → f' (p + k) = (mNum n).getD k 0 := by
  refine ⟨fun k hk => h.1 k (by omega), fun k hk => ?_⟩
  have hd : ∀ (t k : Nat), k ≤ t → (mDigs n t).getD k 0 = nI (48 + n / 10 ^ (t - k) % 10) := by
    intro t
    induction t with
    | zero =>
      intro k hk
      have : k = 0 := by omega
      subst this
      simp [mDigs]
    | succ t ih =>
      intro k hk
      cases k with
      | zero => simp [mDigs]
      | succ k =>
        rw [mDigs, List.getD_cons_succ, ih k (by omega), show t + 1 - (k + 1) = t - k by omega]
  rw [mNum, mDigs_len] at hk
  have := h.2 (mTop n - k) (by omega)
  rw [show p + (mTop n + 1) - 1 - (mTop n - k) = p + k by omega] at this
  rw [this, mNum, hd _ _ (by omega)]
theorem dig_fit {d : Nat} (h : d < 10) : (nI (48 + d)).toInt8.toInt32 = nI (48 + d) := dig_b d h
theorem zdrop7 {a b c d e f g : Option Value} : ∀ j v, zget [a, b, c, none, none, f, g] j = some v → zget [a, b, c, d, e, f, g] j = some v := fun j v hj => by
  match j with
  | 0 => exact hj
  | 1 => exact hj
  | 2 => exact hj
  | 3 => cases hj
  | 4 => cases hj
  | 5 => exact hj
  | 6 => exact hj
  | n + 7 => cases hj
/-- a String of the start: its bytes are a table's -/
def zSt (E : zE) (H : Heap) (s ba : Nat) (l : List Int32) : Prop := (∃ f2 f3 : Value, zOb E H s 13 [.ref ba, .int 0, f2, f3]) ∧ (∀ U : State, zKN E U → va_T .byte ba l.length (fun k => .int (l.getD k 0)) (zNew E) U E.2.1) ∧ l.length ≤ 10 ∧ ∀ c ∈ l, c.toInt8.toInt32 = c
theorem zSt.kept {E : zE} {H H1 : Heap} {s ba : Nat} {l : List Int32} (h : zSt E H s ba l) (hq : H1[s]? = H[s]?) : zSt E H1 s ba l := by
  obtain ⟨⟨f2, f3, h1⟩, h2⟩ := h
  exact ⟨⟨f2, f3, h1.kept hq⟩, h2⟩
theorem zSt.fit {E : zE} {H : Heap} {s ba : Nat} {l : List Int32} (h : zSt E H s ba l) {k : Nat} (hk : k < l.length) : fits .byte (.int (l.getD k 0)) = true := by
  refine fit_b (h.2.2.2 _ ?_)
  rw [List.getD_eq_getElem?_getD, List.getElem?_eq_getElem hk]
  exact List.getElem_mem hk
theorem cpy_at {f g : Nat → Int32} {i n k : Nat} (h : k < n) : va_cpy f g 0 i n (i + k) = f k := by
  rw [pk_cpy_in (by omega) (by omega)]
  congr 1
  omega
theorem cpy_fit2 {f g : Nat → Int32} {i n : Nat} (hf : ∀ k, k < n → fits .byte (.int (f k)) = true) (hg : ∀ k, fits .byte (.int (g k)) = true) : ∀ k, fits .byte (.int (va_cpy f g 0 i n k)) = true := fun k => by
  unfold va_cpy
  split
  · exact hf _ (by omega)
  · exact hg k
theorem SBe.cut {E : zE} {H H1 H2 : Heap} {b a a' cap' : Nat} {cnt ml ml2 : Int32} {f f' : Nat → Int32} {n : Nat} (g1 : SBr E H1 b a' cap' cnt ml f') (_ : ∀ k, k < n → f' k = f k) (g3 : a' = a ∨ H.size ≤ a') (g4 : H.size ≤ H1.size) (g5 : ∀ r : Nat, r < H.size → r ≠ b → r ≠ a → H1[r]? = H[r]?) (w : zWr E H1 b (.inr (12, [.ref a', .int 0, .int ml2, .int 0])) H2) : SBa E H b a [] H2 := by
  obtain ⟨b1, b2, b3, b4, b5⟩ := g1
  exact ⟨a', ⟨ml2, cap', f', w.1, b2.kept (w.2.2 a' b3), b3, Nat.zero_le _, b4, b5, fun k hk => absurd hk (Nat.not_lt_zero _)⟩, g3, by rw [w.2.1]; exact g4, fun r q1 q2 q3 => (w.2.2 r q2).trans (g5 r q1 q2 q3)⟩
/-- a new builder, empty -/
def SBn (E : zE) (H : Heap) (b : Nat) (H1 : Heap) : Prop := ∃ a, a = H.size ∧ SB E H1 b a [] ∧ H1.size = H.size + 1 ∧ ∀ r : Nat, r < H.size → r ≠ b → H1[r]? = H[r]?
theorem pn_J23 : plainName RJ23 = true := by decide +kernel
theorem pn_J5 : plainName RJ5 = true := by decide +kernel
theorem pn_J6 : plainName RJ6 = true := by decide +kernel
theorem pn_J7 : plainName RJ7 = true := by decide +kernel
theorem zbc_m100 : (Int8.ofInt (-100)).toInt32 = ((-100) : Int32) := by decide
theorem zbc_m10 : (Int8.ofInt (-10)).toInt32 = ((-10) : Int32) := by decide
theorem zbc_m9 : (Int8.ofInt (-9)).toInt32 = ((-9) : Int32) := by decide
theorem zbc_16 : (Int8.ofInt 16).toInt32 = (16 : Int32) := by decide
theorem zsc_255 : (Int16.ofInt 255).toInt32 = (255 : Int32) := by decide
theorem g_J5_22 {κ : zC} {E : zE} {d : Nat} {nm9 ds9 : String} {cc : ByteArray} {ret : Option FieldType} {hh : List (Nat × Nat × Nat × Nat)} {nL mc ms : Nat} {P : Option Value → Heap → Prop} {X : String → Heap → Prop} {H : Heap} {k n pc : Nat} {L : List (Option Value)} {st : List Value} {a : Nat} {f0 f1 f2 f3 : Value} (ok : zOK κ E d ⟨RJ5, nm9, ds9⟩ cc ret hh nL mc ms P X) (hob : zOb E H a 12 [f0, f1, f2, f3]) (dd : decode cc pc = .ok (.getfield 22, 3)) (kk : zV κ E H k n (pc + 3) L (f1 :: st)) : zV κ E H k n pc L (.ref a :: st) := z_get ok (N := 4) (j := 1) rfl in_J6 (by decide) q198 (Or.inl rfl) hob rfl dd kk
theorem g_J7_15 {κ : zC} {E : zE} {d : Nat} {nm9 ds9 : String} {cc : ByteArray} {ret : Option FieldType} {hh : List (Nat × Nat × Nat × Nat)} {nL mc ms : Nat} {P : Option Value → Heap → Prop} {X : String → Heap → Prop} {H : Heap} {k n pc : Nat} {L : List (Option Value)} {st : List Value} {a : Nat} {f0 f1 f2 f3 : Value} (ok : zOK κ E d ⟨RJ7, nm9, ds9⟩ cc ret hh nL mc ms P X) (hob : zOb E H a 13 [f0, f1, f2, f3]) (dd : decode cc pc = .ok (.getfield 15, 3)) (kk : zV κ E H k n (pc + 3) L (f1 :: st)) : zV κ E H k n pc L (.ref a :: st) := z_get ok (N := 4) (j := 1) rfl in_J7 (by decide) q1197 (Or.inl rfl) hob rfl dd kk
theorem g_J7_9 {κ : zC} {E : zE} {d : Nat} {nm9 ds9 : String} {cc : ByteArray} {ret : Option FieldType} {hh : List (Nat × Nat × Nat × Nat)} {nL mc ms : Nat} {P : Option Value → Heap → Prop} {X : String → Heap → Prop} {H : Heap} {k n pc : Nat} {L : List (Option Value)} {st : List Value} {a : Nat} {f0 f1 f2 f3 : Value} (ok : zOK κ E d ⟨RJ7, nm9, ds9⟩ cc ret hh nL mc ms P X) (hob : zOb E H a 13 [f0, f1, f2, f3]) (dd : decode cc pc = .ok (.getfield 9, 3)) (kk : zV κ E H k n (pc + 3) L (f0 :: st)) : zV κ E H k n pc L (.ref a :: st) := z_get ok (N := 4) (j := 0) rfl in_J7 (by decide) q1196 (Or.inl rfl) hob rfl dd kk
theorem v_J7_335 {κ : zC} {E : zE} {d : Nat} {nm9 ds9 : String} {cc : ByteArray} {ret : Option FieldType} {hh : List (Nat × Nat × Nat × Nat)} {nL mc ms : Nat} {P : Option Value → Heap → Prop} {X : String → Heap → Prop} {H : Heap} {k n pc : Nat} {L : List (Option Value)} {st : List Value} {d' mc' ms' b : Nat} {P' : Option Value → Heap → Prop} {X' : String → Heap → Prop} (ok : zOK κ E d ⟨RJ7, nm9, ds9⟩ cc ret hh nL mc ms P X) (hM : zM E d' yJ7_coder (ws_ yJ7_coder cJ7_coder 1 (some .byte)) mc' ms' H (.ref b :: []) P' X') (hrecv : zIs E H b 13) (dd : decode cc pc = .ok (.invokevirtual 335, 3)) (kx : ∀ C q H1, X' C H1 → H.size ≤ H1.size → zT κ E H1 (k + mc') (n + ms') pc L st C q) (kk : ∀ v H1, P' v H1 → H.size ≤ H1.size → zV κ E H1 (k + mc') (n + ms') (pc + 3) L (v.toList ++ st)) (hd1 : d' + 1 ≤ d := by omega) (hd2 : 19 + 1 + 40 * d' ≤ 40 * d := by omega) (hc1 : k + mc' ≤ mc := by omega) (hc2 : n + ms' ≤ ms := by omega) (hrm : (st.map fun v => v.category).sum ≤ 8 := by first | exact Nat.le_of_ble_eq_true rfl | (simp [va_rf_cat]; done)) : zV κ E H k n pc L (.ref b :: st) := z_callV (na := 0) ok hM rfl hrecv (lw_V q707 q708 q709 q63 q710) (by decide +kernel) rfl rfl dd hd1 hd2 hc1 hc2 hrm kx kk
theorem g_J5_79 {κ : zC} {E : zE} {d : Nat} {nm9 ds9 : String} {cc : ByteArray} {ret : Option FieldType} {hh : List (Nat × Nat × Nat × Nat)} {nL mc ms : Nat} {P : Option Value → Heap → Prop} {X : String → Heap → Prop} {H : Heap} {k n pc : Nat} {L : List (Option Value)} {st : List Value} {a : Nat} {f0 f1 f2 f3 : Value} (ok : zOK κ E d ⟨RJ5, nm9, ds9⟩ cc ret hh nL mc ms P X) (hob : zOb E H a 12 [f0, f1, f2, f3]) (dd : decode cc pc = .ok (.getfield 79, 3)) (kk : zV κ E H k n (pc + 3) L (f3 :: st)) : zV κ E H k n pc L (.ref a :: st) := z_get ok (N := 4) (j := 3) rfl in_J6 (by decide) q201 (Or.inl rfl) hob rfl dd kk
theorem v_J6_343_j6 {κ : zC} {E : zE} {d : Nat} {nm9 ds9 : String} {cc : ByteArray} {ret : Option FieldType} {hh : List (Nat × Nat × Nat × Nat)} {nL mc ms : Nat} {P : Option Value → Heap → Prop} {X : String → Heap → Prop} {H : Heap} {k n pc : Nat} {L : List (Option Value)} {st : List Value} {d' mc' ms' b : Nat} {P' : Option Value → Heap → Prop} {X' : String → Heap → Prop} (ok : zOK κ E d ⟨RJ6, nm9, ds9⟩ cc ret hh nL mc ms P X) (hM : zM E d' yJ5_length (ws_ yJ5_length cJ5_length 1 (some .int)) mc' ms' H (.ref b :: []) P' X') (hrecv : zIs E H b 12) (dd : decode cc pc = .ok (.invokespecial 343, 3)) (kx : ∀ C q H1, X' C H1 → H.size ≤ H1.size → zT κ E H1 (k + mc') (n + ms') pc L st C q) (kk : ∀ v H1, P' v H1 → H.size ≤ H1.size → zV κ E H1 (k + mc') (n + ms') (pc + 3) L (v.toList ++ st)) (hd1 : d' + 1 ≤ d := by omega) (hd2 : 19 + 1 + 40 * d' ≤ 40 * d := by omega) (hc1 : k + mc' ≤ mc := by omega) (hc2 : n + ms' ≤ ms := by omega) (hrm : (st.map fun v => v.category).sum ≤ 8 := by first | exact Nat.le_of_ble_eq_true rfl | (simp [va_rf_cat]; done)) : zV κ E H k n pc L (.ref b :: st) := z_callSU (na := 0) ok hM rfl hrecv (lw_app (lw_in4 q372 q2251 q210 q373 q61) (lw_meth (q374))) (by decide +kernel) rfl rfl dd hd1 hd2 hc1 hc2 hrm kx kk
theorem g_J5_15 {κ : zC} {E : zE} {d : Nat} {nm9 ds9 : String} {cc : ByteArray} {ret : Option FieldType} {hh : List (Nat × Nat × Nat × Nat)} {nL mc ms : Nat} {P : Option Value → Heap → Prop} {X : String → Heap → Prop} {H : Heap} {k n pc : Nat} {L : List (Option Value)} {st : List Value} {a : Nat} {f0 f1 f2 f3 : Value} (ok : zOK κ E d ⟨RJ5, nm9, ds9⟩ cc ret hh nL mc ms P X) (hob : zOb E H a 12 [f0, f1, f2, f3]) (dd : decode cc pc = .ok (.getfield 15, 3)) (kk : zV κ E H k n (pc + 3) L (f0 :: st)) : zV κ E H k n pc L (.ref a :: st) := z_get ok (N := 4) (j := 0) rfl in_J6 (by decide) q197 (Or.inl rfl) hob rfl dd kk
theorem v_J5_114 {κ : zC} {E : zE} {d : Nat} {nm9 ds9 : String} {cc : ByteArray} {ret : Option FieldType} {hh : List (Nat × Nat × Nat × Nat)} {nL mc ms : Nat} {P : Option Value → Heap → Prop} {X : String → Heap → Prop} {H : Heap} {k n pc : Nat} {L : List (Option Value)} {st : List Value} {d' mc' ms' : Nat} {P' : Option Value → Heap → Prop} {X' : String → Heap → Prop} {a0 a1 a2 : Value} (ok : zOK κ E d ⟨RJ5, nm9, ds9⟩ cc ret hh nL mc ms P X) (hM : zM E d' yJ9_newLength (ws_ yJ9_newLength cJ9_newLength 4 (some .int)) mc' ms' H [a0, a1, a2] P' X') (dd : decode cc pc = .ok (.invokestatic 114, 3)) (kx : ∀ C q H1, X' C H1 → H.size ≤ H1.size → zT κ E H1 (k + mc') (n + ms') pc L st C q) (kk : ∀ v H1, P' v H1 → H.size ≤ H1.size → zV κ E H1 (k + mc') (n + ms') (pc + 3) L (v.toList ++ st)) (hd1 : d' + 1 ≤ d := by omega) (hd2 : 19 + 4 + 40 * d' ≤ 40 * d := by omega) (hc1 : k + mc' ≤ mc := by omega) (hc2 : n + ms' ≤ ms := by omega) (hrm : (st.map fun v => v.category).sum ≤ 8 := by first | exact Nat.le_of_ble_eq_true rfl | (simp [va_rf_cat]; done)) : zV κ E H k n pc L (a2 :: a1 :: a0 :: st) := z_callS (na := 3) ok hM (lw_S q1049 q253 q66 q254) (by decide +kernel) rfl rfl dd hd1 hd2 hc1 hc2 hrm kx kk
theorem v_J5_104_j6 {κ : zC} {E : zE} {d : Nat} {nm9 ds9 : String} {cc : ByteArray} {ret : Option FieldType} {hh : List (Nat × Nat × Nat × Nat)} {nL mc ms : Nat} {P : Option Value → Heap → Prop} {X : String → Heap → Prop} {H : Heap} {k n pc : Nat} {L : List (Option Value)} {st : List Value} {d' mc' ms' b : Nat} {P' : Option Value → Heap → Prop} {X' : String → Heap → Prop} {a0 : Value} (ok : zOK κ E d ⟨RJ5, nm9, ds9⟩ cc ret hh nL mc ms P X) (hM : zM E d' yJ5_newCapacity (ws_ yJ5_newCapacity cJ5_newCapacity 6 (some .int)) mc' ms' H (.ref b :: [a0]) P' X') (hrecv : zIs E H b 12) (dd : decode cc pc = .ok (.invokevirtual 104, 3)) (kx : ∀ C q H1, X' C H1 → H.size ≤ H1.size → zT κ E H1 (k + mc') (n + ms') pc L st C q) (kk : ∀ v H1, P' v H1 → H.size ≤ H1.size → zV κ E H1 (k + mc') (n + ms') (pc + 3) L (v.toList ++ st)) (hd1 : d' + 1 ≤ d := by omega) (hd2 : 19 + 6 + 40 * d' ≤ 40 * d := by omega) (hc1 : k + mc' ≤ mc := by omega) (hc2 : n + ms' ≤ ms := by omega) (hrm : (st.map fun v => v.category).sum ≤ 8 := by first | exact Nat.le_of_ble_eq_true rfl | (simp [va_rf_cat]; done)) : zV κ E H k n pc L (a0 :: .ref b :: st) := z_callR (na := 1) ok hM rfl hrecv q1046 (lw_app (lw_in4b q1045 q2259 q1047 q61) (lw_meth (q1048))) (by decide +kernel) rfl rfl dd hd1 hd2 hc1 hc2 hrm kx kk
theorem v_J5_108 {κ : zC} {E : zE} {d : Nat} {nm9 ds9 : String} {cc : ByteArray} {ret : Option FieldType} {hh : List (Nat × Nat × Nat × Nat)} {nL mc ms : Nat} {P : Option Value → Heap → Prop} {X : String → Heap → Prop} {H : Heap} {k n pc : Nat} {L : List (Option Value)} {st : List Value} {d' mc' ms' : Nat} {P' : Option Value → Heap → Prop} {X' : String → Heap → Prop} {a0 a1 : Value} (ok : zOK κ E d ⟨RJ5, nm9, ds9⟩ cc ret hh nL mc ms P X) (hM : zM E d' yJ11_copyOf_3 (ws_ yJ11_copyOf_3 cJ11_copyOf_3 3 (some (.array .byte))) mc' ms' H [a0, a1] P' X') (dd : decode cc pc = .ok (.invokestatic 108, 3)) (kx : ∀ C q H1, X' C H1 → H.size ≤ H1.size → zT κ E H1 (k + mc') (n + ms') pc L st C q) (kk : ∀ v H1, P' v H1 → H.size ≤ H1.size → zV κ E H1 (k + mc') (n + ms') (pc + 3) L (v.toList ++ st)) (hd1 : d' + 1 ≤ d := by omega) (hd2 : 19 + 3 + 40 * d' ≤ 40 * d := by omega) (hc1 : k + mc' ≤ mc := by omega) (hc2 : n + ms' ≤ ms := by omega) (hrm : (st.map fun v => v.category).sum ≤ 8 := by first | exact Nat.le_of_ble_eq_true rfl | (simp [va_rf_cat]; done)) : zV κ E H k n pc L (a1 :: a0 :: st) := z_callS (na := 2) ok hM (lw_S q1051 q1052 q68 q1053) (by decide +kernel) rfl rfl dd hd1 hd2 hc1 hc2 hrm kx kk
theorem p_J5_15 {κ : zC} {E : zE} {d : Nat} {nm9 ds9 : String} {cc : ByteArray} {ret : Option FieldType} {hh : List (Nat × Nat × Nat × Nat)} {nL mc ms : Nat} {P : Option Value → Heap → Prop} {X : String → Heap → Prop} {H : Heap} {k n pc : Nat} {L : List (Option Value)} {st : List Value} {a : Nat} {f0 f1 f2 f3 : Value} {x : Value} (ok : zOK κ E d ⟨RJ5, nm9, ds9⟩ cc ret hh nL mc ms P X) (hat : zAt E H a (.inr (12, [f0, f1, f2, f3]))) (dd : decode cc pc = .ok (.putfield 15, 3)) (kk : ∀ H1, zWr E H a (.inr (12, [x, f1, f2, f3])) H1 → zV κ E H1 k n (pc + 3) L st) (hz : narrow (tyJ6 0) x = x := by first | rfl | exact zrf_nar _ _) (hz2 : fits (tyJ6 0) x = true := by first | rfl | exact zrf_fit _ _) : zV κ E H k n pc L (x :: .ref a :: st) := z_put ok (N := 4) (j := 0) rfl in_J6 tyJ6 tyJ6_ok nmJ6 (by decide) q197 (Or.inl rfl) rfl (tyJ6_ok 0 (by decide)) hz hz2 hat (by show 0 < 4; decide) dd kk
theorem v_J5_100_j6 {κ : zC} {E : zE} {d : Nat} {nm9 ds9 : String} {cc : ByteArray} {ret : Option FieldType} {hh : List (Nat × Nat × Nat × Nat)} {nL mc ms : Nat} {P : Option Value → Heap → Prop} {X : String → Heap → Prop} {H : Heap} {k n pc : Nat} {L : List (Option Value)} {st : List Value} {d' mc' ms' b : Nat} {P' : Option Value → Heap → Prop} {X' : String → Heap → Prop} {a0 : Value} (ok : zOK κ E d ⟨RJ5, nm9, ds9⟩ cc ret hh nL mc ms P X) (hM : zM E d' yJ5_ensureCapacityInternal (ws_ yJ5_ensureCapacityInternal cJ5_ensureCapacityInternal 3 none) mc' ms' H (.ref b :: [a0]) P' X') (hrecv : zIs E H b 12) (dd : decode cc pc = .ok (.invokevirtual 100, 3)) (kx : ∀ C q H1, X' C H1 → H.size ≤ H1.size → zT κ E H1 (k + mc') (n + ms') pc L st C q) (kk : ∀ v H1, P' v H1 → H.size ≤ H1.size → zV κ E H1 (k + mc') (n + ms') (pc + 3) L (v.toList ++ st)) (hd1 : d' + 1 ≤ d := by omega) (hd2 : 19 + 3 + 40 * d' ≤ 40 * d := by omega) (hc1 : k + mc' ≤ mc := by omega) (hc2 : n + ms' ≤ ms := by omega) (hrm : (st.map fun v => v.category).sum ≤ 8 := by first | exact Nat.le_of_ble_eq_true rfl | (simp [va_rf_cat]; done)) : zV κ E H k n pc L (a0 :: .ref b :: st) := z_callR (na := 1) ok hM rfl hrecv q1042 (lw_app (lw_in4b q1041 q2258 q1043 q61) (lw_meth (q1044))) (by decide +kernel) rfl rfl dd hd1 hd2 hc1 hc2 hrm kx kk
theorem v_J5_83_j6 {κ : zC} {E : zE} {d : Nat} {nm9 ds9 : String} {cc : ByteArray} {ret : Option FieldType} {hh : List (Nat × Nat × Nat × Nat)} {nL mc ms : Nat} {P : Option Value → Heap → Prop} {X : String → Heap → Prop} {H : Heap} {k n pc : Nat} {L : List (Option Value)} {st : List Value} {d' mc' ms' b : Nat} {P' : Option Value → Heap → Prop} {X' : String → Heap → Prop} (ok : zOK κ E d ⟨RJ5, nm9, ds9⟩ cc ret hh nL mc ms P X) (hM : zM E d' yJ5_isLatin1 (ws_ yJ5_isLatin1 cJ5_isLatin1 1 (some .boolean)) mc' ms' H (.ref b :: []) P' X') (hrecv : zIs E H b 12) (dd : decode cc pc = .ok (.invokevirtual 83, 3)) (kx : ∀ C q H1, X' C H1 → H.size ≤ H1.size → zT κ E H1 (k + mc') (n + ms') pc L st C q) (kk : ∀ v H1, P' v H1 → H.size ≤ H1.size → zV κ E H1 (k + mc') (n + ms') (pc + 3) L (v.toList ++ st)) (hd1 : d' + 1 ≤ d := by omega) (hd2 : 19 + 1 + 40 * d' ≤ 40 * d := by omega) (hc1 : k + mc' ≤ mc := by omega) (hc2 : n + ms' ≤ ms := by omega) (hrm : (st.map fun v => v.category).sum ≤ 8 := by first | exact Nat.le_of_ble_eq_true rfl | (simp [va_rf_cat]; done)) : zV κ E H k n pc L (.ref b :: st) := z_callU (na := 0) ok hM rfl hrecv (lw_app (lw_in4 q863 q865 q866 q864 q61) (lw_meth (q867))) rfl (by decide +kernel) rfl rfl dd hd1 hd2 hc1 hc2 hrm kx kk
theorem v_J5_191 {κ : zC} {E : zE} {d : Nat} {nm9 ds9 : String} {cc : ByteArray} {ret : Option FieldType} {hh : List (Nat × Nat × Nat × Nat)} {nL mc ms : Nat} {P : Option Value → Heap → Prop} {X : String → Heap → Prop} {H : Heap} {k n pc : Nat} {L : List (Option Value)} {st : List Value} {d' mc' ms' : Nat} {P' : Option Value → Heap → Prop} {X' : String → Heap → Prop} {a0 : Value} (ok : zOK κ E d ⟨RJ5, nm9, ds9⟩ cc ret hh nL mc ms P X) (hM : zM E d' yJ23_canEncode (ws_ yJ23_canEncode cJ23_canEncode 1 (some .boolean)) mc' ms' H [a0] P' X') (dd : decode cc pc = .ok (.invokestatic 191, 3)) (kx : ∀ C q H1, X' C H1 → H.size ≤ H1.size → zT κ E H1 (k + mc') (n + ms') pc L st C q) (kk : ∀ v H1, P' v H1 → H.size ≤ H1.size → zV κ E H1 (k + mc') (n + ms') (pc + 3) L (v.toList ++ st)) (hd1 : d' + 1 ≤ d := by omega) (hd2 : 19 + 1 + 40 * d' ≤ 40 * d := by omega) (hc1 : k + mc' ≤ mc := by omega) (hc2 : n + ms' ≤ ms := by omega) (hrm : (st.map fun v => v.category).sum ≤ 8 := by first | exact Nat.le_of_ble_eq_true rfl | (simp [va_rf_cat]; done)) : zV κ E H k n pc L (a0 :: st) := z_callS (na := 1) ok hM (lw_S q1879 q1880 q85 q1881) (by decide +kernel) rfl rfl dd hd1 hd2 hc1 hc2 hrm kx kk
theorem p_J5_79 {κ : zC} {E : zE} {d : Nat} {nm9 ds9 : String} {cc : ByteArray} {ret : Option FieldType} {hh : List (Nat × Nat × Nat × Nat)} {nL mc ms : Nat} {P : Option Value → Heap → Prop} {X : String → Heap → Prop} {H : Heap} {k n pc : Nat} {L : List (Option Value)} {st : List Value} {a : Nat} {f0 f1 f2 f3 : Value} {x : Int32} (ok : zOK κ E d ⟨RJ5, nm9, ds9⟩ cc ret hh nL mc ms P X) (hat : zAt E H a (.inr (12, [f0, f1, f2, f3]))) (dd : decode cc pc = .ok (.putfield 79, 3)) (kk : ∀ H1, zWr E H a (.inr (12, [f0, f1, f2, .int x])) H1 → zV κ E H1 k n (pc + 3) L st) : zV κ E H k n pc L (.int x :: .ref a :: st) := z_put ok (N := 4) (j := 3) rfl in_J6 tyJ6 tyJ6_ok nmJ6 (by decide) q201 (Or.inl rfl) rfl (tyJ6_ok 3 (by decide)) rfl rfl hat (by show 3 < 4; decide) dd kk
theorem v_J5_245 {κ : zC} {E : zE} {d : Nat} {nm9 ds9 : String} {cc : ByteArray} {ret : Option FieldType} {hh : List (Nat × Nat × Nat × Nat)} {nL mc ms : Nat} {P : Option Value → Heap → Prop} {X : String → Heap → Prop} {H : Heap} {k n pc : Nat} {L : List (Option Value)} {st : List Value} {d' mc' ms' : Nat} {P' : Option Value → Heap → Prop} {X' : String → Heap → Prop} {a0 : Value} (ok : zOK κ E d ⟨RJ5, nm9, ds9⟩ cc ret hh nL mc ms P X) (hM : zM E d' yJ22_stringSize (ws_ yJ22_stringSize cJ22_stringSize 4 (some .int)) mc' ms' H [a0] P' X') (dd : decode cc pc = .ok (.invokestatic 245, 3)) (kx : ∀ C q H1, X' C H1 → H.size ≤ H1.size → zT κ E H1 (k + mc') (n + ms') pc L st C q) (kk : ∀ v H1, P' v H1 → H.size ≤ H1.size → zV κ E H1 (k + mc') (n + ms') (pc + 3) L (v.toList ++ st)) (hd1 : d' + 1 ≤ d := by omega) (hd2 : 19 + 4 + 40 * d' ≤ 40 * d := by omega) (hc1 : k + mc' ≤ mc := by omega) (hc2 : n + ms' ≤ ms := by omega) (hrm : (st.map fun v => v.category).sum ≤ 8 := by first | exact Nat.le_of_ble_eq_true rfl | (simp [va_rf_cat]; done)) : zV κ E H k n pc L (a0 :: st) := z_callS (na := 1) ok hM (lw_S q1118 q1119 q83 q1120) (by decide +kernel) rfl rfl dd hd1 hd2 hc1 hc2 hrm kx kk
theorem v_J5_248 {κ : zC} {E : zE} {d : Nat} {nm9 ds9 : String} {cc : ByteArray} {ret : Option FieldType} {hh : List (Nat × Nat × Nat × Nat)} {nL mc ms : Nat} {P : Option Value → Heap → Prop} {X : String → Heap → Prop} {H : Heap} {k n pc : Nat} {L : List (Option Value)} {st : List Value} {d' mc' ms' : Nat} {P' : Option Value → Heap → Prop} {X' : String → Heap → Prop} {a0 a1 a2 : Value} (ok : zOK κ E d ⟨RJ5, nm9, ds9⟩ cc ret hh nL mc ms P X) (hM : zM E d' yJ22_getChars (ws_ yJ22_getChars cJ22_getChars 7 (some .int)) mc' ms' H [a0, a1, a2] P' X') (dd : decode cc pc = .ok (.invokestatic 248, 3)) (kx : ∀ C q H1, X' C H1 → H.size ≤ H1.size → zT κ E H1 (k + mc') (n + ms') pc L st C q) (kk : ∀ v H1, P' v H1 → H.size ≤ H1.size → zV κ E H1 (k + mc') (n + ms') (pc + 3) L (v.toList ++ st)) (hd1 : d' + 1 ≤ d := by omega) (hd2 : 19 + 7 + 40 * d' ≤ 40 * d := by omega) (hc1 : k + mc' ≤ mc := by omega) (hc2 : n + ms' ≤ ms := by omega) (hrm : (st.map fun v => v.category).sum ≤ 8 := by first | exact Nat.le_of_ble_eq_true rfl | (simp [va_rf_cat]; done)) : zV κ E H k n pc L (a2 :: a1 :: a0 :: st) := z_callS (na := 3) ok hM (lw_S q1121 q1122 q83 q1123) (by decide +kernel) rfl rfl dd hd1 hd2 hc1 hc2 hrm kx kk
theorem v_J5_40 {κ : zC} {E : zE} {d : Nat} {nm9 ds9 : String} {cc : ByteArray} {ret : Option FieldType} {hh : List (Nat × Nat × Nat × Nat)} {nL mc ms : Nat} {P : Option Value → Heap → Prop} {X : String → Heap → Prop} {H : Heap} {k n pc : Nat} {L : List (Option Value)} {st : List Value} {d' mc' ms' b : Nat} {P' : Option Value → Heap → Prop} {X' : String → Heap → Prop} (ok : zOK κ E d ⟨RJ5, nm9, ds9⟩ cc ret hh nL mc ms P X) (hM : zM E d' yJ7_coder (ws_ yJ7_coder cJ7_coder 1 (some .byte)) mc' ms' H (.ref b :: []) P' X') (hrecv : zIs E H b 13) (dd : decode cc pc = .ok (.invokevirtual 40, 3)) (kx : ∀ C q H1, X' C H1 → H.size ≤ H1.size → zT κ E H1 (k + mc') (n + ms') pc L st C q) (kk : ∀ v H1, P' v H1 → H.size ≤ H1.size → zV κ E H1 (k + mc') (n + ms') (pc + 3) L (v.toList ++ st)) (hd1 : d' + 1 ≤ d := by omega) (hd2 : 19 + 1 + 40 * d' ≤ 40 * d := by omega) (hc1 : k + mc' ≤ mc := by omega) (hc2 : n + ms' ≤ ms := by omega) (hrm : (st.map fun v => v.category).sum ≤ 8 := by first | exact Nat.le_of_ble_eq_true rfl | (simp [va_rf_cat]; done)) : zV κ E H k n pc L (.ref b :: st) := z_callV (na := 0) ok hM rfl hrecv (lw_V q1085 q708 q709 q63 q710) (by decide +kernel) rfl rfl dd hd1 hd2 hc1 hc2 hrm kx kk
theorem v_J5_397_j6 {κ : zC} {E : zE} {d : Nat} {nm9 ds9 : String} {cc : ByteArray} {ret : Option FieldType} {hh : List (Nat × Nat × Nat × Nat)} {nL mc ms : Nat} {P : Option Value → Heap → Prop} {X : String → Heap → Prop} {H : Heap} {k n pc : Nat} {L : List (Option Value)} {st : List Value} {d' mc' ms' b : Nat} {P' : Option Value → Heap → Prop} {X' : String → Heap → Prop} {a0 : Value} (ok : zOK κ E d ⟨RJ5, nm9, ds9⟩ cc ret hh nL mc ms P X) (hM : zM E d' yJ5_inflateIfNeededFor (ws_ yJ5_inflateIfNeededFor cJ5_inflateIfNeededFor 2 none) mc' ms' H (.ref b :: [a0]) P' X') (hrecv : zIs E H b 12) (dd : decode cc pc = .ok (.invokevirtual 397, 3)) (kx : ∀ C q H1, X' C H1 → H.size ≤ H1.size → zT κ E H1 (k + mc') (n + ms') pc L st C q) (kk : ∀ v H1, P' v H1 → H.size ≤ H1.size → zV κ E H1 (k + mc') (n + ms') (pc + 3) L (v.toList ++ st)) (hd1 : d' + 1 ≤ d := by omega) (hd2 : 19 + 2 + 40 * d' ≤ 40 * d := by omega) (hc1 : k + mc' ≤ mc := by omega) (hc2 : n + ms' ≤ ms := by omega) (hrm : (st.map fun v => v.category).sum ≤ 8 := by first | exact Nat.le_of_ble_eq_true rfl | (simp [va_rf_cat]; done)) : zV κ E H k n pc L (a0 :: .ref b :: st) := z_callR (na := 1) ok hM rfl hrecv q1082 (lw_app (lw_in4b q1081 q2261 q1083 q61) (lw_meth (q1084))) (by decide +kernel) rfl rfl dd hd1 hd2 hc1 hc2 hrm kx kk
theorem v_J5_399 {κ : zC} {E : zE} {d : Nat} {nm9 ds9 : String} {cc : ByteArray} {ret : Option FieldType} {hh : List (Nat × Nat × Nat × Nat)} {nL mc ms : Nat} {P : Option Value → Heap → Prop} {X : String → Heap → Prop} {H : Heap} {k n pc : Nat} {L : List (Option Value)} {st : List Value} {d' mc' ms' b : Nat} {P' : Option Value → Heap → Prop} {X' : String → Heap → Prop} {a0 a1 a2 : Value} (ok : zOK κ E d ⟨RJ5, nm9, ds9⟩ cc ret hh nL mc ms P X) (hM : zM E d' yJ7_getBytes (ws_ yJ7_getBytes cJ7_getBytes 4 none) mc' ms' H (.ref b :: [a0, a1, a2]) P' X') (hrecv : zIs E H b 13) (dd : decode cc pc = .ok (.invokevirtual 399, 3)) (kx : ∀ C q H1, X' C H1 → H.size ≤ H1.size → zT κ E H1 (k + mc') (n + ms') pc L st C q) (kk : ∀ v H1, P' v H1 → H.size ≤ H1.size → zV κ E H1 (k + mc') (n + ms') (pc + 3) L (v.toList ++ st)) (hd1 : d' + 1 ≤ d := by omega) (hd2 : 19 + 4 + 40 * d' ≤ 40 * d := by omega) (hc1 : k + mc' ≤ mc := by omega) (hc2 : n + ms' ≤ ms := by omega) (hrm : (st.map fun v => v.category).sum ≤ 8 := by first | exact Nat.le_of_ble_eq_true rfl | (simp [va_rf_cat]; done)) : zV κ E H k n pc L (a2 :: a1 :: a0 :: .ref b :: st) := z_callV (na := 3) ok hM rfl hrecv (lw_V q1105 q1106 q1107 q63 q1108) (by decide +kernel) rfl rfl dd hd1 hd2 hc1 hc2 hrm kx kk
theorem v_J5_32 {κ : zC} {E : zE} {d : Nat} {nm9 ds9 : String} {cc : ByteArray} {ret : Option FieldType} {hh : List (Nat × Nat × Nat × Nat)} {nL mc ms : Nat} {P : Option Value → Heap → Prop} {X : String → Heap → Prop} {H : Heap} {k n pc : Nat} {L : List (Option Value)} {st : List Value} {d' mc' ms' b : Nat} {P' : Option Value → Heap → Prop} {X' : String → Heap → Prop} (ok : zOK κ E d ⟨RJ5, nm9, ds9⟩ cc ret hh nL mc ms P X) (hM : zM E d' yJ7_length (ws_ yJ7_length cJ7_length 1 (some .int)) mc' ms' H (.ref b :: []) P' X') (hrecv : zIs E H b 13) (dd : decode cc pc = .ok (.invokevirtual 32, 3)) (kx : ∀ C q H1, X' C H1 → H.size ≤ H1.size → zT κ E H1 (k + mc') (n + ms') pc L st C q) (kk : ∀ v H1, P' v H1 → H.size ≤ H1.size → zV κ E H1 (k + mc') (n + ms') (pc + 3) L (v.toList ++ st)) (hd1 : d' + 1 ≤ d := by omega) (hd2 : 19 + 1 + 40 * d' ≤ 40 * d := by omega) (hc1 : k + mc' ≤ mc := by omega) (hc2 : n + ms' ≤ ms := by omega) (hrm : (st.map fun v => v.category).sum ≤ 8 := by first | exact Nat.le_of_ble_eq_true rfl | (simp [va_rf_cat]; done)) : zV κ E H k n pc L (.ref b :: st) := z_callV (na := 0) ok hM rfl hrecv (lw_V q1073 q1074 q1075 q63 q1076) (by decide +kernel) rfl rfl dd hd1 hd2 hc1 hc2 hrm kx kk
theorem v_J5_208_j6 {κ : zC} {E : zE} {d : Nat} {nm9 ds9 : String} {cc : ByteArray} {ret : Option FieldType} {hh : List (Nat × Nat × Nat × Nat)} {nL mc ms : Nat} {P : Option Value → Heap → Prop} {X : String → Heap → Prop} {H : Heap} {k n pc : Nat} {L : List (Option Value)} {st : List Value} {d' mc' ms' b : Nat} {P' : Option Value → Heap → Prop} {X' : String → Heap → Prop} {a0 a1 : Value} (ok : zOK κ E d ⟨RJ5, nm9, ds9⟩ cc ret hh nL mc ms P X) (hM : zM E d' yJ5_putStringAt (ws_ yJ5_putStringAt cJ5_putStringAt 3 none) mc' ms' H (.ref b :: [a0, a1]) P' X') (hrecv : zIs E H b 12) (dd : decode cc pc = .ok (.invokevirtual 208, 3)) (kx : ∀ C q H1, X' C H1 → H.size ≤ H1.size → zT κ E H1 (k + mc') (n + ms') pc L st C q) (kk : ∀ v H1, P' v H1 → H.size ≤ H1.size → zV κ E H1 (k + mc') (n + ms') (pc + 3) L (v.toList ++ st)) (hd1 : d' + 1 ≤ d := by omega) (hd2 : 19 + 3 + 40 * d' ≤ 40 * d := by omega) (hc1 : k + mc' ≤ mc := by omega) (hc2 : n + ms' ≤ ms := by omega) (hrm : (st.map fun v => v.category).sum ≤ 8 := by first | exact Nat.le_of_ble_eq_true rfl | (simp [va_rf_cat]; done)) : zV κ E H k n pc L (a1 :: a0 :: .ref b :: st) := z_callR (na := 2) ok hM rfl hrecv q1078 (lw_app (lw_in4b q1077 q2260 q1079 q61) (lw_meth (q1080))) (by decide +kernel) rfl rfl dd hd1 hd2 hc1 hc2 hrm kx kk
theorem v_J6_29_j6 {κ : zC} {E : zE} {d : Nat} {nm9 ds9 : String} {cc : ByteArray} {ret : Option FieldType} {hh : List (Nat × Nat × Nat × Nat)} {nL mc ms : Nat} {P : Option Value → Heap → Prop} {X : String → Heap → Prop} {H : Heap} {k n pc : Nat} {L : List (Option Value)} {st : List Value} {d' mc' ms' b : Nat} {P' : Option Value → Heap → Prop} {X' : String → Heap → Prop} {a0 : Value} (ok : zOK κ E d ⟨RJ6, nm9, ds9⟩ cc ret hh nL mc ms P X) (hM : zM E d' yJ5_append (ws_ yJ5_append cJ5_append 3 (some (.object "java/lang/AbstractStringBuilder"))) mc' ms' H (.ref b :: [a0]) P' X') (hrecv : zIs E H b 12) (dd : decode cc pc = .ok (.invokespecial 29, 3)) (kx : ∀ C q H1, X' C H1 → H.size ≤ H1.size → zT κ E H1 (k + mc') (n + ms') pc L st C q) (kk : ∀ v H1, P' v H1 → H.size ≤ H1.size → zV κ E H1 (k + mc') (n + ms') (pc + 3) L (v.toList ++ st)) (hd1 : d' + 1 ≤ d := by omega) (hd2 : 19 + 3 + 40 * d' ≤ 40 * d := by omega) (hc1 : k + mc' ≤ mc := by omega) (hc2 : n + ms' ≤ ms := by omega) (hrm : (st.map fun v => v.category).sum ≤ 8 := by first | exact Nat.le_of_ble_eq_true rfl | (simp [va_rf_cat]; done)) : zV κ E H k n pc L (a0 :: .ref b :: st) := z_callSU (na := 1) ok hM rfl hrecv (lw_app (lw_in4 q1034 q2256 q210 q1035 q61) (lw_meth (q1036))) (by decide +kernel) rfl rfl dd hd1 hd2 hc1 hc2 hrm kx kk
theorem v_J6_53_j6 {κ : zC} {E : zE} {d : Nat} {nm9 ds9 : String} {cc : ByteArray} {ret : Option FieldType} {hh : List (Nat × Nat × Nat × Nat)} {nL mc ms : Nat} {P : Option Value → Heap → Prop} {X : String → Heap → Prop} {H : Heap} {k n pc : Nat} {L : List (Option Value)} {st : List Value} {d' mc' ms' b : Nat} {P' : Option Value → Heap → Prop} {X' : String → Heap → Prop} {a0 : Value} (ok : zOK κ E d ⟨RJ6, nm9, ds9⟩ cc ret hh nL mc ms P X) (hM : zM E d' yJ5_append_2 (ws_ yJ5_append_2 cJ5_append_2 4 (some (.object "java/lang/AbstractStringBuilder"))) mc' ms' H (.ref b :: [a0]) P' X') (hrecv : zIs E H b 12) (dd : decode cc pc = .ok (.invokespecial 53, 3)) (kx : ∀ C q H1, X' C H1 → H.size ≤ H1.size → zT κ E H1 (k + mc') (n + ms') pc L st C q) (kk : ∀ v H1, P' v H1 → H.size ≤ H1.size → zV κ E H1 (k + mc') (n + ms') (pc + 3) L (v.toList ++ st)) (hd1 : d' + 1 ≤ d := by omega) (hd2 : 19 + 4 + 40 * d' ≤ 40 * d := by omega) (hc1 : k + mc' ≤ mc := by omega) (hc2 : n + ms' ≤ ms := by omega) (hrm : (st.map fun v => v.category).sum ≤ 8 := by first | exact Nat.le_of_ble_eq_true rfl | (simp [va_rf_cat]; done)) : zV κ E H k n pc L (a0 :: .ref b :: st) := z_callSU (na := 1) ok hM rfl hrecv (lw_app (lw_in4 q1115 q2263 q210 q1116 q61) (lw_meth (q1117))) (by decide +kernel) rfl rfl dd hd1 hd2 hc1 hc2 hrm kx kk
theorem v_J6_50_j6 {κ : zC} {E : zE} {d : Nat} {nm9 ds9 : String} {cc : ByteArray} {ret : Option FieldType} {hh : List (Nat × Nat × Nat × Nat)} {nL mc ms : Nat} {P : Option Value → Heap → Prop} {X : String → Heap → Prop} {H : Heap} {k n pc : Nat} {L : List (Option Value)} {st : List Value} {d' mc' ms' b : Nat} {P' : Option Value → Heap → Prop} {X' : String → Heap → Prop} {a0 : Value} (ok : zOK κ E d ⟨RJ6, nm9, ds9⟩ cc ret hh nL mc ms P X) (hM : zM E d' yJ5_append_3 (ws_ yJ5_append_3 cJ5_append_3 2 (some (.object "java/lang/AbstractStringBuilder"))) mc' ms' H (.ref b :: [a0]) P' X') (hrecv : zIs E H b 12) (dd : decode cc pc = .ok (.invokespecial 50, 3)) (kx : ∀ C q H1, X' C H1 → H.size ≤ H1.size → zT κ E H1 (k + mc') (n + ms') pc L st C q) (kk : ∀ v H1, P' v H1 → H.size ≤ H1.size → zV κ E H1 (k + mc') (n + ms') (pc + 3) L (v.toList ++ st)) (hd1 : d' + 1 ≤ d := by omega) (hd2 : 19 + 2 + 40 * d' ≤ 40 * d := by omega) (hc1 : k + mc' ≤ mc := by omega) (hc2 : n + ms' ≤ ms := by omega) (hrm : (st.map fun v => v.category).sum ≤ 8 := by first | exact Nat.le_of_ble_eq_true rfl | (simp [va_rf_cat]; done)) : zV κ E H k n pc L (a0 :: .ref b :: st) := z_callSU (na := 1) ok hM rfl hrecv (lw_app (lw_in4 q1876 q2266 q210 q1877 q61) (lw_meth (q1878))) (by decide +kernel) rfl rfl dd hd1 hd2 hc1 hc2 hrm kx kk
theorem p_J5_73 {κ : zC} {E : zE} {d : Nat} {nm9 ds9 : String} {cc : ByteArray} {ret : Option FieldType} {hh : List (Nat × Nat × Nat × Nat)} {nL mc ms : Nat} {P : Option Value → Heap → Prop} {X : String → Heap → Prop} {H : Heap} {k n pc : Nat} {L : List (Option Value)} {st : List Value} {a : Nat} {f0 f1 f2 f3 : Value} {x : Int32} (ok : zOK κ E d ⟨RJ5, nm9, ds9⟩ cc ret hh nL mc ms P X) (hat : zAt E H a (.inr (12, [f0, f1, f2, f3]))) (dd : decode cc pc = .ok (.putfield 73, 3)) (kk : ∀ H1, zWr E H a (.inr (12, [f0, f1, .int x, f3])) H1 → zV κ E H1 k n (pc + 3) L st) (hz : narrow (tyJ6 2) (.int x) = .int x := by rfl) (hz2 : fits (tyJ6 2) (.int x) = true := by rfl) : zV κ E H k n pc L (.int x :: .ref a :: st) := z_put ok (N := 4) (j := 2) rfl in_J6 tyJ6 tyJ6_ok nmJ6 (by decide) q199 (Or.inl rfl) rfl (tyJ6_ok 2 (by decide)) hz hz2 hat (by show 2 < 4; decide) dd kk
theorem v_J6_333_j6 {κ : zC} {E : zE} {d : Nat} {nm9 ds9 : String} {cc : ByteArray} {ret : Option FieldType} {hh : List (Nat × Nat × Nat × Nat)} {nL mc ms : Nat} {P : Option Value → Heap → Prop} {X : String → Heap → Prop} {H : Heap} {k n pc : Nat} {L : List (Option Value)} {st : List Value} {d' mc' ms' b : Nat} {P' : Option Value → Heap → Prop} {X' : String → Heap → Prop} {a0 : Value} (ok : zOK κ E d ⟨RJ6, nm9, ds9⟩ cc ret hh nL mc ms P X) (hM : zM E d' yJ5_setLength (ws_ yJ5_setLength cJ5_setLength 2 none) mc' ms' H (.ref b :: [a0]) P' X') (hrecv : zIs E H b 12) (dd : decode cc pc = .ok (.invokespecial 333, 3)) (kx : ∀ C q H1, X' C H1 → H.size ≤ H1.size → zT κ E H1 (k + mc') (n + ms') pc L st C q) (kk : ∀ v H1, P' v H1 → H.size ≤ H1.size → zV κ E H1 (k + mc') (n + ms') (pc + 3) L (v.toList ++ st)) (hd1 : d' + 1 ≤ d := by omega) (hd2 : 19 + 2 + 40 * d' ≤ 40 * d := by omega) (hc1 : k + mc' ≤ mc := by omega) (hc2 : n + ms' ≤ ms := by omega) (hrm : (st.map fun v => v.category).sum ≤ 8 := by first | exact Nat.le_of_ble_eq_true rfl | (simp [va_rf_cat]; done)) : zV κ E H k n pc L (a0 :: .ref b :: st) := z_callSU (na := 1) ok hM rfl hrecv (lw_app (lw_in4 q1824 q2265 q210 q1825 q61) (lw_meth (q1826))) (by decide +kernel) rfl rfl dd hd1 hd2 hc1 hc2 hrm kx kk
theorem v_J7_1059 {κ : zC} {E : zE} {d : Nat} {nm9 ds9 : String} {cc : ByteArray} {ret : Option FieldType} {hh : List (Nat × Nat × Nat × Nat)} {nL mc ms : Nat} {P : Option Value → Heap → Prop} {X : String → Heap → Prop} {H : Heap} {k n pc : Nat} {L : List (Option Value)} {st : List Value} {d' mc' ms' : Nat} {P' : Option Value → Heap → Prop} {X' : String → Heap → Prop} {a0 a1 a2 : Value} (ok : zOK κ E d ⟨RJ7, nm9, ds9⟩ cc ret hh nL mc ms P X) (hM : zM E d' yJ18_checkIndex (ws_ yJ18_checkIndex cJ18_checkIndex 3 (some .int)) mc' ms' H [a0, a1, a2] P' X') (dd : decode cc pc = .ok (.invokestatic 1059, 3)) (kx : ∀ C q H1, X' C H1 → H.size ≤ H1.size → zT κ E H1 (k + mc') (n + ms') pc L st C q) (kk : ∀ v H1, P' v H1 → H.size ≤ H1.size → zV κ E H1 (k + mc') (n + ms') (pc + 3) L (v.toList ++ st)) (hd1 : d' + 1 ≤ d := by omega) (hd2 : 19 + 3 + 40 * d' ≤ 40 * d := by omega) (hc1 : k + mc' ≤ mc := by omega) (hc2 : n + ms' ≤ ms := by omega) (hrm : (st.map fun v => v.category).sum ≤ 8 := by first | exact Nat.le_of_ble_eq_true rfl | (simp [va_rf_cat]; done)) : zV κ E H k n pc L (a2 :: a1 :: a0 :: st) := z_callS (na := 3) ok hM (lw_S q388 q389 q77 q390) (by decide +kernel) rfl rfl dd hd1 hd2 hc1 hc2 hrm kx kk
theorem v_J5_144 {κ : zC} {E : zE} {d : Nat} {nm9 ds9 : String} {cc : ByteArray} {ret : Option FieldType} {hh : List (Nat × Nat × Nat × Nat)} {nL mc ms : Nat} {P : Option Value → Heap → Prop} {X : String → Heap → Prop} {H : Heap} {k n pc : Nat} {L : List (Option Value)} {st : List Value} {d' mc' ms' : Nat} {P' : Option Value → Heap → Prop} {X' : String → Heap → Prop} {a0 a1 : Value} (ok : zOK κ E d ⟨RJ5, nm9, ds9⟩ cc ret hh nL mc ms P X) (hM : zM E d' yJ7_checkIndex (ws_ yJ7_checkIndex cJ7_checkIndex 2 none) mc' ms' H [a0, a1] P' X') (dd : decode cc pc = .ok (.invokestatic 144, 3)) (kx : ∀ C q H1, X' C H1 → H.size ≤ H1.size → zT κ E H1 (k + mc') (n + ms') pc L st C q) (kk : ∀ v H1, P' v H1 → H.size ≤ H1.size → zV κ E H1 (k + mc') (n + ms') (pc + 3) L (v.toList ++ st)) (hd1 : d' + 1 ≤ d := by omega) (hd2 : 19 + 2 + 40 * d' ≤ 40 * d := by omega) (hc1 : k + mc' ≤ mc := by omega) (hc2 : n + ms' ≤ ms := by omega) (hrm : (st.map fun v => v.category).sum ≤ 8 := by first | exact Nat.le_of_ble_eq_true rfl | (simp [va_rf_cat]; done)) : zV κ E H k n pc L (a1 :: a0 :: st) := z_callS (na := 2) ok hM (lw_S q383 q384 q63 q385) (by decide +kernel) rfl rfl dd hd1 hd2 hc1 hc2 hrm kx kk
theorem p_J5_22 {κ : zC} {E : zE} {d : Nat} {nm9 ds9 : String} {cc : ByteArray} {ret : Option FieldType} {hh : List (Nat × Nat × Nat × Nat)} {nL mc ms : Nat} {P : Option Value → Heap → Prop} {X : String → Heap → Prop} {H : Heap} {k n pc : Nat} {L : List (Option Value)} {st : List Value} {a : Nat} {f0 f1 f2 f3 : Value} {x : Int32} (ok : zOK κ E d ⟨RJ5, nm9, ds9⟩ cc ret hh nL mc ms P X) (hat : zAt E H a (.inr (12, [f0, f1, f2, f3]))) (dd : decode cc pc = .ok (.putfield 22, 3)) (kk : ∀ H1, zWr E H a (.inr (12, [f0, .int x, f2, f3])) H1 → zV κ E H1 k n (pc + 3) L st) (hz : narrow (tyJ6 1) (.int x) = .int x := by rfl) (hz2 : fits (tyJ6 1) (.int x) = true := by rfl) : zV κ E H k n pc L (.int x :: .ref a :: st) := z_put ok (N := 4) (j := 1) rfl in_J6 tyJ6 tyJ6_ok nmJ6 (by decide) q198 (Or.inl rfl) rfl (tyJ6_ok 1 (by decide)) hz hz2 hat (by show 1 < 4; decide) dd kk
theorem v_J6_1 {κ : zC} {E : zE} {d : Nat} {nm9 ds9 : String} {cc : ByteArray} {ret : Option FieldType} {hh : List (Nat × Nat × Nat × Nat)} {nL mc ms : Nat} {P : Option Value → Heap → Prop} {X : String → Heap → Prop} {H : Heap} {k n pc : Nat} {L : List (Option Value)} {st : List Value} {d' mc' ms' b : Nat} {P' : Option Value → Heap → Prop} {X' : String → Heap → Prop} {a0 : Value} (ok : zOK κ E d ⟨RJ6, nm9, ds9⟩ cc ret hh nL mc ms P X) (hM : zM E d' yJ5_init (ws_ yJ5_init cJ5_init 2 none) mc' ms' H (.ref b :: [a0]) P' X') (dd : decode cc pc = .ok (.invokespecial 1, 3)) (kx : ∀ C q H1, X' C H1 → H.size ≤ H1.size → zT κ E H1 (k + mc') (n + ms') pc L st C q) (kk : ∀ v H1, P' v H1 → H.size ≤ H1.size → zV κ E H1 (k + mc') (n + ms') (pc + 3) L (v.toList ++ st)) (hd1 : d' + 1 ≤ d := by omega) (hd2 : 19 + 2 + 40 * d' ≤ 40 * d := by omega) (hc1 : k + mc' ≤ mc := by omega) (hc2 : n + ms' ≤ ms := by omega) (hrm : (st.map fun v => v.category).sum ≤ 8 := by first | exact Nat.le_of_ble_eq_true rfl | (simp [va_rf_cat]; done)) : zV κ E H k n pc L (a0 :: .ref b :: st) := z_callI (na := 1) ok hM (lw_meth (q186)) q61 q184 q185 rfl (by decide +kernel) rfl rfl dd hd1 hd2 hc1 hc2 hrm kx kk
theorem g_J7_19 {κ : zC} {E : zE} {d : Nat} {nm9 ds9 : String} {cc : ByteArray} {ret : Option FieldType} {hh : List (Nat × Nat × Nat × Nat)} {nL mc ms : Nat} {P : Option Value → Heap → Prop} {X : String → Heap → Prop} {H : Heap} {k n pc : Nat} {L : List (Option Value)} {st : List Value} {a : Nat} {f0 f1 f2 f3 : Value} (ok : zOK κ E d ⟨RJ7, nm9, ds9⟩ cc ret hh nL mc ms P X) (hob : zOb E H a 13 [f0, f1, f2, f3]) (dd : decode cc pc = .ok (.getfield 19, 3)) (kk : zV κ E H k n (pc + 3) L (f2 :: st)) : zV κ E H k n pc L (.ref a :: st) := z_get ok (N := 4) (j := 2) rfl in_J7 (by decide) q1198 (Or.inl rfl) hob rfl dd kk
