/-! THE JDK's classes: what their objects hold -/
set_option maxRecDepth 100000
theorem nI_nle0 {a : Nat} (h : 0 < a) (h2 : a < 2 ^ 31) : ¬ nI a ≤ 0 := nI_nle h h2
theorem nI_0lt {a : Nat} (h : 0 < a) (h2 : a < 2 ^ 31) : (0 : Int32) < nI a := by
  rw [← nI_0, nI_ltI (by omega) h2]
  exact h
theorem nI_max {a b : Nat} (ha : a < 2 ^ 31) (hb : b < 2 ^ 31) : (if nI a < nI b then nI b else nI a) = nI (max a b) := by
  by_cases h : a < b
  · rw [if_pos ((nI_ltI ha hb).mpr h), Nat.max_eq_right (by omega)]
  · rw [if_neg (fun z => h ((nI_ltI ha hb).mp z)), Nat.max_eq_left (by omega)]
theorem nI_min {a b : Nat} (ha : a < 2 ^ 31) (hb : b < 2 ^ 31) : (if nI b < nI a then nI b else nI a) = nI (min a b) := by
  by_cases h : b < a
  · rw [if_pos ((nI_ltI hb ha).mpr h), Nat.min_eq_right (by omega)]
  · rw [if_neg (fun z => h ((nI_ltI hb ha).mp z)), Nat.min_eq_left (by omega)]
theorem nI_half {a : Nat} (h : a < 2 ^ 31) : nI a >>> (1 &&& 31 : Int32) = nI (a / 2) := pk_shrN h _ 1 (by decide)
/-! ArrayList -/
abbrev ALo (mc : Int32) (e n : Nat) : va_E := .inr (10, [.int mc, .ref e, .int (nI n)])
/-- the list l of n references: its array e has the room cap -/
def AL (E : zE) (H : Heap) (l : Nat) (mc : Int32) (e cap n : Nat) (f : Nat → Option Nat) : Prop :=
  zAt E H l (ALo mc e n) ∧ n ≤ cap ∧ cap ≤ 60 ∧ ((cap = 0 ∧ e = E.2.2.2.2.2.2 0) ∨ (1 ≤ cap ∧ e ≠ l ∧ zAt E H e (zQ E cap f)))
/-- .. its array grew -/
def ALg (E : zE) (H : Heap) (l : Nat) (mc : Int32) (n : Nat) (f : Nat → Option Nat) (q : Nat) (H1 : Heap) : Prop :=
  ∃ cap f', zAt E H1 l (ALo mc q n) ∧ zAt E H1 q (zQ E cap f') ∧ n < cap ∧ cap ≤ 60 ∧ (∀ i, i < n → f' i = f i) ∧ q = H.size ∧ H1.size = H.size + 1 ∧ ∀ r : Nat, r < H.size → r ≠ l → H1[r]? = H[r]?
/-- .. and took x at its end -/
def ALa (E : zE) (H : Heap) (l : Nat) (e n : Nat) (f : Nat → Option Nat) (x : Nat) (H1 : Heap) : Prop :=
  ∃ mc e' cap f', AL E H1 l mc e' cap (n + 1) f' ∧ (∀ i, i < n → f' i = f i) ∧ f' n = some x ∧ H.size ≤ H1.size ∧ (e' = e ∨ H.size ≤ e') ∧ ∀ r : Nat, r < H.size → r ≠ l → (zB E ≤ e → r ≠ e) → H1[r]? = H[r]?
theorem AL.at {E : zE} {H : Heap} {l : Nat} {mc : Int32} {e cap n : Nat} {f : Nat → Option Nat} (h : AL E H l mc e cap n f) : zAt E H l (ALo mc e n) := h.1
theorem AL.arr {E : zE} {H : Heap} {l : Nat} {mc : Int32} {e cap n : Nat} {f : Nat → Option Nat} (h : AL E H l mc e cap n f) (hn : 0 < n) : zAt E H e (zQ E cap f) := by
  obtain ⟨h1, h2, h3, ⟨h4, h5⟩ | ⟨h4, h5, h6⟩⟩ := h
  · omega
  · exact h6
theorem ALg.mk0 {E : zE} {H H1 H2 : Heap} {l q n : Nat} {mc : Int32} {cap : Nat} {f f' : Nat → Option Nat} (h : zAt E H l (ALo mc 0 n) ∨ l < H.size) (k : zMk E H q (zQ E cap f') H1) (w : zWr E H1 l (ALo mc q n) H2) (hc : n < cap) (hc2 : cap ≤ 60) (hf : ∀ i, i < n → f' i = f i) : ALg E H l mc n f q H2 := by
  obtain ⟨k1, k2, k3, k4⟩ := k
  obtain ⟨w1, w2, w3⟩ := w
  have hl : l < H.size := by
    rcases h with h | h
    · exact h.lt
    · exact h
  exact ⟨cap, f', w1, k2.kept (w3 q (by omega)), hc, hc2, hf, k1, by omega, fun r h1 h2 => (w3 r h2).trans (k4 r h1)⟩
theorem cpy_n {f g : Nat → Option Nat} {n i : Nat} (h : i < n) : va_cpy f g 0 0 n i = f i := by
  rw [pk_cpy_in (Nat.zero_le _) (by omega)]
  congr 1
  omega
/-- a new cell, then written to: the same as made so -/
theorem zMk.wr {E : zE} {H H1 H2 : Heap} {q : Nat} {x x2 : va_E} (k : zMk E H q x H1) (w : zWr E H1 q x2 H2) : zMk E H q x2 H2 := ⟨k.1, w.1, by rw [w.2.1]; exact k.2.2.1, fun r hr => (w.2.2 r (by have := k.1; omega)).trans (k.2.2.2 r hr)⟩
theorem zWr.tr {E : zE} {H H1 H2 : Heap} {a : Nat} {x x2 : va_E} (w : zWr E H a x H1) (w2 : zWr E H1 a x2 H2) : zWr E H a x2 H2 := ⟨w2.1, w2.2.1.trans w.2.1, fun q hq => (w2.2.2 q hq).trans (w.2.2 q hq)⟩
theorem ALa.mk {E : zE} {H H1 H2 H3 : Heap} {l e e1 n x cap1 : Nat} {mc : Int32} {f f1 : Nat → Option Nat} (w1 : zWr E H1 e1 (zQ E cap1 (va_up f1 n (some x))) H2) (w2 : zWr E H2 l (ALo mc e1 (n + 1)) H3) (g3 : n < cap1) (g4 : cap1 ≤ 60) (g5 : e1 ≠ l) (g7 : ∀ i, i < n → f1 i = f i) (g8 : H.size ≤ H1.size) (g9 : e1 = e ∨ H.size ≤ e1) (g10 : ∀ r : Nat, r < H.size → r ≠ l → H1[r]? = H[r]?) (_ : l < H.size) : ALa E H l e n f x H3 := by
  obtain ⟨a1, a2, a3⟩ := w1
  obtain ⟨b1, b2, b3⟩ := w2
  refine ⟨mc, e1, cap1, va_up f1 n (some x), ⟨b1, by omega, g4, Or.inr ⟨by omega, g5, a1.kept (b3 e1 g5)⟩⟩, fun i hi => ?_, ?_, by omega, g9, fun r h1 h2 h3 => ?_⟩
  · simp only [va_up, if_neg (show i ≠ n by omega)]
    exact g7 i hi
  · simp [va_up]
  · rw [b3 r h2, a3 r (fun z => ?_), g10 r h1 h2]
    rcases g9 with g9 | g9
    · exact h3 (by rw [← g9]; exact a1.new) (z.trans g9)
    · omega
theorem AL.mod {E : zE} {H H1 : Heap} {l e cap n ci : Nat} {mc mc2 : Int32} {f : Nat → Option Nat} (h : AL E H l mc e cap n f) (w : zWr E H l (ALo mc2 e n) H1) (hel : ∀ i, i < n → ∀ r, f i = some r → zIs E H r ci) (hnl : ∀ i, i < n → ∀ r, f i = some r → r ≠ l) : AL E H1 l mc2 e cap n f ∧ ∀ i, i < n → ∀ r, f i = some r → zIs E H1 r ci := by
  obtain ⟨h1, h2, h3, h4⟩ := h
  refine ⟨⟨w.1, h2, h3, ?_⟩, fun i hi r hr => (hel i hi r hr).kept (w.2.2 r (hnl i hi r hr))⟩
  rcases h4 with h4 | ⟨h4, h5, h6⟩
  · exact Or.inl h4
  · exact Or.inr ⟨h4, h5, h6.kept (w.2.2 e h5)⟩
theorem ALa.pre {E : zE} {H H1 H2 : Heap} {l e n x : Nat} {y : va_E} {f : Nat → Option Nat} (h : ALa E H1 l e n f x H2) (w : zWr E H l y H1) : ALa E H l e n f x H2 := by
  obtain ⟨mc, e', cap, f', a1, a2, a3, a4, a5, a6⟩ := h
  refine ⟨mc, e', cap, f', a1, a2, a3, by rw [← w.2.1]; exact a4, by rw [← w.2.1]; exact a5, fun r h1 h2 h3 => (a6 r (by rw [w.2.1]; exact h1) h2 h3).trans (w.2.2 r h2)⟩
/-! Integer -/
theorem vb_cN {x : Nat} (h : x < 128) : vb_c (128 + x) = nI x := by
  have : ∀ x, x < 128 → vb_c (128 + x) = nI x := by decide +kernel
  exact this x h
theorem zOK.box {κ : zC} {E : zE} {d : Nat} {y : MethodName} {cc : ByteArray} {ret : Option FieldType} {hh : List (Nat × Nat × Nat × Nat)} {nL mc ms : Nat} {P : Option Value → Heap → Prop} {X : String → Heap → Prop} (ok : zOK κ E d y cc ret hh nL mc ms P X) {x : Nat} (hx : x < 128) : zOb E E.2.1 (E.2.2.2.1 (128 + x)) 14 [.int (nI x)] := by
  obtain ⟨U, hU⟩ := ok.kn
  have := hU.box (k := 128 + x) (by omega)
  rw [vb_cN hx] at this
  exact this
def mCmp (x y : Int32) : Int32 := if x < y then -1 else if x = y then 0 else 1
/-! PriorityQueue of items: what an item is ordered by -/
/-- an item at r with the number i and the day g: its key is 64 g + i -/
def zKey (E : zE) (H : Heap) (r k : Nat) : Prop := ∃ (f1 f2 f3 f4 f5 f6 f7 f8 : Value) (i g : Nat), zOb E H r 5 [.int (nI i), f1, f2, f3, f4, f5, f6, f7, f8, .int (nI g)] ∧ k = g * 64 + i ∧ i < 64 ∧ g < 1000000
def mEar (g1 i1 g2 i2 : Int32) : Int32 := if g1 = g2 then i1 - i2 else g1 - g2
theorem nI_subs {a b : Nat} (ha : a < 1000000) (hb : b < 1000000) : (nI a - nI b < 0 ↔ a < b) ∧ (0 < nI a - nI b ↔ b < a) := by
  have h := pk_sub_toInt (a := a) (b := b) (by omega) (by omega)
  have h0 : (0 : Int32).toInt = 0 := by decide
  rw [Int32.lt_iff_toInt_lt, Int32.lt_iff_toInt_lt, h, h0]
  omega
theorem mEar_k {g1 i1 g2 i2 : Nat} (h1 : i1 < 64) (h2 : i2 < 64) (h3 : g1 < 1000000) (h4 : g2 < 1000000) : (mEar (nI g1) (nI i1) (nI g2) (nI i2) < 0 ↔ g1 * 64 + i1 < g2 * 64 + i2) ∧ (0 < mEar (nI g1) (nI i1) (nI g2) (nI i2) ↔ g2 * 64 + i2 < g1 * 64 + i1) := by
  unfold mEar
  by_cases e : nI g1 = nI g2
  · rw [if_pos e, (nI_subs (by omega) (by omega)).1, (nI_subs (by omega) (by omega)).2]
    have := (nI_eq (by omega) (by omega)).mp e
    omega
  · rw [if_neg e, (nI_subs h3 h4).1, (nI_subs h3 h4).2]
    have : g1 ≠ g2 := fun z => e (by rw [z])
    omega
theorem zKey.kept {E : zE} {H H1 : Heap} {r k : Nat} (h : zKey E H r k) (hq : H1[r]? = H[r]?) : zKey E H1 r k := by
  obtain ⟨f1, f2, f3, f4, f5, f6, f7, f8, i, g, h1, h2⟩ := h
  exact ⟨f1, f2, f3, f4, f5, f6, f7, f8, i, g, h1.kept hq, h2⟩
theorem zKey.is {E : zE} {H : Heap} {r k : Nat} (h : zKey E H r k) : zIs E H r 5 := by
  obtain ⟨f1, f2, f3, f4, f5, f6, f7, f8, i, g, h1, h2⟩ := h
  exact h1.is
/-- what a comparison answers -/
def zCmp (H : Heap) (k1 k2 : Nat) : Option Value → Heap → Prop := fun v H1 => ∃ c : Int32, v = some (.int c) ∧ H1 = H ∧ (c < 0 ↔ k1 < k2) ∧ (0 < c ↔ k2 < k1)
theorem zk_Cmp {κ : zC} {E : zE} {H : Heap} {k n pc k1 k2 : Nat} {L : List (Option Value)} {st : List Value} (h : ∀ c : Int32, (c < 0 ↔ k1 < k2) → (0 < c ↔ k2 < k1) → zV κ E H k n pc L (.int c :: st)) : ∀ v H1, zCmp H k1 k2 v H1 → H.size ≤ H1.size → zV κ E H1 (k + 0) (n + 0) pc L (v.toList ++ st) := by
  rintro _ _ ⟨c, rfl, rfl, h1, h2⟩ _
  exact h c h1 h2
theorem zWr.rf {E : zE} {H : Heap} {a : Nat} {x : va_E} (h : zAt E H a x) : zWr E H a x H := ⟨h, rfl, fun _ _ => rfl⟩
/-- the row's first n are a's -/
def qF (n : Nat) (a : Nat → Nat) (f : Nat → Option Nat) : Prop := ∀ j, j < n → f j = some (a j)
/-- .. the hole at k apart -/
def qFh (n k : Nat) (a : Nat → Nat) (f : Nat → Option Nat) : Prop := ∀ j, j < n → j ≠ k → f j = some (a j)
theorem qFh.fill {n k x : Nat} {a : Nat → Nat} {f : Nat → Option Nat} (h : qFh n k a f) : qF n (ua a k x) (va_up f k (some x)) := fun j hj => by
  by_cases q : j = k
  · simp [ua, va_up, q]
  · simp only [ua, va_up, if_neg q]
    exact h j hj q
theorem qFh.move {n k p : Nat} {a : Nat → Nat} {f : Nat → Option Nat} (h : qFh n k a f) : qFh n p (ua a k (a p)) (va_up f k (some (a p))) := fun j hj hjp => by
  by_cases q : j = k
  · simp [ua, va_up, q]
  · simp only [ua, va_up, if_neg q]
    exact h j hj q
/-- the rest of the row is as it was -/
def qRest (n : Nat) (f f' : Nat → Option Nat) : Prop := ∀ j, n ≤ j → f' j = f j
theorem qRest.up {n k : Nat} {f f' : Nat → Option Nat} {v : Option Nat} (h : qRest n f f') (hk : k < n) : qRest n f (va_up f' k v) := fun j hj => by
  simp only [va_up, if_neg (show j ≠ k by omega)]
  exact h j hj
/-- what sifting leaves: the row e holds b's first n -/
def qOut (E : zE) (H : Heap) (e cap n : Nat) (f : Nat → Option Nat) (b : Nat → Nat) (H1 : Heap) : Prop := ∃ f', zWr E H e (zQ E cap f') H1 ∧ qF n b f' ∧ qRest n f f'
theorem nI_par {k : Nat} (h : k < 1000000) (h0 : ¬ nI k ≤ 0) : 0 < k := by
  rcases Nat.eq_zero_or_pos k with rfl | q
  · exact absurd (by decide) h0
  · exact q
theorem nI_ush {k : Nat} (h : k < 1000000) : ((nI k).toUInt32 >>> ((1 : Int32).toUInt32 &&& Int32.toUInt32 31)).toInt32 = nI (k / 2) := pk_ushrN (by omega) _ 1 (by decide)
theorem nI_shl1 {k : Nat} (h : k < 1000000) : nI k <<< (1 &&& 31 : Int32) = nI (2 * k) := by
  rw [Nat.mul_comm]
  exact pk_shlN _ 1 (by decide) (by omega)
theorem zdrop6 {a b c d e f : Option Value} : ∀ i v, zget [a, b, c, d, none, none] i = some v → zget [a, b, c, d, e, f] i = some v := fun i v h => by
  match i with
  | 0 => exact h
  | 1 => exact h
  | 2 => exact h
  | 3 => exact h
  | 4 => cases h
  | 5 => cases h
  | n + 6 => cases h
theorem zdrop9 {a b c d e f g h i : Option Value} : ∀ j v, zget [a, b, c, d, e, f, none, none, none] j = some v → zget [a, b, c, d, e, f, g, h, i] j = some v := fun j v hj => by
  match j with
  | 0 => exact hj
  | 1 => exact hj
  | 2 => exact hj
  | 3 => exact hj
  | 4 => exact hj
  | 5 => exact hj
  | 6 => cases hj
  | 7 => cases hj
  | 8 => cases hj
  | n + 9 => cases hj
/-- a queue p of the n items in S, made from lo on -/
def PQ (E : zE) (H : Heap) (lo p cap n : Nat) (K : Nat → Nat) (S : Nat → Prop) : Prop :=
  ∃ (e c : Nat) (md : Int32) (a : Nat → Nat) (f : Nat → Option Nat), zAt E H p (.inr (16, [.ref e, .int (nI n), .ref c, .int md])) ∧ zAt E H e (zQ E cap f) ∧ zIs E H c 8 ∧ (n ≤ cap ∧ cap < 1000 ∧ lo ≤ p ∧ lo ≤ e ∧ lo ≤ c ∧ e ≠ p ∧ c ≠ e ∧ c ≠ p) ∧ qF n a f ∧ qHp K n a ∧ qAll n a S ∧ ∀ r, S r → zKey E H r (K r) ∧ r < lo
theorem PQ.wr {E : zE} {H H1 : Heap} {lo p cap n r : Nat} {K : Nat → Nat} {S : Nat → Prop} {x : va_E} (h : PQ E H lo p cap n K S) (w : zWr E H r x H1) (hr : ¬ S r) (hlo : r < lo) : PQ E H1 lo p cap n K S := by
  obtain ⟨e, c, md, a, f, h1, h2, h3, ⟨a1, a2, a3, a4, a5, a6, a7, a8⟩, h5, h6, h7, h8⟩ := h
  exact ⟨e, c, md, a, f, h1.kept (w.2.2 p (by omega)), h2.kept (w.2.2 e (by omega)), h3.kept (w.2.2 c (by omega)), ⟨a1, a2, a3, a4, a5, a6, a7, a8⟩, h5, h6, h7, fun q hq => ⟨(h8 q hq).1.kept (w.2.2 q (fun z => hr (z ▸ hq))), (h8 q hq).2⟩⟩
theorem PQ.kept {E : zE} {H H1 : Heap} {lo p cap n : Nat} {K : Nat → Nat} {S : Nat → Prop} (h : PQ E H lo p cap n K S) (w : ∀ q : Nat, q < H.size → H1[q]? = H[q]?) : PQ E H1 lo p cap n K S := by
  obtain ⟨e, c, md, a, f, h1, h2, h3, ha, h5, h6, h7, h8⟩ := h
  exact ⟨e, c, md, a, f, h1.kept (w p h1.lt), h2.kept (w e h2.lt), h3.kept (w c h3.lt), ha, h5, h6, h7, fun q hq => ⟨(h8 q hq).1.kept (w q (h8 q hq).1.is.lt), (h8 q hq).2⟩⟩
/-- the queue took x -/
def PQa (E : zE) (H : Heap) (lo p cap n x : Nat) (K : Nat → Nat) (S : Nat → Prop) (H1 : Heap) : Prop := PQ E H1 lo p cap (n + 1) K (fun r => r = x ∨ S r) ∧ H.size ≤ H1.size ∧ ∀ r : Nat, r < lo → H1[r]? = H[r]?
/-- the queue's row grew -/
def PQg (E : zE) (H : Heap) (p n c : Nat) (md : Int32) (f : Nat → Option Nat) (H1 : Heap) : Prop := ∃ q f', q = H.size ∧ zAt E H1 p (.inr (16, [.ref q, .int (nI n), .ref c, .int md])) ∧ zAt E H1 q (zQ E (2 * n + 2) f') ∧ (∀ i, i < n → f' i = f i) ∧ H1.size = H.size + 1 ∧ ∀ r : Nat, r < H.size → r ≠ p → H1[r]? = H[r]?
theorem PQ.took {E : zE} {H0 H1 H2 H3 : Heap} {lo p cap n x e c : Nat} {md : Int32} {K : Nat → Nat} {S : Nat → Prop} {a : Nat → Nat} {f : Nat → Option Nat} (h9 : qOut E H1 e cap (n + 1) f (qUp K x n n a) H2) (w : zWr E H2 p (.inr (16, [.ref e, .int (nI (n + 1)), .ref c, .int md])) H3) (h3 : zIs E H1 c 8) (ar : n < cap ∧ cap < 1000 ∧ lo ≤ p ∧ lo ≤ e ∧ lo ≤ c ∧ e ≠ p ∧ c ≠ e ∧ c ≠ p) (h6 : qHp K n a) (h7 : qAll n a S) (hx : ¬ S x) (h8 : ∀ r, r = x ∨ S r → zKey E H1 r (K r) ∧ r < lo) (hz : H0.size ≤ H1.size) (hfr : ∀ r : Nat, r < lo → H1[r]? = H0[r]?) : PQa E H0 lo p cap n x K S H3 := by
  obtain ⟨f', w9, hf, hr⟩ := h9
  obtain ⟨a1, a2, a3, a4, a5, a6, a7, a8⟩ := ar
  obtain ⟨g1, g2⟩ := h6.add h7 hx
  refine ⟨⟨e, c, md, _, f', w.1, w9.1.kept (w.2.2 e a6), (h3.kept (w9.2.2 c a7)).kept (w.2.2 c a8), ⟨by omega, a2, a3, a4, a5, a6, a7, a8⟩, hf, g1, g2, fun r hr => ?_⟩, by rw [w.2.1, w9.2.1]; exact hz, fun r hr => (w.2.2 r (by omega)).trans ((w9.2.2 r (by omega)).trans (hfr r hr))⟩
  obtain ⟨k1, k2⟩ := h8 r hr
  exact ⟨(k1.kept (w9.2.2 r (by omega))).kept (w.2.2 r (by omega)), k2⟩
theorem PQ.polled0 {E : zE} {H : Heap} {lo p cap e c : Nat} {md : Int32} {K : Nat → Nat} {S : Nat → Prop} {a : Nat → Nat} {f : Nat → Option Nat} (h1 : zAt E H p (.inr (16, [.ref e, .int (nI 0), .ref c, .int md]))) (h2 : zAt E H e (zQ E cap f)) (h3 : zIs E H c 8) (ar : 0 + 1 ≤ cap ∧ cap < 1000 ∧ lo ≤ p ∧ lo ≤ e ∧ lo ≤ c ∧ e ≠ p ∧ c ≠ e ∧ c ≠ p) (h7 : qAll (0 + 1) a S) : PQ E H lo p cap 0 K (fun s => S s ∧ s ≠ a 0) := by
  have hno : ∀ s, ¬ (S s ∧ s ≠ a 0) := fun s ⟨q1, q2⟩ => by
    obtain ⟨j, hj, rfl⟩ := (h7.1 s).mp q1
    exact q2 (by rw [show j = 0 by omega])
  exact ⟨e, c, md, a, f, h1, h2, h3, ⟨by omega, ar.2⟩, fun j hj => absurd hj (Nat.not_lt_zero _), fun j _ hj => absurd hj (Nat.not_lt_zero _), ⟨fun r => ⟨fun z => absurd z (hno r), fun ⟨j, hj, _⟩ => absurd hj (Nat.not_lt_zero _)⟩, fun i j hi => absurd hi (Nat.not_lt_zero _)⟩, fun r hr => absurd hr (hno r)⟩
theorem PQ.polled {E : zE} {H H1 : Heap} {lo p cap n e c : Nat} {md : Int32} {K : Nat → Nat} {S : Nat → Prop} {a : Nat → Nat} {f : Nat → Option Nat} (h9 : qOut E H e cap n f (qDn K (a n) n n 0 a) H1) (h1 : zAt E H p (.inr (16, [.ref e, .int (nI n), .ref c, .int md]))) (h3 : zIs E H c 8) (ar : n + 1 ≤ cap ∧ cap < 1000 ∧ lo ≤ p ∧ lo ≤ e ∧ lo ≤ c ∧ e ≠ p ∧ c ≠ e ∧ c ≠ p) (h6 : qHp K (n + 1) a) (h7 : qAll (n + 1) a S) (hn : 0 < n) (h8 : ∀ r, S r → zKey E H r (K r) ∧ r < lo) : PQ E H1 lo p cap n K (fun s => S s ∧ s ≠ a 0) := by
  obtain ⟨f', w9, hf, hr⟩ := h9
  obtain ⟨a1, a2, a3, a4, a5, a6, a7, a8⟩ := ar
  obtain ⟨g1, g2⟩ := h6.poll h7 hn
  exact ⟨e, c, md, _, f', h1.kept (w9.2.2 p (Ne.symm a6)), w9.1, h3.kept (w9.2.2 c a7), ⟨by omega, a2, a3, a4, a5, a6, a7, a8⟩, hf, g1, g2, fun r hr => ⟨(h8 r hr.1).1.kept (w9.2.2 r (by have := (h8 r hr.1).2; omega)), (h8 r hr.1).2⟩⟩
theorem lw_in3 {a b c : Cond} (h1 : a ∈ lw_all) (h2 : b ∈ lw_all) (h3 : c ∈ lw_all) : ∀ w ∈ ([a, b, c] : List Cond), w ∈ lw_all := by
  intro w hw
  simp only [List.mem_cons, List.not_mem_nil, or_false] at hw
  rcases hw with rfl | rfl | rfl <;> assumption
/-- a queue that was made at p, empty, with the comparator c -/
def PQn (E : zE) (H : Heap) (p c : Nat) (H1 : Heap) : Prop := ∃ e, e = H.size ∧ zAt E H1 p (.inr (16, [.ref e, .int 0, .ref c, .int 0])) ∧ zAt E H1 e (zQ E 11 (fun _ => none)) ∧ H1.size = H.size + 1 ∧ ∀ r : Nat, r < H.size → r ≠ p → H1[r]? = H[r]?
theorem PQn.pq {E : zE} {H H1 : Heap} {lo p c : Nat} (K : Nat → Nat) (h : PQn E H p c H1) (hc : zIs E H c 8) (hp : p < H.size) (hlo : lo ≤ p ∧ lo ≤ c ∧ c ≠ p) : PQ E H1 lo p 11 0 K (fun _ => False) := by
  obtain ⟨e, h1, h2, h3, h4, h5⟩ := h
  have := hc.lt
  exact ⟨e, c, 0, fun _ => 0, _, h2, h3, hc.kept (h5 c hc.lt hlo.2.2), ⟨by omega, by omega, hlo.1, by omega, hlo.2.1, by omega, by omega, hlo.2.2⟩, fun j hj => absurd hj (Nat.not_lt_zero _), fun j _ hj => absurd hj (Nat.not_lt_zero _), ⟨fun r => ⟨fun z => z.elim, fun ⟨j, hj, _⟩ => absurd hj (Nat.not_lt_zero _)⟩, fun i j hi => absurd hi (Nat.not_lt_zero _)⟩, fun r hr => hr.elim⟩
theorem mCmp_L {x e : Nat} (h : x < e ∧ e < 1000000) : mCmp (nI x) (nI e) = -1 := if_pos (nI_lt h.1 (by omega))
theorem mCmp_E (x : Int32) : mCmp x x = 0 := by
  unfold mCmp
  rw [if_neg (fun z => Int32.lt_irrefl z), if_pos rfl]
theorem mCmp_G {x e : Nat} (h : e < x ∧ x < 1000000) : mCmp (nI x) (nI e) = 1 := by
  unfold mCmp
  rw [if_neg (nI_nlt (by omega) (by omega)), if_neg (fun z => by have := (nI_eq (by omega) (by omega)).mp z; omega)]
