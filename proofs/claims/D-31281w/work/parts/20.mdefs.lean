/-! THE TWIN's cells: M j i is element i of its field j (a scalar: i = 0); printed by gen/mdefs.py -/
set_option maxRecDepth 100000
abbrev MS : Type := Nat → Nat → Int32
def mu (M : MS) (j i : Nat) (v : Int32) : MS := fun a b => if a = j ∧ b = i then v else M a b
theorem mu_s (M : MS) (j i : Nat) (v : Int32) : mu M j i v j i = v := by simp [mu]
theorem mu_n {M : MS} {j i a b : Nat} {v : Int32} (h : ¬ (a = j ∧ b = i)) : mu M j i v a b = M a b := by simp [mu, h]
theorem mu_row {M : MS} {j i : Nat} {v : Int32} : mu M j i v j = upd (M j) i v := by
  funext b
  simp [mu, upd]
theorem mu_row_ne {M : MS} {j i a : Nat} {v : Int32} (h : a ≠ j) : mu M j i v a = M a := by
  funext b
  simp [mu, h]
def mTy : Nat → Nat := fun j => if j = 25 then 2 else if j = 31 then 2 else if j = 32 then 3 else 0
def mLen : Nat → Nat := fun j => if j = 6 then 10 else if j = 7 then 10 else if j = 10 then 8 else if j = 11 then 8 else if j = 12 then 8 else if j = 13 then 4 else if j = 27 then 6 else if j = 28 then 6 else if j = 29 then 6 else if j = 30 then 6 else if j = 31 then 6 else if j = 32 then 60 else 40
def mArr (j : Nat) : Bool := decide (j = 6) || decide (j = 7) || decide (j = 10) || decide (j = 11) || decide (j = 12) || decide (j = 13) || decide (j = 15) || decide (j = 16) || decide (j = 17) || decide (j = 18) || decide (j = 19) || decide (j = 20) || decide (j = 21) || decide (j = 22) || decide (j = 23) || decide (j = 24) || decide (j = 25) || decide (j = 27) || decide (j = 28) || decide (j = 29) || decide (j = 30) || decide (j = 31) || decide (j = 32)
def mFs (ad : Nat → Nat) (M : MS) : List Value := [.int (M 0 0), .int (M 1 0), .int (M 2 0), .int (M 3 0), .int (M 4 0), .int (M 5 0), .ref (ad 6), .ref (ad 7), .int (M 8 0), .int (M 9 0), .ref (ad 10), .ref (ad 11), .ref (ad 12), .ref (ad 13), .int (M 14 0), .ref (ad 15), .ref (ad 16), .ref (ad 17), .ref (ad 18), .ref (ad 19), .ref (ad 20), .ref (ad 21), .ref (ad 22), .ref (ad 23), .ref (ad 24), .ref (ad 25), .int (M 26 0), .ref (ad 27), .ref (ad 28), .ref (ad 29), .ref (ad 30), .ref (ad 31), .ref (ad 32), .int (M 33 0)]
def MP (E : zE) (H : Heap) (m : Nat) (ad : Nat → Nat) (M : MS) : Prop :=
  zAt E H m (.inr (3, mFs ad M)) ∧ (∀ j, mArr j = true → zAt E H (ad j) (zI E (mTy j) (mLen j) (M j))) ∧ (∀ j, mArr j = true → ad j ≠ m) ∧ (∀ i j, mArr i = true → mArr j = true → ad i = ad j → i = j)
/-- from H0 on only the twin's own cells were written, and they hold M at H -/
def mTo (E : zE) (H0 : Heap) (m : Nat) (ad : Nat → Nat) (M : MS) (H : Heap) : Prop :=
  MP E H m ad M ∧ H.size = H0.size ∧ ∀ q : Nat, q ≠ m → (∀ j, mArr j = true → q ≠ ad j) → H[q]? = H0[q]?
theorem MP.ob {E : zE} {H : Heap} {m : Nat} {ad : Nat → Nat} {M : MS} (h : MP E H m ad M) : zOb E H m 3 (mFs ad M) := h.1.ob
theorem MP.is {E : zE} {H : Heap} {m : Nat} {ad : Nat → Nat} {M : MS} (h : MP E H m ad M) : zIs E H m 3 := h.1.is
theorem mTo.rf {E : zE} {H : Heap} {m : Nat} {ad : Nat → Nat} {M : MS} (h : MP E H m ad M) : mTo E H m ad M H := ⟨h, rfl, fun _ _ _ => rfl⟩
theorem mTo.call {E : zE} {H0 H H1 : Heap} {m : Nat} {ad : Nat → Nat} {M M' : MS} (h : mTo E H0 m ad M H) (h2 : mTo E H m ad M' H1) : mTo E H0 m ad M' H1 :=
  ⟨h2.1, h2.2.1.trans h.2.1, fun q h3 h4 => (h2.2.2 q h3 h4).trans (h.2.2 q h3 h4)⟩
theorem mTo.put {E : zE} {H0 H H1 : Heap} {m : Nat} {ad : Nat → Nat} {M : MS} (j : Nat) {v : Int32} (h : mTo E H0 m ad M H) (w : zWr E H m (.inr (3, mFs ad (mu M j 0 v))) H1) (hj : mArr j = false) : mTo E H0 m ad (mu M j 0 v) H1 := by
  obtain ⟨⟨h1, h2, h3, h4⟩, h5, h6⟩ := h
  obtain ⟨w1, w2, w3⟩ := w
  refine ⟨⟨w1, fun i hi => ?_, h3, h4⟩, w2.trans h5, fun q hq hq2 => (w3 q hq).trans (h6 q hq hq2)⟩
  have hne : i ≠ j := fun e => by rw [e, hj] at hi; cases hi
  rw [mu_row_ne hne]
  exact (h2 i hi).kept (w3 _ (h3 i hi))
theorem mFs_row {ad : Nat → Nat} {M : MS} {j i : Nat} {v : Int32} (hj : mArr j = true) : mFs ad (mu M j i v) = mFs ad M := by
  have key : ∀ a, mArr a = false → mu M j i v a = M a := fun a ha => mu_row_ne (fun e => by rw [e, hj] at ha; cases ha)
  simp only [mFs, key 0 rfl, key 1 rfl, key 2 rfl, key 3 rfl, key 4 rfl, key 5 rfl, key 8 rfl, key 9 rfl, key 14 rfl, key 26 rfl, key 33 rfl]
theorem mTo.st {E : zE} {H0 H H1 : Heap} {m : Nat} {ad : Nat → Nat} {M : MS} (j : Nat) {i : Nat} {v : Int32} (h : mTo E H0 m ad M H) (w : zWr E H (ad j) (zI E (mTy j) (mLen j) (upd (M j) i v)) H1) (hj : mArr j = true) : mTo E H0 m ad (mu M j i v) H1 := by
  obtain ⟨⟨h1, h2, h3, h4⟩, h5, h6⟩ := h
  obtain ⟨w1, w2, w3⟩ := w
  refine ⟨⟨?_, fun a ha => ?_, h3, h4⟩, w2.trans h5, fun q hq hq2 => (w3 q (hq2 j hj)).trans (h6 q hq hq2)⟩
  · rw [mFs_row hj]
    exact h1.kept (w3 _ (h3 j hj).symm)
  · by_cases e : a = j
    · subst e
      rw [mu_row]
      exact w1
    · rw [mu_row_ne e]
      exact (h2 a ha).kept (w3 _ (fun z => e (h4 a j ha hj z)))
theorem MP.a6 {E : zE} {H : Heap} {m : Nat} {ad : Nat → Nat} {M : MS} (h : MP E H m ad M) : zAt E H (ad 6) (zI E 0 10 (M 6)) := h.2.1 6 rfl
theorem MP.a7 {E : zE} {H : Heap} {m : Nat} {ad : Nat → Nat} {M : MS} (h : MP E H m ad M) : zAt E H (ad 7) (zI E 0 10 (M 7)) := h.2.1 7 rfl
theorem MP.a10 {E : zE} {H : Heap} {m : Nat} {ad : Nat → Nat} {M : MS} (h : MP E H m ad M) : zAt E H (ad 10) (zI E 0 8 (M 10)) := h.2.1 10 rfl
theorem MP.a11 {E : zE} {H : Heap} {m : Nat} {ad : Nat → Nat} {M : MS} (h : MP E H m ad M) : zAt E H (ad 11) (zI E 0 8 (M 11)) := h.2.1 11 rfl
theorem MP.a12 {E : zE} {H : Heap} {m : Nat} {ad : Nat → Nat} {M : MS} (h : MP E H m ad M) : zAt E H (ad 12) (zI E 0 8 (M 12)) := h.2.1 12 rfl
theorem MP.a13 {E : zE} {H : Heap} {m : Nat} {ad : Nat → Nat} {M : MS} (h : MP E H m ad M) : zAt E H (ad 13) (zI E 0 4 (M 13)) := h.2.1 13 rfl
theorem MP.a15 {E : zE} {H : Heap} {m : Nat} {ad : Nat → Nat} {M : MS} (h : MP E H m ad M) : zAt E H (ad 15) (zI E 0 40 (M 15)) := h.2.1 15 rfl
theorem MP.a16 {E : zE} {H : Heap} {m : Nat} {ad : Nat → Nat} {M : MS} (h : MP E H m ad M) : zAt E H (ad 16) (zI E 0 40 (M 16)) := h.2.1 16 rfl
theorem MP.a17 {E : zE} {H : Heap} {m : Nat} {ad : Nat → Nat} {M : MS} (h : MP E H m ad M) : zAt E H (ad 17) (zI E 0 40 (M 17)) := h.2.1 17 rfl
theorem MP.a18 {E : zE} {H : Heap} {m : Nat} {ad : Nat → Nat} {M : MS} (h : MP E H m ad M) : zAt E H (ad 18) (zI E 0 40 (M 18)) := h.2.1 18 rfl
theorem MP.a19 {E : zE} {H : Heap} {m : Nat} {ad : Nat → Nat} {M : MS} (h : MP E H m ad M) : zAt E H (ad 19) (zI E 0 40 (M 19)) := h.2.1 19 rfl
theorem MP.a20 {E : zE} {H : Heap} {m : Nat} {ad : Nat → Nat} {M : MS} (h : MP E H m ad M) : zAt E H (ad 20) (zI E 0 40 (M 20)) := h.2.1 20 rfl
theorem MP.a21 {E : zE} {H : Heap} {m : Nat} {ad : Nat → Nat} {M : MS} (h : MP E H m ad M) : zAt E H (ad 21) (zI E 0 40 (M 21)) := h.2.1 21 rfl
theorem MP.a22 {E : zE} {H : Heap} {m : Nat} {ad : Nat → Nat} {M : MS} (h : MP E H m ad M) : zAt E H (ad 22) (zI E 0 40 (M 22)) := h.2.1 22 rfl
theorem MP.a23 {E : zE} {H : Heap} {m : Nat} {ad : Nat → Nat} {M : MS} (h : MP E H m ad M) : zAt E H (ad 23) (zI E 0 40 (M 23)) := h.2.1 23 rfl
theorem MP.a24 {E : zE} {H : Heap} {m : Nat} {ad : Nat → Nat} {M : MS} (h : MP E H m ad M) : zAt E H (ad 24) (zI E 0 40 (M 24)) := h.2.1 24 rfl
theorem MP.a25 {E : zE} {H : Heap} {m : Nat} {ad : Nat → Nat} {M : MS} (h : MP E H m ad M) : zAt E H (ad 25) (zI E 2 40 (M 25)) := h.2.1 25 rfl
theorem MP.a27 {E : zE} {H : Heap} {m : Nat} {ad : Nat → Nat} {M : MS} (h : MP E H m ad M) : zAt E H (ad 27) (zI E 0 6 (M 27)) := h.2.1 27 rfl
theorem MP.a28 {E : zE} {H : Heap} {m : Nat} {ad : Nat → Nat} {M : MS} (h : MP E H m ad M) : zAt E H (ad 28) (zI E 0 6 (M 28)) := h.2.1 28 rfl
theorem MP.a29 {E : zE} {H : Heap} {m : Nat} {ad : Nat → Nat} {M : MS} (h : MP E H m ad M) : zAt E H (ad 29) (zI E 0 6 (M 29)) := h.2.1 29 rfl
theorem MP.a30 {E : zE} {H : Heap} {m : Nat} {ad : Nat → Nat} {M : MS} (h : MP E H m ad M) : zAt E H (ad 30) (zI E 0 6 (M 30)) := h.2.1 30 rfl
theorem MP.a31 {E : zE} {H : Heap} {m : Nat} {ad : Nat → Nat} {M : MS} (h : MP E H m ad M) : zAt E H (ad 31) (zI E 2 6 (M 31)) := h.2.1 31 rfl
theorem MP.a32 {E : zE} {H : Heap} {m : Nat} {ad : Nat → Nat} {M : MS} (h : MP E H m ad M) : zAt E H (ad 32) (zI E 3 60 (M 32)) := h.2.1 32 rfl
theorem zinc1 (j : Nat) : nI j + Int32.ofInt 1 = nI (j + 1) := nI_1 j
/-- read only: the answer w, the heap as it was -/
def zR (H : Heap) (w : Value) : Option Value → Heap → Prop := fun v H1 => v = some w ∧ H1 = H
/-- no answer; what holds of the heap behind -/
def zRv (Q : Heap → Prop) : Option Value → Heap → Prop := fun v H1 => v = none ∧ Q H1
/-- the answer w; what holds of the heap behind -/
def zRw (w : Value) (Q : Heap → Prop) : Option Value → Heap → Prop := fun v H1 => v = some w ∧ Q H1
/-- an answer with what holds of it and of the heap behind -/
def zRg (Q : Value → Heap → Prop) : Option Value → Heap → Prop := fun v H1 => ∃ w, v = some w ∧ Q w H1
theorem zk_R {κ : zC} {E : zE} {H : Heap} {k n pc : Nat} {L : List (Option Value)} {st : List Value} {w : Value} (h : zV κ E H k n pc L (w :: st)) : ∀ v H1, zR H w v H1 → H.size ≤ H1.size → zV κ E H1 (k + 0) (n + 0) pc L (v.toList ++ st) := by
  rintro _ _ ⟨rfl, rfl⟩ _
  exact h
theorem zk_Rv {κ : zC} {E : zE} {H : Heap} {k n k' n' pc : Nat} {L : List (Option Value)} {st : List Value} {Q : Heap → Prop} (h : ∀ H1, Q H1 → H.size ≤ H1.size → zV κ E H1 (k + k') (n + n') pc L st) : ∀ v H1, zRv Q v H1 → H.size ≤ H1.size → zV κ E H1 (k + k') (n + n') pc L (v.toList ++ st) := by
  rintro _ H1 ⟨rfl, hq⟩ hz
  exact h H1 hq hz
theorem zk_Rw {κ : zC} {E : zE} {H : Heap} {k n k' n' pc : Nat} {L : List (Option Value)} {st : List Value} {w : Value} {Q : Heap → Prop} (h : ∀ H1, Q H1 → H.size ≤ H1.size → zV κ E H1 (k + k') (n + n') pc L (w :: st)) : ∀ v H1, zRw w Q v H1 → H.size ≤ H1.size → zV κ E H1 (k + k') (n + n') pc L (v.toList ++ st) := by
  rintro _ H1 ⟨rfl, hq⟩ hz
  exact h H1 hq hz
theorem zk_Rg {κ : zC} {E : zE} {H : Heap} {k n k' n' pc : Nat} {L : List (Option Value)} {st : List Value} {Q : Value → Heap → Prop} (h : ∀ w H1, Q w H1 → H.size ≤ H1.size → zV κ E H1 (k + k') (n + n') pc L (w :: st)) : ∀ v H1, zRg Q v H1 → H.size ≤ H1.size → zV κ E H1 (k + k') (n + n') pc L (v.toList ++ st) := by
  rintro _ H1 ⟨w, rfl, hq⟩ hz
  exact h w H1 hq hz
/-- words put together -/
theorem lw_in4 {a b c d e : Cond} (h1 : a ∈ lw_all) (h2 : b ∈ lw_all) (h3 : c ∈ lw_all) (h4 : d ∈ lw_all) (h5 : e ∈ lw_all) : ∀ w ∈ ([a, b, c, d, e] : List Cond), w ∈ lw_all := by
  intro w hw
  simp only [List.mem_cons, List.not_mem_nil, or_false] at hw
  rcases hw with rfl | rfl | rfl | rfl | rfl <;> assumption
theorem lw_in4b {a b c d : Cond} (h1 : a ∈ lw_all) (h2 : b ∈ lw_all) (h3 : c ∈ lw_all) (h4 : d ∈ lw_all) : ∀ w ∈ ([a, b, c, d] : List Cond), w ∈ lw_all := by
  intro w hw
  simp only [List.mem_cons, List.not_mem_nil, or_false] at hw
  rcases hw with rfl | rfl | rfl | rfl <;> assumption
theorem lw_in6 {a b c d e f : Cond} (h1 : a ∈ lw_all) (h2 : b ∈ lw_all) (h3 : c ∈ lw_all) (h4 : d ∈ lw_all) (h5 : e ∈ lw_all) (h6 : f ∈ lw_all) : ∀ w ∈ ([a, b, c, d, e, f] : List Cond), w ∈ lw_all := by
  intro w hw
  simp only [List.mem_cons, List.not_mem_nil, or_false] at hw
  rcases hw with rfl | rfl | rfl | rfl | rfl | rfl <;> assumption
def b2i (b : Bool) : Int32 := if b then 1 else 0
