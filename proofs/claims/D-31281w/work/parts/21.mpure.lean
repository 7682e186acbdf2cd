/-! THE TWIN's methods as functions of its cells M -/
set_option maxRecDepth 100000
theorem zR_i {H : Heap} {x y : Int32} (h : x = y) : zR H (.int y) (some (.int x)) H := ⟨by rw [h], rfl⟩
theorem b2i_0 (b : Bool) : (b2i b = 0) = (b = false) := by cases b <;> simp [b2i]
theorem b2i_1 (b : Bool) : (b2i b = 1) = (b = true) := by cases b <;> simp [b2i]
theorem b2i_nar (b : Bool) : narrow .boolean (.int (b2i b)) = .int (b2i b) := by cases b <;> rfl
def cl (x : Int32) : Nat := x.toNatClampNeg
theorem cl_nI {n : Nat} (h : n < 2 ^ 31) : cl (nI n) = n := nI_clamp h
def mIn (v a b : Int32) : Bool := decide (¬ v < a) && decide (¬ b < v)
def mHoldsIt (M : MS) (h i : Nat) : Bool :=
  if ¬ M 31 h = 0 ∨ M 22 i = 3 then false else
  (decide (M 27 h = -1) || decide (M 27 h = M 16 i)) && (decide (M 28 h = -1) || decide (M 28 h = M 17 i)) && mIn (M 19 i) (M 29 h) (M 30 h)
def mHeldF (M : MS) (i : Nat) : Nat → Bool
  | 0 => false
  | h + 1 => mHeldF M i h || mHoldsIt M h i
def mHeld (M : MS) (i : Nat) : Bool := mHeldF M i (cl (M 26 0))
/-- the structure: counts and pointers in range -/
def mPt (n : Nat) (x : Int32) : Prop := x = -1 ∨ ∃ t, t < n ∧ x = nI t
def mWF (M : MS) (nf nt ni nh : Nat) : Prop :=
  (M 5 0 = nI nf ∧ 1 ≤ nf ∧ nf ≤ 10) ∧ (M 9 0 = nI nt ∧ nt ≤ 8) ∧ (M 14 0 = nI ni ∧ ni ≤ 40) ∧ (M 26 0 = nI nh ∧ nh ≤ 6) ∧
  (∀ f, f < nf → M 6 f = -1 ∨ ∃ g, g < f ∧ M 6 f = nI g) ∧ (∀ f, f < nf → mPt nt (M 7 f)) ∧ mPt nt (M 8 0) ∧ (∀ i, i < ni → ∃ f, f < nf ∧ M 15 i = nI f) ∧ (∀ i, i < ni → mPt nt (M 20 i)) ∧ (∀ t, t < nt → ∃ s, s ≤ 5 ∧ M 11 t = nI s)
theorem mWF.mu {M : MS} {nf nt ni nh j i : Nat} {v : Int32} (h : mWF M nf nt ni nh) (hj : j ≠ 5 ∧ j ≠ 6 ∧ j ≠ 7 ∧ j ≠ 8 ∧ j ≠ 9 ∧ j ≠ 11 ∧ j ≠ 14 ∧ j ≠ 15 ∧ j ≠ 20 ∧ j ≠ 26) : mWF (mu M j i v) nf nt ni nh := by
  obtain ⟨h5, h6, h7, h8, h9, h11, h14, h15, h20, h26⟩ := hj
  unfold mWF
  rw [mu_row_ne (a := 5) (by omega), mu_row_ne (a := 6) (by omega), mu_row_ne (a := 7) (by omega), mu_row_ne (a := 8) (by omega), mu_row_ne (a := 9) (by omega), mu_row_ne (a := 11) (by omega), mu_row_ne (a := 14) (by omega), mu_row_ne (a := 15) (by omega), mu_row_ne (a := 20) (by omega), mu_row_ne (a := 26) (by omega)]
  exact h
theorem mWF.nf {M : MS} {nf nt ni nh : Nat} (h : mWF M nf nt ni nh) : M 5 0 = nI nf := h.1.1
theorem mWF.nt {M : MS} {nf nt ni nh : Nat} (h : mWF M nf nt ni nh) : M 9 0 = nI nt := h.2.1.1
theorem mWF.ni {M : MS} {nf nt ni nh : Nat} (h : mWF M nf nt ni nh) : M 14 0 = nI ni := h.2.2.1.1
theorem mWF.nh {M : MS} {nf nt ni nh : Nat} (h : mWF M nf nt ni nh) : M 26 0 = nI nh := h.2.2.2.1.1
theorem mWF.lim {M : MS} {nf nt ni nh : Nat} (h : mWF M nf nt ni nh) : 1 ≤ nf ∧ nf ≤ 10 ∧ nt ≤ 8 ∧ ni ≤ 40 ∧ nh ≤ 6 := ⟨h.1.2.1, h.1.2.2, h.2.1.2, h.2.2.1.2, h.2.2.2.1.2⟩
theorem mWF.c5 {M : MS} {nf nt ni nh : Nat} (h : mWF M nf nt ni nh) : cl (M 5 0) = nf := by rw [h.nf]; exact cl_nI (by have := h.lim; omega)
theorem mWF.c9 {M : MS} {nf nt ni nh : Nat} (h : mWF M nf nt ni nh) : cl (M 9 0) = nt := by rw [h.nt]; exact cl_nI (by have := h.lim; omega)
theorem mWF.c14 {M : MS} {nf nt ni nh : Nat} (h : mWF M nf nt ni nh) : cl (M 14 0) = ni := by rw [h.ni]; exact cl_nI (by have := h.lim; omega)
theorem mWF.c26 {M : MS} {nf nt ni nh : Nat} (h : mWF M nf nt ni nh) : cl (M 26 0) = nh := by rw [h.nh]; exact cl_nI (by have := h.lim; omega)
theorem mWF.lies {M : MS} {nf nt ni nh : Nat} (h : mWF M nf nt ni nh) {f : Nat} (hf : f < nf) : M 6 f = -1 ∨ ∃ g, g < f ∧ M 6 f = nI g := h.2.2.2.2.1 f hf
theorem mWF.ftag {M : MS} {nf nt ni nh : Nat} (h : mWF M nf nt ni nh) {f : Nat} (hf : f < nf) : mPt nt (M 7 f) := h.2.2.2.2.2.1 f hf
theorem mWF.dflt {M : MS} {nf nt ni nh : Nat} (h : mWF M nf nt ni nh) : mPt nt (M 8 0) := h.2.2.2.2.2.2.1
theorem mWF.fold {M : MS} {nf nt ni nh : Nat} (h : mWF M nf nt ni nh) {i : Nat} (hi : i < ni) : ∃ f, f < nf ∧ M 15 i = nI f := h.2.2.2.2.2.2.2.1 i hi
theorem mWF.own {M : MS} {nf nt ni nh : Nat} (h : mWF M nf nt ni nh) {i : Nat} (hi : i < ni) : mPt nt (M 20 i) := h.2.2.2.2.2.2.2.2.1 i hi
theorem mWF.start {M : MS} {nf nt ni nh : Nat} (h : mWF M nf nt ni nh) {t : Nat} (ht : t < nt) : ∃ s, s ≤ 5 ∧ M 11 t = nI s := h.2.2.2.2.2.2.2.2.2 t ht
theorem nI_m1 {n : Nat} (h : n < 2 ^ 31) : ¬ nI n = -1 := by
  intro e
  have h1 := nI_toInt h
  rw [e] at h1
  have : (-1 : Int32).toInt = -1 := by decide
  omega
/-- an argument that is in a range of places -/
theorem mIn_idx {v : Int32} {n : Nat} (h : mIn v 0 (nI n - 1) = true) (hn : n < 2 ^ 30) : ∃ j, j < n ∧ v = nI j := by
  simp only [mIn, Bool.and_eq_true, decide_eq_true_eq] at h
  obtain ⟨h1, h2⟩ := h
  obtain ⟨j, hj, rfl⟩ := nI_of h1
  refine ⟨j, ?_, rfl⟩
  cases n with
  | zero =>
    exact absurd (show nI 0 - 1 < nI j by
      rw [Int32.lt_iff_toInt_lt, nI_toInt hj]
      have : (nI 0 - 1).toInt = -1 := by decide
      omega) h2
  | succ n =>
    rw [nI_pred, Int32.lt_iff_toInt_lt, nI_toInt hj, nI_toInt (by omega)] at h2
    omega
theorem mIn_idx_not {v : Int32} {n j : Nat} (hn : n < 2 ^ 30) (hj : j < n) : mIn (nI j) 0 (nI n - 1) = true := by
  cases n with
  | zero => omega
  | succ n =>
    rw [nI_pred]
    simp only [mIn, Bool.and_eq_true, decide_eq_true_eq]
    exact ⟨nI_pos (by omega), nI_nlt (by omega) (by omega)⟩
theorem mIn_pt {v : Int32} {n : Nat} (h : mIn v (-1) (nI n - 1) = true) (hn : n < 2 ^ 30) : mPt n v := by
  by_cases h0 : v < 0
  · left
    simp only [mIn, Bool.and_eq_true, decide_eq_true_eq] at h
    obtain ⟨h1, -⟩ := h
    rw [Int32.lt_iff_toInt_lt] at h1 h0
    have e1 : (-1 : Int32).toInt = -1 := by decide
    have e0 : (0 : Int32).toInt = 0 := by decide
    apply Int32.toInt_inj.mp
    omega
  · right
    simp only [mIn, Bool.and_eq_true, decide_eq_true_eq] at h
    exact mIn_idx (by simp only [mIn, Bool.and_eq_true, decide_eq_true_eq]; exact ⟨h0, h.2⟩) hn
/-! tags and days -/
def mTellN (M : MS) : Nat → Nat → Int32
  | 0, _ => -1
  | k + 1, f => if ¬ M 7 f = -1 then nI f else if M 6 f = -1 then -1 else mTellN M k (cl (M 6 f))
def mTell (M : MS) (i : Nat) : Int32 := mTellN M 11 (cl (M 15 i))
def mCnt (M : MS) (i : Nat) : Int32 := if ¬ M 20 i = -1 then M 20 i else if ¬ mTell M i = -1 then M 7 (cl (mTell M i)) else M 8 0
def mStart (M : MS) (i t : Nat) : Int32 := if M 11 t = 0 then M 19 i else if M 11 t = 1 then (if M 21 i = -1 then M 19 i else M 21 i) else M 13 (cl (M 11 t - 2))
def mDueT (M : MS) (i : Nat) (x : Int32) : Int32 := if x = -1 then -1 else if M 10 (cl x) = 2 ∨ mStart M i (cl x) = -1 then -1 else mStart M i (cl x) + M 12 (cl x)
def mDue (M : MS) (i : Nat) : Int32 := mDueT M i (mCnt M i)
def mIsDue (M : MS) (i : Nat) (a : Int32) : Bool := decide (¬ mCnt M i = -1) && (decide (M 10 (cl (mCnt M i)) = a) && (decide (¬ mDue M i = -1) && decide (¬ M 1 0 < mDue M i)))
/-! what becomes of items -/
def mGone (M : MS) (i : Nat) : MS := mu (mu (mu M 22 i 3) 24 i (M 1 0)) 4 0 (M 4 0 + 1)
def mRec (M : MS) (i : Nat) : MS := mu (mu M 22 i 2) 23 i (M 1 0)
def mSumF (M : MS) (s : Int32) : Nat → Int32
  | 0 => 0
  | k + 1 => if M 22 k = s then mSumF M s k + M 18 k else mSumF M s k
def mSum (M : MS) (s : Int32) : Int32 := mSumF M s (cl (M 14 0))
def mOutF (M : MS) : Nat → Int32
  | 0 => -1
  | k + 1 => if M 22 k = 2 ∧ mHeld M k = false ∧ (mOutF M k = -1 ∨ M 23 k < M 23 (cl (mOutF M k))) then nI k else mOutF M k
def mOut (M : MS) : Int32 := mOutF M (cl (M 14 0))
def mQuota : Nat → MS → MS
  | 0, M => M
  | t + 1, M => if M 3 0 < mSum M 2 ∧ ¬ mOut M = -1 then mQuota t (mGone M (cl (mOut M))) else M
def mDay1 (M : MS) : Nat → MS
  | 0 => M
  | j + 1 => if ¬ 1 < mDay1 M j 22 j ∧ mIsDue (mDay1 M j) j 0 = true then mRec (mDay1 M j) j else mDay1 M j
def mDay2 (M : MS) : Nat → MS
  | 0 => M
  | j + 1 => if mDay2 M j 22 j = 0 ∧ mIsDue (mDay2 M j) j 1 = true then mu (mDay2 M j) 22 j 1 else mDay2 M j
def mDay3 (M : MS) : Nat → MS
  | 0 => M
  | j + 1 => if mDay3 M j 22 j = 2 ∧ mHeld (mDay3 M j) j = false ∧ ¬ mDay3 M j 1 0 - mDay3 M j 23 j < mDay3 M j 2 0 then mGone (mDay3 M j) j else mDay3 M j
def mDay (M : MS) : MS :=
  let M0 := mu M 1 0 (M 1 0 + 1)
  let n := cl (M 14 0)
  mQuota 41 (mDay3 (mDay2 (mDay1 M0 n) n) n)
def mEv (M : MS) : Nat → MS
  | 0 => M
  | j + 1 => mu (mEv M j) 13 j (-1)
def mBegins (M : MS) : MS := mEv (mu (mu (mu (mu (mu (mu (mu (mu (mu (mu M 1 0 0) 2 0 14) 3 0 500) 5 0 1) 6 0 (-1)) 7 0 (-1)) 8 0 (-1)) 9 0 0) 14 0 0) 26 0 0) 4
/-! the public methods: the answer and the cells behind -/
def oRefuse (M : MS) (w : Int32) : Int32 × MS := (0, mu M 0 0 w)
def oTold (M : MS) (v : Int32) : Int32 × MS := (v, mu M 0 0 0)
def oClear (M : MS) : Int32 × MS := oTold (mBegins M) (M 14 0)
def oFolder (M : MS) (v : Int32) : Int32 × MS :=
  if mIn v 0 (M 5 0 - 1) = false then oRefuse M 1 else if M 5 0 = 10 then oRefuse M 2 else
  let M1 := mu (mu (mu M 6 (cl (M 5 0)) v) 7 (cl (M 5 0)) (-1)) 5 0 (M 5 0 + 1)
  oTold M1 (M 5 0 + 1 - 1)
def oTag (M : MS) (a s g : Int32) : Int32 × MS :=
  if mIn a 0 2 = false ∨ mIn s 0 5 = false ∨ mIn g 0 1000 = false then oRefuse M 1 else if M 9 0 = 8 then oRefuse M 2 else
  let M1 := mu (mu (mu (mu M 10 (cl (M 9 0)) a) 11 (cl (M 9 0)) s) 12 (cl (M 9 0)) g) 9 0 (M 9 0 + 1)
  oTold M1 (M 9 0 + 1 - 1)
def oTagFolder (M : MS) (f t : Int32) : Int32 × MS :=
  if mIn f 0 (M 5 0 - 1) = false ∨ mIn t (-1) (M 9 0 - 1) = false then oRefuse M 1 else oTold (mu M 7 (cl f) t) (M 7 (cl f))
def oTagItem (M : MS) (i t : Int32) : Int32 × MS :=
  if mIn i 0 (M 14 0 - 1) = false ∨ mIn t (-1) (M 9 0 - 1) = false then oRefuse M 1 else if M 22 (cl i) = 3 then oRefuse M 2 else oTold (mu M 20 (cl i) t) (M 20 (cl i))
def oByDefault (M : MS) (t : Int32) : Int32 × MS :=
  if mIn t (-1) (M 9 0 - 1) = false then oRefuse M 1 else oTold (mu M 8 0 t) (M 8 0)
def oItem (M : MS) (f s w z : Int32) : Int32 × MS :=
  if mIn f 0 (M 5 0 - 1) = false then oRefuse M 1 else if mIn s 0 9 = false ∨ mIn w 0 9 = false ∨ mIn z 1 50 = false then oRefuse M 2 else if M 14 0 = 40 then oRefuse M 3 else
  let n := cl (M 14 0)
  let M1 := mu (mu (mu (mu (mu (mu (mu (mu (mu M 15 n f) 16 n s) 17 n w) 18 n z) 19 n (M 1 0)) 20 n (-1)) 21 n (-1)) 22 n 0) 14 0 (M 14 0 + 1)
  oTold M1 (M 14 0 + 1 - 1)
def oMeeting (M : MS) (i t : Int32) : Int32 × MS :=
  if mIn i 0 (M 14 0 - 1) = false then oRefuse M 1 else if mIn t (-1) 100000 = false then oRefuse M 2 else if M 22 (cl i) = 3 then oRefuse M 3 else oTold (mu M 21 (cl i) t) (M 21 (cl i))
def oEvent (M : MS) (e t : Int32) : Int32 × MS :=
  if mIn e 0 3 = false ∨ mIn t (-1) 100000 = false then oRefuse M 1 else oTold (mu M 13 (cl e) t) (M 13 (cl e))
def oMove (M : MS) (i f : Int32) : Int32 × MS :=
  if mIn i 0 (M 14 0 - 1) = false ∨ mIn f 0 (M 5 0 - 1) = false then oRefuse M 1 else if ¬ M 22 (cl i) < 2 then oRefuse M 2 else oTold (mu M 15 (cl i) f) (M 15 (cl i))
def mCopy (M : MS) (i : Nat) : MS :=
  let n := cl (M 14 0)
  mRec (mu (mu (mu (mu (mu (mu (mu (mu M 14 0 (M 14 0 + 1)) 15 n (M 15 i)) 16 n (M 16 i)) 17 n (M 17 i)) 18 n (M 18 i)) 19 n (M 19 i)) 20 n (M 20 i)) 21 n (M 21 i)) n
def oEdit (M : MS) (i w : Int32) : Int32 × MS :=
  if mIn i 0 (M 14 0 - 1) = false then oRefuse M 1 else if mIn w 0 9 = false then oRefuse M 2 else
  if ¬ w = M 17 (cl i) ∧ mHeld M (cl i) = true then
    if ¬ M 22 (cl i) < 2 ∨ M 14 0 = 40 then oRefuse M 3 else oTold (mQuota 41 (mu (mCopy M (cl i)) 17 (cl i) w)) (M 14 0)
  else if ¬ M 22 (cl i) < 2 then oRefuse M 3 else oTold (mu M 17 (cl i) w) (-1)
def oDelete (M : MS) (i : Int32) : Int32 × MS :=
  if mIn i 0 (M 14 0 - 1) = false then oRefuse M 1 else if ¬ M 22 (cl i) < 2 then oRefuse M 2 else
  let M1 := mQuota 41 (mRec M (cl i))
  oTold M1 (M1 22 (cl i))
def oPurge (M : MS) (i : Int32) : Int32 × MS :=
  if mIn i 0 (M 14 0 - 1) = false then oRefuse M 1 else if ¬ M 22 (cl i) = 2 then oRefuse M 2 else
  if mHeld M (cl i) = true then (0, mu M 0 0 0) else (1, mGone (mu M 0 0 0) (cl i))
def oRecover (M : MS) (i : Int32) : Int32 × MS :=
  if mIn i 0 (M 14 0 - 1) = false then oRefuse M 1 else if ¬ M 22 (cl i) = 2 then oRefuse M 2 else oTold (mu M 22 (cl i) 0) (M 1 0 - M 23 (cl i))
def oKeep (M : MS) (w k : Int32) : Int32 × MS :=
  if mIn w 1 60 = false ∨ mIn k 0 2000 = false then oRefuse M 1 else
  let M1 := mQuota 41 (mu (mu (mu M 2 0 w) 3 0 k) 4 0 0)
  oTold M1 (M1 4 0)
def mDays (M : MS) : Nat → MS
  | 0 => M
  | j + 1 => mDay (mDays M j)
def oPass (M : MS) (k : Int32) : Int32 × MS :=
  if mIn k 1 400 = false then oRefuse M 1 else
  let M1 := mDays (mu M 4 0 0) (cl k)
  oTold M1 (M1 4 0)
def oHold (M : MS) (s w f t : Int32) : Int32 × MS :=
  if mIn s (-1) 9 = false ∨ mIn w (-1) 9 = false ∨ f < 0 ∨ t < f then oRefuse M 1 else if M 26 0 = 6 then oRefuse M 2 else
  let n := cl (M 26 0)
  let M1 := mu (mu (mu (mu (mu (mu M 27 n s) 28 n w) 29 n f) 30 n t) 31 n 0) 26 0 (M 26 0 + 1)
  oTold M1 (M 26 0 + 1 - 1)
def mWas (M : MS) : Nat → MS
  | 0 => M
  | j + 1 => mu (mWas M j) 25 j (b2i (mHeld (mWas M j) j))
def mRelF (M : MS) : Nat → Int32
  | 0 => 0
  | j + 1 => if ¬ M 25 j = 0 ∧ mHeld M j = false then mRelF M j + 1 else mRelF M j
def oRelease (M : MS) (h : Int32) : Int32 × MS :=
  if mIn h 0 (M 26 0 - 1) = false then oRefuse M 1 else if ¬ M 31 (cl h) = 0 then oRefuse M 2 else
  let M1 := mu (mWas M (cl (M 14 0))) 31 (cl h) 1
  oTold M1 (mRelF M1 (cl (M 14 0)))
def mSetF (M : MS) (i : Nat) : Nat → Int32
  | 0 => 0
  | h + 1 => if mHoldsIt M h i = true then mSetF M i h ||| (1 <<< (nI h &&& 31)) else mSetF M i h
def oHolds (M : MS) (i : Int32) : Int32 × MS :=
  if mIn i 0 (M 14 0 - 1) = false then oRefuse M 1 else oTold M (mSetF M (cl i) (cl (M 26 0)))
def oToday (M : MS) : Int32 × MS := oTold M (M 1 0)
def oState (M : MS) (i : Int32) : Int32 × MS := if mIn i 0 (M 14 0 - 1) = false then oRefuse M 1 else oTold M (M 22 (cl i))
def mCountF (M : MS) (s : Int32) : Nat → Int32
  | 0 => 0
  | k + 1 => if M 22 k = s then mCountF M s k + 1 else mCountF M s k
def oCount (M : MS) (s z : Int32) : Int32 × MS :=
  if mIn s 0 3 = false then oRefuse M 1 else if ¬ z = 0 then oTold M (mSum M s) else oTold M (mCountF M s (cl (M 14 0)))
def oTagOf (M : MS) (i : Int32) : Int32 × MS := if mIn i 0 (M 14 0 - 1) = false then oRefuse M 1 else oTold M (mCnt M (cl i))
def mRule (M : MS) (i : Nat) : Int32 := if ¬ M 20 i = -1 then 1 else if ¬ mTell M i = -1 then 10 + mTell M i else if ¬ M 8 0 = -1 then 2 else -1
def oRuleOf (M : MS) (i : Int32) : Int32 × MS := if mIn i 0 (M 14 0 - 1) = false then oRefuse M 1 else oTold M (mRule M (cl i))
def oDue (M : MS) (i : Int32) : Int32 × MS := if mIn i 0 (M 14 0 - 1) = false then oRefuse M 1 else oTold M (mDue M (cl i))
def mLater (a b : Int32) : Int32 := if b < a then a else b
def mEnd (M : MS) (i : Nat) : Int32 :=
  if M 22 i = 3 then M 24 i else if mHeld M i = true then -1 else if M 22 i = 2 then mLater (M 23 i + M 2 0) (M 1 0 + 1) else
  if mCnt M i = -1 ∨ mDue M i = -1 then -1 else if ¬ M 10 (cl (mCnt M i)) = 0 then -1 else mLater (mDue M i) (M 1 0 + 1) + M 2 0
def oEnd (M : MS) (i : Int32) : Int32 × MS := if mIn i 0 (M 14 0 - 1) = false then oRefuse M 1 else oTold M (mEnd M (cl i))
def oFirstOut (M : MS) : Int32 × MS := if mOut M = -1 then oRefuse M 1 else oTold M (mOut M)
/-! facts for the walks -/
theorem mHeldF_f {M : MS} {i : Nat} : ∀ {n : Nat}, (∀ h, h < n → mHoldsIt M h i = false) → mHeldF M i n = false
  | 0, _ => rfl
  | n + 1, h => by rw [mHeldF, mHeldF_f (fun a ha => h a (Nat.lt_succ_of_lt ha)), h n (Nat.lt_succ_self n)]; rfl
theorem mHeldF_t {M : MS} {i h : Nat} : ∀ {n : Nat}, h < n → mHoldsIt M h i = true → mHeldF M i n = true
  | 0, h1, _ => absurd h1 (Nat.not_lt_zero _)
  | n + 1, h1, h2 => by
    rw [mHeldF]
    by_cases e : h = n
    · rw [← e, h2, Bool.or_true]
    · rw [mHeldF_t (show h < n by omega) h2, Bool.true_or]
theorem mTellN_pt {M : MS} {nf nt ni nh : Nat} (hw : mWF M nf nt ni nh) : ∀ (k f : Nat), f < nf → mTellN M k f = -1 ∨ ∃ g, g < nf ∧ mTellN M k f = nI g ∧ ¬ M 7 g = -1
  | 0, f, _ => Or.inl rfl
  | k + 1, f, hf => by
    rw [mTellN]
    by_cases h : M 7 f = -1
    · rw [if_neg (fun z => z h)]
      rcases hw.lies hf with e | ⟨g, hg, e⟩
      · rw [if_pos e]
        exact Or.inl rfl
      · have hl := hw.lim
        rw [if_neg (by rw [e]; exact nI_m1 (by omega)), e, cl_nI (by omega)]
        exact mTellN_pt hw k g (by omega)
    · rw [if_pos h]
      exact Or.inr ⟨f, hf, rfl, h⟩
theorem mTell_pt {M : MS} {nf nt ni nh i : Nat} (hw : mWF M nf nt ni nh) (hi : i < ni) : mTell M i = -1 ∨ ∃ g, g < nf ∧ mTell M i = nI g ∧ ¬ M 7 g = -1 := by
  obtain ⟨f, hf, e⟩ := hw.fold hi
  have hl := hw.lim
  rw [mTell, e, cl_nI (by omega)]
  exact mTellN_pt hw 11 f hf
theorem mCnt_pt {M : MS} {nf nt ni nh i : Nat} (hw : mWF M nf nt ni nh) (hi : i < ni) : mPt nt (mCnt M i) := by
  unfold mCnt
  have hl := hw.lim
  by_cases h : M 20 i = -1
  · rw [if_neg (fun z => z h)]
    rcases mTell_pt hw hi with e | ⟨g, hg, e, -⟩
    · rw [if_neg (fun z => z e)]
      exact hw.dflt
    · rw [if_pos (by rw [e]; exact nI_m1 (by omega)), e, cl_nI (by omega)]
      exact hw.ftag hg
  · rw [if_pos h]
    exact hw.own hi
theorem mStart_ev {M : MS} {t s : Nat} (h : M 11 t = nI s) (h0 : ¬ M 11 t = 0) (h1 : ¬ M 11 t = 1) (hs : s ≤ 5) : ∃ e, e < 4 ∧ M 11 t - 2 = nI e := by
  have h2 : 2 ≤ s := by
    rcases Nat.lt_or_ge s 2 with q | q
    · exfalso
      have : s = 0 ∨ s = 1 := by omega
      rcases this with rfl | rfl
      · exact h0 (h.trans nI_0)
      · exact h1 (h.trans (by decide))
    · exact q
  exact ⟨s - 2, by omega, by rw [h]; exact pk_sub h2⟩
theorem zW_i {E : zE} {H H1 : Heap} {m : Nat} {ad : Nat → Nat} {x : Int32} {M1 : MS} {op : Int32 × MS} (h : op = (x, M1)) (ht : mTo E H m ad M1 H1) : zRw (.int op.1) (mTo E H m ad op.2) (some (.int x)) H1 := by
  rw [h]
  exact ⟨rfl, ht⟩
theorem mOutF_pt {M : MS} : ∀ (n : Nat), mOutF M n = -1 ∨ ∃ j, j < n ∧ mOutF M n = nI j ∧ M 22 j = 2
  | 0 => Or.inl rfl
  | n + 1 => by
    rw [mOutF]
    split
    · next h => exact Or.inr ⟨n, Nat.lt_succ_self n, rfl, h.1⟩
    · rcases mOutF_pt (M := M) n with e | ⟨j, hj, e⟩
      · exact Or.inl e
      · exact Or.inr ⟨j, Nat.lt_succ_of_lt hj, e⟩
/-- how many recoverable ones there are -/
def mRecs (M : MS) : Nat → Nat
  | 0 => 0
  | n + 1 => mRecs M n + (if M 22 n = 2 then 1 else 0)
theorem mRecs_le {M : MS} : ∀ n, mRecs M n ≤ n
  | 0 => Nat.le_refl 0
  | n + 1 => by
    have := mRecs_le (M := M) n
    rw [mRecs]
    split <;> omega
theorem mRecs_eq {M M' : MS} : ∀ n, (∀ j, j < n → (M' 22 j = 2 ↔ M 22 j = 2)) → mRecs M' n = mRecs M n
  | 0, _ => rfl
  | n + 1, h => by
    rw [mRecs, mRecs, mRecs_eq n (fun j hj => h j (Nat.lt_succ_of_lt hj))]
    have := h n (Nat.lt_succ_self n)
    by_cases e : M 22 n = 2
    · rw [if_pos e, if_pos (this.mpr e)]
    · rw [if_neg e, if_neg (fun z => e (this.mp z))]
theorem mRecs_gone {M : MS} {i : Nat} (h2 : M 22 i = 2) : ∀ n, i < n → mRecs (mGone M i) n + 1 = mRecs M n
  | 0, h => absurd h (Nat.not_lt_zero _)
  | n + 1, h => by
    have g : ∀ j, mGone M i 22 j = if j = i then 3 else M 22 j := fun j => by simp [mGone, mu]
    rw [mRecs, mRecs]
    by_cases e : i = n
    · subst e
      have h3 : mRecs (mGone M i) i = mRecs M i := mRecs_eq i (fun j hj => by rw [g, if_neg (by omega)])
      rw [h3, g, if_pos rfl, if_pos h2, if_neg (by decide)]
    · have := mRecs_gone h2 n (by omega)
      have g2 : mGone M i 22 n = M 22 n := by rw [g, if_neg (fun z => e z.symm)]
      rw [g2]
      omega
theorem mGone_row {M : MS} {i j : Nat} (h : j ≠ 22 ∧ j ≠ 24 ∧ j ≠ 4) : mGone M i j = M j := by
  unfold mGone
  rw [mu_row_ne h.2.2, mu_row_ne h.2.1, mu_row_ne h.1]
theorem mRec_row {M : MS} {i j : Nat} (h : j ≠ 22 ∧ j ≠ 23) : mRec M i j = M j := by
  unfold mRec
  rw [mu_row_ne h.2, mu_row_ne h.1]
theorem mWF.gone {M : MS} {nf nt ni nh i : Nat} (h : mWF M nf nt ni nh) : mWF (mGone M i) nf nt ni nh := ((h.mu (by decide)).mu (by decide)).mu (by decide)
theorem mWF.rec {M : MS} {nf nt ni nh i : Nat} (h : mWF M nf nt ni nh) : mWF (mRec M i) nf nt ni nh := (h.mu (by decide)).mu (by decide)
theorem mWF.quota {nf nt ni nh : Nat} : ∀ (t : Nat) {M : MS}, mWF M nf nt ni nh → mWF (mQuota t M) nf nt ni nh
  | 0, _, h => h
  | t + 1, M, h => by
    rw [mQuota]
    split
    · exact mWF.quota t h.gone
    · exact h
theorem mWF.day1 {M : MS} {nf nt ni nh : Nat} (h : mWF M nf nt ni nh) : ∀ j, mWF (mDay1 M j) nf nt ni nh
  | 0 => h
  | j + 1 => by
    rw [mDay1]
    split
    · exact (h.day1 j).rec
    · exact h.day1 j
theorem mWF.day2 {M : MS} {nf nt ni nh : Nat} (h : mWF M nf nt ni nh) : ∀ j, mWF (mDay2 M j) nf nt ni nh
  | 0 => h
  | j + 1 => by
    rw [mDay2]
    split
    · exact (h.day2 j).mu (by decide)
    · exact h.day2 j
theorem mWF.day3 {M : MS} {nf nt ni nh : Nat} (h : mWF M nf nt ni nh) : ∀ j, mWF (mDay3 M j) nf nt ni nh
  | 0 => h
  | j + 1 => by
    rw [mDay3]
    split
    · exact (h.day3 j).gone
    · exact h.day3 j
theorem mWF.day {M : MS} {nf nt ni nh : Nat} (h : mWF M nf nt ni nh) : mWF (mDay M) nf nt ni nh :=
  mWF.quota _ (mWF.day3 (mWF.day2 (mWF.day1 (h.mu (by decide)) _) _) _)
theorem mWF.days {M : MS} {nf nt ni nh : Nat} (h : mWF M nf nt ni nh) : ∀ j, mWF (mDays M j) nf nt ni nh
  | 0 => h
  | j + 1 => (h.days j).day
theorem mCopy_row {M : MS} {i j : Nat} (h : j ≠ 14 ∧ j ≠ 15 ∧ j ≠ 16 ∧ j ≠ 17 ∧ j ≠ 18 ∧ j ≠ 19 ∧ j ≠ 20 ∧ j ≠ 21 ∧ j ≠ 22 ∧ j ≠ 23) : mCopy M i j = M j := by
  obtain ⟨h1, h2, h3, h4, h5, h6, h7, h8, h9, h10⟩ := h
  unfold mCopy
  rw [mRec_row ⟨h9, h10⟩, mu_row_ne h8, mu_row_ne h7, mu_row_ne h6, mu_row_ne h5, mu_row_ne h4, mu_row_ne h3, mu_row_ne h2, mu_row_ne h1]
theorem mCopy_14 {M : MS} {i : Nat} : mCopy M i 14 0 = M 14 0 + 1 := by simp [mCopy, mRec, mu]
theorem mCopy_15 {M : MS} {i n b : Nat} (hn : cl (M 14 0) = n) (h : i ≠ n) : mCopy M i 15 b = if b = n then M 15 i else M 15 b := by simp [mCopy, mRec, mu, hn]
theorem mCopy_20 {M : MS} {i n b : Nat} (hn : cl (M 14 0) = n) (h : i ≠ n) : mCopy M i 20 b = if b = n then M 20 i else M 20 b := by simp [mCopy, mRec, mu, hn]
theorem mWF.copy {M : MS} {nf nt ni nh i : Nat} (h : mWF M nf nt ni nh) (hi : i < ni) (hlt : ni < 40) : mWF (mCopy M i) nf nt (ni + 1) nh := by
  unfold mWF
  rw [mCopy_row (j := 5) (by decide), mCopy_row (j := 6) (by decide), mCopy_row (j := 7) (by decide), mCopy_row (j := 8) (by decide), mCopy_row (j := 9) (by decide), mCopy_row (j := 11) (by decide), mCopy_row (j := 26) (by decide), mCopy_14, h.ni]
  refine ⟨h.1, h.2.1, ⟨nI_1 ni, by omega⟩, h.2.2.2.1, h.2.2.2.2.1, h.2.2.2.2.2.1, h.dflt, fun b hb => ?_, fun b hb => ?_, h.2.2.2.2.2.2.2.2.2⟩
  · rw [mCopy_15 h.c14 (by omega)]
    split
    · exact h.fold hi
    · exact h.fold (by omega)
  · rw [mCopy_20 h.c14 (by omega)]
    split
    · exact h.own hi
    · exact h.own (by omega)
/-! numbers in range: the day d; windows, ages, states -/
def mNR (M : MS) (nt ni d : Nat) : Prop :=
  M 1 0 = nI d ∧ (∃ w, 1 ≤ w ∧ w ≤ 60 ∧ M 2 0 = nI w) ∧ (∃ k, k ≤ 2000 ∧ M 3 0 = nI k) ∧
  (∀ t, t < nt → (∃ a, a ≤ 2 ∧ M 10 t = nI a) ∧ ∃ g, g ≤ 1000 ∧ M 12 t = nI g) ∧ (∀ e, e < 4 → M 13 e = -1 ∨ ∃ x, x ≤ 100000 ∧ M 13 e = nI x) ∧
  ∀ i, i < ni → (∃ a, a ≤ d ∧ M 19 i = nI a) ∧ (M 21 i = -1 ∨ ∃ x, x ≤ 100000 ∧ M 21 i = nI x) ∧ (∃ s, s ≤ 3 ∧ M 22 i = nI s) ∧ (∃ z, 1 ≤ z ∧ z ≤ 50 ∧ M 18 i = nI z) ∧ (M 22 i = 2 → ∃ x, x ≤ d ∧ M 23 i = nI x) ∧ (M 22 i = 3 → ∃ x, x ≤ d ∧ M 24 i = nI x)
theorem mNR.day {M : MS} {nt ni d : Nat} (h : mNR M nt ni d) : M 1 0 = nI d := h.1
theorem mNR.win {M : MS} {nt ni d : Nat} (h : mNR M nt ni d) : ∃ w, 1 ≤ w ∧ w ≤ 60 ∧ M 2 0 = nI w := h.2.1
theorem mNR.quo {M : MS} {nt ni d : Nat} (h : mNR M nt ni d) : ∃ k, k ≤ 2000 ∧ M 3 0 = nI k := h.2.2.1
theorem mNR.tag {M : MS} {nt ni d t : Nat} (h : mNR M nt ni d) (ht : t < nt) : (∃ a, a ≤ 2 ∧ M 10 t = nI a) ∧ ∃ g, g ≤ 1000 ∧ M 12 t = nI g := h.2.2.2.1 t ht
theorem mNR.ev {M : MS} {nt ni d e : Nat} (h : mNR M nt ni d) (he : e < 4) : M 13 e = -1 ∨ ∃ x, x ≤ 100000 ∧ M 13 e = nI x := h.2.2.2.2.1 e he
theorem mNR.item {M : MS} {nt ni d i : Nat} (h : mNR M nt ni d) (hi : i < ni) : (∃ a, a ≤ d ∧ M 19 i = nI a) ∧ (M 21 i = -1 ∨ ∃ x, x ≤ 100000 ∧ M 21 i = nI x) ∧ (∃ s, s ≤ 3 ∧ M 22 i = nI s) ∧ (∃ z, 1 ≤ z ∧ z ≤ 50 ∧ M 18 i = nI z) ∧ (M 22 i = 2 → ∃ x, x ≤ d ∧ M 23 i = nI x) ∧ (M 22 i = 3 → ∃ x, x ≤ d ∧ M 24 i = nI x) := h.2.2.2.2.2 i hi
theorem mStart_r {M : MS} {nf nt ni nh d i t : Nat} (hw : mWF M nf nt ni nh) (hn : mNR M nt ni d) (hd : d ≤ 100000) (hi : i < ni) (ht : t < nt) : mStart M i t = -1 ∨ ∃ x, x ≤ 100000 ∧ mStart M i t = nI x := by
  obtain ⟨⟨a, ha, ea⟩, hm, -⟩ := hn.item hi
  unfold mStart
  by_cases h0 : M 11 t = 0
  · rw [if_pos h0]; exact Or.inr ⟨a, by omega, ea⟩
  · rw [if_neg h0]
    by_cases h1 : M 11 t = 1
    · rw [if_pos h1]
      by_cases h2 : M 21 i = -1
      · rw [if_pos h2]; exact Or.inr ⟨a, by omega, ea⟩
      · rw [if_neg h2]; exact hm
    · rw [if_neg h1]
      obtain ⟨s, hs, es⟩ := hw.start ht
      obtain ⟨e, he, ee⟩ := mStart_ev es h0 h1 hs
      rw [ee, cl_nI (by omega)]
      exact hn.ev he
theorem mDue_r {M : MS} {nf nt ni nh d i : Nat} (hw : mWF M nf nt ni nh) (hn : mNR M nt ni d) (hd : d ≤ 100000) (hi : i < ni) : mDue M i = -1 ∨ ∃ x, x ≤ 101000 ∧ mDue M i = nI x := by
  unfold mDue mDueT
  have hl := hw.lim
  rcases mCnt_pt hw hi with e | ⟨t, ht, e⟩
  · rw [if_pos e]; exact Or.inl rfl
  · rw [if_neg (by rw [e]; exact nI_m1 (by omega)), e, cl_nI (by omega)]
    by_cases h : M 10 t = 2 ∨ mStart M i t = -1
    · rw [if_pos h]; exact Or.inl rfl
    · rw [if_neg h]
      rcases mStart_r hw hn hd hi ht with h2 | ⟨x, hx, h2⟩
      · exact absurd (Or.inr h2) h
      · obtain ⟨-, g, hg, eg⟩ := hn.tag ht
        rw [h2, eg, nI_add]
        exact Or.inr ⟨x + g, by omega, rfl⟩
theorem mLater_nI {a b : Nat} (ha : a < 2 ^ 31) (hb : b < 2 ^ 31) : mLater (nI a) (nI b) = nI (max a b) := by
  unfold mLater
  by_cases h : b < a
  · rw [if_pos ((nI_ltI hb ha).mpr h), Nat.max_eq_left (Nat.le_of_lt h)]
  · rw [if_neg (fun z => h ((nI_ltI hb ha).mp z)), Nat.max_eq_right (Nat.not_lt.mp h)]
theorem mEnd_r {M : MS} {nf nt ni nh d i : Nat} (hw : mWF M nf nt ni nh) (hn : mNR M nt ni d) (hd : d ≤ 100000) (hi : i < ni) : mEnd M i = -1 ∨ ∃ x, x ≤ 102000 ∧ mEnd M i = nI x := by
  unfold mEnd
  obtain ⟨-, -, -, -, h2, h3⟩ := hn.item hi
  obtain ⟨w, hw1, hw2, ew⟩ := hn.win
  by_cases e3 : M 22 i = 3
  · rw [if_pos e3]
    obtain ⟨x, hx, ex⟩ := h3 e3
    exact Or.inr ⟨x, by omega, ex⟩
  · rw [if_neg e3]
    by_cases hh : mHeld M i = true
    · rw [if_pos hh]; exact Or.inl rfl
    · rw [if_neg hh]
      by_cases e2 : M 22 i = 2
      · rw [if_pos e2]
        obtain ⟨x, hx, ex⟩ := h2 e2
        rw [ex, ew, hn.day, nI_add, nI_1, mLater_nI (by omega) (by omega)]
        exact Or.inr ⟨_, by omega, rfl⟩
      · rw [if_neg e2]
        by_cases e4 : mCnt M i = -1 ∨ mDue M i = -1
        · rw [if_pos e4]; exact Or.inl rfl
        · rw [if_neg e4]
          split
          · exact Or.inl rfl
          · rcases mDue_r hw hn hd hi with h5 | ⟨x, hx, ex⟩
            · exact absurd (Or.inr h5) e4
            · rw [ex, ew, hn.day, nI_1, mLater_nI (by omega) (by omega), nI_add]
              exact Or.inr ⟨_, by omega, rfl⟩
/-! what is written -/
def mWr (M : MS) (c : Int32) : MS := mu (mu M 32 (cl (M 33 0)) c) 33 0 (M 33 0 + 1)
def mWrL : MS → List Int32 → MS
  | M, [] => M
  | M, c :: r => mWrL (mWr M c) r
theorem mWrL_app : ∀ (a b : List Int32) (M : MS), mWrL M (a ++ b) = mWrL (mWrL M a) b
  | [], _, _ => rfl
  | c :: r, b, M => mWrL_app r b (mWr M c)
/-- the digits of n from the power p down -/
def mDigs (n : Nat) : Nat → List Int32
  | 0 => [nI (48 + n % 10)]
  | p + 1 => nI (48 + n / 10 ^ (p + 1) % 10) :: mDigs n p
def mTop (n : Nat) : Nat := if n < 10 then 0 else if n < 100 then 1 else if n < 1000 then 2 else if n < 10000 then 3 else if n < 100000 then 4 else 5
def mNum (n : Nat) : List Int32 := mDigs n (mTop n)
def mWord (s : Int32) : List Int32 := if s = 0 then [105, 110] else if s = 1 then [97, 114, 99, 104, 105, 118, 101, 100] else if s = 2 then [100, 101, 108, 101, 116, 101, 100] else [103, 111, 110, 101]
def mText (M : MS) (i : Nat) : List Int32 :=
  105 :: (mNum i ++ (32 :: (mWord (M 22 i) ++ ((if mEnd M i = -1 then [] else [32, 101, 110, 100, 32] ++ mNum (cl (mEnd M i))) ++ (if mHeld M i = true then [32, 104, 101, 108, 100] else [])))))
def oWrite (M : MS) (i : Int32) : Int32 × MS :=
  if mIn i 0 (M 14 0 - 1) = false then oRefuse M 1 else
  let M1 := mWrL (mu M 33 0 0) (mText M (cl i))
  oTold M1 (M1 33 0)
def oOutputAt (M : MS) (i : Int32) : Int32 × MS :=
  if mIn i 0 (M 33 0 - 1) = false then oTold M (-1) else oTold M (M 32 (cl i))
def mAgeF (M : MS) : Nat → Int32
  | 0 => 0
  | k + 1 => if M 22 k = 0 then mAgeF M k + (M 1 0 - M 19 k) else mAgeF M k
def mMean (M : MS) : UInt64 := if mCountF M 0 (cl (M 14 0)) = 0 then FP.dconst0 else FP.ddiv (FP.i2d (mAgeF M (cl (M 14 0)))) (FP.i2d (mCountF M 0 (cl (M 14 0))))
def mHeldC (M : MS) : Nat → Int32
  | 0 => 0
  | k + 1 => if mHeld M k = true then mHeldC M k + 1 else mHeldC M k
def mAliveC (M : MS) : Nat → Int32
  | 0 => 0
  | k + 1 => if M 22 k = 3 then mAliveC M k else mAliveC M k + 1
def mShare (M : MS) : UInt32 := if mAliveC M (cl (M 14 0)) = 0 then FP.fconst0 else FP.fdiv (FP.i2f (mHeldC M (cl (M 14 0)))) (FP.i2f (mAliveC M (cl (M 14 0))))
theorem mDigs_len (n : Nat) : ∀ p, (mDigs n p).length = p + 1
  | 0 => rfl
  | p + 1 => by rw [mDigs, List.length_cons, mDigs_len n p]
theorem mTop_le (n : Nat) : mTop n ≤ 5 := by
  unfold mTop
  repeat' split
  all_goals omega
theorem mNum_len (n : Nat) : (mNum n).length ≤ 6 := by
  rw [mNum, mDigs_len]
  have := mTop_le n
  omega
theorem mTop_lt {n : Nat} (h : n < 1000000) : n / 10 ^ mTop n < 10 := by
  unfold mTop
  repeat' split
  all_goals omega
theorem mTop_gt {n p : Nat} (h : n < 1000000) (hp : p < mTop n) : 10 ≤ n / 10 ^ p := by
  have h5 := mTop_le n
  have : p = 0 ∨ p = 1 ∨ p = 2 ∨ p = 3 ∨ p = 4 := by omega
  unfold mTop at hp
  rcases this with rfl | rfl | rfl | rfl | rfl <;> (repeat' split at hp) <;> omega
/-- the writer's place and bytes alone differ -/
def mEq (M M' : MS) : Prop := ∀ j, j ≠ 0 → j ≠ 32 → j ≠ 33 → M' j = M j
theorem mEq.rf {M : MS} : mEq M M := fun _ _ _ _ => rfl
theorem mEq.mu {M M' : MS} {j i : Nat} {v : Int32} (h : mEq M M') (hj : j = 0 ∨ j = 32 ∨ j = 33) : mEq M (mu M' j i v) := fun a h0 h1 h2 => by
  rw [mu_row_ne (by omega)]
  exact h a h0 h1 h2
theorem mEq.wr {M M' : MS} {c : Int32} (h : mEq M M') : mEq M (mWr M' c) := (h.mu (by decide)).mu (by decide)
theorem mEq.wrL {M : MS} : ∀ (l : List Int32) {M' : MS}, mEq M M' → mEq M (mWrL M' l)
  | [], _, h => h
  | _ :: r, _, h => mEq.wrL r h.wr
theorem mEq.wf {M M' : MS} {nf nt ni nh : Nat} (h : mEq M M') (hw : mWF M nf nt ni nh) : mWF M' nf nt ni nh := by
  unfold mWF
  rw [h 5 (by decide) (by decide) (by decide), h 6 (by decide) (by decide) (by decide), h 7 (by decide) (by decide) (by decide), h 8 (by decide) (by decide) (by decide), h 9 (by decide) (by decide) (by decide), h 11 (by decide) (by decide) (by decide), h 14 (by decide) (by decide) (by decide), h 15 (by decide) (by decide) (by decide), h 20 (by decide) (by decide) (by decide), h 26 (by decide) (by decide) (by decide)]
  exact hw
theorem mEq.nr {M M' : MS} {nt ni d : Nat} (h : mEq M M') (hn : mNR M nt ni d) : mNR M' nt ni d := by
  unfold mNR
  rw [h 1 (by decide) (by decide) (by decide), h 2 (by decide) (by decide) (by decide), h 3 (by decide) (by decide) (by decide), h 10 (by decide) (by decide) (by decide), h 12 (by decide) (by decide) (by decide), h 13 (by decide) (by decide) (by decide), h 18 (by decide) (by decide) (by decide), h 19 (by decide) (by decide) (by decide), h 21 (by decide) (by decide) (by decide), h 22 (by decide) (by decide) (by decide), h 23 (by decide) (by decide) (by decide), h 24 (by decide) (by decide) (by decide)]
  exact hn
theorem mEq.hold {M M' : MS} (h : mEq M M') (a i : Nat) : mHoldsIt M' a i = mHoldsIt M a i := by
  unfold mHoldsIt
  rw [h 31 (by decide) (by decide) (by decide), h 22 (by decide) (by decide) (by decide), h 27 (by decide) (by decide) (by decide), h 28 (by decide) (by decide) (by decide), h 16 (by decide) (by decide) (by decide), h 17 (by decide) (by decide) (by decide), h 19 (by decide) (by decide) (by decide), h 29 (by decide) (by decide) (by decide), h 30 (by decide) (by decide) (by decide)]
theorem mEq.heldF {M M' : MS} (h : mEq M M') (i : Nat) : ∀ n, mHeldF M' i n = mHeldF M i n
  | 0 => rfl
  | n + 1 => by rw [mHeldF, mHeldF, h.heldF i n, h.hold n i]
theorem mEq.held {M M' : MS} (h : mEq M M') (i : Nat) : mHeld M' i = mHeld M i := by
  rw [mHeld, mHeld, h 26 (by decide) (by decide) (by decide), h.heldF]
theorem mEq.tellN {M M' : MS} (h : mEq M M') : ∀ k f, mTellN M' k f = mTellN M k f
  | 0, _ => rfl
  | k + 1, f => by rw [mTellN, mTellN, h 7 (by decide) (by decide) (by decide), h 6 (by decide) (by decide) (by decide), h.tellN k]
theorem mEq.tell {M M' : MS} (h : mEq M M') (i : Nat) : mTell M' i = mTell M i := by
  rw [mTell, mTell, h 15 (by decide) (by decide) (by decide), h.tellN]
theorem mEq.cnt {M M' : MS} (h : mEq M M') (i : Nat) : mCnt M' i = mCnt M i := by
  rw [mCnt, mCnt, h.tell, h 20 (by decide) (by decide) (by decide), h 7 (by decide) (by decide) (by decide), h 8 (by decide) (by decide) (by decide)]
theorem mEq.start {M M' : MS} (h : mEq M M') (i t : Nat) : mStart M' i t = mStart M i t := by
  rw [mStart, mStart, h 11 (by decide) (by decide) (by decide), h 19 (by decide) (by decide) (by decide), h 21 (by decide) (by decide) (by decide), h 13 (by decide) (by decide) (by decide)]
theorem mEq.due {M M' : MS} (h : mEq M M') (i : Nat) : mDue M' i = mDue M i := by
  rw [mDue, mDue, h.cnt, mDueT, mDueT, h.start, h 10 (by decide) (by decide) (by decide), h 12 (by decide) (by decide) (by decide)]
theorem mEq.fin {M M' : MS} (h : mEq M M') (i : Nat) : mEnd M' i = mEnd M i := by
  rw [mEnd, mEnd, h.cnt, h.due, h.held, h 22 (by decide) (by decide) (by decide), h 24 (by decide) (by decide) (by decide), h 23 (by decide) (by decide) (by decide), h 2 (by decide) (by decide) (by decide), h 1 (by decide) (by decide) (by decide), h 10 (by decide) (by decide) (by decide)]
theorem mWr_33 {M : MS} {c : Int32} : mWr M c 33 0 = M 33 0 + 1 := by simp [mWr, mu]
theorem mWrL_33 : ∀ (l : List Int32) {M : MS} {o : Nat}, M 33 0 = nI o → mWrL M l 33 0 = nI (o + l.length)
  | [], _, _, h => h
  | c :: r, M, o, h => by
    rw [mWrL, mWrL_33 r (M := mWr M c) (o := o + 1) (by rw [mWr_33, h]; exact nI_1 o), List.length_cons]
    congr 1
    omega
theorem mWF.was {M : MS} {nf nt ni nh : Nat} (h : mWF M nf nt ni nh) : ∀ j, mWF (mWas M j) nf nt ni nh
  | 0 => h
  | j + 1 => (h.was j).mu (by decide)
theorem b2i_vn (b : Bool) : vp_nar .boolean (b2i b) = b2i b := by cases b <;> rfl
theorem mIn_nn {v : Int32} {a n : Nat} (h : mIn v (nI a) (nI n) = true) (ha : a < 2 ^ 31) (hn : n < 2 ^ 31) : ∃ q, a ≤ q ∧ q ≤ n ∧ v = nI q := by
  simp only [mIn, Bool.and_eq_true, decide_eq_true_eq] at h
  obtain ⟨h1, h2⟩ := h
  rw [Int32.lt_iff_toInt_lt, nI_toInt ha] at h1
  rw [Int32.lt_iff_toInt_lt, nI_toInt hn] at h2
  refine ⟨v.toInt.toNat, by omega, by omega, Int32.toInt_inj.mp ?_⟩
  rw [nI_toInt (by omega)]
  omega
theorem dig_b : ∀ d, d < 10 → (nI (48 + d)).toInt8.toInt32 = nI (48 + d) := by decide +kernel
theorem pow5 {p : Nat} (h : p ≤ 5) : 10 ^ p ≤ 100000 ∧ 1 ≤ 10 ^ p := ⟨Nat.pow_le_pow_right (n := 10) (by decide) h, Nat.one_le_pow _ _ (by decide)⟩
theorem dig_e {n p : Nat} (hn : n < 1000000) (hp : p ≤ 5) : (48 : Int32) + (nI n / nI (10 ^ p) - nI n / nI (10 ^ p) / 10 * 10) = nI (48 + n / 10 ^ p % 10) := by
  obtain ⟨h1, h2⟩ := pow5 hp
  have hd : n / 10 ^ p ≤ n := Nat.div_le_self _ _
  rw [pk_div (by omega) (by omega) (by omega), show (10 : Int32) = nI 10 from rfl, pk_rem (by omega) (by omega) (by omega), show (48 : Int32) = nI 48 from rfl, nI_add]
theorem mNum_33 {M : MS} {o n : Nat} (h : M 33 0 = nI o) : mWrL M (mNum n) 33 0 = nI (o + (mNum n).length) := mWrL_33 _ h
theorem mWord_len (s : Int32) : (mWord s).length ≤ 8 := by
  unfold mWord
  repeat' split
  all_goals decide
theorem hov_wr {E : zE} {H H9 : Heap} {m : Nat} {ad : Nat → Nat} {M : MS} {c : Int32} {o : Nat} (_ : mTo E H m ad (mWr M c) H9) (h : M 33 0 = nI o) : mWr M c 33 0 = nI (o + 1) := by
  rw [mWr_33, h]
  exact nI_1 o
theorem hq_wr {E : zE} {H H9 : Heap} {m : Nat} {ad : Nat → Nat} {M M0 : MS} {c : Int32} (_ : mTo E H m ad (mWr M c) H9) (h : mEq M0 M) : mEq M0 (mWr M c) := h.wr
theorem hov_wrL {E : zE} {H H9 : Heap} {m : Nat} {ad : Nat → Nat} {M : MS} {l : List Int32} {o : Nat} (_ : mTo E H m ad (mWrL M l) H9) (h : M 33 0 = nI o) : mWrL M l 33 0 = nI (o + l.length) := mWrL_33 l h
theorem hq_wrL {E : zE} {H H9 : Heap} {m : Nat} {ad : Nat → Nat} {M M0 : MS} {l : List Int32} (_ : mTo E H m ad (mWrL M l) H9) (h : mEq M0 M) : mEq M0 (mWrL M l) := h.wrL l
def mHead (M : MS) (j : Nat) : MS := mWrL (mWr (mWrL (mWr (mu M 33 0 0) 105) (mNum j)) 32) (mWord (M 22 j))
theorem oWr_0 {M : MS} {i : Int32} (j : Nat) (h5 : ¬ mIn i 0 (M 14 0 - 1) = false) (ej : cl i = j) : oWrite M i = oTold (mWrL (mHead M j) ((if mEnd M j = -1 then [] else [32, 101, 110, 100, 32] ++ mNum (cl (mEnd M j))) ++ (if mHeld M j = true then [32, 104, 101, 108, 100] else []))) (mWrL (mHead M j) ((if mEnd M j = -1 then [] else [32, 101, 110, 100, 32] ++ mNum (cl (mEnd M j))) ++ (if mHeld M j = true then [32, 104, 101, 108, 100] else [])) 33 0) := by
  have e : mWrL (mu M 33 0 0) (mText M j) = mWrL (mHead M j) ((if mEnd M j = -1 then [] else [32, 101, 110, 100, 32] ++ mNum (cl (mEnd M j))) ++ (if mHeld M j = true then [32, 104, 101, 108, 100] else [])) := by
    rw [mText, mWrL, mWrL_app, mWrL, mWrL_app]
    rfl
  rw [oWrite, if_neg h5, ej]
  simp only [e]
theorem oWr_1 {M : MS} {i : Int32} {j : Nat} (h5 : ¬ mIn i 0 (M 14 0 - 1) = false) (ej : cl i = j) (h1 : mEnd M j = -1) (h2 : mHeld M j = false) : oWrite M i = (mHead M j 33 0, mu (mHead M j) 0 0 0) := by
  rw [oWr_0 j h5 ej, if_pos h1, if_neg (by rw [h2]; decide)]
  rfl
theorem oWr_2 {M : MS} {i : Int32} {j : Nat} (h5 : ¬ mIn i 0 (M 14 0 - 1) = false) (ej : cl i = j) (h1 : mEnd M j = -1) (h2 : ¬ mHeld M j = false) : oWrite M i = (mWrL (mHead M j) [32, 104, 101, 108, 100] 33 0, mu (mWrL (mHead M j) [32, 104, 101, 108, 100]) 0 0 0) := by
  rw [oWr_0 j h5 ej, if_pos h1, if_pos (by simpa using h2)]
  rfl
theorem oWr_3 {M : MS} {i : Int32} {j x : Nat} (h5 : ¬ mIn i 0 (M 14 0 - 1) = false) (ej : cl i = j) (h1 : ¬ mEnd M j = -1) (hx : cl (mEnd M j) = x) (h2 : mHeld M j = false) : oWrite M i = (mWrL (mWrL (mHead M j) [32, 101, 110, 100, 32]) (mNum x) 33 0, mu (mWrL (mWrL (mHead M j) [32, 101, 110, 100, 32]) (mNum x)) 0 0 0) := by
  rw [oWr_0 j h5 ej, if_neg h1, if_neg (by rw [h2]; decide), hx, List.append_nil, mWrL_app]
  rfl
theorem oWr_4 {M : MS} {i : Int32} {j x : Nat} (h5 : ¬ mIn i 0 (M 14 0 - 1) = false) (ej : cl i = j) (h1 : ¬ mEnd M j = -1) (hx : cl (mEnd M j) = x) (h2 : ¬ mHeld M j = false) : oWrite M i = (mWrL (mWrL (mWrL (mHead M j) [32, 101, 110, 100, 32]) (mNum x)) [32, 104, 101, 108, 100] 33 0, mu (mWrL (mWrL (mWrL (mHead M j) [32, 101, 110, 100, 32]) (mNum x)) [32, 104, 101, 108, 100]) 0 0 0) := by
  rw [oWr_0 j h5 ej, if_neg h1, if_pos (by simpa using h2), hx, mWrL_app, mWrL_app]
  rfl
/-! the twin's constructor: the arrays below the place b are made -/
def mIL (v : Nat → Value) : List Value := [v 0, v 1, v 2, v 3, v 4, v 5, v 6, v 7, v 8, v 9, v 10, v 11, v 12, v 13, v 14, v 15, v 16, v 17, v 18, v 19, v 20, v 21, v 22, v 23, v 24, v 25, v 26, v 27, v 28, v 29, v 30, v 31, v 32, v 33]
def vI (b : Nat) (ad : Nat → Nat) (i : Nat) : Value := if mArr i = true then (if i < b then .ref (ad i) else .null) else .int 0
def mV0 : List Value := mIL (vI 0 (fun _ => 0))
def MI (E : zE) (H0 H : Heap) (m : Nat) (ad : Nat → Nat) (b : Nat) : Prop :=
  zAt E H m (.inr (3, mIL (vI b ad))) ∧ (∀ j, mArr j = true → j < b → H0.size ≤ ad j ∧ zAt E H (ad j) (zI E (mTy j) (mLen j) (fun _ => 0))) ∧ (∀ i j, mArr i = true → mArr j = true → i < j → j < b → ad i < ad j) ∧ m < H0.size ∧ H0.size ≤ H.size ∧ ∀ q : Nat, q < H0.size → q ≠ m → H[q]? = H0[q]?
theorem MI.start {E : zE} {H : Heap} {m : Nat} (h : zAt E H m (.inr (3, mV0))) : MI E H H m (fun _ => 0) 0 := ⟨h, fun j _ hj => absurd hj (Nat.not_lt_zero _), fun i j _ _ _ hj => absurd hj (Nat.not_lt_zero _), h.lt, Nat.le_refl _, fun _ _ _ => rfl⟩
theorem MI.at {E : zE} {H0 H H1 : Heap} {m b q : Nat} {ad : Nat → Nat} {x : va_E} (h : MI E H0 H m ad b) (k : zMk E H q x H1) : zAt E H1 m (.inr (3, mIL (vI b ad))) := h.1.kept (k.2.2.2 m h.1.lt)
theorem MI.step {E : zE} {H0 H H1 H2 : Heap} {m b q j : Nat} {ad : Nat → Nat} (h : MI E H0 H m ad b) (k : zMk E H q (zI E (mTy j) (mLen j) (fun _ => 0)) H1) (w : zWr E H1 m (.inr (3, mIL (fun i => if i = j then .ref q else vI b ad i))) H2) (hj : mArr j = true) (hb : b ≤ j) (hg : ∀ i, i < j → b ≤ i → mArr i = false) : ∃ ad', MI E H0 H2 m ad' (j + 1) := by
  obtain ⟨h1, h2, h3, h4, h5, h6⟩ := h
  obtain ⟨k1, k2, k3, k4⟩ := k
  obtain ⟨w1, w2, w3⟩ := w
  refine ⟨fun i => if i = j then q else ad i, ?_, ?_, ?_, h4, by omega, ?_⟩
  · have e : (fun i => if i = j then Value.ref q else vI b ad i) = vI (j + 1) (fun i => if i = j then q else ad i) := by
      funext i
      by_cases e : i = j
      · subst e
        simp [vI, hj]
      · simp only [vI, if_neg e]
        by_cases ha : mArr i = true
        · rw [if_pos ha, if_pos ha]
          by_cases hi : i < b
          · rw [if_pos hi, if_pos (by omega)]
          · rw [if_neg hi, if_neg (fun z => by rw [hg i (by omega) (by omega)] at ha; cases ha)]
        · rw [if_neg ha, if_neg ha]
    rw [e] at w1
    exact w1
  · intro i ha hi
    by_cases e : i = j
    · subst e
      simp only [if_true]
      exact ⟨by omega, k2.kept (w3 q (by have := h4; omega))⟩
    · have hib : i < b := Nat.lt_of_not_le fun z => by rw [hg i (by omega) z] at ha; cases ha
      obtain ⟨a1, a2⟩ := h2 i ha hib
      simp only [if_neg e]
      exact ⟨a1, (a2.kept (k4 _ a2.lt)).kept (w3 _ (by omega))⟩
  · intro i i' ha ha' hlt hi'
    have hib : i < b := Nat.lt_of_not_le fun z => by rw [hg i (by omega) z] at ha; cases ha
    have h8 := (h2 i ha hib).2.lt
    simp only [if_neg (show i ≠ j by omega)]
    by_cases e : i' = j
    · rw [if_pos e]
      omega
    · rw [if_neg e]
      exact h3 i i' ha ha' hlt (Nat.lt_of_not_le fun z => by rw [hg i' (by omega) z] at ha'; cases ha')
  · intro r hr hrm
    rw [w3 r hrm, k4 r (by omega)]
    exact h6 r hr hrm
theorem MI.fin {E : zE} {H0 H : Heap} {m : Nat} {ad : Nat → Nat} (h : MI E H0 H m ad 33) : MP E H m ad (fun _ _ => 0) := by
  obtain ⟨h1, h2, h3, h4, h5, h6⟩ := h
  have hlt : ∀ j, mArr j = true → j < 33 := fun j hj => Nat.lt_of_not_le fun z => by
    simp [mArr] at hj
    omega
  refine ⟨h1, fun j hj => (h2 j hj (hlt j hj)).2, fun j hj => by have := (h2 j hj (hlt j hj)).1; omega, fun i j hi hj e => ?_⟩
  rcases Nat.lt_trichotomy i j with q | q | q
  · exact absurd e (Nat.ne_of_lt (h3 i j hi hj q (hlt j hj)))
  · exact q
  · exact absurd e.symm (Nat.ne_of_lt (h3 j i hj hi q (hlt i hi)))
def mNew (E : zE) (H : Heap) (m : Nat) (M : MS) (H2 : Heap) : Prop := ∃ ad, MP E H2 m ad M ∧ (∀ j, mArr j = true → H.size ≤ ad j) ∧ H.size ≤ H2.size ∧ ∀ q : Nat, q < H.size → q ≠ m → H2[q]? = H[q]?
theorem MI.done {E : zE} {H0 H H2 : Heap} {m : Nat} {ad : Nat → Nat} {M : MS} (h : MI E H0 H m ad 33) (t : mTo E H m ad M H2) : mNew E H0 m M H2 := by
  have hlt : ∀ j, mArr j = true → j < 33 := fun j hj => Nat.lt_of_not_le fun z => by
    simp [mArr] at hj
    omega
  refine ⟨ad, t.1, fun j hj => (h.2.1 j hj (hlt j hj)).1, by rw [t.2.1]; exact h.2.2.2.2.1, fun q h1 h2 => (t.2.2 q h2 (fun j hj => ?_)).trans (h.2.2.2.2.2 q h1 h2)⟩
  have := (h.2.1 j hj (hlt j hj)).1
  omega
