/-! PriorityQueue: the plain law of sifting -/
set_option maxRecDepth 100000
def ua (a : Nat → Nat) (k r : Nat) : Nat → Nat := fun j => if j = k then r else a j
def qUp (K : Nat → Nat) (x : Nat) : Nat → Nat → (Nat → Nat) → (Nat → Nat)
  | 0, k, a => ua a k x
  | t + 1, k, a => if k = 0 then ua a k x else if K x < K (a ((k - 1) / 2)) then qUp K x t ((k - 1) / 2) (ua a k (a ((k - 1) / 2))) else ua a k x
/-- the smaller child of k among the first n -/
def qCh (K : Nat → Nat) (n k : Nat) (a : Nat → Nat) : Nat := if 2 * k + 2 < n ∧ K (a (2 * k + 2)) < K (a (2 * k + 1)) then 2 * k + 2 else 2 * k + 1
def qDn (K : Nat → Nat) (x n : Nat) : Nat → Nat → (Nat → Nat) → (Nat → Nat)
  | 0, k, a => ua a k x
  | t + 1, k, a => if n / 2 ≤ k then ua a k x else if K (a (qCh K n k a)) < K x then qDn K x n t (qCh K n k a) (ua a k (a (qCh K n k a))) else ua a k x
def qHp (K : Nat → Nat) (n : Nat) (a : Nat → Nat) : Prop := ∀ j, 0 < j → j < n → K (a ((j - 1) / 2)) ≤ K (a j)
/-- a hole at k, x to go in: order apart from k, what is above the hole is below its children -/
def qHole (K : Nat → Nat) (n k : Nat) (a : Nat → Nat) : Prop := k < n ∧ (∀ j, 0 < j → j < n → j ≠ k → (j - 1) / 2 ≠ k → K (a ((j - 1) / 2)) ≤ K (a j)) ∧ ∀ j, 0 < k → 0 < j → j < n → (j - 1) / 2 = k → K (a ((k - 1) / 2)) ≤ K (a j)
/-- what lies in the row: all but the hole's, and x -/
def qMem (n k x : Nat) (a : Nat → Nat) (S : Nat → Prop) : Prop := (∀ r, S r ↔ r = x ∨ ∃ j, j < n ∧ j ≠ k ∧ a j = r) ∧ (∀ j, j < n → j ≠ k → a j ≠ x) ∧ ∀ i j, i < n → j < n → i ≠ k → j ≠ k → a i = a j → i = j
def qAll (n : Nat) (a : Nat → Nat) (S : Nat → Prop) : Prop := (∀ r, S r ↔ ∃ j, j < n ∧ a j = r) ∧ ∀ i j, i < n → j < n → a i = a j → i = j
theorem qMem.fill {n k x : Nat} {a : Nat → Nat} {S : Nat → Prop} (hk : k < n) (h : qMem n k x a S) : qAll n (ua a k x) S := by
  obtain ⟨h1, h2, h3⟩ := h
  refine ⟨fun r => (h1 r).trans ⟨fun z => ?_, fun ⟨j, hj, e⟩ => ?_⟩, fun i j hi hj e => ?_⟩
  · rcases z with rfl | ⟨j, hj, hjk, rfl⟩
    · exact ⟨k, hk, by simp [ua]⟩
    · exact ⟨j, hj, by simp [ua, hjk]⟩
  · by_cases q : j = k
    · subst q
      simp [ua] at e
      exact Or.inl e.symm
    · simp [ua, q] at e
      exact Or.inr ⟨j, hj, q, e⟩
  · by_cases p : i = k
    · by_cases q : j = k
      · omega
      · simp [ua, p, q] at e
        exact absurd e.symm (h2 j hj q)
    · by_cases q : j = k
      · simp [ua, p, q] at e
        exact absurd e (h2 i hi p)
      · simp [ua, p, q] at e
        exact h3 i j hi hj p q e
theorem qMem.move {n k p x : Nat} {a : Nat → Nat} {S : Nat → Prop} (hk : k < n) (hp : p < n) (hne : p ≠ k) (h : qMem n k x a S) : qMem n p x (ua a k (a p)) S := by
  obtain ⟨h1, h2, h3⟩ := h
  refine ⟨fun r => (h1 r).trans ⟨fun z => ?_, fun z => ?_⟩, fun j hj hjp => ?_, fun i j hi hj hip hjp e => ?_⟩
  · rcases z with rfl | ⟨j, hj, hjk, rfl⟩
    · exact Or.inl rfl
    · by_cases q : j = p
      · subst q
        exact Or.inr ⟨k, hk, fun z => hne z.symm, by simp [ua]⟩
      · exact Or.inr ⟨j, hj, q, by simp [ua, hjk]⟩
  · rcases z with rfl | ⟨j, hj, hjp, e⟩
    · exact Or.inl rfl
    · by_cases q : j = k
      · subst q
        simp [ua] at e
        exact Or.inr ⟨p, hp, hne, e⟩
      · simp [ua, q] at e
        exact Or.inr ⟨j, hj, q, e⟩
  · by_cases q : j = k
    · simp only [ua, if_pos q]
      exact h2 p hp hne
    · simp only [ua, if_neg q]
      exact h2 j hj q
  · by_cases p1 : i = k
    · by_cases q : j = k
      · omega
      · simp [ua, p1, q] at e
        exact absurd (h3 p j hp hj hne q e).symm hjp
    · by_cases q : j = k
      · simp [ua, p1, q] at e
        exact absurd (h3 i p hi hp p1 hne e) hip
      · simp [ua, p1, q] at e
        exact h3 i j hi hj p1 q e
theorem qUp_ok {K : Nat → Nat} {x n : Nat} {S : Nat → Prop} : ∀ (t k : Nat) (a : Nat → Nat), k ≤ t → qHole K n k a → (∀ j, 0 < j → j < n → (j - 1) / 2 = k → K x ≤ K (a j)) → qMem n k x a S → qHp K n (qUp K x t k a) ∧ qAll n (qUp K x t k a) S := by
  intro t
  induction t with
  | zero =>
    intro k a hk hh hx hm
    have h0 : k = 0 := by omega
    subst h0
    refine ⟨fun j h1 h2 => ?_, hm.fill hh.1⟩
    simp only [qUp]
    by_cases q : (j - 1) / 2 = 0
    · simp only [ua, if_pos q, if_neg (show j ≠ 0 by omega)]
      exact hx j h1 h2 q
    · simp only [ua, if_neg q, if_neg (show j ≠ 0 by omega)]
      exact hh.2.1 j h1 h2 (by omega) q
  | succ t ih =>
    intro k a hk hh hx hm
    obtain ⟨hkn, h1, h2⟩ := hh
    rw [qUp]
    have fin : (k = 0 ∨ ¬ K x < K (a ((k - 1) / 2))) → qHp K n (ua a k x) ∧ qAll n (ua a k x) S := by
      intro hz
      refine ⟨fun j h3 h4 => ?_, hm.fill hkn⟩
      by_cases q : (j - 1) / 2 = k
      · simp only [ua, if_pos q, if_neg (show j ≠ k by omega)]
        exact hx j h3 h4 q
      · by_cases q2 : j = k
        · simp only [ua, if_neg q, if_pos q2]
          rw [q2]
          omega
        · simp only [ua, if_neg q, if_neg q2]
          exact h1 j h3 h4 q2 q
    by_cases h0 : k = 0
    · rw [if_pos h0]
      exact fin (Or.inl h0)
    · rw [if_neg h0]
      by_cases hc : K x < K (a ((k - 1) / 2))
      · rw [if_pos hc]
        refine ih ((k - 1) / 2) _ (by omega) ⟨by omega, fun j h3 h4 h5 h6 => ?_, fun j h3 h4 h5 h6 => ?_⟩ (fun j h3 h4 h5 => ?_) (hm.move hkn (by omega) (by omega))
        · by_cases q : j = k
          · rw [q] at h6
            omega
          · by_cases q2 : (j - 1) / 2 = k
            · simp only [ua, if_pos q2, if_neg q]
              exact h2 j (by omega) h3 h4 q2
            · simp only [ua, if_neg q2, if_neg q]
              exact h1 j h3 h4 q q2
        · have e1 : ((k - 1) / 2 - 1) / 2 ≠ k := by omega
          have g : K (a (((k - 1) / 2 - 1) / 2)) ≤ K (a ((k - 1) / 2)) := h1 ((k - 1) / 2) h3 (by omega) (by omega) (by omega)
          by_cases q : j = k
          · simp only [ua, if_pos q, if_neg e1]
            exact g
          · simp only [ua, if_neg q, if_neg e1]
            exact Nat.le_trans g (by rw [← h6]; exact h1 j h4 h5 q (by omega))
        · by_cases q : j = k
          · simp only [ua, if_pos q]
            omega
          · simp only [ua, if_neg q]
            have g := h1 j h3 h4 q (by omega)
            rw [h5] at g
            omega
      · rw [if_neg hc]
        exact fin (Or.inr hc)
theorem qDn_ok {K : Nat → Nat} {x n : Nat} {S : Nat → Prop} : ∀ (t k : Nat) (a : Nat → Nat), n ≤ k + t → qHole K n k a → (0 < k → K (a ((k - 1) / 2)) ≤ K x) → qMem n k x a S → qHp K n (qDn K x n t k a) ∧ qAll n (qDn K x n t k a) S := by
  intro t
  induction t with
  | zero =>
    intro k a hk hh hx hm
    have := hh.1
    omega
  | succ t ih =>
    intro k a hk hh hx hm
    obtain ⟨hkn, h1, h2⟩ := hh
    rw [qDn]
    have fin : (∀ j, 0 < j → j < n → (j - 1) / 2 = k → K x ≤ K (a j)) → qHp K n (ua a k x) ∧ qAll n (ua a k x) S := by
      intro hz
      refine ⟨fun j h3 h4 => ?_, hm.fill hkn⟩
      by_cases q : (j - 1) / 2 = k
      · simp only [ua, if_pos q, if_neg (show j ≠ k by omega)]
        exact hz j h3 h4 q
      · by_cases q2 : j = k
        · simp only [ua, if_neg q, if_pos q2]
          rw [q2] at h3 ⊢
          exact hx h3
        · simp only [ua, if_neg q, if_neg q2]
          exact h1 j h3 h4 q2 q
    by_cases h0 : n / 2 ≤ k
    · rw [if_pos h0]
      exact fin (fun j h3 h4 h5 => by omega)
    · rw [if_neg h0]
      have hch : ∀ j, 0 < j → j < n → (j - 1) / 2 = k → K (a (qCh K n k a)) ≤ K (a j) := by
        intro j h3 h4 h5
        have : j = 2 * k + 1 ∨ j = 2 * k + 2 := by omega
        unfold qCh
        split
        · rcases this with rfl | rfl <;> omega
        · rcases this with rfl | rfl <;> omega
      have hcn : qCh K n k a < n ∧ (qCh K n k a - 1) / 2 = k ∧ k < qCh K n k a := by
        unfold qCh
        split <;> omega
      obtain ⟨c1, c2, c3⟩ := hcn
      generalize qCh K n k a = c at hch c1 c2 c3 ⊢
      by_cases hc : K (a c) < K x
      · rw [if_pos hc]
        refine ih c _ (by omega) ⟨c1, fun j h3 h4 h5 h6 => ?_, fun j h3 h4 h5 h6 => ?_⟩ (fun _ => ?_) (hm.move hkn c1 (by omega))
        · by_cases q : j = k
          · have q2 : (j - 1) / 2 ≠ k := by omega
            simp only [ua, if_pos q, if_neg q2]
            rw [q]
            exact h2 c (by omega) (by omega) c1 c2
          · by_cases q2 : (j - 1) / 2 = k
            · simp only [ua, if_pos q2, if_neg q]
              exact hch j h3 h4 q2
            · simp only [ua, if_neg q2, if_neg q]
              exact h1 j h3 h4 q q2
        · have e1 : j ≠ k := by omega
          simp only [ua, c2, if_neg e1, if_true]
          have := h1 j h4 h5 e1 (by omega)
          rw [h6] at this
          exact this
        · simp only [ua, c2, if_true]
          omega
      · rw [if_neg hc]
        exact fin (fun j h3 h4 h5 => by have := hch j h3 h4 h5; omega)
/-- the head is the least -/
theorem qHp.least {K : Nat → Nat} {n : Nat} {a : Nat → Nat} (h : qHp K n a) : ∀ (t j : Nat), j ≤ t → j < n → K (a 0) ≤ K (a j)
  | 0, j, h1, _ => by
    have : j = 0 := by omega
    rw [this]
    exact Nat.le_refl _
  | t + 1, j, h1, h2 => by
    by_cases q : j = 0
    · rw [q]
      exact Nat.le_refl _
    · exact Nat.le_trans (qHp.least h t ((j - 1) / 2) (by omega) (by omega)) (h j (by omega) h2)
theorem qHp.add {K : Nat → Nat} {n x : Nat} {a : Nat → Nat} {S : Nat → Prop} (h : qHp K n a) (hm : qAll n a S) (hx : ¬ S x) : qHp K (n + 1) (qUp K x n n a) ∧ qAll (n + 1) (qUp K x n n a) (fun r => r = x ∨ S r) := by
  refine qUp_ok n n a (Nat.le_refl _) ⟨by omega, fun j h1 h2 h3 h4 => h j h1 (by omega), fun j h1 h2 h3 h4 => by omega⟩ (fun j h1 h2 h3 => by omega) ⟨fun r => ?_, fun j h1 h2 e => hx ((hm.1 x).mpr ⟨j, by omega, e⟩), fun i j h1 h2 h3 h4 e => hm.2 i j (by omega) (by omega) e⟩
  show (r = x ∨ S r) ↔ _
  rw [hm.1 r]
  exact ⟨fun z => z.elim Or.inl (fun ⟨j, q1, q2⟩ => Or.inr ⟨j, by omega, by omega, q2⟩), fun z => z.elim Or.inl (fun ⟨j, q1, q3, q2⟩ => Or.inr ⟨j, by omega, q2⟩)⟩
theorem qHp.poll {K : Nat → Nat} {n : Nat} {a : Nat → Nat} {S : Nat → Prop} (h : qHp K (n + 1) a) (hm : qAll (n + 1) a S) (hn : 0 < n) : qHp K n (qDn K (a n) n n 0 a) ∧ qAll n (qDn K (a n) n n 0 a) (fun r => S r ∧ r ≠ a 0) := by
  refine qDn_ok n 0 a (by omega) ⟨hn, fun j h1 h2 h3 h4 => h j h1 (by omega), fun j h1 h2 h3 h4 => absurd h1 (Nat.lt_irrefl _)⟩ (fun z => absurd z (Nat.lt_irrefl _)) ⟨fun r => ?_, fun j h1 h2 e => absurd (hm.2 j n (by omega) (by omega) e) (by omega), fun i j h1 h2 h3 h4 e => hm.2 i j (by omega) (by omega) e⟩
  show (S r ∧ r ≠ a 0) ↔ _
  rw [hm.1 r]
  constructor
  · rintro ⟨⟨j, q1, q2⟩, q3⟩
    by_cases e : j = n
    · exact Or.inl (by rw [← q2, e])
    · exact Or.inr ⟨j, by omega, fun z => q3 (by rw [← q2, z]), q2⟩
  · rintro (rfl | ⟨j, q1, q2, q3⟩)
    · exact ⟨⟨n, by omega, rfl⟩, fun e => absurd (hm.2 n 0 (by omega) (by omega) e) (by omega)⟩
    · exact ⟨⟨j, by omega, q3⟩, fun e => q2 (hm.2 j 0 (by omega) (by omega) (q3.trans e))⟩
