/-! Z rows: one an instruction, printed by gen/mkrows.py -/
set_option maxRecDepth 100000
theorem zlp_mem : ∀ (L : List (Option Value)) (i j : Nat) (v : Value), (j, v) ∈ zlp i L ↔ ∃ t, j = i + t ∧ zget L t = some v
  | [], i, j, v => by simp [zlp, zget]
  | none :: r, i, j, v => by
    rw [show zlp i (none :: r) = zlp (i + 1) r from rfl, zlp_mem r (i + 1) j v]
    constructor
    · rintro ⟨t, h1, h2⟩
      exact ⟨t + 1, by omega, h2⟩
    · rintro ⟨t, h1, h2⟩
      cases t with
      | zero => cases h2
      | succ t => exact ⟨t, by omega, h2⟩
  | some w :: r, i, j, v => by
    rw [show zlp i (some w :: r) = (i, w) :: zlp (i + 1) r from rfl, List.mem_cons, zlp_mem r (i + 1) j v]
    constructor
    · rintro (h | ⟨t, h1, h2⟩)
      · cases h
        exact ⟨0, rfl, rfl⟩
      · exact ⟨t + 1, by omega, h2⟩
    · rintro ⟨t, h1, h2⟩
      cases t with
      | zero =>
        cases h2
        exact Or.inl (by rw [h1]; rfl)
      | succ t => exact Or.inr ⟨t, by omega, h2⟩
theorem zlp_get {ls : Array Slot} {nL : Nat} {L : List (Option Value)} (h : lv_has ls nL (zlp 0 L)) {i : Nat} {v : Value} (hg : zget L i = some v) : ls[i]? = some (.val v) :=
  h.2.2 (i, v) ((zlp_mem L 0 i v).mpr ⟨i, (Nat.zero_add i).symm, hg⟩)
theorem zlp_idx {L : List (Option Value)} {i : Nat} {v : Value} (hg : zget L i = some v) : ∃ q : Nat, (zlp 0 L)[q]? = some (i, v) :=
  List.getElem?_of_mem ((zlp_mem L 0 i v).mpr ⟨i, (Nat.zero_add i).symm, hg⟩)
/-- the place before i holds no long or double -/
def zc1 : List (Option Value) → Nat → Bool
  | _, 0 => true
  | [], _ => true
  | x :: _, 1 => match x with
    | none => true
    | some v => decide (v.category = 1)
  | _ :: r, i + 2 => zc1 r (i + 1)
def zset2 : List (Option Value) → Nat → Value → List (Option Value)
  | [], _, _ => []
  | [_], 0, v => [some v]
  | _ :: _ :: r, 0, v => some v :: none :: r
  | x :: r, i + 1, v => x :: zset2 r i v
theorem zc1_get : ∀ (L : List (Option Value)) (i : Nat) (v : Value), zc1 L (i + 1) = true → zget L i = some v → v.category = 1
  | [], i, v, _, h2 => by cases i <;> cases h2
  | x :: r, 0, v, h1, h2 => by
    have h3 : x = some v := h2
    subst h3
    exact of_decide_eq_true h1
  | x :: r, i + 1, v, h1, h2 => zc1_get r i v h1 h2
theorem zget_set : ∀ (L : List (Option Value)) (i j : Nat) (v w : Value), zget (zset L i v) j = some w → (j = i ∧ w = v) ∨ (j ≠ i ∧ zget L j = some w)
  | [], i, j, v, w, h => by cases h
  | x :: r, 0, 0, v, w, h => Or.inl ⟨rfl, (Option.some.inj h).symm⟩
  | x :: r, 0, j + 1, v, w, h => Or.inr ⟨by omega, h⟩
  | x :: r, i + 1, 0, v, w, h => Or.inr ⟨by omega, h⟩
  | x :: r, i + 1, j + 1, v, w, h => by
    rcases zget_set r i j v w h with ⟨h1, h2⟩ | ⟨h1, h2⟩
    · exact Or.inl ⟨by omega, h2⟩
    · exact Or.inr ⟨by omega, h2⟩
theorem zget_set2 : ∀ (L : List (Option Value)) (i j : Nat) (v w : Value), zget (zset2 L i v) j = some w → (j = i ∧ w = v) ∨ (j ≠ i ∧ j ≠ i + 1 ∧ zget L j = some w)
  | [], i, j, v, w, h => by cases h
  | [x], 0, 0, v, w, h => Or.inl ⟨rfl, (Option.some.inj h).symm⟩
  | [x], 0, j + 1, v, w, h => by cases h
  | x :: x2 :: r, 0, 0, v, w, h => Or.inl ⟨rfl, (Option.some.inj h).symm⟩
  | x :: x2 :: r, 0, 1, v, w, h => by cases h
  | x :: x2 :: r, 0, j + 2, v, w, h => Or.inr ⟨by omega, by omega, h⟩
  | [x], i + 1, 0, v, w, h => Or.inr ⟨by omega, by omega, h⟩
  | [x], i + 1, j + 1, v, w, h => by cases h
  | x :: x2 :: r, i + 1, 0, v, w, h => Or.inr ⟨by omega, by omega, h⟩
  | x :: x2 :: r, i + 1, j + 1, v, w, h => by
    rcases zget_set2 (x2 :: r) i j v w h with ⟨h1, h2⟩ | ⟨h1, h3, h2⟩
    · exact Or.inl ⟨by omega, h2⟩
    · exact Or.inr ⟨by omega, by omega, h2⟩
theorem zlp_set1 {ls : Array Slot} {nL : Nat} {L : List (Option Value)} {i : Nat} {v : Value} (h1 : zc1 L i = true) (h : lv_has ls nL ((i, v) :: (zlp 0 L).filter (fun q => !(q.1 == i) && !(q.1 + 1 == i && q.2.category == 2)))) : lv_has ls nL (zlp 0 (zset L i v)) := by
  refine ⟨h.1, h.2.1, fun q hq => h.2.2 q ?_⟩
  obtain ⟨j, w⟩ := q
  obtain ⟨t, ht, hg⟩ := (zlp_mem _ 0 j w).mp hq
  rw [Nat.zero_add] at ht
  subst ht
  rcases zget_set L i j v w hg with ⟨rfl, rfl⟩ | ⟨hne, hg2⟩
  · exact List.mem_cons_self
  · refine List.mem_cons_of_mem _ (List.mem_filter.mpr ⟨(zlp_mem L 0 j w).mpr ⟨j, (Nat.zero_add j).symm, hg2⟩, ?_⟩)
    by_cases hj : j + 1 = i
    · subst hj
      have := zc1_get L j w h1 hg2
      have h9 : ¬ j = j + 1 + 1 := by omega
      simp [this, h9]
    · simp [hne, hj]
theorem zlp_set2 {ls : Array Slot} {nL : Nat} {L : List (Option Value)} {i : Nat} {v : Value} (h1 : zc1 L i = true) (h : lv_has ls nL ((i, v) :: (zlp 0 L).filter (fun q => !(q.1 == i) && (!(q.1 == i + 1) && !(q.1 + 1 == i && q.2.category == 2))))) : lv_has ls nL (zlp 0 (zset2 L i v)) := by
  refine ⟨h.1, h.2.1, fun q hq => h.2.2 q ?_⟩
  obtain ⟨j, w⟩ := q
  obtain ⟨t, ht, hg⟩ := (zlp_mem _ 0 j w).mp hq
  rw [Nat.zero_add] at ht
  subst ht
  rcases zget_set2 L i j v w hg with ⟨rfl, rfl⟩ | ⟨hne, hne2, hg2⟩
  · exact List.mem_cons_self
  · refine List.mem_cons_of_mem _ (List.mem_filter.mpr ⟨(zlp_mem L 0 j w).mpr ⟨j, (Nat.zero_add j).symm, hg2⟩, ?_⟩)
    by_cases hj : j + 1 = i
    · subst hj
      have := zc1_get L j w h1 hg2
      have h9 : ¬ j = j + 1 + 1 := by omega
      simp [this, h9]
    · simp [hne, hne2, hj]
theorem va_rf_cat (r : Option Nat) : (va_rf r).category = 1 := by cases r <;> rfl
theorem zlp_sub {ls : Array Slot} {nL : Nat} {L L' : List (Option Value)} (h : lv_has ls nL (zlp 0 L)) (hs : ∀ i v, zget L' i = some v → zget L i = some v) : lv_has ls nL (zlp 0 L') := by
  refine ⟨h.1, h.2.1, fun q hq => h.2.2 q ?_⟩
  obtain ⟨j, w⟩ := q
  obtain ⟨t, ht, hg⟩ := (zlp_mem _ 0 j w).mp hq
  exact (zlp_mem L 0 j w).mpr ⟨t, ht, hs _ _ hg⟩
section ZR
variable {κ : zC} {E : zE} {d : Nat} {y : MethodName} {cc : ByteArray} {ret : Option FieldType} {hh : List (Nat × Nat × Nat × Nat)} {nL mc ms : Nat} {P : Option Value → Heap → Prop} {X : String → Heap → Prop} {H : Heap} {k n pc : Nat} {L : List (Option Value)} {st : List Value}
theorem zV.widen {k' n' : Nat} (hk : k ≤ k') (hn : n ≤ n') (kk : zV κ E H k' n' pc L st) : zV κ E H k n pc L st := by
  obtain ⟨p, l, e, R, s, m, args, below, meth, c, P', X', nL', mc', ms'⟩ := κ
  intro ls locs hl hlo ho
  exact W.widen hk hn (kk ls locs hl hlo ho)
theorem zV.drop {L' : List (Option Value)} (hs : ∀ i v, zget L' i = some v → zget L i = some v) (kk : zV κ E H k n pc L' st) : zV κ E H k n pc L st := by
  obtain ⟨p, l, e, R, s, m, args, below, meth, c, P', X', nL', mc', ms'⟩ := κ
  intro ls locs hl hlo ho
  exact kk ls locs (zlp_sub hl hs) hlo ho
theorem zV.old (kk : zOld E H → zV κ E H k n pc L st) : zV κ E H k n pc L st := by
  obtain ⟨p, l, e, R, s, m, args, below, meth, c, P', X', nL', mc', ms'⟩ := κ
  intro ls locs hl hlo ho
  exact kk ho.1 ls locs hl hlo ho
theorem z_iconst (ok : zOK κ E d y cc ret hh nL mc ms P X) {i : Int} {v : Int32} (dd : decode cc pc = .ok (.iconst i, 1)) (hv : Int32.ofInt i = v) (kk : zV κ E H k n (pc + 1) L (.int v :: st)) : zV κ E H k n pc L (st) := by
  obtain ⟨p, l, e, R, s, m, args, below, meth, c, P', X', nL', mc', ms'⟩ := κ
  obtain ⟨hx, hb, hml, hown, hts, hKN, hlk, hho, hst, hrt, hnm, htab, hR, rfl, rfl, rfl, rfl, rfl⟩ := ok
  intro ls locs hl hlo ho
  exact lv_iconst hx hb dd hv (kk ls locs hl hlo ho)
theorem z_bipush (ok : zOK κ E d y cc ret hh nL mc ms P X) {i : Int} {v : Int32} (dd : decode cc pc = .ok (.bipush i, 2)) (hv : (Int8.ofInt i).toInt32 = v) (kk : zV κ E H k n (pc + 2) L (.int v :: st)) : zV κ E H k n pc L (st) := by
  obtain ⟨p, l, e, R, s, m, args, below, meth, c, P', X', nL', mc', ms'⟩ := κ
  obtain ⟨hx, hb, hml, hown, hts, hKN, hlk, hho, hst, hrt, hnm, htab, hR, rfl, rfl, rfl, rfl, rfl⟩ := ok
  intro ls locs hl hlo ho
  exact lv_bipush hx hb dd hv (kk ls locs hl hlo ho)
theorem z_sipush (ok : zOK κ E d y cc ret hh nL mc ms P X) {i : Int} {v : Int32} (dd : decode cc pc = .ok (.sipush i, 3)) (hv : (Int16.ofInt i).toInt32 = v) (kk : zV κ E H k n (pc + 3) L (.int v :: st)) : zV κ E H k n pc L (st) := by
  obtain ⟨p, l, e, R, s, m, args, below, meth, c, P', X', nL', mc', ms'⟩ := κ
  obtain ⟨hx, hb, hml, hown, hts, hKN, hlk, hho, hst, hrt, hnm, htab, hR, rfl, rfl, rfl, rfl, rfl⟩ := ok
  intro ls locs hl hlo ho
  exact lv_sipush hx hb dd hv (kk ls locs hl hlo ho)
theorem z_lconst (ok : zOK κ E d y cc ret hh nL mc ms P X) {i : Fin 2} {v : Int64} (dd : decode cc pc = .ok (.lconst i, 1)) (hv : Int64.ofNat (i : Nat) = v) (kk : zV κ E H k n (pc + 1) L (.long v :: st)) : zV κ E H k n pc L (st) := by
  obtain ⟨p, l, e, R, s, m, args, below, meth, c, P', X', nL', mc', ms'⟩ := κ
  obtain ⟨hx, hb, hml, hown, hts, hKN, hlk, hho, hst, hrt, hnm, htab, hR, rfl, rfl, rfl, rfl, rfl⟩ := ok
  intro ls locs hl hlo ho
  exact lv_lconst hx hb dd hv (kk ls locs hl hlo ho)
theorem z_null (ok : zOK κ E d y cc ret hh nL mc ms P X) (dd : decode cc pc = .ok (.aconst_null, 1)) (kk : zV κ E H k n (pc + 1) L (.null :: st)) : zV κ E H k n pc L (st) := by
  obtain ⟨p, l, e, R, s, m, args, below, meth, c, P', X', nL', mc', ms'⟩ := κ
  obtain ⟨hx, hb, hml, hown, hts, hKN, hlk, hho, hst, hrt, hnm, htab, hR, rfl, rfl, rfl, rfl, rfl⟩ := ok
  intro ls locs hl hlo ho
  exact lv_null hx hb dd (kk ls locs hl hlo ho)
theorem z_iload_n (ok : zOK κ E d y cc ret hh nL mc ms P X) {i : Fin 4} {x : Int32} (dd : decode cc pc = .ok (.iload_n i, 1)) (hg : zget L (i : Nat) = some (.int x)) (kk : zV κ E H k n (pc + 1) L (.int x :: st)) : zV κ E H k n pc L (st) := by
  obtain ⟨p, l, e, R, s, m, args, below, meth, c, P', X', nL', mc', ms'⟩ := κ
  obtain ⟨hx, hb, hml, hown, hts, hKN, hlk, hho, hst, hrt, hnm, htab, hR, rfl, rfl, rfl, rfl, rfl⟩ := ok
  intro ls locs hl hlo ho
  exact lv_iload_n hx hb dd rfl (zlp_get hl hg) (kk ls locs hl hlo ho)
theorem z_iload (ok : zOK κ E d y cc ret hh nL mc ms P X) {i : Nat} {x : Int32} (dd : decode cc pc = .ok (.iload i, 2)) (hg : zget L i = some (.int x)) (kk : zV κ E H k n (pc + 2) L (.int x :: st)) : zV κ E H k n pc L (st) := by
  obtain ⟨p, l, e, R, s, m, args, below, meth, c, P', X', nL', mc', ms'⟩ := κ
  obtain ⟨hx, hb, hml, hown, hts, hKN, hlk, hho, hst, hrt, hnm, htab, hR, rfl, rfl, rfl, rfl, rfl⟩ := ok
  intro ls locs hl hlo ho
  exact lv_iload hx hb dd (zlp_get hl hg) (kk ls locs hl hlo ho)
theorem z_lload_n (ok : zOK κ E d y cc ret hh nL mc ms P X) {i : Fin 4} {x : Int64} (dd : decode cc pc = .ok (.lload_n i, 1)) (hg : zget L (i : Nat) = some (.long x)) (kk : zV κ E H k n (pc + 1) L (.long x :: st)) : zV κ E H k n pc L (st) := by
  obtain ⟨p, l, e, R, s, m, args, below, meth, c, P', X', nL', mc', ms'⟩ := κ
  obtain ⟨hx, hb, hml, hown, hts, hKN, hlk, hho, hst, hrt, hnm, htab, hR, rfl, rfl, rfl, rfl, rfl⟩ := ok
  intro ls locs hl hlo ho
  exact lv_lload_n hx hb dd rfl (zlp_get hl hg) (kk ls locs hl hlo ho)
theorem z_lload (ok : zOK κ E d y cc ret hh nL mc ms P X) {i : Nat} {x : Int64} (dd : decode cc pc = .ok (.lload i, 2)) (hg : zget L i = some (.long x)) (kk : zV κ E H k n (pc + 2) L (.long x :: st)) : zV κ E H k n pc L (st) := by
  obtain ⟨p, l, e, R, s, m, args, below, meth, c, P', X', nL', mc', ms'⟩ := κ
  obtain ⟨hx, hb, hml, hown, hts, hKN, hlk, hho, hst, hrt, hnm, htab, hR, rfl, rfl, rfl, rfl, rfl⟩ := ok
  intro ls locs hl hlo ho
  exact lv_lload hx hb dd (zlp_get hl hg) (kk ls locs hl hlo ho)
theorem z_dload (ok : zOK κ E d y cc ret hh nL mc ms P X) {i : Nat} {x : UInt64} (dd : decode cc pc = .ok (.dload i, 2)) (hg : zget L i = some (.double x)) (kk : zV κ E H k n (pc + 2) L (.double x :: st)) : zV κ E H k n pc L (st) := by
  obtain ⟨p, l, e, R, s, m, args, below, meth, c, P', X', nL', mc', ms'⟩ := κ
  obtain ⟨hx, hb, hml, hown, hts, hKN, hlk, hho, hst, hrt, hnm, htab, hR, rfl, rfl, rfl, rfl, rfl⟩ := ok
  intro ls locs hl hlo ho
  exact lv_dload hx hb dd (zlp_get hl hg) (kk ls locs hl hlo ho)
theorem z_fload (ok : zOK κ E d y cc ret hh nL mc ms P X) {i : Nat} {x : UInt32} (dd : decode cc pc = .ok (.fload i, 2)) (hg : zget L i = some (.float x)) (kk : zV κ E H k n (pc + 2) L (.float x :: st)) : zV κ E H k n pc L (st) := by
  obtain ⟨p, l, e, R, s, m, args, below, meth, c, P', X', nL', mc', ms'⟩ := κ
  obtain ⟨hx, hb, hml, hown, hts, hKN, hlk, hho, hst, hrt, hnm, htab, hR, rfl, rfl, rfl, rfl, rfl⟩ := ok
  intro ls locs hl hlo ho
  exact lv_fload hx hb dd (zlp_get hl hg) (kk ls locs hl hlo ho)
theorem z_aload_n (ok : zOK κ E d y cc ret hh nL mc ms P X) {i : Fin 4} {v : Value} (dd : decode cc pc = .ok (.aload_n i, 1)) (hg : zget L (i : Nat) = some v) (kk : zV κ E H k n (pc + 1) L (v :: st)) (hv : v = .null ∨ ∃ a, v = .ref a := by first | exact Or.inr ⟨_, rfl⟩ | exact Or.inl rfl | exact va_rf_or _) : zV κ E H k n pc L (st) := by
  obtain ⟨p, l, e, R, s, m, args, below, meth, c, P', X', nL', mc', ms'⟩ := κ
  obtain ⟨hx, hb, hml, hown, hts, hKN, hlk, hho, hst, hrt, hnm, htab, hR, rfl, rfl, rfl, rfl, rfl⟩ := ok
  intro ls locs hl hlo ho
  rcases hv with rfl | ⟨a, rfl⟩
  · exact lv_aload_nN hx hb dd rfl (zlp_get hl hg) (kk ls locs hl hlo ho)
  · exact lv_aload_n hx hb dd rfl (zlp_get hl hg) (kk ls locs hl hlo ho)
theorem z_aload (ok : zOK κ E d y cc ret hh nL mc ms P X) {i : Nat} {v : Value} (dd : decode cc pc = .ok (.aload i, 2)) (hg : zget L i = some v) (kk : zV κ E H k n (pc + 2) L (v :: st)) (hv : v = .null ∨ ∃ a, v = .ref a := by first | exact Or.inr ⟨_, rfl⟩ | exact Or.inl rfl | exact va_rf_or _) : zV κ E H k n pc L (st) := by
  obtain ⟨p, l, e, R, s, m, args, below, meth, c, P', X', nL', mc', ms'⟩ := κ
  obtain ⟨hx, hb, hml, hown, hts, hKN, hlk, hho, hst, hrt, hnm, htab, hR, rfl, rfl, rfl, rfl, rfl⟩ := ok
  intro ls locs hl hlo ho
  rcases hv with rfl | ⟨a, rfl⟩
  · exact lv_aloadN hx hb dd (zlp_get hl hg) (kk ls locs hl hlo ho)
  · exact lv_aload hx hb dd (zlp_get hl hg) (kk ls locs hl hlo ho)
theorem z_istore_n' (ok : zOK κ E d y cc ret hh nL mc ms P X) {i : Fin 4} {x : Int32} (dd : decode cc pc = .ok (.istore_n i, 1)) (h1 : zc1 L (i : Nat) = true) (hi : (i : Nat) < nL) (kk : zV κ E H k n (pc + 1) (zset L (i : Nat) (.int x)) (st)) : zV κ E H k n pc L (.int x :: st) := by
  obtain ⟨p, l, e, R, s, m, args, below, meth, c, P', X', nL', mc', ms'⟩ := κ
  obtain ⟨hx, hb, hml, hown, hts, hKN, hlk, hho, hst, hrt, hnm, htab, hR, rfl, rfl, rfl, rfl, rfl⟩ := ok
  intro ls locs hl hlo ho
  exact lv_istore_n hx hb dd rfl hl hi rfl (fun ls hl => kk ls locs (zlp_set1 h1 hl) hlo ho)
theorem z_istore' (ok : zOK κ E d y cc ret hh nL mc ms P X) {i : Nat} {x : Int32} (dd : decode cc pc = .ok (.istore i, 2)) (h1 : zc1 L i = true) (hi : i < nL) (kk : zV κ E H k n (pc + 2) (zset L i (.int x)) (st)) : zV κ E H k n pc L (.int x :: st) := by
  obtain ⟨p, l, e, R, s, m, args, below, meth, c, P', X', nL', mc', ms'⟩ := κ
  obtain ⟨hx, hb, hml, hown, hts, hKN, hlk, hho, hst, hrt, hnm, htab, hR, rfl, rfl, rfl, rfl, rfl⟩ := ok
  intro ls locs hl hlo ho
  exact lv_istore hx hb dd hl hi rfl (fun ls hl => kk ls locs (zlp_set1 h1 hl) hlo ho)
theorem z_astore_n' (ok : zOK κ E d y cc ret hh nL mc ms P X) {i : Fin 4} {v : Value} (dd : decode cc pc = .ok (.astore_n i, 1)) (h1 : zc1 L (i : Nat) = true) (hi : (i : Nat) < nL) (kk : zV κ E H k n (pc + 1) (zset L (i : Nat) v) (st)) (hv : v = .null ∨ ∃ a, v = .ref a := by first | exact Or.inr ⟨_, rfl⟩ | exact Or.inl rfl | exact va_rf_or _) : zV κ E H k n pc L (v :: st) := by
  obtain ⟨p, l, e, R, s, m, args, below, meth, c, P', X', nL', mc', ms'⟩ := κ
  obtain ⟨hx, hb, hml, hown, hts, hKN, hlk, hho, hst, hrt, hnm, htab, hR, rfl, rfl, rfl, rfl, rfl⟩ := ok
  intro ls locs hl hlo ho
  rcases hv with rfl | ⟨a, rfl⟩
  · exact lv_astore_nN hx hb dd rfl hl hi rfl (fun ls hl => kk ls locs (zlp_set1 h1 hl) hlo ho)
  · exact lv_astore_n hx hb dd rfl hl hi rfl (fun ls hl => kk ls locs (zlp_set1 h1 hl) hlo ho)
theorem z_astore' (ok : zOK κ E d y cc ret hh nL mc ms P X) {i : Nat} {v : Value} (dd : decode cc pc = .ok (.astore i, 2)) (h1 : zc1 L i = true) (hi : i < nL) (kk : zV κ E H k n (pc + 2) (zset L i v) (st)) (hv : v = .null ∨ ∃ a, v = .ref a := by first | exact Or.inr ⟨_, rfl⟩ | exact Or.inl rfl | exact va_rf_or _) : zV κ E H k n pc L (v :: st) := by
  obtain ⟨p, l, e, R, s, m, args, below, meth, c, P', X', nL', mc', ms'⟩ := κ
  obtain ⟨hx, hb, hml, hown, hts, hKN, hlk, hho, hst, hrt, hnm, htab, hR, rfl, rfl, rfl, rfl, rfl⟩ := ok
  intro ls locs hl hlo ho
  rcases hv with rfl | ⟨a, rfl⟩
  · exact lv_astoreN hx hb dd hl hi rfl (fun ls hl => kk ls locs (zlp_set1 h1 hl) hlo ho)
  · exact lv_astore hx hb dd hl hi rfl (fun ls hl => kk ls locs (zlp_set1 h1 hl) hlo ho)
theorem z_lstore' (ok : zOK κ E d y cc ret hh nL mc ms P X) {i : Nat} {x : Int64} (dd : decode cc pc = .ok (.lstore i, 2)) (h1 : zc1 L i = true) (hi : i + 1 < nL) (kk : zV κ E H k n (pc + 2) (zset2 L i (.long x)) (st)) : zV κ E H k n pc L (.long x :: st) := by
  obtain ⟨p, l, e, R, s, m, args, below, meth, c, P', X', nL', mc', ms'⟩ := κ
  obtain ⟨hx, hb, hml, hown, hts, hKN, hlk, hho, hst, hrt, hnm, htab, hR, rfl, rfl, rfl, rfl, rfl⟩ := ok
  intro ls locs hl hlo ho
  exact lv_lstore hx hb dd hl hi rfl (fun ls hl => kk ls locs (zlp_set2 h1 hl) hlo ho)
theorem z_lstore_n' (ok : zOK κ E d y cc ret hh nL mc ms P X) {i : Fin 4} {x : Int64} (dd : decode cc pc = .ok (.lstore_n i, 1)) (h1 : zc1 L (i : Nat) = true) (hi : (i : Nat) + 1 < nL) (kk : zV κ E H k n (pc + 1) (zset2 L (i : Nat) (.long x)) (st)) : zV κ E H k n pc L (.long x :: st) := by
  obtain ⟨p, l, e, R, s, m, args, below, meth, c, P', X', nL', mc', ms'⟩ := κ
  obtain ⟨hx, hb, hml, hown, hts, hKN, hlk, hho, hst, hrt, hnm, htab, hR, rfl, rfl, rfl, rfl, rfl⟩ := ok
  intro ls locs hl hlo ho
  exact lv_lstore_n hx hb dd rfl hl hi rfl (fun ls hl => kk ls locs (zlp_set2 h1 hl) hlo ho)
theorem z_dstore' (ok : zOK κ E d y cc ret hh nL mc ms P X) {i : Nat} {x : UInt64} (dd : decode cc pc = .ok (.dstore i, 2)) (h1 : zc1 L i = true) (hi : i + 1 < nL) (kk : zV κ E H k n (pc + 2) (zset2 L i (.double x)) (st)) : zV κ E H k n pc L (.double x :: st) := by
  obtain ⟨p, l, e, R, s, m, args, below, meth, c, P', X', nL', mc', ms'⟩ := κ
  obtain ⟨hx, hb, hml, hown, hts, hKN, hlk, hho, hst, hrt, hnm, htab, hR, rfl, rfl, rfl, rfl, rfl⟩ := ok
  intro ls locs hl hlo ho
  exact lv_dstore hx hb dd hl hi rfl (fun ls hl => kk ls locs (zlp_set2 h1 hl) hlo ho)
theorem z_iinc' (ok : zOK κ E d y cc ret hh nL mc ms P X) {i : Nat} {t : Int} {x v : Int32} (dd : decode cc pc = .ok (.iinc i t, 3)) (hg : zget L i = some (.int x)) (hv : x + Int32.ofInt t = v) (h1 : zc1 L i = true) (hi : i < nL) (kk : zV κ E H k n (pc + 3) (zset L i (.int v)) (st)) : zV κ E H k n pc L (st) := by
  obtain ⟨p, l, e, R, s, m, args, below, meth, c, P', X', nL', mc', ms'⟩ := κ
  obtain ⟨hx, hb, hml, hown, hts, hKN, hlk, hho, hst, hrt, hnm, htab, hR, rfl, rfl, rfl, rfl, rfl⟩ := ok
  intro ls locs hl hlo ho
  obtain ⟨q, hq⟩ := zlp_idx hg
  exact lv_iinc (k := q) hx hb dd hl hq hv hi rfl (fun ls hl => kk ls locs (zlp_set1 h1 hl) hlo ho)
theorem z_iadd (ok : zOK κ E d y cc ret hh nL mc ms P X) {x y : Int32} (dd : decode cc pc = .ok (.iadd, 1)) (kk : zV κ E H k n (pc + 1) L (.int (x + y) :: st)) : zV κ E H k n pc L (.int y :: .int x :: st) := by
  obtain ⟨p, l, e, R, s, m, args, below, meth, c, P', X', nL', mc', ms'⟩ := κ
  obtain ⟨hx, hb, hml, hown, hts, hKN, hlk, hho, hst, hrt, hnm, htab, hR, rfl, rfl, rfl, rfl, rfl⟩ := ok
  intro ls locs hl hlo ho
  exact lv_iadd hx hb dd (kk ls locs hl hlo ho)
theorem z_isub (ok : zOK κ E d y cc ret hh nL mc ms P X) {x y : Int32} (dd : decode cc pc = .ok (.isub, 1)) (kk : zV κ E H k n (pc + 1) L (.int (x - y) :: st)) : zV κ E H k n pc L (.int y :: .int x :: st) := by
  obtain ⟨p, l, e, R, s, m, args, below, meth, c, P', X', nL', mc', ms'⟩ := κ
  obtain ⟨hx, hb, hml, hown, hts, hKN, hlk, hho, hst, hrt, hnm, htab, hR, rfl, rfl, rfl, rfl, rfl⟩ := ok
  intro ls locs hl hlo ho
  exact lv_isub hx hb dd (kk ls locs hl hlo ho)
theorem z_imul (ok : zOK κ E d y cc ret hh nL mc ms P X) {x y : Int32} (dd : decode cc pc = .ok (.imul, 1)) (kk : zV κ E H k n (pc + 1) L (.int (x * y) :: st)) : zV κ E H k n pc L (.int y :: .int x :: st) := by
  obtain ⟨p, l, e, R, s, m, args, below, meth, c, P', X', nL', mc', ms'⟩ := κ
  obtain ⟨hx, hb, hml, hown, hts, hKN, hlk, hho, hst, hrt, hnm, htab, hR, rfl, rfl, rfl, rfl, rfl⟩ := ok
  intro ls locs hl hlo ho
  exact lv_imul hx hb dd (kk ls locs hl hlo ho)
theorem z_iand (ok : zOK κ E d y cc ret hh nL mc ms P X) {x y : Int32} (dd : decode cc pc = .ok (.iand, 1)) (kk : zV κ E H k n (pc + 1) L (.int (x &&& y) :: st)) : zV κ E H k n pc L (.int y :: .int x :: st) := by
  obtain ⟨p, l, e, R, s, m, args, below, meth, c, P', X', nL', mc', ms'⟩ := κ
  obtain ⟨hx, hb, hml, hown, hts, hKN, hlk, hho, hst, hrt, hnm, htab, hR, rfl, rfl, rfl, rfl, rfl⟩ := ok
  intro ls locs hl hlo ho
  exact lv_iand hx hb dd (kk ls locs hl hlo ho)
theorem z_ior (ok : zOK κ E d y cc ret hh nL mc ms P X) {x y : Int32} (dd : decode cc pc = .ok (.ior, 1)) (kk : zV κ E H k n (pc + 1) L (.int (x ||| y) :: st)) : zV κ E H k n pc L (.int y :: .int x :: st) := by
  obtain ⟨p, l, e, R, s, m, args, below, meth, c, P', X', nL', mc', ms'⟩ := κ
  obtain ⟨hx, hb, hml, hown, hts, hKN, hlk, hho, hst, hrt, hnm, htab, hR, rfl, rfl, rfl, rfl, rfl⟩ := ok
  intro ls locs hl hlo ho
  exact lv_ior hx hb dd (kk ls locs hl hlo ho)
theorem z_ixor (ok : zOK κ E d y cc ret hh nL mc ms P X) {x y : Int32} (dd : decode cc pc = .ok (.ixor, 1)) (kk : zV κ E H k n (pc + 1) L (.int (x ^^^ y) :: st)) : zV κ E H k n pc L (.int y :: .int x :: st) := by
  obtain ⟨p, l, e, R, s, m, args, below, meth, c, P', X', nL', mc', ms'⟩ := κ
  obtain ⟨hx, hb, hml, hown, hts, hKN, hlk, hho, hst, hrt, hnm, htab, hR, rfl, rfl, rfl, rfl, rfl⟩ := ok
  intro ls locs hl hlo ho
  exact lv_ixor hx hb dd (kk ls locs hl hlo ho)
theorem z_ishl (ok : zOK κ E d y cc ret hh nL mc ms P X) {x y : Int32} (dd : decode cc pc = .ok (.ishl, 1)) (kk : zV κ E H k n (pc + 1) L (.int (x <<< (y &&& 31)) :: st)) : zV κ E H k n pc L (.int y :: .int x :: st) := by
  obtain ⟨p, l, e, R, s, m, args, below, meth, c, P', X', nL', mc', ms'⟩ := κ
  obtain ⟨hx, hb, hml, hown, hts, hKN, hlk, hho, hst, hrt, hnm, htab, hR, rfl, rfl, rfl, rfl, rfl⟩ := ok
  intro ls locs hl hlo ho
  exact lv_ishl hx hb dd (kk ls locs hl hlo ho)
theorem z_ishr (ok : zOK κ E d y cc ret hh nL mc ms P X) {x y : Int32} (dd : decode cc pc = .ok (.ishr, 1)) (kk : zV κ E H k n (pc + 1) L (.int (x >>> (y &&& 31)) :: st)) : zV κ E H k n pc L (.int y :: .int x :: st) := by
  obtain ⟨p, l, e, R, s, m, args, below, meth, c, P', X', nL', mc', ms'⟩ := κ
  obtain ⟨hx, hb, hml, hown, hts, hKN, hlk, hho, hst, hrt, hnm, htab, hR, rfl, rfl, rfl, rfl, rfl⟩ := ok
  intro ls locs hl hlo ho
  exact lv_ishr hx hb dd (kk ls locs hl hlo ho)
theorem z_iushr (ok : zOK κ E d y cc ret hh nL mc ms P X) {x y : Int32} (dd : decode cc pc = .ok (.iushr, 1)) (kk : zV κ E H k n (pc + 1) L (.int ((x.toUInt32 >>> (y.toUInt32 &&& Int32.toUInt32 31)).toInt32) :: st)) : zV κ E H k n pc L (.int y :: .int x :: st) := by
  obtain ⟨p, l, e, R, s, m, args, below, meth, c, P', X', nL', mc', ms'⟩ := κ
  obtain ⟨hx, hb, hml, hown, hts, hKN, hlk, hho, hst, hrt, hnm, htab, hR, rfl, rfl, rfl, rfl, rfl⟩ := ok
  intro ls locs hl hlo ho
  exact lv_iushr hx hb dd rfl (kk ls locs hl hlo ho)
theorem z_ineg (ok : zOK κ E d y cc ret hh nL mc ms P X) {x : Int32} (dd : decode cc pc = .ok (.ineg, 1)) (kk : zV κ E H k n (pc + 1) L (.int (-x) :: st)) : zV κ E H k n pc L (.int x :: st) := by
  obtain ⟨p, l, e, R, s, m, args, below, meth, c, P', X', nL', mc', ms'⟩ := κ
  obtain ⟨hx, hb, hml, hown, hts, hKN, hlk, hho, hst, hrt, hnm, htab, hR, rfl, rfl, rfl, rfl, rfl⟩ := ok
  intro ls locs hl hlo ho
  exact lv_ineg hx hb dd (kk ls locs hl hlo ho)
theorem z_idiv (ok : zOK κ E d y cc ret hh nL mc ms P X) {x y : Int32} (dd : decode cc pc = .ok (.idiv, 1)) (hne : ¬ y = 0) (kk : zV κ E H k n (pc + 1) L (.int (x / y) :: st)) : zV κ E H k n pc L (.int y :: .int x :: st) := by
  obtain ⟨p, l, e, R, s, m, args, below, meth, c, P', X', nL', mc', ms'⟩ := κ
  obtain ⟨hx, hb, hml, hown, hts, hKN, hlk, hho, hst, hrt, hnm, htab, hR, rfl, rfl, rfl, rfl, rfl⟩ := ok
  intro ls locs hl hlo ho
  exact lv_idiv hx hb dd hne (kk ls locs hl hlo ho)
theorem z_irem (ok : zOK κ E d y cc ret hh nL mc ms P X) {x y : Int32} (dd : decode cc pc = .ok (.irem, 1)) (hne : ¬ y = 0) (kk : zV κ E H k n (pc + 1) L (.int (x - x / y * y) :: st)) : zV κ E H k n pc L (.int y :: .int x :: st) := by
  obtain ⟨p, l, e, R, s, m, args, below, meth, c, P', X', nL', mc', ms'⟩ := κ
  obtain ⟨hx, hb, hml, hown, hts, hKN, hlk, hho, hst, hrt, hnm, htab, hR, rfl, rfl, rfl, rfl, rfl⟩ := ok
  intro ls locs hl hlo ho
  exact lv_irem hx hb dd hne (kk ls locs hl hlo ho)
theorem z_i2l (ok : zOK κ E d y cc ret hh nL mc ms P X) {x : Int32} (dd : decode cc pc = .ok (.i2l, 1)) (kk : zV κ E H k n (pc + 1) L (.long x.toInt64 :: st)) : zV κ E H k n pc L (.int x :: st) := by
  obtain ⟨p, l, e, R, s, m, args, below, meth, c, P', X', nL', mc', ms'⟩ := κ
  obtain ⟨hx, hb, hml, hown, hts, hKN, hlk, hho, hst, hrt, hnm, htab, hR, rfl, rfl, rfl, rfl, rfl⟩ := ok
  intro ls locs hl hlo ho
  exact lv_i2l hx hb dd rfl (kk ls locs hl hlo ho)
theorem z_l2i (ok : zOK κ E d y cc ret hh nL mc ms P X) {x : Int64} (dd : decode cc pc = .ok (.l2i, 1)) (kk : zV κ E H k n (pc + 1) L (.int x.toInt32 :: st)) : zV κ E H k n pc L (.long x :: st) := by
  obtain ⟨p, l, e, R, s, m, args, below, meth, c, P', X', nL', mc', ms'⟩ := κ
  obtain ⟨hx, hb, hml, hown, hts, hKN, hlk, hho, hst, hrt, hnm, htab, hR, rfl, rfl, rfl, rfl, rfl⟩ := ok
  intro ls locs hl hlo ho
  exact lv_l2i hx hb dd rfl (kk ls locs hl hlo ho)
theorem z_i2b (ok : zOK κ E d y cc ret hh nL mc ms P X) {x : Int32} (dd : decode cc pc = .ok (.i2b, 1)) (kk : zV κ E H k n (pc + 1) L (.int x.toInt8.toInt32 :: st)) : zV κ E H k n pc L (.int x :: st) := by
  obtain ⟨p, l, e, R, s, m, args, below, meth, c, P', X', nL', mc', ms'⟩ := κ
  obtain ⟨hx, hb, hml, hown, hts, hKN, hlk, hho, hst, hrt, hnm, htab, hR, rfl, rfl, rfl, rfl, rfl⟩ := ok
  intro ls locs hl hlo ho
  exact lv_i2b hx hb dd rfl (kk ls locs hl hlo ho)
theorem z_i2c (ok : zOK κ E d y cc ret hh nL mc ms P X) {x : Int32} (dd : decode cc pc = .ok (.i2c, 1)) (kk : zV κ E H k n (pc + 1) L (.int (x.toUInt32 % 65536).toInt32 :: st)) : zV κ E H k n pc L (.int x :: st) := by
  obtain ⟨p, l, e, R, s, m, args, below, meth, c, P', X', nL', mc', ms'⟩ := κ
  obtain ⟨hx, hb, hml, hown, hts, hKN, hlk, hho, hst, hrt, hnm, htab, hR, rfl, rfl, rfl, rfl, rfl⟩ := ok
  intro ls locs hl hlo ho
  exact lv_i2c hx hb dd rfl (kk ls locs hl hlo ho)
theorem z_i2d (ok : zOK κ E d y cc ret hh nL mc ms P X) {x : Int32} (dd : decode cc pc = .ok (.i2d, 1)) (kk : zV κ E H k n (pc + 1) L (.double (FP.i2d x) :: st)) : zV κ E H k n pc L (.int x :: st) := by
  obtain ⟨p, l, e, R, s, m, args, below, meth, c, P', X', nL', mc', ms'⟩ := κ
  obtain ⟨hx, hb, hml, hown, hts, hKN, hlk, hho, hst, hrt, hnm, htab, hR, rfl, rfl, rfl, rfl, rfl⟩ := ok
  intro ls locs hl hlo ho
  exact lv_i2d hx hb dd (kk ls locs hl hlo ho)
theorem z_i2f (ok : zOK κ E d y cc ret hh nL mc ms P X) {x : Int32} (dd : decode cc pc = .ok (.i2f, 1)) (kk : zV κ E H k n (pc + 1) L (.float (FP.i2f x) :: st)) : zV κ E H k n pc L (.int x :: st) := by
  obtain ⟨p, l, e, R, s, m, args, below, meth, c, P', X', nL', mc', ms'⟩ := κ
  obtain ⟨hx, hb, hml, hown, hts, hKN, hlk, hho, hst, hrt, hnm, htab, hR, rfl, rfl, rfl, rfl, rfl⟩ := ok
  intro ls locs hl hlo ho
  exact lv_i2f hx hb dd (kk ls locs hl hlo ho)
theorem z_f2d (ok : zOK κ E d y cc ret hh nL mc ms P X) {x : UInt32} (dd : decode cc pc = .ok (.f2d, 1)) (hne : vf_n64 (FP.f2d x)) (kk : zV κ E H k n (pc + 1) L (.double (FP.f2d x) :: st)) : zV κ E H k n pc L (.float x :: st) := by
  obtain ⟨p, l, e, R, s, m, args, below, meth, c, P', X', nL', mc', ms'⟩ := κ
  obtain ⟨hx, hb, hml, hown, hts, hKN, hlk, hho, hst, hrt, hnm, htab, hR, rfl, rfl, rfl, rfl, rfl⟩ := ok
  intro ls locs hl hlo ho
  exact lv_f2d hx hb dd hne (kk ls locs hl hlo ho)
theorem z_fdiv (ok : zOK κ E d y cc ret hh nL mc ms P X) {x y : UInt32} (dd : decode cc pc = .ok (.fdiv, 1)) (hne : vf_n32 (FP.fdiv x y)) (kk : zV κ E H k n (pc + 1) L (.float (FP.fdiv x y) :: st)) : zV κ E H k n pc L (.float y :: .float x :: st) := by
  obtain ⟨p, l, e, R, s, m, args, below, meth, c, P', X', nL', mc', ms'⟩ := κ
  obtain ⟨hx, hb, hml, hown, hts, hKN, hlk, hho, hst, hrt, hnm, htab, hR, rfl, rfl, rfl, rfl, rfl⟩ := ok
  intro ls locs hl hlo ho
  exact lv_fdiv hx hb dd hne (kk ls locs hl hlo ho)
theorem z_ddiv (ok : zOK κ E d y cc ret hh nL mc ms P X) {x y : UInt64} (dd : decode cc pc = .ok (.ddiv, 1)) (hne : vf_n64 (FP.ddiv x y)) (kk : zV κ E H k n (pc + 1) L (.double (FP.ddiv x y) :: st)) : zV κ E H k n pc L (.double y :: .double x :: st) := by
  obtain ⟨p, l, e, R, s, m, args, below, meth, c, P', X', nL', mc', ms'⟩ := κ
  obtain ⟨hx, hb, hml, hown, hts, hKN, hlk, hho, hst, hrt, hnm, htab, hR, rfl, rfl, rfl, rfl, rfl⟩ := ok
  intro ls locs hl hlo ho
  exact lv_ddiv hx hb dd hne (kk ls locs hl hlo ho)
theorem z_dcmp (ok : zOK κ E d y cc ret hh nL mc ms P X) {x y : UInt64} {op : CmpOp} (dd : decode cc pc = .ok (.dcmp op, 1)) (kk : zV κ E H k n (pc + 1) L (.int (Op.cmpValue (FP.dcmp x y) op) :: st)) : zV κ E H k n pc L (.double y :: .double x :: st) := by
  obtain ⟨p, l, e, R, s, m, args, below, meth, c, P', X', nL', mc', ms'⟩ := κ
  obtain ⟨hx, hb, hml, hown, hts, hKN, hlk, hho, hst, hrt, hnm, htab, hR, rfl, rfl, rfl, rfl, rfl⟩ := ok
  intro ls locs hl hlo ho
  exact lv_dcmp hx hb dd (kk ls locs hl hlo ho)
theorem z_dconst0 (ok : zOK κ E d y cc ret hh nL mc ms P X) (dd : decode cc pc = .ok (.dconst 0, 1)) (kk : zV κ E H k n (pc + 1) L (.double FP.dconst0 :: st)) : zV κ E H k n pc L (st) := by
  obtain ⟨p, l, e, R, s, m, args, below, meth, c, P', X', nL', mc', ms'⟩ := κ
  obtain ⟨hx, hb, hml, hown, hts, hKN, hlk, hho, hst, hrt, hnm, htab, hR, rfl, rfl, rfl, rfl, rfl⟩ := ok
  intro ls locs hl hlo ho
  exact lv_dconst0 hx hb dd (kk ls locs hl hlo ho)
theorem z_fconst0 (ok : zOK κ E d y cc ret hh nL mc ms P X) (dd : decode cc pc = .ok (.fconst 0, 1)) (kk : zV κ E H k n (pc + 1) L (.float FP.fconst0 :: st)) : zV κ E H k n pc L (st) := by
  obtain ⟨p, l, e, R, s, m, args, below, meth, c, P', X', nL', mc', ms'⟩ := κ
  obtain ⟨hx, hb, hml, hown, hts, hKN, hlk, hho, hst, hrt, hnm, htab, hR, rfl, rfl, rfl, rfl, rfl⟩ := ok
  intro ls locs hl hlo ho
  exact lv_fconst0 hx hb dd (kk ls locs hl hlo ho)
theorem z_dup (ok : zOK κ E d y cc ret hh nL mc ms P X) {va : Value} (dd : decode cc pc = .ok (.dup, 1)) (kk : zV κ E H k n (pc + 1) L (va :: va :: st)) (hva : va.category = 1 := by first | rfl | exact va_rf_cat _) : zV κ E H k n pc L (va :: st) := by
  obtain ⟨p, l, e, R, s, m, args, below, meth, c, P', X', nL', mc', ms'⟩ := κ
  obtain ⟨hx, hb, hml, hown, hts, hKN, hlk, hho, hst, hrt, hnm, htab, hR, rfl, rfl, rfl, rfl, rfl⟩ := ok
  intro ls locs hl hlo ho
  exact lv_dup hx hb dd hva (kk ls locs hl hlo ho)
theorem z_pop (ok : zOK κ E d y cc ret hh nL mc ms P X) {va : Value} (dd : decode cc pc = .ok (.pop, 1)) (kk : zV κ E H k n (pc + 1) L (st)) (hva : va.category = 1 := by first | rfl | exact va_rf_cat _) : zV κ E H k n pc L (va :: st) := by
  obtain ⟨p, l, e, R, s, m, args, below, meth, c, P', X', nL', mc', ms'⟩ := κ
  obtain ⟨hx, hb, hml, hown, hts, hKN, hlk, hho, hst, hrt, hnm, htab, hR, rfl, rfl, rfl, rfl, rfl⟩ := ok
  intro ls locs hl hlo ho
  exact lv_pop hx hb dd hva (kk ls locs hl hlo ho)
theorem z_dup_x1 (ok : zOK κ E d y cc ret hh nL mc ms P X) {va vb : Value} (dd : decode cc pc = .ok (.dup_x1, 1)) (kk : zV κ E H k n (pc + 1) L (va :: vb :: va :: st)) (hva : va.category = 1 := by first | rfl | exact va_rf_cat _) (hvb : vb.category = 1 := by first | rfl | exact va_rf_cat _) : zV κ E H k n pc L (va :: vb :: st) := by
  obtain ⟨p, l, e, R, s, m, args, below, meth, c, P', X', nL', mc', ms'⟩ := κ
  obtain ⟨hx, hb, hml, hown, hts, hKN, hlk, hho, hst, hrt, hnm, htab, hR, rfl, rfl, rfl, rfl, rfl⟩ := ok
  intro ls locs hl hlo ho
  exact lv_dup_x1 hx hb dd hva hvb (kk ls locs hl hlo ho)
theorem z_dup2 (ok : zOK κ E d y cc ret hh nL mc ms P X) {va vb : Value} (dd : decode cc pc = .ok (.dup2, 1)) (kk : zV κ E H k n (pc + 1) L (va :: vb :: va :: vb :: st)) (hva : va.category = 1 := by first | rfl | exact va_rf_cat _) (hvb : vb.category = 1 := by first | rfl | exact va_rf_cat _) : zV κ E H k n pc L (va :: vb :: st) := by
  obtain ⟨p, l, e, R, s, m, args, below, meth, c, P', X', nL', mc', ms'⟩ := κ
  obtain ⟨hx, hb, hml, hown, hts, hKN, hlk, hho, hst, hrt, hnm, htab, hR, rfl, rfl, rfl, rfl, rfl⟩ := ok
  intro ls locs hl hlo ho
  exact lv_dup2_11 hx hb dd hva hvb (kk ls locs hl hlo ho)
theorem z_ifeq (ok : zOK κ E d y cc ret hh nL mc ms P X) {x : Int32} {off : Int} {tgt : Nat} (dd : decode cc pc = .ok (.ifCond .eq off, 3)) (ht : (pc : Int) + off = (tgt : Int)) (kt : x = 0 → zV κ E H k n tgt L (st)) (kf : ¬ x = 0 → zV κ E H k n (pc + 3) L (st)) : zV κ E H k n pc L (.int x :: st) := by
  obtain ⟨p, l, e, R, s, m, args, below, meth, c, P', X', nL', mc', ms'⟩ := κ
  obtain ⟨hx, hb, hml, hown, hts, hKN, hlk, hho, hst, hrt, hnm, htab, hR, rfl, rfl, rfl, rfl, rfl⟩ := ok
  intro ls locs hl hlo ho
  exact lv_if_eq hx hb dd ht (fun h => kt h ls locs hl hlo ho) (fun h => kf h ls locs hl hlo ho)
theorem z_ifne (ok : zOK κ E d y cc ret hh nL mc ms P X) {x : Int32} {off : Int} {tgt : Nat} (dd : decode cc pc = .ok (.ifCond .ne off, 3)) (ht : (pc : Int) + off = (tgt : Int)) (kt : ¬ x = 0 → zV κ E H k n tgt L (st)) (kf : x = 0 → zV κ E H k n (pc + 3) L (st)) : zV κ E H k n pc L (.int x :: st) := by
  obtain ⟨p, l, e, R, s, m, args, below, meth, c, P', X', nL', mc', ms'⟩ := κ
  obtain ⟨hx, hb, hml, hown, hts, hKN, hlk, hho, hst, hrt, hnm, htab, hR, rfl, rfl, rfl, rfl, rfl⟩ := ok
  intro ls locs hl hlo ho
  exact lv_if_ne hx hb dd ht (fun h => kt h ls locs hl hlo ho) (fun h => kf h ls locs hl hlo ho)
theorem z_iflt (ok : zOK κ E d y cc ret hh nL mc ms P X) {x : Int32} {off : Int} {tgt : Nat} (dd : decode cc pc = .ok (.ifCond .lt off, 3)) (ht : (pc : Int) + off = (tgt : Int)) (kt : x < 0 → zV κ E H k n tgt L (st)) (kf : ¬ x < 0 → zV κ E H k n (pc + 3) L (st)) : zV κ E H k n pc L (.int x :: st) := by
  obtain ⟨p, l, e, R, s, m, args, below, meth, c, P', X', nL', mc', ms'⟩ := κ
  obtain ⟨hx, hb, hml, hown, hts, hKN, hlk, hho, hst, hrt, hnm, htab, hR, rfl, rfl, rfl, rfl, rfl⟩ := ok
  intro ls locs hl hlo ho
  exact lv_if_lt hx hb dd ht (fun h => kt h ls locs hl hlo ho) (fun h => kf h ls locs hl hlo ho)
theorem z_ifge (ok : zOK κ E d y cc ret hh nL mc ms P X) {x : Int32} {off : Int} {tgt : Nat} (dd : decode cc pc = .ok (.ifCond .ge off, 3)) (ht : (pc : Int) + off = (tgt : Int)) (kt : 0 ≤ x → zV κ E H k n tgt L (st)) (kf : ¬ 0 ≤ x → zV κ E H k n (pc + 3) L (st)) : zV κ E H k n pc L (.int x :: st) := by
  obtain ⟨p, l, e, R, s, m, args, below, meth, c, P', X', nL', mc', ms'⟩ := κ
  obtain ⟨hx, hb, hml, hown, hts, hKN, hlk, hho, hst, hrt, hnm, htab, hR, rfl, rfl, rfl, rfl, rfl⟩ := ok
  intro ls locs hl hlo ho
  exact lv_if_ge hx hb dd ht (fun h => kt h ls locs hl hlo ho) (fun h => kf h ls locs hl hlo ho)
theorem z_ifgt (ok : zOK κ E d y cc ret hh nL mc ms P X) {x : Int32} {off : Int} {tgt : Nat} (dd : decode cc pc = .ok (.ifCond .gt off, 3)) (ht : (pc : Int) + off = (tgt : Int)) (kt : 0 < x → zV κ E H k n tgt L (st)) (kf : ¬ 0 < x → zV κ E H k n (pc + 3) L (st)) : zV κ E H k n pc L (.int x :: st) := by
  obtain ⟨p, l, e, R, s, m, args, below, meth, c, P', X', nL', mc', ms'⟩ := κ
  obtain ⟨hx, hb, hml, hown, hts, hKN, hlk, hho, hst, hrt, hnm, htab, hR, rfl, rfl, rfl, rfl, rfl⟩ := ok
  intro ls locs hl hlo ho
  exact lv_if_gt hx hb dd ht (fun h => kt h ls locs hl hlo ho) (fun h => kf h ls locs hl hlo ho)
theorem z_ifle (ok : zOK κ E d y cc ret hh nL mc ms P X) {x : Int32} {off : Int} {tgt : Nat} (dd : decode cc pc = .ok (.ifCond .le off, 3)) (ht : (pc : Int) + off = (tgt : Int)) (kt : x ≤ 0 → zV κ E H k n tgt L (st)) (kf : ¬ x ≤ 0 → zV κ E H k n (pc + 3) L (st)) : zV κ E H k n pc L (.int x :: st) := by
  obtain ⟨p, l, e, R, s, m, args, below, meth, c, P', X', nL', mc', ms'⟩ := κ
  obtain ⟨hx, hb, hml, hown, hts, hKN, hlk, hho, hst, hrt, hnm, htab, hR, rfl, rfl, rfl, rfl, rfl⟩ := ok
  intro ls locs hl hlo ho
  exact lv_if_le hx hb dd ht (fun h => kt h ls locs hl hlo ho) (fun h => kf h ls locs hl hlo ho)
theorem z_icmpeq (ok : zOK κ E d y cc ret hh nL mc ms P X) {x y : Int32} {off : Int} {tgt : Nat} (dd : decode cc pc = .ok (.if_icmp .eq off, 3)) (ht : (pc : Int) + off = (tgt : Int)) (kt : x = y → zV κ E H k n tgt L (st)) (kf : ¬ x = y → zV κ E H k n (pc + 3) L (st)) : zV κ E H k n pc L (.int y :: .int x :: st) := by
  obtain ⟨p, l, e, R, s, m, args, below, meth, c, P', X', nL', mc', ms'⟩ := κ
  obtain ⟨hx, hb, hml, hown, hts, hKN, hlk, hho, hst, hrt, hnm, htab, hR, rfl, rfl, rfl, rfl, rfl⟩ := ok
  intro ls locs hl hlo ho
  exact lv_icmp_eq hx hb dd ht (fun h => kt h ls locs hl hlo ho) (fun h => kf h ls locs hl hlo ho)
theorem z_icmpne (ok : zOK κ E d y cc ret hh nL mc ms P X) {x y : Int32} {off : Int} {tgt : Nat} (dd : decode cc pc = .ok (.if_icmp .ne off, 3)) (ht : (pc : Int) + off = (tgt : Int)) (kt : ¬ x = y → zV κ E H k n tgt L (st)) (kf : x = y → zV κ E H k n (pc + 3) L (st)) : zV κ E H k n pc L (.int y :: .int x :: st) := by
  obtain ⟨p, l, e, R, s, m, args, below, meth, c, P', X', nL', mc', ms'⟩ := κ
  obtain ⟨hx, hb, hml, hown, hts, hKN, hlk, hho, hst, hrt, hnm, htab, hR, rfl, rfl, rfl, rfl, rfl⟩ := ok
  intro ls locs hl hlo ho
  exact lv_icmp_ne hx hb dd ht (fun h => kt h ls locs hl hlo ho) (fun h => kf h ls locs hl hlo ho)
theorem z_icmplt (ok : zOK κ E d y cc ret hh nL mc ms P X) {x y : Int32} {off : Int} {tgt : Nat} (dd : decode cc pc = .ok (.if_icmp .lt off, 3)) (ht : (pc : Int) + off = (tgt : Int)) (kt : x < y → zV κ E H k n tgt L (st)) (kf : ¬ x < y → zV κ E H k n (pc + 3) L (st)) : zV κ E H k n pc L (.int y :: .int x :: st) := by
  obtain ⟨p, l, e, R, s, m, args, below, meth, c, P', X', nL', mc', ms'⟩ := κ
  obtain ⟨hx, hb, hml, hown, hts, hKN, hlk, hho, hst, hrt, hnm, htab, hR, rfl, rfl, rfl, rfl, rfl⟩ := ok
  intro ls locs hl hlo ho
  exact lv_icmp_lt hx hb dd ht (fun h => kt h ls locs hl hlo ho) (fun h => kf h ls locs hl hlo ho)
theorem z_icmpge (ok : zOK κ E d y cc ret hh nL mc ms P X) {x y : Int32} {off : Int} {tgt : Nat} (dd : decode cc pc = .ok (.if_icmp .ge off, 3)) (ht : (pc : Int) + off = (tgt : Int)) (kt : y ≤ x → zV κ E H k n tgt L (st)) (kf : ¬ y ≤ x → zV κ E H k n (pc + 3) L (st)) : zV κ E H k n pc L (.int y :: .int x :: st) := by
  obtain ⟨p, l, e, R, s, m, args, below, meth, c, P', X', nL', mc', ms'⟩ := κ
  obtain ⟨hx, hb, hml, hown, hts, hKN, hlk, hho, hst, hrt, hnm, htab, hR, rfl, rfl, rfl, rfl, rfl⟩ := ok
  intro ls locs hl hlo ho
  exact lv_icmp_ge hx hb dd ht (fun h => kt h ls locs hl hlo ho) (fun h => kf h ls locs hl hlo ho)
theorem z_icmpgt (ok : zOK κ E d y cc ret hh nL mc ms P X) {x y : Int32} {off : Int} {tgt : Nat} (dd : decode cc pc = .ok (.if_icmp .gt off, 3)) (ht : (pc : Int) + off = (tgt : Int)) (kt : y < x → zV κ E H k n tgt L (st)) (kf : ¬ y < x → zV κ E H k n (pc + 3) L (st)) : zV κ E H k n pc L (.int y :: .int x :: st) := by
  obtain ⟨p, l, e, R, s, m, args, below, meth, c, P', X', nL', mc', ms'⟩ := κ
  obtain ⟨hx, hb, hml, hown, hts, hKN, hlk, hho, hst, hrt, hnm, htab, hR, rfl, rfl, rfl, rfl, rfl⟩ := ok
  intro ls locs hl hlo ho
  exact lv_icmp_gt hx hb dd ht (fun h => kt h ls locs hl hlo ho) (fun h => kf h ls locs hl hlo ho)
theorem z_icmple (ok : zOK κ E d y cc ret hh nL mc ms P X) {x y : Int32} {off : Int} {tgt : Nat} (dd : decode cc pc = .ok (.if_icmp .le off, 3)) (ht : (pc : Int) + off = (tgt : Int)) (kt : x ≤ y → zV κ E H k n tgt L (st)) (kf : ¬ x ≤ y → zV κ E H k n (pc + 3) L (st)) : zV κ E H k n pc L (.int y :: .int x :: st) := by
  obtain ⟨p, l, e, R, s, m, args, below, meth, c, P', X', nL', mc', ms'⟩ := κ
  obtain ⟨hx, hb, hml, hown, hts, hKN, hlk, hho, hst, hrt, hnm, htab, hR, rfl, rfl, rfl, rfl, rfl⟩ := ok
  intro ls locs hl hlo ho
  exact lv_icmp_le hx hb dd ht (fun h => kt h ls locs hl hlo ho) (fun h => kf h ls locs hl hlo ho)
theorem z_acmpeq (ok : zOK κ E d y cc ret hh nL mc ms P X) {rx ry : Option Nat} {off : Int} {tgt : Nat} (dd : decode cc pc = .ok (.if_acmp .eq off, 3)) (ht : (pc : Int) + off = (tgt : Int)) (kt : rx = ry → zV κ E H k n tgt L (st)) (kf : ¬ rx = ry → zV κ E H k n (pc + 3) L (st)) : zV κ E H k n pc L (va_rf ry :: va_rf rx :: st) := by
  obtain ⟨p, l, e, R, s, m, args, below, meth, c, P', X', nL', mc', ms'⟩ := κ
  obtain ⟨hx, hb, hml, hown, hts, hKN, hlk, hho, hst, hrt, hnm, htab, hR, rfl, rfl, rfl, rfl, rfl⟩ := ok
  intro ls locs hl hlo ho
  exact lv_acmp_eq hx hb dd ht (fun h => kt h ls locs hl hlo ho) (fun h => kf h ls locs hl hlo ho)
theorem z_acmpne (ok : zOK κ E d y cc ret hh nL mc ms P X) {rx ry : Option Nat} {off : Int} {tgt : Nat} (dd : decode cc pc = .ok (.if_acmp .ne off, 3)) (ht : (pc : Int) + off = (tgt : Int)) (kt : ¬ rx = ry → zV κ E H k n tgt L (st)) (kf : rx = ry → zV κ E H k n (pc + 3) L (st)) : zV κ E H k n pc L (va_rf ry :: va_rf rx :: st) := by
  obtain ⟨p, l, e, R, s, m, args, below, meth, c, P', X', nL', mc', ms'⟩ := κ
  obtain ⟨hx, hb, hml, hown, hts, hKN, hlk, hho, hst, hrt, hnm, htab, hR, rfl, rfl, rfl, rfl, rfl⟩ := ok
  intro ls locs hl hlo ho
  exact lv_acmp_ne hx hb dd ht (fun h => kt h ls locs hl hlo ho) (fun h => kf h ls locs hl hlo ho)
theorem z_goto (ok : zOK κ E d y cc ret hh nL mc ms P X) {off : Int} {tgt : Nat} (dd : decode cc pc = .ok (.goto off, 3)) (ht : (pc : Int) + off = (tgt : Int)) (kk : zV κ E H k n tgt L st) : zV κ E H k n pc L st := by
  obtain ⟨p, l, e, R, s, m, args, below, meth, c, P', X', nL', mc', ms'⟩ := κ
  obtain ⟨hx, hb, hml, hown, hts, hKN, hlk, hho, hst, hrt, hnm, htab, hR, rfl, rfl, rfl, rfl, rfl⟩ := ok
  intro ls locs hl hlo ho
  exact lv_goto hx hb dd ht (kk ls locs hl hlo ho)
theorem z_ifnull (ok : zOK κ E d y cc ret hh nL mc ms P X) {r : Option Nat} {off : Int} {tgt : Nat} (dd : decode cc pc = .ok (.ifnull off, 3)) (ht : (pc : Int) + off = (tgt : Int)) (kt : r = none → zV κ E H k n tgt L st) (kf : ∀ a, r = some a → zV κ E H k n (pc + 3) L st) : zV κ E H k n pc L (va_rf r :: st) := by
  obtain ⟨p, l, e, R, s, m, args, below, meth, c, P', X', nL', mc', ms'⟩ := κ
  obtain ⟨hx, hb, hml, hown, hts, hKN, hlk, hho, hst, hrt, hnm, htab, hR, rfl, rfl, rfl, rfl, rfl⟩ := ok
  intro ls locs hl hlo ho
  cases r with
  | none => exact lv_ifnullN hx hb dd ht (kt rfl ls locs hl hlo ho)
  | some a => exact lv_ifnull hx hb dd (kf a rfl ls locs hl hlo ho)
theorem z_ifnonnull (ok : zOK κ E d y cc ret hh nL mc ms P X) {r : Option Nat} {off : Int} {tgt : Nat} (dd : decode cc pc = .ok (.ifnonnull off, 3)) (ht : (pc : Int) + off = (tgt : Int)) (kt : ∀ a, r = some a → zV κ E H k n tgt L st) (kf : r = none → zV κ E H k n (pc + 3) L st) : zV κ E H k n pc L (va_rf r :: st) := by
  obtain ⟨p, l, e, R, s, m, args, below, meth, c, P', X', nL', mc', ms'⟩ := κ
  obtain ⟨hx, hb, hml, hown, hts, hKN, hlk, hho, hst, hrt, hnm, htab, hR, rfl, rfl, rfl, rfl, rfl⟩ := ok
  intro ls locs hl hlo ho
  cases r with
  | none => exact lv_ifnonnullN hx hb dd (kf rfl ls locs hl hlo ho)
  | some a => exact lv_ifnonnull hx hb dd ht (kt a rfl ls locs hl hlo ho)
theorem z_ifnullR (ok : zOK κ E d y cc ret hh nL mc ms P X) {a : Nat} {off : Int} (dd : decode cc pc = .ok (.ifnull off, 3)) (kk : zV κ E H k n (pc + 3) L st) : zV κ E H k n pc L (.ref a :: st) := by
  obtain ⟨p, l, e, R, s, m, args, below, meth, c, P', X', nL', mc', ms'⟩ := κ
  obtain ⟨hx, hb, hml, hown, hts, hKN, hlk, hho, hst, hrt, hnm, htab, hR, rfl, rfl, rfl, rfl, rfl⟩ := ok
  intro ls locs hl hlo ho
  exact lv_ifnull hx hb dd (kk ls locs hl hlo ho)
theorem z_ifnullN (ok : zOK κ E d y cc ret hh nL mc ms P X) {off : Int} {tgt : Nat} (dd : decode cc pc = .ok (.ifnull off, 3)) (ht : (pc : Int) + off = (tgt : Int)) (kk : zV κ E H k n tgt L st) : zV κ E H k n pc L (.null :: st) := by
  obtain ⟨p, l, e, R, s, m, args, below, meth, c, P', X', nL', mc', ms'⟩ := κ
  obtain ⟨hx, hb, hml, hown, hts, hKN, hlk, hho, hst, hrt, hnm, htab, hR, rfl, rfl, rfl, rfl, rfl⟩ := ok
  intro ls locs hl hlo ho
  exact lv_ifnullN hx hb dd ht (kk ls locs hl hlo ho)
theorem z_ifnonnullR (ok : zOK κ E d y cc ret hh nL mc ms P X) {a : Nat} {off : Int} {tgt : Nat} (dd : decode cc pc = .ok (.ifnonnull off, 3)) (ht : (pc : Int) + off = (tgt : Int)) (kk : zV κ E H k n tgt L st) : zV κ E H k n pc L (.ref a :: st) := by
  obtain ⟨p, l, e, R, s, m, args, below, meth, c, P', X', nL', mc', ms'⟩ := κ
  obtain ⟨hx, hb, hml, hown, hts, hKN, hlk, hho, hst, hrt, hnm, htab, hR, rfl, rfl, rfl, rfl, rfl⟩ := ok
  intro ls locs hl hlo ho
  exact lv_ifnonnull hx hb dd ht (kk ls locs hl hlo ho)
theorem z_ifnonnullN (ok : zOK κ E d y cc ret hh nL mc ms P X) {off : Int} (dd : decode cc pc = .ok (.ifnonnull off, 3)) (kk : zV κ E H k n (pc + 3) L st) : zV κ E H k n pc L (.null :: st) := by
  obtain ⟨p, l, e, R, s, m, args, below, meth, c, P', X', nL', mc', ms'⟩ := κ
  obtain ⟨hx, hb, hml, hown, hts, hKN, hlk, hho, hst, hrt, hnm, htab, hR, rfl, rfl, rfl, rfl, rfl⟩ := ok
  intro ls locs hl hlo ho
  exact lv_ifnonnullN hx hb dd (kk ls locs hl hlo ho)
theorem z_lookup (ok : zOK κ E d y cc ret hh nL mc ms P X) {dflt : Int} {ps : Array (Int × Int)} {len : Nat} {x : Int32} {off : Int} {tgt : Nat} (dd : decode cc pc = .ok (.lookupswitch dflt ps, len)) (hp : (ps.toList.zip (ps.toList.drop 1)).all (fun (a, next) => a.1 < next.1) = true) (hof : Op.lookupswitch.offset ps.toList dflt x.toInt = off) (ht : (pc : Int) + off = (tgt : Int)) (kk : zV κ E H k n tgt L st) : zV κ E H k n pc L (.int x :: st) := by
  obtain ⟨p, l, e, R, s, m, args, below, meth, c, P', X', nL', mc', ms'⟩ := κ
  obtain ⟨hx, hb, hml, hown, hts, hKN, hlk, hho, hst, hrt, hnm, htab, hR, rfl, rfl, rfl, rfl, rfl⟩ := ok
  intro ls locs hl hlo ho
  exact lv_lookup hx hb dd hp hof ht (kk ls locs hl hlo ho)
theorem z_tableOut (ok : zOK κ E d y cc ret hh nL mc ms P X) {dflt lo hi : Int} {offs : Array Int} {len : Nat} {x : Int32} {tgt : Nat} (dd : decode cc pc = .ok (.tableswitch dflt lo hi offs, len)) (h : x.toInt < lo ∨ hi < x.toInt) (ht : (pc : Int) + dflt = (tgt : Int)) (kk : zV κ E H k n tgt L st) : zV κ E H k n pc L (.int x :: st) := by
  obtain ⟨p, l, e, R, s, m, args, below, meth, c, P', X', nL', mc', ms'⟩ := κ
  obtain ⟨hx, hb, hml, hown, hts, hKN, hlk, hho, hst, hrt, hnm, htab, hR, rfl, rfl, rfl, rfl, rfl⟩ := ok
  intro ls locs hl hlo ho
  exact lv_tableOut hx hb dd h ht (kk ls locs hl hlo ho)
theorem z_tableIn (ok : zOK κ E d y cc ret hh nL mc ms P X) {dflt lo hi : Int} {offs : Array Int} {len : Nat} {x : Int32} {off : Int} {tgt : Nat} (dd : decode cc pc = .ok (.tableswitch dflt lo hi offs, len)) (h1 : ¬ x.toInt < lo) (h2 : ¬ hi < x.toInt) (hof : offs[(x.toInt - lo).toNat]? = some off) (ht : (pc : Int) + off = (tgt : Int)) (kk : zV κ E H k n tgt L st) : zV κ E H k n pc L (.int x :: st) := by
  obtain ⟨p, l, e, R, s, m, args, below, meth, c, P', X', nL', mc', ms'⟩ := κ
  obtain ⟨hx, hb, hml, hown, hts, hKN, hlk, hho, hst, hrt, hnm, htab, hR, rfl, rfl, rfl, rfl, rfl⟩ := ok
  intro ls locs hl hlo ho
  exact lv_tableIn hx hb dd h1 h2 hof ht (kk ls locs hl hlo ho)
theorem z_lcmp (ok : zOK κ E d y cc ret hh nL mc ms P X) {x z : Int64} (dd : decode cc pc = .ok (.lcmp, 1)) (kk : zV κ E H k n (pc + 1) L (.int (lg_cmp x z) :: st)) : zV κ E H k n pc L (.long z :: .long x :: st) := by
  obtain ⟨p, l, e, R, s, m, args, below, meth, c, P', X', nL', mc', ms'⟩ := κ
  obtain ⟨hx, hb, hml, hown, hts, hKN, hlk, hho, hst, hrt, hnm, htab, hR, rfl, rfl, rfl, rfl, rfl⟩ := ok
  intro ls locs hl hlo ho
  exact W.lcmp hx hb dd (kk ls locs hl hlo ho)
theorem z_ldc (ok : zOK κ E d y cc ret hh nL mc ms P X) {i : Nat} {v : Int32} (hc : Jvm.Cond.constant y.cls i v ∈ lw_all) (dd : decode cc pc = .ok (.ldc i, 2)) (kk : zV κ E H k n (pc + 2) L (.int v :: st)) : zV κ E H k n pc L st := by
  obtain ⟨p, l, e, R, s, m, args, below, meth, c, P', X', nL', mc', ms'⟩ := κ
  obtain ⟨hx, hb, hml, hown, hts, hKN, hlk, hho, hst, hrt, hnm, htab, hR, rfl, rfl, rfl, rfl, rfl⟩ := ok
  intro ls locs hl hlo ho
  exact lv_ldc hx hb hown (hts _ hc) dd (kk ls locs hl hlo ho)
theorem z_ldcS (ok : zOK κ E d y cc ret hh nL mc ms P X) {i j : Nat} {tx : String} (hz : (y.cls, i, tx, j) ∈ zStrs) (dd : decode cc pc = .ok (.ldc i, 2)) (kk : zV κ E H k n (pc + 2) L (.ref (E.2.2.2.2.1 j) :: st)) : zV κ E H k n pc L st := by
  obtain ⟨p, l, e, R, s, m, args, below, meth, c, P', X', nL', mc', ms'⟩ := κ
  obtain ⟨hx, hb, hml, hown, hts, hKN, hlk, hho, hst, hrt, hnm, htab, hR, rfl, rfl, rfl, rfl, rfl⟩ := ok
  intro ls locs hl hlo ho
  exact va_ldcS hx hb hown (hKN.2.2.2.1 _ hz) dd (kk ls locs hl hlo ho)
theorem z_iret {v : Int32} (ok : zOK κ E d y cc (some .int) hh nL mc ms P X) (dd : decode cc pc = .ok (.ireturn, 1)) (hP : P (some (.int v)) H) (hk : k ≤ mc := by omega) (hn : n ≤ ms := by omega) : zV κ E H k n pc L ([.int v]) := by
  obtain ⟨p, l, e, R, s, m, args, below, meth, c, P', X', nL', mc', ms'⟩ := κ
  obtain ⟨hx, hb, hml, hown, hts, hKN, hlk, hho, hst, hrt, hnm, htab, hR, rfl, rfl, rfl, rfl, rfl⟩ := ok
  intro ls locs hl hlo ho
  refine vx_ret (W.widen hk hn ?_)
  exact W.iret hx hb hrt (fun t ht hW => ⟨_, rfl, by rw [ht]; exact hP, by rw [ht]; exact ho⟩) hlo dd hlk
theorem z_zret {ty : FieldType} {v : Int32} (ok : zOK κ E d y cc (some ty) hh nL mc ms P X) (dd : decode cc pc = .ok (.ireturn, 1)) (hnr : narrow ty (.int v) = .int v) (hP : P (some (.int v)) H) (hk : k ≤ mc := by omega) (hn : n ≤ ms := by omega) : zV κ E H k n pc L ([.int v]) := by
  obtain ⟨p, l, e, R, s, m, args, below, meth, c, P', X', nL', mc', ms'⟩ := κ
  obtain ⟨hx, hb, hml, hown, hts, hKN, hlk, hho, hst, hrt, hnm, htab, hR, rfl, rfl, rfl, rfl, rfl⟩ := ok
  intro ls locs hl hlo ho
  refine vx_ret (W.widen hk hn ?_)
  exact W.zret hx hb hrt hnr (fun t ht hW => ⟨_, rfl, by rw [ht]; exact hP, by rw [ht]; exact ho⟩) hlo dd hlk
theorem z_dret {v : UInt64} (ok : zOK κ E d y cc (some .double) hh nL mc ms P X) (dd : decode cc pc = .ok (.dreturn, 1)) (hP : P (some (.double v)) H) (hk : k ≤ mc := by omega) (hn : n ≤ ms := by omega) : zV κ E H k n pc L ([.double v]) := by
  obtain ⟨p, l, e, R, s, m, args, below, meth, c, P', X', nL', mc', ms'⟩ := κ
  obtain ⟨hx, hb, hml, hown, hts, hKN, hlk, hho, hst, hrt, hnm, htab, hR, rfl, rfl, rfl, rfl, rfl⟩ := ok
  intro ls locs hl hlo ho
  refine vx_ret (W.widen hk hn ?_)
  exact W.dret hx hb hrt (fun t ht hW => ⟨_, rfl, by rw [ht]; exact hP, by rw [ht]; exact ho⟩) hlo dd hlk
theorem z_fret {v : UInt32} (ok : zOK κ E d y cc (some .float) hh nL mc ms P X) (dd : decode cc pc = .ok (.freturn, 1)) (hP : P (some (.float v)) H) (hk : k ≤ mc := by omega) (hn : n ≤ ms := by omega) : zV κ E H k n pc L ([.float v]) := by
  obtain ⟨p, l, e, R, s, m, args, below, meth, c, P', X', nL', mc', ms'⟩ := κ
  obtain ⟨hx, hb, hml, hown, hts, hKN, hlk, hho, hst, hrt, hnm, htab, hR, rfl, rfl, rfl, rfl, rfl⟩ := ok
  intro ls locs hl hlo ho
  refine vx_ret (W.widen hk hn ?_)
  exact W.fret hx hb hrt (fun t ht hW => ⟨_, rfl, by rw [ht]; exact hP, by rw [ht]; exact ho⟩) hlo dd hlk
theorem z_lret {v : Int64} (ok : zOK κ E d y cc (some .long) hh nL mc ms P X) (dd : decode cc pc = .ok (.lreturn, 1)) (hP : P (some (.long v)) H) (hk : k ≤ mc := by omega) (hn : n ≤ ms := by omega) : zV κ E H k n pc L ([.long v]) := by
  obtain ⟨p, l, e, R, s, m, args, below, meth, c, P', X', nL', mc', ms'⟩ := κ
  obtain ⟨hx, hb, hml, hown, hts, hKN, hlk, hho, hst, hrt, hnm, htab, hR, rfl, rfl, rfl, rfl, rfl⟩ := ok
  intro ls locs hl hlo ho
  refine vx_ret (W.widen hk hn ?_)
  exact W.lret hx hb hrt (fun t ht hW => ⟨_, rfl, by rw [ht]; exact hP, by rw [ht]; exact ho⟩) hlo dd hlk
theorem z_vret  (ok : zOK κ E d y cc none hh nL mc ms P X) (dd : decode cc pc = .ok (.return_, 1)) (hP : P (none) H) (hk : k ≤ mc := by omega) (hn : n ≤ ms := by omega) : zV κ E H k n pc L ([]) := by
  obtain ⟨p, l, e, R, s, m, args, below, meth, c, P', X', nL', mc', ms'⟩ := κ
  obtain ⟨hx, hb, hml, hown, hts, hKN, hlk, hho, hst, hrt, hnm, htab, hR, rfl, rfl, rfl, rfl, rfl⟩ := ok
  intro ls locs hl hlo ho
  refine vx_ret (W.widen hk hn ?_)
  exact W.vret hx hb hrt (fun t ht hW => ⟨_, rfl, by rw [ht]; exact hP, by rw [ht]; exact ho⟩) hlo dd hlk
theorem z_aret {rt : FieldType} {v : Value} (ok : zOK κ E d y cc (some rt) hh nL mc ms P X) (dd : decode cc pc = .ok (.areturn, 1)) (hP : P (some v) H) (hrr : (∃ q, rt = .object q) ∨ ∃ q, rt = .array q := by first | exact Or.inl ⟨_, rfl⟩ | exact Or.inr ⟨_, rfl⟩) (hv : v = .null ∨ ∃ a, v = .ref a := by first | exact Or.inr ⟨_, rfl⟩ | exact Or.inl rfl | exact va_rf_or _) (hk : k ≤ mc := by omega) (hn : n ≤ ms := by omega) : zV κ E H k n pc L ([v]) := by
  obtain ⟨p, l, e, R, s, m, args, below, meth, c, P', X', nL', mc', ms'⟩ := κ
  obtain ⟨hx, hb, hml, hown, hts, hKN, hlk, hho, hst, hrt, hnm, htab, hR, rfl, rfl, rfl, rfl, rfl⟩ := ok
  intro ls locs hl hlo ho
  refine vx_ret (W.widen hk hn ?_)
  exact W.aret hx hb hrt hrr hv (fun t ht hW => ⟨_, rfl, by rw [ht]; exact hP, by rw [ht]; exact ho⟩) hlo dd hlk
def zd1 (x : Option Value) : Bool := match x with
  | none => true
  | some v => decide (v.category = 1)
theorem zd1_rf (r : Option Nat) : zd1 (some (va_rf r)) = true := by cases r <;> rfl
theorem zd1_c1 {l0 lx : Option Value} {r : List (Option Value)} (h : zd1 l0 = true) : zc1 (l0 :: lx :: r) 1 = true := h
theorem zd1_c2 {l0 l1 lx : Option Value} {r : List (Option Value)} (h : zd1 l1 = true) : zc1 (l0 :: l1 :: lx :: r) 2 = true := h
theorem zd1_c3 {l0 l1 l2 lx : Option Value} {r : List (Option Value)} (h : zd1 l2 = true) : zc1 (l0 :: l1 :: l2 :: lx :: r) 3 = true := h
theorem zd1_c4 {l0 l1 l2 l3 lx : Option Value} {r : List (Option Value)} (h : zd1 l3 = true) : zc1 (l0 :: l1 :: l2 :: l3 :: lx :: r) 4 = true := h
theorem zd1_c5 {l0 l1 l2 l3 l4 lx : Option Value} {r : List (Option Value)} (h : zd1 l4 = true) : zc1 (l0 :: l1 :: l2 :: l3 :: l4 :: lx :: r) 5 = true := h
theorem zd1_c6 {l0 l1 l2 l3 l4 l5 lx : Option Value} {r : List (Option Value)} (h : zd1 l5 = true) : zc1 (l0 :: l1 :: l2 :: l3 :: l4 :: l5 :: lx :: r) 6 = true := h
theorem zd1_c7 {l0 l1 l2 l3 l4 l5 l6 lx : Option Value} {r : List (Option Value)} (h : zd1 l6 = true) : zc1 (l0 :: l1 :: l2 :: l3 :: l4 :: l5 :: l6 :: lx :: r) 7 = true := h
theorem zd1_c8 {l0 l1 l2 l3 l4 l5 l6 l7 lx : Option Value} {r : List (Option Value)} (h : zd1 l7 = true) : zc1 (l0 :: l1 :: l2 :: l3 :: l4 :: l5 :: l6 :: l7 :: lx :: r) 8 = true := h
theorem zd1_c9 {l0 l1 l2 l3 l4 l5 l6 l7 l8 lx : Option Value} {r : List (Option Value)} (h : zd1 l8 = true) : zc1 (l0 :: l1 :: l2 :: l3 :: l4 :: l5 :: l6 :: l7 :: l8 :: lx :: r) 9 = true := h
theorem z_istore_0 (ok : zOK κ E d y cc ret hh nL mc ms P X) {lx : Option Value} {r : List (Option Value)} {x : Int32} (dd : decode cc pc = .ok (.istore_n 0, 1)) (kk : zV κ E H k n (pc + 1) (some (.int x) :: r) st) (hi : 0 < nL := by decide) : zV κ E H k n pc (lx :: r) (.int x :: st) := z_istore_n' ok dd (by rfl) hi kk
theorem z_astore_0 (ok : zOK κ E d y cc ret hh nL mc ms P X) {lx : Option Value} {r : List (Option Value)} {v : Value} (dd : decode cc pc = .ok (.astore_n 0, 1)) (kk : zV κ E H k n (pc + 1) (some (v) :: r) st) (hi : 0 < nL := by decide) (hv : v = .null ∨ ∃ a, v = .ref a := by first | exact Or.inr ⟨_, rfl⟩ | exact Or.inl rfl | exact va_rf_or _) : zV κ E H k n pc (lx :: r) (v :: st) := z_astore_n' ok dd (by rfl) hi kk hv
theorem z_iinc_0 (ok : zOK κ E d y cc ret hh nL mc ms P X) {r : List (Option Value)} {t : Int} {x : Int32} (dd : decode cc pc = .ok (.iinc 0 t, 3)) {v : Int32} (hv : x + Int32.ofInt t = v) (kk : zV κ E H k n (pc + 3) (some (.int v) :: r) st) (hi : 0 < nL := by decide) : zV κ E H k n pc (some (.int x) :: r) st := z_iinc' ok dd rfl hv (by rfl) hi kk
theorem z_lstore_0 (ok : zOK κ E d y cc ret hh nL mc ms P X) {lx ly : Option Value} {r : List (Option Value)} {x : Int64} (dd : decode cc pc = .ok (.lstore_n 0, 1)) (kk : zV κ E H k n (pc + 1) (some (.long x) :: none :: r) st) (hi : 0 + 1 < nL := by decide) : zV κ E H k n pc (lx :: ly :: r) (.long x :: st) := z_lstore_n' ok dd (by rfl) hi kk
theorem z_istore_1 (ok : zOK κ E d y cc ret hh nL mc ms P X) {l0 lx : Option Value} {r : List (Option Value)} {x : Int32} (dd : decode cc pc = .ok (.istore_n 1, 1)) (kk : zV κ E H k n (pc + 1) (l0 :: some (.int x) :: r) st) (h1 : zd1 l0 = true := by first | rfl | exact zd1_rf _) (hi : 1 < nL := by decide) : zV κ E H k n pc (l0 :: lx :: r) (.int x :: st) := z_istore_n' ok dd (by exact zd1_c1 h1) hi kk
theorem z_astore_1 (ok : zOK κ E d y cc ret hh nL mc ms P X) {l0 lx : Option Value} {r : List (Option Value)} {v : Value} (dd : decode cc pc = .ok (.astore_n 1, 1)) (kk : zV κ E H k n (pc + 1) (l0 :: some (v) :: r) st) (h1 : zd1 l0 = true := by first | rfl | exact zd1_rf _) (hi : 1 < nL := by decide) (hv : v = .null ∨ ∃ a, v = .ref a := by first | exact Or.inr ⟨_, rfl⟩ | exact Or.inl rfl | exact va_rf_or _) : zV κ E H k n pc (l0 :: lx :: r) (v :: st) := z_astore_n' ok dd (by exact zd1_c1 h1) hi kk hv
theorem z_iinc_1 (ok : zOK κ E d y cc ret hh nL mc ms P X) {l0 : Option Value} {r : List (Option Value)} {t : Int} {x : Int32} (dd : decode cc pc = .ok (.iinc 1 t, 3)) {v : Int32} (hv : x + Int32.ofInt t = v) (kk : zV κ E H k n (pc + 3) (l0 :: some (.int v) :: r) st) (h1 : zd1 l0 = true := by first | rfl | exact zd1_rf _) (hi : 1 < nL := by decide) : zV κ E H k n pc (l0 :: some (.int x) :: r) st := z_iinc' ok dd rfl hv (by exact zd1_c1 h1) hi kk
theorem z_lstore_1 (ok : zOK κ E d y cc ret hh nL mc ms P X) {l0 lx ly : Option Value} {r : List (Option Value)} {x : Int64} (dd : decode cc pc = .ok (.lstore_n 1, 1)) (kk : zV κ E H k n (pc + 1) (l0 :: some (.long x) :: none :: r) st) (h1 : zd1 l0 = true := by first | rfl | exact zd1_rf _) (hi : 1 + 1 < nL := by decide) : zV κ E H k n pc (l0 :: lx :: ly :: r) (.long x :: st) := z_lstore_n' ok dd (by exact zd1_c1 h1) hi kk
theorem z_istore_2 (ok : zOK κ E d y cc ret hh nL mc ms P X) {l0 l1 lx : Option Value} {r : List (Option Value)} {x : Int32} (dd : decode cc pc = .ok (.istore_n 2, 1)) (kk : zV κ E H k n (pc + 1) (l0 :: l1 :: some (.int x) :: r) st) (h1 : zd1 l1 = true := by first | rfl | exact zd1_rf _) (hi : 2 < nL := by decide) : zV κ E H k n pc (l0 :: l1 :: lx :: r) (.int x :: st) := z_istore_n' ok dd (by exact zd1_c2 h1) hi kk
theorem z_astore_2 (ok : zOK κ E d y cc ret hh nL mc ms P X) {l0 l1 lx : Option Value} {r : List (Option Value)} {v : Value} (dd : decode cc pc = .ok (.astore_n 2, 1)) (kk : zV κ E H k n (pc + 1) (l0 :: l1 :: some (v) :: r) st) (h1 : zd1 l1 = true := by first | rfl | exact zd1_rf _) (hi : 2 < nL := by decide) (hv : v = .null ∨ ∃ a, v = .ref a := by first | exact Or.inr ⟨_, rfl⟩ | exact Or.inl rfl | exact va_rf_or _) : zV κ E H k n pc (l0 :: l1 :: lx :: r) (v :: st) := z_astore_n' ok dd (by exact zd1_c2 h1) hi kk hv
theorem z_iinc_2 (ok : zOK κ E d y cc ret hh nL mc ms P X) {l0 l1 : Option Value} {r : List (Option Value)} {t : Int} {x : Int32} (dd : decode cc pc = .ok (.iinc 2 t, 3)) {v : Int32} (hv : x + Int32.ofInt t = v) (kk : zV κ E H k n (pc + 3) (l0 :: l1 :: some (.int v) :: r) st) (h1 : zd1 l1 = true := by first | rfl | exact zd1_rf _) (hi : 2 < nL := by decide) : zV κ E H k n pc (l0 :: l1 :: some (.int x) :: r) st := z_iinc' ok dd rfl hv (by exact zd1_c2 h1) hi kk
theorem z_lstore_2 (ok : zOK κ E d y cc ret hh nL mc ms P X) {l0 l1 lx ly : Option Value} {r : List (Option Value)} {x : Int64} (dd : decode cc pc = .ok (.lstore_n 2, 1)) (kk : zV κ E H k n (pc + 1) (l0 :: l1 :: some (.long x) :: none :: r) st) (h1 : zd1 l1 = true := by first | rfl | exact zd1_rf _) (hi : 2 + 1 < nL := by decide) : zV κ E H k n pc (l0 :: l1 :: lx :: ly :: r) (.long x :: st) := z_lstore_n' ok dd (by exact zd1_c2 h1) hi kk
theorem z_istore_3 (ok : zOK κ E d y cc ret hh nL mc ms P X) {l0 l1 l2 lx : Option Value} {r : List (Option Value)} {x : Int32} (dd : decode cc pc = .ok (.istore_n 3, 1)) (kk : zV κ E H k n (pc + 1) (l0 :: l1 :: l2 :: some (.int x) :: r) st) (h1 : zd1 l2 = true := by first | rfl | exact zd1_rf _) (hi : 3 < nL := by decide) : zV κ E H k n pc (l0 :: l1 :: l2 :: lx :: r) (.int x :: st) := z_istore_n' ok dd (by exact zd1_c3 h1) hi kk
theorem z_astore_3 (ok : zOK κ E d y cc ret hh nL mc ms P X) {l0 l1 l2 lx : Option Value} {r : List (Option Value)} {v : Value} (dd : decode cc pc = .ok (.astore_n 3, 1)) (kk : zV κ E H k n (pc + 1) (l0 :: l1 :: l2 :: some (v) :: r) st) (h1 : zd1 l2 = true := by first | rfl | exact zd1_rf _) (hi : 3 < nL := by decide) (hv : v = .null ∨ ∃ a, v = .ref a := by first | exact Or.inr ⟨_, rfl⟩ | exact Or.inl rfl | exact va_rf_or _) : zV κ E H k n pc (l0 :: l1 :: l2 :: lx :: r) (v :: st) := z_astore_n' ok dd (by exact zd1_c3 h1) hi kk hv
theorem z_iinc_3 (ok : zOK κ E d y cc ret hh nL mc ms P X) {l0 l1 l2 : Option Value} {r : List (Option Value)} {t : Int} {x : Int32} (dd : decode cc pc = .ok (.iinc 3 t, 3)) {v : Int32} (hv : x + Int32.ofInt t = v) (kk : zV κ E H k n (pc + 3) (l0 :: l1 :: l2 :: some (.int v) :: r) st) (h1 : zd1 l2 = true := by first | rfl | exact zd1_rf _) (hi : 3 < nL := by decide) : zV κ E H k n pc (l0 :: l1 :: l2 :: some (.int x) :: r) st := z_iinc' ok dd rfl hv (by exact zd1_c3 h1) hi kk
theorem z_lstore_3 (ok : zOK κ E d y cc ret hh nL mc ms P X) {l0 l1 l2 lx ly : Option Value} {r : List (Option Value)} {x : Int64} (dd : decode cc pc = .ok (.lstore_n 3, 1)) (kk : zV κ E H k n (pc + 1) (l0 :: l1 :: l2 :: some (.long x) :: none :: r) st) (h1 : zd1 l2 = true := by first | rfl | exact zd1_rf _) (hi : 3 + 1 < nL := by decide) : zV κ E H k n pc (l0 :: l1 :: l2 :: lx :: ly :: r) (.long x :: st) := z_lstore_n' ok dd (by exact zd1_c3 h1) hi kk
theorem z_istore_4 (ok : zOK κ E d y cc ret hh nL mc ms P X) {l0 l1 l2 l3 lx : Option Value} {r : List (Option Value)} {x : Int32} (dd : decode cc pc = .ok (.istore 4, 2)) (kk : zV κ E H k n (pc + 2) (l0 :: l1 :: l2 :: l3 :: some (.int x) :: r) st) (h1 : zd1 l3 = true := by first | rfl | exact zd1_rf _) (hi : 4 < nL := by decide) : zV κ E H k n pc (l0 :: l1 :: l2 :: l3 :: lx :: r) (.int x :: st) := z_istore' ok dd (by exact zd1_c4 h1) hi kk
theorem z_astore_4 (ok : zOK κ E d y cc ret hh nL mc ms P X) {l0 l1 l2 l3 lx : Option Value} {r : List (Option Value)} {v : Value} (dd : decode cc pc = .ok (.astore 4, 2)) (kk : zV κ E H k n (pc + 2) (l0 :: l1 :: l2 :: l3 :: some (v) :: r) st) (h1 : zd1 l3 = true := by first | rfl | exact zd1_rf _) (hi : 4 < nL := by decide) (hv : v = .null ∨ ∃ a, v = .ref a := by first | exact Or.inr ⟨_, rfl⟩ | exact Or.inl rfl | exact va_rf_or _) : zV κ E H k n pc (l0 :: l1 :: l2 :: l3 :: lx :: r) (v :: st) := z_astore' ok dd (by exact zd1_c4 h1) hi kk hv
theorem z_iinc_4 (ok : zOK κ E d y cc ret hh nL mc ms P X) {l0 l1 l2 l3 : Option Value} {r : List (Option Value)} {t : Int} {x : Int32} (dd : decode cc pc = .ok (.iinc 4 t, 3)) {v : Int32} (hv : x + Int32.ofInt t = v) (kk : zV κ E H k n (pc + 3) (l0 :: l1 :: l2 :: l3 :: some (.int v) :: r) st) (h1 : zd1 l3 = true := by first | rfl | exact zd1_rf _) (hi : 4 < nL := by decide) : zV κ E H k n pc (l0 :: l1 :: l2 :: l3 :: some (.int x) :: r) st := z_iinc' ok dd rfl hv (by exact zd1_c4 h1) hi kk
theorem z_lstore_4 (ok : zOK κ E d y cc ret hh nL mc ms P X) {l0 l1 l2 l3 lx ly : Option Value} {r : List (Option Value)} {x : Int64} (dd : decode cc pc = .ok (.lstore 4, 2)) (kk : zV κ E H k n (pc + 2) (l0 :: l1 :: l2 :: l3 :: some (.long x) :: none :: r) st) (h1 : zd1 l3 = true := by first | rfl | exact zd1_rf _) (hi : 4 + 1 < nL := by decide) : zV κ E H k n pc (l0 :: l1 :: l2 :: l3 :: lx :: ly :: r) (.long x :: st) := z_lstore' ok dd (by exact zd1_c4 h1) hi kk
theorem z_dstore_4 (ok : zOK κ E d y cc ret hh nL mc ms P X) {l0 l1 l2 l3 lx ly : Option Value} {r : List (Option Value)} {x : UInt64} (dd : decode cc pc = .ok (.dstore 4, 2)) (kk : zV κ E H k n (pc + 2) (l0 :: l1 :: l2 :: l3 :: some (.double x) :: none :: r) st) (h1 : zd1 l3 = true := by first | rfl | exact zd1_rf _) (hi : 4 + 1 < nL := by decide) : zV κ E H k n pc (l0 :: l1 :: l2 :: l3 :: lx :: ly :: r) (.double x :: st) := z_dstore' ok dd (by exact zd1_c4 h1) hi kk
theorem z_istore_5 (ok : zOK κ E d y cc ret hh nL mc ms P X) {l0 l1 l2 l3 l4 lx : Option Value} {r : List (Option Value)} {x : Int32} (dd : decode cc pc = .ok (.istore 5, 2)) (kk : zV κ E H k n (pc + 2) (l0 :: l1 :: l2 :: l3 :: l4 :: some (.int x) :: r) st) (h1 : zd1 l4 = true := by first | rfl | exact zd1_rf _) (hi : 5 < nL := by decide) : zV κ E H k n pc (l0 :: l1 :: l2 :: l3 :: l4 :: lx :: r) (.int x :: st) := z_istore' ok dd (by exact zd1_c5 h1) hi kk
theorem z_astore_5 (ok : zOK κ E d y cc ret hh nL mc ms P X) {l0 l1 l2 l3 l4 lx : Option Value} {r : List (Option Value)} {v : Value} (dd : decode cc pc = .ok (.astore 5, 2)) (kk : zV κ E H k n (pc + 2) (l0 :: l1 :: l2 :: l3 :: l4 :: some (v) :: r) st) (h1 : zd1 l4 = true := by first | rfl | exact zd1_rf _) (hi : 5 < nL := by decide) (hv : v = .null ∨ ∃ a, v = .ref a := by first | exact Or.inr ⟨_, rfl⟩ | exact Or.inl rfl | exact va_rf_or _) : zV κ E H k n pc (l0 :: l1 :: l2 :: l3 :: l4 :: lx :: r) (v :: st) := z_astore' ok dd (by exact zd1_c5 h1) hi kk hv
theorem z_iinc_5 (ok : zOK κ E d y cc ret hh nL mc ms P X) {l0 l1 l2 l3 l4 : Option Value} {r : List (Option Value)} {t : Int} {x : Int32} (dd : decode cc pc = .ok (.iinc 5 t, 3)) {v : Int32} (hv : x + Int32.ofInt t = v) (kk : zV κ E H k n (pc + 3) (l0 :: l1 :: l2 :: l3 :: l4 :: some (.int v) :: r) st) (h1 : zd1 l4 = true := by first | rfl | exact zd1_rf _) (hi : 5 < nL := by decide) : zV κ E H k n pc (l0 :: l1 :: l2 :: l3 :: l4 :: some (.int x) :: r) st := z_iinc' ok dd rfl hv (by exact zd1_c5 h1) hi kk
theorem z_lstore_5 (ok : zOK κ E d y cc ret hh nL mc ms P X) {l0 l1 l2 l3 l4 lx ly : Option Value} {r : List (Option Value)} {x : Int64} (dd : decode cc pc = .ok (.lstore 5, 2)) (kk : zV κ E H k n (pc + 2) (l0 :: l1 :: l2 :: l3 :: l4 :: some (.long x) :: none :: r) st) (h1 : zd1 l4 = true := by first | rfl | exact zd1_rf _) (hi : 5 + 1 < nL := by decide) : zV κ E H k n pc (l0 :: l1 :: l2 :: l3 :: l4 :: lx :: ly :: r) (.long x :: st) := z_lstore' ok dd (by exact zd1_c5 h1) hi kk
theorem z_dstore_5 (ok : zOK κ E d y cc ret hh nL mc ms P X) {l0 l1 l2 l3 l4 lx ly : Option Value} {r : List (Option Value)} {x : UInt64} (dd : decode cc pc = .ok (.dstore 5, 2)) (kk : zV κ E H k n (pc + 2) (l0 :: l1 :: l2 :: l3 :: l4 :: some (.double x) :: none :: r) st) (h1 : zd1 l4 = true := by first | rfl | exact zd1_rf _) (hi : 5 + 1 < nL := by decide) : zV κ E H k n pc (l0 :: l1 :: l2 :: l3 :: l4 :: lx :: ly :: r) (.double x :: st) := z_dstore' ok dd (by exact zd1_c5 h1) hi kk
theorem z_istore_6 (ok : zOK κ E d y cc ret hh nL mc ms P X) {l0 l1 l2 l3 l4 l5 lx : Option Value} {r : List (Option Value)} {x : Int32} (dd : decode cc pc = .ok (.istore 6, 2)) (kk : zV κ E H k n (pc + 2) (l0 :: l1 :: l2 :: l3 :: l4 :: l5 :: some (.int x) :: r) st) (h1 : zd1 l5 = true := by first | rfl | exact zd1_rf _) (hi : 6 < nL := by decide) : zV κ E H k n pc (l0 :: l1 :: l2 :: l3 :: l4 :: l5 :: lx :: r) (.int x :: st) := z_istore' ok dd (by exact zd1_c6 h1) hi kk
theorem z_astore_6 (ok : zOK κ E d y cc ret hh nL mc ms P X) {l0 l1 l2 l3 l4 l5 lx : Option Value} {r : List (Option Value)} {v : Value} (dd : decode cc pc = .ok (.astore 6, 2)) (kk : zV κ E H k n (pc + 2) (l0 :: l1 :: l2 :: l3 :: l4 :: l5 :: some (v) :: r) st) (h1 : zd1 l5 = true := by first | rfl | exact zd1_rf _) (hi : 6 < nL := by decide) (hv : v = .null ∨ ∃ a, v = .ref a := by first | exact Or.inr ⟨_, rfl⟩ | exact Or.inl rfl | exact va_rf_or _) : zV κ E H k n pc (l0 :: l1 :: l2 :: l3 :: l4 :: l5 :: lx :: r) (v :: st) := z_astore' ok dd (by exact zd1_c6 h1) hi kk hv
theorem z_iinc_6 (ok : zOK κ E d y cc ret hh nL mc ms P X) {l0 l1 l2 l3 l4 l5 : Option Value} {r : List (Option Value)} {t : Int} {x : Int32} (dd : decode cc pc = .ok (.iinc 6 t, 3)) {v : Int32} (hv : x + Int32.ofInt t = v) (kk : zV κ E H k n (pc + 3) (l0 :: l1 :: l2 :: l3 :: l4 :: l5 :: some (.int v) :: r) st) (h1 : zd1 l5 = true := by first | rfl | exact zd1_rf _) (hi : 6 < nL := by decide) : zV κ E H k n pc (l0 :: l1 :: l2 :: l3 :: l4 :: l5 :: some (.int x) :: r) st := z_iinc' ok dd rfl hv (by exact zd1_c6 h1) hi kk
theorem z_lstore_6 (ok : zOK κ E d y cc ret hh nL mc ms P X) {l0 l1 l2 l3 l4 l5 lx ly : Option Value} {r : List (Option Value)} {x : Int64} (dd : decode cc pc = .ok (.lstore 6, 2)) (kk : zV κ E H k n (pc + 2) (l0 :: l1 :: l2 :: l3 :: l4 :: l5 :: some (.long x) :: none :: r) st) (h1 : zd1 l5 = true := by first | rfl | exact zd1_rf _) (hi : 6 + 1 < nL := by decide) : zV κ E H k n pc (l0 :: l1 :: l2 :: l3 :: l4 :: l5 :: lx :: ly :: r) (.long x :: st) := z_lstore' ok dd (by exact zd1_c6 h1) hi kk
theorem z_dstore_6 (ok : zOK κ E d y cc ret hh nL mc ms P X) {l0 l1 l2 l3 l4 l5 lx ly : Option Value} {r : List (Option Value)} {x : UInt64} (dd : decode cc pc = .ok (.dstore 6, 2)) (kk : zV κ E H k n (pc + 2) (l0 :: l1 :: l2 :: l3 :: l4 :: l5 :: some (.double x) :: none :: r) st) (h1 : zd1 l5 = true := by first | rfl | exact zd1_rf _) (hi : 6 + 1 < nL := by decide) : zV κ E H k n pc (l0 :: l1 :: l2 :: l3 :: l4 :: l5 :: lx :: ly :: r) (.double x :: st) := z_dstore' ok dd (by exact zd1_c6 h1) hi kk
theorem z_istore_7 (ok : zOK κ E d y cc ret hh nL mc ms P X) {l0 l1 l2 l3 l4 l5 l6 lx : Option Value} {r : List (Option Value)} {x : Int32} (dd : decode cc pc = .ok (.istore 7, 2)) (kk : zV κ E H k n (pc + 2) (l0 :: l1 :: l2 :: l3 :: l4 :: l5 :: l6 :: some (.int x) :: r) st) (h1 : zd1 l6 = true := by first | rfl | exact zd1_rf _) (hi : 7 < nL := by decide) : zV κ E H k n pc (l0 :: l1 :: l2 :: l3 :: l4 :: l5 :: l6 :: lx :: r) (.int x :: st) := z_istore' ok dd (by exact zd1_c7 h1) hi kk
theorem z_astore_7 (ok : zOK κ E d y cc ret hh nL mc ms P X) {l0 l1 l2 l3 l4 l5 l6 lx : Option Value} {r : List (Option Value)} {v : Value} (dd : decode cc pc = .ok (.astore 7, 2)) (kk : zV κ E H k n (pc + 2) (l0 :: l1 :: l2 :: l3 :: l4 :: l5 :: l6 :: some (v) :: r) st) (h1 : zd1 l6 = true := by first | rfl | exact zd1_rf _) (hi : 7 < nL := by decide) (hv : v = .null ∨ ∃ a, v = .ref a := by first | exact Or.inr ⟨_, rfl⟩ | exact Or.inl rfl | exact va_rf_or _) : zV κ E H k n pc (l0 :: l1 :: l2 :: l3 :: l4 :: l5 :: l6 :: lx :: r) (v :: st) := z_astore' ok dd (by exact zd1_c7 h1) hi kk hv
theorem z_iinc_7 (ok : zOK κ E d y cc ret hh nL mc ms P X) {l0 l1 l2 l3 l4 l5 l6 : Option Value} {r : List (Option Value)} {t : Int} {x : Int32} (dd : decode cc pc = .ok (.iinc 7 t, 3)) {v : Int32} (hv : x + Int32.ofInt t = v) (kk : zV κ E H k n (pc + 3) (l0 :: l1 :: l2 :: l3 :: l4 :: l5 :: l6 :: some (.int v) :: r) st) (h1 : zd1 l6 = true := by first | rfl | exact zd1_rf _) (hi : 7 < nL := by decide) : zV κ E H k n pc (l0 :: l1 :: l2 :: l3 :: l4 :: l5 :: l6 :: some (.int x) :: r) st := z_iinc' ok dd rfl hv (by exact zd1_c7 h1) hi kk
theorem z_lstore_7 (ok : zOK κ E d y cc ret hh nL mc ms P X) {l0 l1 l2 l3 l4 l5 l6 lx ly : Option Value} {r : List (Option Value)} {x : Int64} (dd : decode cc pc = .ok (.lstore 7, 2)) (kk : zV κ E H k n (pc + 2) (l0 :: l1 :: l2 :: l3 :: l4 :: l5 :: l6 :: some (.long x) :: none :: r) st) (h1 : zd1 l6 = true := by first | rfl | exact zd1_rf _) (hi : 7 + 1 < nL := by decide) : zV κ E H k n pc (l0 :: l1 :: l2 :: l3 :: l4 :: l5 :: l6 :: lx :: ly :: r) (.long x :: st) := z_lstore' ok dd (by exact zd1_c7 h1) hi kk
theorem z_dstore_7 (ok : zOK κ E d y cc ret hh nL mc ms P X) {l0 l1 l2 l3 l4 l5 l6 lx ly : Option Value} {r : List (Option Value)} {x : UInt64} (dd : decode cc pc = .ok (.dstore 7, 2)) (kk : zV κ E H k n (pc + 2) (l0 :: l1 :: l2 :: l3 :: l4 :: l5 :: l6 :: some (.double x) :: none :: r) st) (h1 : zd1 l6 = true := by first | rfl | exact zd1_rf _) (hi : 7 + 1 < nL := by decide) : zV κ E H k n pc (l0 :: l1 :: l2 :: l3 :: l4 :: l5 :: l6 :: lx :: ly :: r) (.double x :: st) := z_dstore' ok dd (by exact zd1_c7 h1) hi kk
theorem z_istore_8 (ok : zOK κ E d y cc ret hh nL mc ms P X) {l0 l1 l2 l3 l4 l5 l6 l7 lx : Option Value} {r : List (Option Value)} {x : Int32} (dd : decode cc pc = .ok (.istore 8, 2)) (kk : zV κ E H k n (pc + 2) (l0 :: l1 :: l2 :: l3 :: l4 :: l5 :: l6 :: l7 :: some (.int x) :: r) st) (h1 : zd1 l7 = true := by first | rfl | exact zd1_rf _) (hi : 8 < nL := by decide) : zV κ E H k n pc (l0 :: l1 :: l2 :: l3 :: l4 :: l5 :: l6 :: l7 :: lx :: r) (.int x :: st) := z_istore' ok dd (by exact zd1_c8 h1) hi kk
theorem z_astore_8 (ok : zOK κ E d y cc ret hh nL mc ms P X) {l0 l1 l2 l3 l4 l5 l6 l7 lx : Option Value} {r : List (Option Value)} {v : Value} (dd : decode cc pc = .ok (.astore 8, 2)) (kk : zV κ E H k n (pc + 2) (l0 :: l1 :: l2 :: l3 :: l4 :: l5 :: l6 :: l7 :: some (v) :: r) st) (h1 : zd1 l7 = true := by first | rfl | exact zd1_rf _) (hi : 8 < nL := by decide) (hv : v = .null ∨ ∃ a, v = .ref a := by first | exact Or.inr ⟨_, rfl⟩ | exact Or.inl rfl | exact va_rf_or _) : zV κ E H k n pc (l0 :: l1 :: l2 :: l3 :: l4 :: l5 :: l6 :: l7 :: lx :: r) (v :: st) := z_astore' ok dd (by exact zd1_c8 h1) hi kk hv
theorem z_iinc_8 (ok : zOK κ E d y cc ret hh nL mc ms P X) {l0 l1 l2 l3 l4 l5 l6 l7 : Option Value} {r : List (Option Value)} {t : Int} {x : Int32} (dd : decode cc pc = .ok (.iinc 8 t, 3)) {v : Int32} (hv : x + Int32.ofInt t = v) (kk : zV κ E H k n (pc + 3) (l0 :: l1 :: l2 :: l3 :: l4 :: l5 :: l6 :: l7 :: some (.int v) :: r) st) (h1 : zd1 l7 = true := by first | rfl | exact zd1_rf _) (hi : 8 < nL := by decide) : zV κ E H k n pc (l0 :: l1 :: l2 :: l3 :: l4 :: l5 :: l6 :: l7 :: some (.int x) :: r) st := z_iinc' ok dd rfl hv (by exact zd1_c8 h1) hi kk
theorem z_lstore_8 (ok : zOK κ E d y cc ret hh nL mc ms P X) {l0 l1 l2 l3 l4 l5 l6 l7 lx ly : Option Value} {r : List (Option Value)} {x : Int64} (dd : decode cc pc = .ok (.lstore 8, 2)) (kk : zV κ E H k n (pc + 2) (l0 :: l1 :: l2 :: l3 :: l4 :: l5 :: l6 :: l7 :: some (.long x) :: none :: r) st) (h1 : zd1 l7 = true := by first | rfl | exact zd1_rf _) (hi : 8 + 1 < nL := by decide) : zV κ E H k n pc (l0 :: l1 :: l2 :: l3 :: l4 :: l5 :: l6 :: l7 :: lx :: ly :: r) (.long x :: st) := z_lstore' ok dd (by exact zd1_c8 h1) hi kk
theorem z_dstore_8 (ok : zOK κ E d y cc ret hh nL mc ms P X) {l0 l1 l2 l3 l4 l5 l6 l7 lx ly : Option Value} {r : List (Option Value)} {x : UInt64} (dd : decode cc pc = .ok (.dstore 8, 2)) (kk : zV κ E H k n (pc + 2) (l0 :: l1 :: l2 :: l3 :: l4 :: l5 :: l6 :: l7 :: some (.double x) :: none :: r) st) (h1 : zd1 l7 = true := by first | rfl | exact zd1_rf _) (hi : 8 + 1 < nL := by decide) : zV κ E H k n pc (l0 :: l1 :: l2 :: l3 :: l4 :: l5 :: l6 :: l7 :: lx :: ly :: r) (.double x :: st) := z_dstore' ok dd (by exact zd1_c8 h1) hi kk
theorem z_istore_9 (ok : zOK κ E d y cc ret hh nL mc ms P X) {l0 l1 l2 l3 l4 l5 l6 l7 l8 lx : Option Value} {r : List (Option Value)} {x : Int32} (dd : decode cc pc = .ok (.istore 9, 2)) (kk : zV κ E H k n (pc + 2) (l0 :: l1 :: l2 :: l3 :: l4 :: l5 :: l6 :: l7 :: l8 :: some (.int x) :: r) st) (h1 : zd1 l8 = true := by first | rfl | exact zd1_rf _) (hi : 9 < nL := by decide) : zV κ E H k n pc (l0 :: l1 :: l2 :: l3 :: l4 :: l5 :: l6 :: l7 :: l8 :: lx :: r) (.int x :: st) := z_istore' ok dd (by exact zd1_c9 h1) hi kk
theorem z_astore_9 (ok : zOK κ E d y cc ret hh nL mc ms P X) {l0 l1 l2 l3 l4 l5 l6 l7 l8 lx : Option Value} {r : List (Option Value)} {v : Value} (dd : decode cc pc = .ok (.astore 9, 2)) (kk : zV κ E H k n (pc + 2) (l0 :: l1 :: l2 :: l3 :: l4 :: l5 :: l6 :: l7 :: l8 :: some (v) :: r) st) (h1 : zd1 l8 = true := by first | rfl | exact zd1_rf _) (hi : 9 < nL := by decide) (hv : v = .null ∨ ∃ a, v = .ref a := by first | exact Or.inr ⟨_, rfl⟩ | exact Or.inl rfl | exact va_rf_or _) : zV κ E H k n pc (l0 :: l1 :: l2 :: l3 :: l4 :: l5 :: l6 :: l7 :: l8 :: lx :: r) (v :: st) := z_astore' ok dd (by exact zd1_c9 h1) hi kk hv
theorem z_iinc_9 (ok : zOK κ E d y cc ret hh nL mc ms P X) {l0 l1 l2 l3 l4 l5 l6 l7 l8 : Option Value} {r : List (Option Value)} {t : Int} {x : Int32} (dd : decode cc pc = .ok (.iinc 9 t, 3)) {v : Int32} (hv : x + Int32.ofInt t = v) (kk : zV κ E H k n (pc + 3) (l0 :: l1 :: l2 :: l3 :: l4 :: l5 :: l6 :: l7 :: l8 :: some (.int v) :: r) st) (h1 : zd1 l8 = true := by first | rfl | exact zd1_rf _) (hi : 9 < nL := by decide) : zV κ E H k n pc (l0 :: l1 :: l2 :: l3 :: l4 :: l5 :: l6 :: l7 :: l8 :: some (.int x) :: r) st := z_iinc' ok dd rfl hv (by exact zd1_c9 h1) hi kk
theorem z_lstore_9 (ok : zOK κ E d y cc ret hh nL mc ms P X) {l0 l1 l2 l3 l4 l5 l6 l7 l8 lx ly : Option Value} {r : List (Option Value)} {x : Int64} (dd : decode cc pc = .ok (.lstore 9, 2)) (kk : zV κ E H k n (pc + 2) (l0 :: l1 :: l2 :: l3 :: l4 :: l5 :: l6 :: l7 :: l8 :: some (.long x) :: none :: r) st) (h1 : zd1 l8 = true := by first | rfl | exact zd1_rf _) (hi : 9 + 1 < nL := by decide) : zV κ E H k n pc (l0 :: l1 :: l2 :: l3 :: l4 :: l5 :: l6 :: l7 :: l8 :: lx :: ly :: r) (.long x :: st) := z_lstore' ok dd (by exact zd1_c9 h1) hi kk
theorem z_dstore_9 (ok : zOK κ E d y cc ret hh nL mc ms P X) {l0 l1 l2 l3 l4 l5 l6 l7 l8 lx ly : Option Value} {r : List (Option Value)} {x : UInt64} (dd : decode cc pc = .ok (.dstore 9, 2)) (kk : zV κ E H k n (pc + 2) (l0 :: l1 :: l2 :: l3 :: l4 :: l5 :: l6 :: l7 :: l8 :: some (.double x) :: none :: r) st) (h1 : zd1 l8 = true := by first | rfl | exact zd1_rf _) (hi : 9 + 1 < nL := by decide) : zV κ E H k n pc (l0 :: l1 :: l2 :: l3 :: l4 :: l5 :: l6 :: l7 :: l8 :: lx :: ly :: r) (.double x :: st) := z_dstore' ok dd (by exact zd1_c9 h1) hi kk
end ZR
