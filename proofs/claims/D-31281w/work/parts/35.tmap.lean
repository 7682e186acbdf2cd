/-! the map: printed by gen/tree.py -/
set_option maxRecDepth 100000
/-- the ten shapes -/
def TSh (E : zE) (t : Nat) (s m : Int32) (L : List (Nat × Nat × Nat)) (cs : List (Nat × va_E)) : Prop :=
  (L = [] ∧ cs = [(t, tM .null s m)]) ∨
  (∃ a0 e0 v0, L = [(a0, e0, v0)] ∧ cs = [(t, tM (.ref a0) s m), (a0, tN (.ref (E.2.2.2.1 (128 + e0))) (.ref v0) .null .null .null 1)]) ∨
  (∃ a0 e0 v0 a1 e1 v1, L = [(a0, e0, v0), (a1, e1, v1)] ∧ cs = [(t, tM (.ref a1) s m), (a0, tN (.ref (E.2.2.2.1 (128 + e0))) (.ref v0) .null .null (.ref a1) 0), (a1, tN (.ref (E.2.2.2.1 (128 + e1))) (.ref v1) (.ref a0) .null .null 1)]) ∨
  (∃ a0 e0 v0 a1 e1 v1, L = [(a0, e0, v0), (a1, e1, v1)] ∧ cs = [(t, tM (.ref a0) s m), (a0, tN (.ref (E.2.2.2.1 (128 + e0))) (.ref v0) .null (.ref a1) .null 1), (a1, tN (.ref (E.2.2.2.1 (128 + e1))) (.ref v1) .null .null (.ref a0) 0)]) ∨
  (∃ a0 e0 v0 a1 e1 v1 a2 e2 v2, L = [(a0, e0, v0), (a1, e1, v1), (a2, e2, v2)] ∧ cs = [(t, tM (.ref a1) s m), (a0, tN (.ref (E.2.2.2.1 (128 + e0))) (.ref v0) .null .null (.ref a1) 0), (a1, tN (.ref (E.2.2.2.1 (128 + e1))) (.ref v1) (.ref a0) (.ref a2) .null 1), (a2, tN (.ref (E.2.2.2.1 (128 + e2))) (.ref v2) .null .null (.ref a1) 0)]) ∨
  (∃ a0 e0 v0 a1 e1 v1 a2 e2 v2 a3 e3 v3, L = [(a0, e0, v0), (a1, e1, v1), (a2, e2, v2), (a3, e3, v3)] ∧ cs = [(t, tM (.ref a2) s m), (a0, tN (.ref (E.2.2.2.1 (128 + e0))) (.ref v0) .null .null (.ref a1) 0), (a1, tN (.ref (E.2.2.2.1 (128 + e1))) (.ref v1) (.ref a0) .null (.ref a2) 1), (a2, tN (.ref (E.2.2.2.1 (128 + e2))) (.ref v2) (.ref a1) (.ref a3) .null 1), (a3, tN (.ref (E.2.2.2.1 (128 + e3))) (.ref v3) .null .null (.ref a2) 1)]) ∨
  (∃ a0 e0 v0 a1 e1 v1 a2 e2 v2 a3 e3 v3, L = [(a0, e0, v0), (a1, e1, v1), (a2, e2, v2), (a3, e3, v3)] ∧ cs = [(t, tM (.ref a2) s m), (a0, tN (.ref (E.2.2.2.1 (128 + e0))) (.ref v0) .null (.ref a1) (.ref a2) 1), (a1, tN (.ref (E.2.2.2.1 (128 + e1))) (.ref v1) .null .null (.ref a0) 0), (a2, tN (.ref (E.2.2.2.1 (128 + e2))) (.ref v2) (.ref a0) (.ref a3) .null 1), (a3, tN (.ref (E.2.2.2.1 (128 + e3))) (.ref v3) .null .null (.ref a2) 1)]) ∨
  (∃ a0 e0 v0 a1 e1 v1 a2 e2 v2 a3 e3 v3, L = [(a0, e0, v0), (a1, e1, v1), (a2, e2, v2), (a3, e3, v3)] ∧ cs = [(t, tM (.ref a1) s m), (a0, tN (.ref (E.2.2.2.1 (128 + e0))) (.ref v0) .null .null (.ref a1) 1), (a1, tN (.ref (E.2.2.2.1 (128 + e1))) (.ref v1) (.ref a0) (.ref a3) .null 1), (a2, tN (.ref (E.2.2.2.1 (128 + e2))) (.ref v2) .null .null (.ref a3) 0), (a3, tN (.ref (E.2.2.2.1 (128 + e3))) (.ref v3) (.ref a2) .null (.ref a1) 1)]) ∨
  (∃ a0 e0 v0 a1 e1 v1 a2 e2 v2 a3 e3 v3, L = [(a0, e0, v0), (a1, e1, v1), (a2, e2, v2), (a3, e3, v3)] ∧ cs = [(t, tM (.ref a1) s m), (a0, tN (.ref (E.2.2.2.1 (128 + e0))) (.ref v0) .null .null (.ref a1) 1), (a1, tN (.ref (E.2.2.2.1 (128 + e1))) (.ref v1) (.ref a0) (.ref a2) .null 1), (a2, tN (.ref (E.2.2.2.1 (128 + e2))) (.ref v2) .null (.ref a3) (.ref a1) 1), (a3, tN (.ref (E.2.2.2.1 (128 + e3))) (.ref v3) .null .null (.ref a2) 0)]) ∨
  (∃ a0 e0 v0 a1 e1 v1 a2 e2 v2, L = [(a0, e0, v0), (a1, e1, v1), (a2, e2, v2)] ∧ cs = [(t, tM (.ref a1) s m), (a0, tN (.ref (E.2.2.2.1 (128 + e0))) (.ref v0) .null .null (.ref a1) 1), (a1, tN (.ref (E.2.2.2.1 (128 + e1))) (.ref v1) (.ref a0) (.ref a2) .null 1), (a2, tN (.ref (E.2.2.2.1 (128 + e2))) (.ref v2) .null .null (.ref a1) 1)])
theorem TSh.c0 {E : zE} {t : Nat} {s m : Int32} : TSh E t s m [] [(t, tM .null s m)] := Or.inl ⟨rfl, rfl⟩
theorem TSh.c1 {E : zE} {t : Nat} {s m : Int32} {a0 e0 v0 : Nat} : TSh E t s m [(a0, e0, v0)] [(t, tM (.ref a0) s m), (a0, tN (.ref (E.2.2.2.1 (128 + e0))) (.ref v0) .null .null .null 1)] := Or.inr (Or.inl ⟨a0, e0, v0, rfl, rfl⟩)
theorem TSh.c2 {E : zE} {t : Nat} {s m : Int32} {a0 e0 v0 a1 e1 v1 : Nat} : TSh E t s m [(a0, e0, v0), (a1, e1, v1)] [(t, tM (.ref a1) s m), (a0, tN (.ref (E.2.2.2.1 (128 + e0))) (.ref v0) .null .null (.ref a1) 0), (a1, tN (.ref (E.2.2.2.1 (128 + e1))) (.ref v1) (.ref a0) .null .null 1)] := Or.inr (Or.inr (Or.inl ⟨a0, e0, v0, a1, e1, v1, rfl, rfl⟩))
theorem TSh.c3 {E : zE} {t : Nat} {s m : Int32} {a0 e0 v0 a1 e1 v1 : Nat} : TSh E t s m [(a0, e0, v0), (a1, e1, v1)] [(t, tM (.ref a0) s m), (a0, tN (.ref (E.2.2.2.1 (128 + e0))) (.ref v0) .null (.ref a1) .null 1), (a1, tN (.ref (E.2.2.2.1 (128 + e1))) (.ref v1) .null .null (.ref a0) 0)] := Or.inr (Or.inr (Or.inr (Or.inl ⟨a0, e0, v0, a1, e1, v1, rfl, rfl⟩)))
theorem TSh.c4 {E : zE} {t : Nat} {s m : Int32} {a0 e0 v0 a1 e1 v1 a2 e2 v2 : Nat} : TSh E t s m [(a0, e0, v0), (a1, e1, v1), (a2, e2, v2)] [(t, tM (.ref a1) s m), (a0, tN (.ref (E.2.2.2.1 (128 + e0))) (.ref v0) .null .null (.ref a1) 0), (a1, tN (.ref (E.2.2.2.1 (128 + e1))) (.ref v1) (.ref a0) (.ref a2) .null 1), (a2, tN (.ref (E.2.2.2.1 (128 + e2))) (.ref v2) .null .null (.ref a1) 0)] := Or.inr (Or.inr (Or.inr (Or.inr (Or.inl ⟨a0, e0, v0, a1, e1, v1, a2, e2, v2, rfl, rfl⟩))))
theorem TSh.c5 {E : zE} {t : Nat} {s m : Int32} {a0 e0 v0 a1 e1 v1 a2 e2 v2 a3 e3 v3 : Nat} : TSh E t s m [(a0, e0, v0), (a1, e1, v1), (a2, e2, v2), (a3, e3, v3)] [(t, tM (.ref a2) s m), (a0, tN (.ref (E.2.2.2.1 (128 + e0))) (.ref v0) .null .null (.ref a1) 0), (a1, tN (.ref (E.2.2.2.1 (128 + e1))) (.ref v1) (.ref a0) .null (.ref a2) 1), (a2, tN (.ref (E.2.2.2.1 (128 + e2))) (.ref v2) (.ref a1) (.ref a3) .null 1), (a3, tN (.ref (E.2.2.2.1 (128 + e3))) (.ref v3) .null .null (.ref a2) 1)] := Or.inr (Or.inr (Or.inr (Or.inr (Or.inr (Or.inl ⟨a0, e0, v0, a1, e1, v1, a2, e2, v2, a3, e3, v3, rfl, rfl⟩)))))
theorem TSh.c6 {E : zE} {t : Nat} {s m : Int32} {a0 e0 v0 a1 e1 v1 a2 e2 v2 a3 e3 v3 : Nat} : TSh E t s m [(a0, e0, v0), (a1, e1, v1), (a2, e2, v2), (a3, e3, v3)] [(t, tM (.ref a2) s m), (a0, tN (.ref (E.2.2.2.1 (128 + e0))) (.ref v0) .null (.ref a1) (.ref a2) 1), (a1, tN (.ref (E.2.2.2.1 (128 + e1))) (.ref v1) .null .null (.ref a0) 0), (a2, tN (.ref (E.2.2.2.1 (128 + e2))) (.ref v2) (.ref a0) (.ref a3) .null 1), (a3, tN (.ref (E.2.2.2.1 (128 + e3))) (.ref v3) .null .null (.ref a2) 1)] := Or.inr (Or.inr (Or.inr (Or.inr (Or.inr (Or.inr (Or.inl ⟨a0, e0, v0, a1, e1, v1, a2, e2, v2, a3, e3, v3, rfl, rfl⟩))))))
theorem TSh.c7 {E : zE} {t : Nat} {s m : Int32} {a0 e0 v0 a1 e1 v1 a2 e2 v2 a3 e3 v3 : Nat} : TSh E t s m [(a0, e0, v0), (a1, e1, v1), (a2, e2, v2), (a3, e3, v3)] [(t, tM (.ref a1) s m), (a0, tN (.ref (E.2.2.2.1 (128 + e0))) (.ref v0) .null .null (.ref a1) 1), (a1, tN (.ref (E.2.2.2.1 (128 + e1))) (.ref v1) (.ref a0) (.ref a3) .null 1), (a2, tN (.ref (E.2.2.2.1 (128 + e2))) (.ref v2) .null .null (.ref a3) 0), (a3, tN (.ref (E.2.2.2.1 (128 + e3))) (.ref v3) (.ref a2) .null (.ref a1) 1)] := Or.inr (Or.inr (Or.inr (Or.inr (Or.inr (Or.inr (Or.inr (Or.inl ⟨a0, e0, v0, a1, e1, v1, a2, e2, v2, a3, e3, v3, rfl, rfl⟩)))))))
theorem TSh.c8 {E : zE} {t : Nat} {s m : Int32} {a0 e0 v0 a1 e1 v1 a2 e2 v2 a3 e3 v3 : Nat} : TSh E t s m [(a0, e0, v0), (a1, e1, v1), (a2, e2, v2), (a3, e3, v3)] [(t, tM (.ref a1) s m), (a0, tN (.ref (E.2.2.2.1 (128 + e0))) (.ref v0) .null .null (.ref a1) 1), (a1, tN (.ref (E.2.2.2.1 (128 + e1))) (.ref v1) (.ref a0) (.ref a2) .null 1), (a2, tN (.ref (E.2.2.2.1 (128 + e2))) (.ref v2) .null (.ref a3) (.ref a1) 1), (a3, tN (.ref (E.2.2.2.1 (128 + e3))) (.ref v3) .null .null (.ref a2) 0)] := Or.inr (Or.inr (Or.inr (Or.inr (Or.inr (Or.inr (Or.inr (Or.inr (Or.inl ⟨a0, e0, v0, a1, e1, v1, a2, e2, v2, a3, e3, v3, rfl, rfl⟩))))))))
theorem TSh.c9 {E : zE} {t : Nat} {s m : Int32} {a0 e0 v0 a1 e1 v1 a2 e2 v2 : Nat} : TSh E t s m [(a0, e0, v0), (a1, e1, v1), (a2, e2, v2)] [(t, tM (.ref a1) s m), (a0, tN (.ref (E.2.2.2.1 (128 + e0))) (.ref v0) .null .null (.ref a1) 1), (a1, tN (.ref (E.2.2.2.1 (128 + e1))) (.ref v1) (.ref a0) (.ref a2) .null 1), (a2, tN (.ref (E.2.2.2.1 (128 + e2))) (.ref v2) .null .null (.ref a1) 1)] := Or.inr (Or.inr (Or.inr (Or.inr (Or.inr (Or.inr (Or.inr (Or.inr (Or.inr (⟨a0, e0, v0, a1, e1, v1, a2, e2, v2, rfl, rfl⟩)))))))))
/-- keys in order, below 4 -/
def TSo : List (Nat × Nat × Nat) → Prop
  | [] => True
  | [q] => q.2.1 < 4
  | q :: q' :: r => q.2.1 < q'.2.1 ∧ TSo (q' :: r)
/-- an entry: its cell is the map's, its key's box the start's, its value's box is nobody's cell -/
def TEn (E : zE) (H : Heap) (t : Nat) (Z : Nat → Prop) (g : Nat → Int32) (q : Nat × Nat × Nat) : Prop :=
  Z q.1 ∧ zOb E E.2.1 (E.2.2.2.1 (128 + q.2.1)) 14 [.int (nI q.2.1)] ∧ ∃ y, y < 1000000 ∧ zOb E H q.2.2 14 [.int (nI y)] ∧ g q.2.1 = nI y ∧ (q.2.2 < zB E ∨ Z q.2.2)
/-- the map t with the entries g (-1: none); its cells lie in Z -/
def TM (E : zE) (H : Heap) (t : Nat) (Z : Nat → Prop) (g : Nat → Int32) : Prop :=
  ∃ (s m : Int32) (L : List (Nat × Nat × Nat)) (cs : List (Nat × va_E)), TSh E t s m L cs ∧ TZ E H H cs ∧ TSo L ∧ (∀ q ∈ L, TEn E H t Z g q ∧ ∀ c ∈ cs, q.2.2 ≠ c.1) ∧ ∀ x, x < 4 → (∀ q ∈ L, q.2.1 ≠ x) → g x = -1
theorem zM.old {E : zE} {d mc ms : Nat} {y : MethodName} {ws : List Cond} {H : Heap} {av : List Value} {P : Option Value → Heap → Prop} {X : String → Heap → Prop} (h : zOld E H → zM E d y ws mc ms H av P X) : zM E d y ws mc ms H av P X := fun l hs ho => h ho l hs ho
theorem TZ.nd {E : zE} {H0 H : Heap} {cs : List (Nat × va_E)} (h : TZ E H0 H cs) : (cs.map Prod.fst).Nodup := by
  refine List.pairwise_iff_getElem.mpr fun i j hi hj hij e => ?_
  rw [List.length_map] at hi hj
  have h1 : cs[i]? = some cs[i] := List.getElem?_eq_getElem hi
  have h2 : cs[j]? = some cs[j] := List.getElem?_eq_getElem hj
  have e2 : cs[i].1 = cs[j].1 := by simpa using e
  have := h.2.1 i j cs[i].1 cs[i].2 cs[j].2 h1 (by rw [h2, e2])
  omega
theorem TZ.of {E : zE} {H : Heap} {cs : List (Nat × va_E)} (h1 : ∀ c ∈ cs, zAt E H c.1 c.2) (h2 : (cs.map Prod.fst).Nodup) : TZ E H H cs := by
  refine ⟨fun i a e hi => h1 (a, e) (List.mem_of_getElem? hi), fun i j a e f hi hj => ?_, Nat.le_refl _, fun _ _ _ => rfl⟩
  have h3 := List.pairwise_iff_getElem.mp h2
  obtain ⟨hil, ei⟩ := List.getElem?_eq_some_iff.mp hi
  obtain ⟨hjl, ej⟩ := List.getElem?_eq_some_iff.mp hj
  rcases Nat.lt_trichotomy i j with q | q | q
  · exact (h3 i j (by rw [List.length_map]; exact hil) (by rw [List.length_map]; exact hjl) q (by rw [List.getElem_map, List.getElem_map, ei, ej])).elim
  · exact q
  · exact (h3 j i (by rw [List.length_map]; exact hjl) (by rw [List.length_map]; exact hil) q (by rw [List.getElem_map, List.getElem_map, ei, ej])).elim
theorem TZ.mem {E : zE} {H0 H : Heap} {cs : List (Nat × va_E)} (h : TZ E H0 H cs) : ∀ c ∈ cs, zAt E H c.1 c.2 := fun c hc => by
  obtain ⟨i, hi⟩ := List.mem_iff_getElem?.mp hc
  exact h.1 i c.1 c.2 hi
theorem TM.mk {E : zE} {H H1 : Heap} {t : Nat} {s m : Int32} {Z : Nat → Prop} {g : Nat → Int32} {L : List (Nat × Nat × Nat)} {csX cs : List (Nat × va_E)} (hz : TZ E H H1 csX) (ix : List Nat) (he : ix.filterMap (fun i => csX[i]?) = cs) (hnd : (cs.map Prod.fst).Nodup) (hsh : TSh E t s m L cs) (hso : TSo L) (hL : ∀ q ∈ L, TEn E H t Z g q ∧ ∀ c ∈ csX, q.2.2 ≠ c.1) (hno : ∀ x, x < 4 → (∀ q ∈ L, q.2.1 ≠ x) → g x = -1) : TM E H1 t Z g := by
  have hsub : ∀ c ∈ cs, c ∈ csX := fun c hc => by
    rw [← he] at hc
    obtain ⟨i, -, hi⟩ := List.mem_filterMap.mp hc
    exact List.mem_of_getElem? hi
  refine ⟨s, m, L, cs, hsh, TZ.of (fun c hc => hz.mem c (hsub c hc)) hnd, hso, fun q hq => ?_, hno⟩
  obtain ⟨⟨h1, h2, y, h3, h4, h5, h6⟩, h7⟩ := hL q hq
  refine ⟨⟨h1, h2, y, h3, h4.kept (hz.2.2.2 _ h4.is.lt (fun hm => ?_)), h5, h6⟩, fun c hc => h7 c (hsub c hc)⟩
  obtain ⟨c, hc, e⟩ := List.mem_map.mp hm
  exact h7 c hc e.symm
theorem TZ.fr {E : zE} {H H1 : Heap} {t : Nat} {Z : Nat → Prop} {cs : List (Nat × va_E)} (hz : TZ E H H1 cs) (hcs : ∀ c ∈ cs, c.1 = t ∨ Z c.1 ∨ H.size ≤ c.1) : ∀ q : Nat, q < H.size → q ≠ t → ¬ Z q → H1[q]? = H[q]? := fun q h1 h2 h3 => hz.2.2.2 q h1 (fun hm => by
  obtain ⟨c, hc, e⟩ := List.mem_map.mp hm
  rcases hcs c hc with z | z | z
  · exact h2 (e.symm.trans z)
  · exact h3 (e ▸ z)
  · omega)
def TMo (E : zE) (H : Heap) (g : Nat → Int32) (x : Nat) (v : Option Value) : Prop := (g x = -1 ∧ v = some .null) ∨ ∃ b y, v = some (.ref b) ∧ zOb E H b 14 [.int (nI y)] ∧ y < 1000000 ∧ g x = nI y
def TMp (E : zE) (H : Heap) (t : Nat) (Z Z' : Nat → Prop) (g g' : Nat → Int32) (x : Nat) : Option Value → Heap → Prop := fun v H1 => TM E H1 t Z' g' ∧ TMo E H1 g x v ∧ H.size ≤ H1.size ∧ ∀ q : Nat, q < H.size → q ≠ t → ¬ Z q → H1[q]? = H[q]?
set_option maxHeartbeats 4000000 in
theorem m_J4_getM {E : zE} {H : Heap} {t x : Nat} {Z : Nat → Prop} {g : Nat → Int32} (h : TM E H t Z g) (hx : x < 4) (hkx : zOb E E.2.1 (E.2.2.2.1 (128 + x)) 14 [.int (nI x)]) : zM E 7 yJ4_get (ws_ yJ4_get cJ4_get 3 (some (.object "java/lang/Object"))) 0 0 H [.ref t, .ref (E.2.2.2.1 (128 + x))] (fun v H1 => H1 = H ∧ TMo E H g x v) zNX := by
  obtain ⟨s, m, L, cs, hsh, hz, hso, hL, hno⟩ := h
  refine zM.old (fun ho => ?_)
  have hxx := hkx.old ho
  rcases hsh with ⟨rfl, rfl⟩ | ⟨a0, e0, v0, rfl, rfl⟩ | ⟨a0, e0, v0, a1, e1, v1, rfl, rfl⟩ | ⟨a0, e0, v0, a1, e1, v1, rfl, rfl⟩ | ⟨a0, e0, v0, a1, e1, v1, a2, e2, v2, rfl, rfl⟩ | ⟨a0, e0, v0, a1, e1, v1, a2, e2, v2, a3, e3, v3, rfl, rfl⟩ | ⟨a0, e0, v0, a1, e1, v1, a2, e2, v2, a3, e3, v3, rfl, rfl⟩ | ⟨a0, e0, v0, a1, e1, v1, a2, e2, v2, a3, e3, v3, rfl, rfl⟩ | ⟨a0, e0, v0, a1, e1, v1, a2, e2, v2, a3, e3, v3, rfl, rfl⟩ | ⟨a0, e0, v0, a1, e1, v1, a2, e2, v2, rfl, rfl⟩
  · have tl : t < H.size := (hz.at 0 rfl).lt
    have tn : zB E ≤ t := (hz.at 0 rfl).new
    have pos : (True) := by trivial
    rcases pos with q
    · exact (t_get_0 hz hxx  (by omega)).mono (fun v H1 ⟨q1, q2⟩ => ⟨q2, Or.inl ⟨hno x hx (fun q hq => nomatch hq), q1⟩⟩)
  · obtain ⟨⟨z0, k0, y0, b0, d0, g0, n0⟩, c0⟩ := hL (a0, e0, v0) (by simp)
    replace z0 : Z a0 := z0
    replace k0 : zOb E E.2.1 (E.2.2.2.1 (128 + e0)) 14 [.int (nI e0)] := k0
    replace d0 : zOb E H v0 14 [.int (nI y0)] := d0
    replace g0 : g e0 = nI y0 := g0
    replace n0 : v0 < zB E ∨ Z v0 := n0
    replace c0 : ∀ c : Nat × va_E, c ∈ _ → v0 ≠ c.1 := c0
    have kk0 := zOb.old k0 ho
    have al0 : a0 < H.size := (hz.at 1 rfl).lt
    have bn0 : zB E ≤ a0 := (hz.at 1 rfl).new
    have tl : t < H.size := (hz.at 0 rfl).lt
    have tn : zB E ≤ t := (hz.at 0 rfl).new
    have so : e0 < 4 := by simpa [TSo] using hso
    have pos : (x < e0) ∨ (x = e0) ∨ (e0 < x) := by omega
    rcases pos with q | q | q
    · exact (t_get_2 hz hxx kk0 (by omega)).mono (fun v H1 ⟨q1, q2⟩ => ⟨q2, Or.inl ⟨hno x hx (fun q hq => by
        simp only [List.mem_cons, List.not_mem_nil, or_false] at hq
        rcases hq with rfl <;> (dsimp only; omega)), q1⟩⟩)
    · subst q
      exact (t_get_1 hz hxx kk0 (by omega)).mono (fun v H1 ⟨q1, q2⟩ => ⟨q2, Or.inr ⟨v0, y0, q1, d0, b0, g0⟩⟩)
    · exact (t_get_3 hz hxx kk0 (by omega)).mono (fun v H1 ⟨q1, q2⟩ => ⟨q2, Or.inl ⟨hno x hx (fun q hq => by
        simp only [List.mem_cons, List.not_mem_nil, or_false] at hq
        rcases hq with rfl <;> (dsimp only; omega)), q1⟩⟩)
  · obtain ⟨⟨z0, k0, y0, b0, d0, g0, n0⟩, c0⟩ := hL (a0, e0, v0) (by simp)
    replace z0 : Z a0 := z0
    replace k0 : zOb E E.2.1 (E.2.2.2.1 (128 + e0)) 14 [.int (nI e0)] := k0
    replace d0 : zOb E H v0 14 [.int (nI y0)] := d0
    replace g0 : g e0 = nI y0 := g0
    replace n0 : v0 < zB E ∨ Z v0 := n0
    replace c0 : ∀ c : Nat × va_E, c ∈ _ → v0 ≠ c.1 := c0
    have kk0 := zOb.old k0 ho
    have al0 : a0 < H.size := (hz.at 1 rfl).lt
    have bn0 : zB E ≤ a0 := (hz.at 1 rfl).new
    obtain ⟨⟨z1, k1, y1, b1, d1, g1, n1⟩, c1⟩ := hL (a1, e1, v1) (by simp)
    replace z1 : Z a1 := z1
    replace k1 : zOb E E.2.1 (E.2.2.2.1 (128 + e1)) 14 [.int (nI e1)] := k1
    replace d1 : zOb E H v1 14 [.int (nI y1)] := d1
    replace g1 : g e1 = nI y1 := g1
    replace n1 : v1 < zB E ∨ Z v1 := n1
    replace c1 : ∀ c : Nat × va_E, c ∈ _ → v1 ≠ c.1 := c1
    have kk1 := zOb.old k1 ho
    have al1 : a1 < H.size := (hz.at 2 rfl).lt
    have bn1 : zB E ≤ a1 := (hz.at 2 rfl).new
    have tl : t < H.size := (hz.at 0 rfl).lt
    have tn : zB E ≤ t := (hz.at 0 rfl).new
    have so : e0 < e1 ∧ e1 < 4 := by simpa [TSo] using hso
    have pos : (x < e0) ∨ (x = e0) ∨ (e0 < x ∧ x < e1) ∨ (x = e1) ∨ (e1 < x) := by omega
    rcases pos with q | q | q | q | q
    · exact (t_get_6 hz hxx kk0 kk1 (by omega)).mono (fun v H1 ⟨q1, q2⟩ => ⟨q2, Or.inl ⟨hno x hx (fun q hq => by
        simp only [List.mem_cons, List.not_mem_nil, or_false] at hq
        rcases hq with rfl | rfl <;> (dsimp only; omega)), q1⟩⟩)
    · subst q
      exact (t_get_4 hz hxx kk0 kk1 (by omega)).mono (fun v H1 ⟨q1, q2⟩ => ⟨q2, Or.inr ⟨v0, y0, q1, d0, b0, g0⟩⟩)
    · exact (t_get_7 hz hxx kk0 kk1 (by omega)).mono (fun v H1 ⟨q1, q2⟩ => ⟨q2, Or.inl ⟨hno x hx (fun q hq => by
        simp only [List.mem_cons, List.not_mem_nil, or_false] at hq
        rcases hq with rfl | rfl <;> (dsimp only; omega)), q1⟩⟩)
    · subst q
      exact (t_get_5 hz hxx kk0 kk1 (by omega)).mono (fun v H1 ⟨q1, q2⟩ => ⟨q2, Or.inr ⟨v1, y1, q1, d1, b1, g1⟩⟩)
    · exact (t_get_8 hz hxx kk0 kk1 (by omega)).mono (fun v H1 ⟨q1, q2⟩ => ⟨q2, Or.inl ⟨hno x hx (fun q hq => by
        simp only [List.mem_cons, List.not_mem_nil, or_false] at hq
        rcases hq with rfl | rfl <;> (dsimp only; omega)), q1⟩⟩)
  · obtain ⟨⟨z0, k0, y0, b0, d0, g0, n0⟩, c0⟩ := hL (a0, e0, v0) (by simp)
    replace z0 : Z a0 := z0
    replace k0 : zOb E E.2.1 (E.2.2.2.1 (128 + e0)) 14 [.int (nI e0)] := k0
    replace d0 : zOb E H v0 14 [.int (nI y0)] := d0
    replace g0 : g e0 = nI y0 := g0
    replace n0 : v0 < zB E ∨ Z v0 := n0
    replace c0 : ∀ c : Nat × va_E, c ∈ _ → v0 ≠ c.1 := c0
    have kk0 := zOb.old k0 ho
    have al0 : a0 < H.size := (hz.at 1 rfl).lt
    have bn0 : zB E ≤ a0 := (hz.at 1 rfl).new
    obtain ⟨⟨z1, k1, y1, b1, d1, g1, n1⟩, c1⟩ := hL (a1, e1, v1) (by simp)
    replace z1 : Z a1 := z1
    replace k1 : zOb E E.2.1 (E.2.2.2.1 (128 + e1)) 14 [.int (nI e1)] := k1
    replace d1 : zOb E H v1 14 [.int (nI y1)] := d1
    replace g1 : g e1 = nI y1 := g1
    replace n1 : v1 < zB E ∨ Z v1 := n1
    replace c1 : ∀ c : Nat × va_E, c ∈ _ → v1 ≠ c.1 := c1
    have kk1 := zOb.old k1 ho
    have al1 : a1 < H.size := (hz.at 2 rfl).lt
    have bn1 : zB E ≤ a1 := (hz.at 2 rfl).new
    have tl : t < H.size := (hz.at 0 rfl).lt
    have tn : zB E ≤ t := (hz.at 0 rfl).new
    have so : e0 < e1 ∧ e1 < 4 := by simpa [TSo] using hso
    have pos : (x < e0) ∨ (x = e0) ∨ (e0 < x ∧ x < e1) ∨ (x = e1) ∨ (e1 < x) := by omega
    rcases pos with q | q | q | q | q
    · exact (t_get_11 hz hxx kk0 kk1 (by omega)).mono (fun v H1 ⟨q1, q2⟩ => ⟨q2, Or.inl ⟨hno x hx (fun q hq => by
        simp only [List.mem_cons, List.not_mem_nil, or_false] at hq
        rcases hq with rfl | rfl <;> (dsimp only; omega)), q1⟩⟩)
    · subst q
      exact (t_get_9 hz hxx kk0 kk1 (by omega)).mono (fun v H1 ⟨q1, q2⟩ => ⟨q2, Or.inr ⟨v0, y0, q1, d0, b0, g0⟩⟩)
    · exact (t_get_12 hz hxx kk0 kk1 (by omega)).mono (fun v H1 ⟨q1, q2⟩ => ⟨q2, Or.inl ⟨hno x hx (fun q hq => by
        simp only [List.mem_cons, List.not_mem_nil, or_false] at hq
        rcases hq with rfl | rfl <;> (dsimp only; omega)), q1⟩⟩)
    · subst q
      exact (t_get_10 hz hxx kk0 kk1 (by omega)).mono (fun v H1 ⟨q1, q2⟩ => ⟨q2, Or.inr ⟨v1, y1, q1, d1, b1, g1⟩⟩)
    · exact (t_get_13 hz hxx kk0 kk1 (by omega)).mono (fun v H1 ⟨q1, q2⟩ => ⟨q2, Or.inl ⟨hno x hx (fun q hq => by
        simp only [List.mem_cons, List.not_mem_nil, or_false] at hq
        rcases hq with rfl | rfl <;> (dsimp only; omega)), q1⟩⟩)
  · obtain ⟨⟨z0, k0, y0, b0, d0, g0, n0⟩, c0⟩ := hL (a0, e0, v0) (by simp)
    replace z0 : Z a0 := z0
    replace k0 : zOb E E.2.1 (E.2.2.2.1 (128 + e0)) 14 [.int (nI e0)] := k0
    replace d0 : zOb E H v0 14 [.int (nI y0)] := d0
    replace g0 : g e0 = nI y0 := g0
    replace n0 : v0 < zB E ∨ Z v0 := n0
    replace c0 : ∀ c : Nat × va_E, c ∈ _ → v0 ≠ c.1 := c0
    have kk0 := zOb.old k0 ho
    have al0 : a0 < H.size := (hz.at 1 rfl).lt
    have bn0 : zB E ≤ a0 := (hz.at 1 rfl).new
    obtain ⟨⟨z1, k1, y1, b1, d1, g1, n1⟩, c1⟩ := hL (a1, e1, v1) (by simp)
    replace z1 : Z a1 := z1
    replace k1 : zOb E E.2.1 (E.2.2.2.1 (128 + e1)) 14 [.int (nI e1)] := k1
    replace d1 : zOb E H v1 14 [.int (nI y1)] := d1
    replace g1 : g e1 = nI y1 := g1
    replace n1 : v1 < zB E ∨ Z v1 := n1
    replace c1 : ∀ c : Nat × va_E, c ∈ _ → v1 ≠ c.1 := c1
    have kk1 := zOb.old k1 ho
    have al1 : a1 < H.size := (hz.at 2 rfl).lt
    have bn1 : zB E ≤ a1 := (hz.at 2 rfl).new
    obtain ⟨⟨z2, k2, y2, b2, d2, g2, n2⟩, c2⟩ := hL (a2, e2, v2) (by simp)
    replace z2 : Z a2 := z2
    replace k2 : zOb E E.2.1 (E.2.2.2.1 (128 + e2)) 14 [.int (nI e2)] := k2
    replace d2 : zOb E H v2 14 [.int (nI y2)] := d2
    replace g2 : g e2 = nI y2 := g2
    replace n2 : v2 < zB E ∨ Z v2 := n2
    replace c2 : ∀ c : Nat × va_E, c ∈ _ → v2 ≠ c.1 := c2
    have kk2 := zOb.old k2 ho
    have al2 : a2 < H.size := (hz.at 3 rfl).lt
    have bn2 : zB E ≤ a2 := (hz.at 3 rfl).new
    have tl : t < H.size := (hz.at 0 rfl).lt
    have tn : zB E ≤ t := (hz.at 0 rfl).new
    have so : e0 < e1 ∧ e1 < e2 ∧ e2 < 4 := by simpa [TSo] using hso
    have pos : (x < e0) ∨ (x = e0) ∨ (e0 < x ∧ x < e1) ∨ (x = e1) ∨ (e1 < x ∧ x < e2) ∨ (x = e2) ∨ (e2 < x) := by omega
    rcases pos with q | q | q | q | q | q | q
    · exact (t_get_17 hz hxx kk0 kk1 kk2 (by omega)).mono (fun v H1 ⟨q1, q2⟩ => ⟨q2, Or.inl ⟨hno x hx (fun q hq => by
        simp only [List.mem_cons, List.not_mem_nil, or_false] at hq
        rcases hq with rfl | rfl | rfl <;> (dsimp only; omega)), q1⟩⟩)
    · subst q
      exact (t_get_14 hz hxx kk0 kk1 kk2 (by omega)).mono (fun v H1 ⟨q1, q2⟩ => ⟨q2, Or.inr ⟨v0, y0, q1, d0, b0, g0⟩⟩)
    · exact (t_get_18 hz hxx kk0 kk1 kk2 (by omega)).mono (fun v H1 ⟨q1, q2⟩ => ⟨q2, Or.inl ⟨hno x hx (fun q hq => by
        simp only [List.mem_cons, List.not_mem_nil, or_false] at hq
        rcases hq with rfl | rfl | rfl <;> (dsimp only; omega)), q1⟩⟩)
    · subst q
      exact (t_get_15 hz hxx kk0 kk1 kk2 (by omega)).mono (fun v H1 ⟨q1, q2⟩ => ⟨q2, Or.inr ⟨v1, y1, q1, d1, b1, g1⟩⟩)
    · exact (t_get_19 hz hxx kk0 kk1 kk2 (by omega)).mono (fun v H1 ⟨q1, q2⟩ => ⟨q2, Or.inl ⟨hno x hx (fun q hq => by
        simp only [List.mem_cons, List.not_mem_nil, or_false] at hq
        rcases hq with rfl | rfl | rfl <;> (dsimp only; omega)), q1⟩⟩)
    · subst q
      exact (t_get_16 hz hxx kk0 kk1 kk2 (by omega)).mono (fun v H1 ⟨q1, q2⟩ => ⟨q2, Or.inr ⟨v2, y2, q1, d2, b2, g2⟩⟩)
    · exact (t_get_20 hz hxx kk0 kk1 kk2 (by omega)).mono (fun v H1 ⟨q1, q2⟩ => ⟨q2, Or.inl ⟨hno x hx (fun q hq => by
        simp only [List.mem_cons, List.not_mem_nil, or_false] at hq
        rcases hq with rfl | rfl | rfl <;> (dsimp only; omega)), q1⟩⟩)
  · obtain ⟨⟨z0, k0, y0, b0, d0, g0, n0⟩, c0⟩ := hL (a0, e0, v0) (by simp)
    replace z0 : Z a0 := z0
    replace k0 : zOb E E.2.1 (E.2.2.2.1 (128 + e0)) 14 [.int (nI e0)] := k0
    replace d0 : zOb E H v0 14 [.int (nI y0)] := d0
    replace g0 : g e0 = nI y0 := g0
    replace n0 : v0 < zB E ∨ Z v0 := n0
    replace c0 : ∀ c : Nat × va_E, c ∈ _ → v0 ≠ c.1 := c0
    have kk0 := zOb.old k0 ho
    have al0 : a0 < H.size := (hz.at 1 rfl).lt
    have bn0 : zB E ≤ a0 := (hz.at 1 rfl).new
    obtain ⟨⟨z1, k1, y1, b1, d1, g1, n1⟩, c1⟩ := hL (a1, e1, v1) (by simp)
    replace z1 : Z a1 := z1
    replace k1 : zOb E E.2.1 (E.2.2.2.1 (128 + e1)) 14 [.int (nI e1)] := k1
    replace d1 : zOb E H v1 14 [.int (nI y1)] := d1
    replace g1 : g e1 = nI y1 := g1
    replace n1 : v1 < zB E ∨ Z v1 := n1
    replace c1 : ∀ c : Nat × va_E, c ∈ _ → v1 ≠ c.1 := c1
    have kk1 := zOb.old k1 ho
    have al1 : a1 < H.size := (hz.at 2 rfl).lt
    have bn1 : zB E ≤ a1 := (hz.at 2 rfl).new
    obtain ⟨⟨z2, k2, y2, b2, d2, g2, n2⟩, c2⟩ := hL (a2, e2, v2) (by simp)
    replace z2 : Z a2 := z2
    replace k2 : zOb E E.2.1 (E.2.2.2.1 (128 + e2)) 14 [.int (nI e2)] := k2
    replace d2 : zOb E H v2 14 [.int (nI y2)] := d2
    replace g2 : g e2 = nI y2 := g2
    replace n2 : v2 < zB E ∨ Z v2 := n2
    replace c2 : ∀ c : Nat × va_E, c ∈ _ → v2 ≠ c.1 := c2
    have kk2 := zOb.old k2 ho
    have al2 : a2 < H.size := (hz.at 3 rfl).lt
    have bn2 : zB E ≤ a2 := (hz.at 3 rfl).new
    obtain ⟨⟨z3, k3, y3, b3, d3, g3, n3⟩, c3⟩ := hL (a3, e3, v3) (by simp)
    replace z3 : Z a3 := z3
    replace k3 : zOb E E.2.1 (E.2.2.2.1 (128 + e3)) 14 [.int (nI e3)] := k3
    replace d3 : zOb E H v3 14 [.int (nI y3)] := d3
    replace g3 : g e3 = nI y3 := g3
    replace n3 : v3 < zB E ∨ Z v3 := n3
    replace c3 : ∀ c : Nat × va_E, c ∈ _ → v3 ≠ c.1 := c3
    have kk3 := zOb.old k3 ho
    have al3 : a3 < H.size := (hz.at 4 rfl).lt
    have bn3 : zB E ≤ a3 := (hz.at 4 rfl).new
    have tl : t < H.size := (hz.at 0 rfl).lt
    have tn : zB E ≤ t := (hz.at 0 rfl).new
    have so : e0 < e1 ∧ e1 < e2 ∧ e2 < e3 ∧ e3 < 4 := by simpa [TSo] using hso
    have pos : (x < e0) ∨ (x = e0) ∨ (e0 < x ∧ x < e1) ∨ (x = e1) ∨ (e1 < x ∧ x < e2) ∨ (x = e2) ∨ (e2 < x ∧ x < e3) ∨ (x = e3) ∨ (e3 < x) := by omega
    rcases pos with q | q | q | q | q | q | q | q | q
    · exact (t_get_25 hz hxx kk0 kk1 kk2 kk3 (by omega)).mono (fun v H1 ⟨q1, q2⟩ => ⟨q2, Or.inl ⟨hno x hx (fun q hq => by
        simp only [List.mem_cons, List.not_mem_nil, or_false] at hq
        rcases hq with rfl | rfl | rfl | rfl <;> (dsimp only; omega)), q1⟩⟩)
    · subst q
      exact (t_get_21 hz hxx kk0 kk1 kk2 kk3 (by omega)).mono (fun v H1 ⟨q1, q2⟩ => ⟨q2, Or.inr ⟨v0, y0, q1, d0, b0, g0⟩⟩)
    · exact (t_get_26 hz hxx kk0 kk1 kk2 kk3 (by omega)).mono (fun v H1 ⟨q1, q2⟩ => ⟨q2, Or.inl ⟨hno x hx (fun q hq => by
        simp only [List.mem_cons, List.not_mem_nil, or_false] at hq
        rcases hq with rfl | rfl | rfl | rfl <;> (dsimp only; omega)), q1⟩⟩)
    · subst q
      exact (t_get_22 hz hxx kk0 kk1 kk2 kk3 (by omega)).mono (fun v H1 ⟨q1, q2⟩ => ⟨q2, Or.inr ⟨v1, y1, q1, d1, b1, g1⟩⟩)
    · exact (t_get_27 hz hxx kk0 kk1 kk2 kk3 (by omega)).mono (fun v H1 ⟨q1, q2⟩ => ⟨q2, Or.inl ⟨hno x hx (fun q hq => by
        simp only [List.mem_cons, List.not_mem_nil, or_false] at hq
        rcases hq with rfl | rfl | rfl | rfl <;> (dsimp only; omega)), q1⟩⟩)
    · subst q
      exact (t_get_23 hz hxx kk0 kk1 kk2 kk3 (by omega)).mono (fun v H1 ⟨q1, q2⟩ => ⟨q2, Or.inr ⟨v2, y2, q1, d2, b2, g2⟩⟩)
    · exact (t_get_28 hz hxx kk0 kk1 kk2 kk3 (by omega)).mono (fun v H1 ⟨q1, q2⟩ => ⟨q2, Or.inl ⟨hno x hx (fun q hq => by
        simp only [List.mem_cons, List.not_mem_nil, or_false] at hq
        rcases hq with rfl | rfl | rfl | rfl <;> (dsimp only; omega)), q1⟩⟩)
    · subst q
      exact (t_get_24 hz hxx kk0 kk1 kk2 kk3 (by omega)).mono (fun v H1 ⟨q1, q2⟩ => ⟨q2, Or.inr ⟨v3, y3, q1, d3, b3, g3⟩⟩)
    · exact (t_get_29 hz hxx kk0 kk1 kk2 kk3 (by omega)).mono (fun v H1 ⟨q1, q2⟩ => ⟨q2, Or.inl ⟨hno x hx (fun q hq => by
        simp only [List.mem_cons, List.not_mem_nil, or_false] at hq
        rcases hq with rfl | rfl | rfl | rfl <;> (dsimp only; omega)), q1⟩⟩)
  · obtain ⟨⟨z0, k0, y0, b0, d0, g0, n0⟩, c0⟩ := hL (a0, e0, v0) (by simp)
    replace z0 : Z a0 := z0
    replace k0 : zOb E E.2.1 (E.2.2.2.1 (128 + e0)) 14 [.int (nI e0)] := k0
    replace d0 : zOb E H v0 14 [.int (nI y0)] := d0
    replace g0 : g e0 = nI y0 := g0
    replace n0 : v0 < zB E ∨ Z v0 := n0
    replace c0 : ∀ c : Nat × va_E, c ∈ _ → v0 ≠ c.1 := c0
    have kk0 := zOb.old k0 ho
    have al0 : a0 < H.size := (hz.at 1 rfl).lt
    have bn0 : zB E ≤ a0 := (hz.at 1 rfl).new
    obtain ⟨⟨z1, k1, y1, b1, d1, g1, n1⟩, c1⟩ := hL (a1, e1, v1) (by simp)
    replace z1 : Z a1 := z1
    replace k1 : zOb E E.2.1 (E.2.2.2.1 (128 + e1)) 14 [.int (nI e1)] := k1
    replace d1 : zOb E H v1 14 [.int (nI y1)] := d1
    replace g1 : g e1 = nI y1 := g1
    replace n1 : v1 < zB E ∨ Z v1 := n1
    replace c1 : ∀ c : Nat × va_E, c ∈ _ → v1 ≠ c.1 := c1
    have kk1 := zOb.old k1 ho
    have al1 : a1 < H.size := (hz.at 2 rfl).lt
    have bn1 : zB E ≤ a1 := (hz.at 2 rfl).new
    obtain ⟨⟨z2, k2, y2, b2, d2, g2, n2⟩, c2⟩ := hL (a2, e2, v2) (by simp)
    replace z2 : Z a2 := z2
    replace k2 : zOb E E.2.1 (E.2.2.2.1 (128 + e2)) 14 [.int (nI e2)] := k2
    replace d2 : zOb E H v2 14 [.int (nI y2)] := d2
    replace g2 : g e2 = nI y2 := g2
    replace n2 : v2 < zB E ∨ Z v2 := n2
    replace c2 : ∀ c : Nat × va_E, c ∈ _ → v2 ≠ c.1 := c2
    have kk2 := zOb.old k2 ho
    have al2 : a2 < H.size := (hz.at 3 rfl).lt
    have bn2 : zB E ≤ a2 := (hz.at 3 rfl).new
    obtain ⟨⟨z3, k3, y3, b3, d3, g3, n3⟩, c3⟩ := hL (a3, e3, v3) (by simp)
    replace z3 : Z a3 := z3
    replace k3 : zOb E E.2.1 (E.2.2.2.1 (128 + e3)) 14 [.int (nI e3)] := k3
    replace d3 : zOb E H v3 14 [.int (nI y3)] := d3
    replace g3 : g e3 = nI y3 := g3
    replace n3 : v3 < zB E ∨ Z v3 := n3
    replace c3 : ∀ c : Nat × va_E, c ∈ _ → v3 ≠ c.1 := c3
    have kk3 := zOb.old k3 ho
    have al3 : a3 < H.size := (hz.at 4 rfl).lt
    have bn3 : zB E ≤ a3 := (hz.at 4 rfl).new
    have tl : t < H.size := (hz.at 0 rfl).lt
    have tn : zB E ≤ t := (hz.at 0 rfl).new
    have so : e0 < e1 ∧ e1 < e2 ∧ e2 < e3 ∧ e3 < 4 := by simpa [TSo] using hso
    have pos : (x < e0) ∨ (x = e0) ∨ (e0 < x ∧ x < e1) ∨ (x = e1) ∨ (e1 < x ∧ x < e2) ∨ (x = e2) ∨ (e2 < x ∧ x < e3) ∨ (x = e3) ∨ (e3 < x) := by omega
    rcases pos with q | q | q | q | q | q | q | q | q
    · exact (t_get_34 hz hxx kk0 kk1 kk2 kk3 (by omega)).mono (fun v H1 ⟨q1, q2⟩ => ⟨q2, Or.inl ⟨hno x hx (fun q hq => by
        simp only [List.mem_cons, List.not_mem_nil, or_false] at hq
        rcases hq with rfl | rfl | rfl | rfl <;> (dsimp only; omega)), q1⟩⟩)
    · subst q
      exact (t_get_30 hz hxx kk0 kk1 kk2 kk3 (by omega)).mono (fun v H1 ⟨q1, q2⟩ => ⟨q2, Or.inr ⟨v0, y0, q1, d0, b0, g0⟩⟩)
    · exact (t_get_35 hz hxx kk0 kk1 kk2 kk3 (by omega)).mono (fun v H1 ⟨q1, q2⟩ => ⟨q2, Or.inl ⟨hno x hx (fun q hq => by
        simp only [List.mem_cons, List.not_mem_nil, or_false] at hq
        rcases hq with rfl | rfl | rfl | rfl <;> (dsimp only; omega)), q1⟩⟩)
    · subst q
      exact (t_get_31 hz hxx kk0 kk1 kk2 kk3 (by omega)).mono (fun v H1 ⟨q1, q2⟩ => ⟨q2, Or.inr ⟨v1, y1, q1, d1, b1, g1⟩⟩)
    · exact (t_get_36 hz hxx kk0 kk1 kk2 kk3 (by omega)).mono (fun v H1 ⟨q1, q2⟩ => ⟨q2, Or.inl ⟨hno x hx (fun q hq => by
        simp only [List.mem_cons, List.not_mem_nil, or_false] at hq
        rcases hq with rfl | rfl | rfl | rfl <;> (dsimp only; omega)), q1⟩⟩)
    · subst q
      exact (t_get_32 hz hxx kk0 kk1 kk2 kk3 (by omega)).mono (fun v H1 ⟨q1, q2⟩ => ⟨q2, Or.inr ⟨v2, y2, q1, d2, b2, g2⟩⟩)
    · exact (t_get_37 hz hxx kk0 kk1 kk2 kk3 (by omega)).mono (fun v H1 ⟨q1, q2⟩ => ⟨q2, Or.inl ⟨hno x hx (fun q hq => by
        simp only [List.mem_cons, List.not_mem_nil, or_false] at hq
        rcases hq with rfl | rfl | rfl | rfl <;> (dsimp only; omega)), q1⟩⟩)
    · subst q
      exact (t_get_33 hz hxx kk0 kk1 kk2 kk3 (by omega)).mono (fun v H1 ⟨q1, q2⟩ => ⟨q2, Or.inr ⟨v3, y3, q1, d3, b3, g3⟩⟩)
    · exact (t_get_38 hz hxx kk0 kk1 kk2 kk3 (by omega)).mono (fun v H1 ⟨q1, q2⟩ => ⟨q2, Or.inl ⟨hno x hx (fun q hq => by
        simp only [List.mem_cons, List.not_mem_nil, or_false] at hq
        rcases hq with rfl | rfl | rfl | rfl <;> (dsimp only; omega)), q1⟩⟩)
  · obtain ⟨⟨z0, k0, y0, b0, d0, g0, n0⟩, c0⟩ := hL (a0, e0, v0) (by simp)
    replace z0 : Z a0 := z0
    replace k0 : zOb E E.2.1 (E.2.2.2.1 (128 + e0)) 14 [.int (nI e0)] := k0
    replace d0 : zOb E H v0 14 [.int (nI y0)] := d0
    replace g0 : g e0 = nI y0 := g0
    replace n0 : v0 < zB E ∨ Z v0 := n0
    replace c0 : ∀ c : Nat × va_E, c ∈ _ → v0 ≠ c.1 := c0
    have kk0 := zOb.old k0 ho
    have al0 : a0 < H.size := (hz.at 1 rfl).lt
    have bn0 : zB E ≤ a0 := (hz.at 1 rfl).new
    obtain ⟨⟨z1, k1, y1, b1, d1, g1, n1⟩, c1⟩ := hL (a1, e1, v1) (by simp)
    replace z1 : Z a1 := z1
    replace k1 : zOb E E.2.1 (E.2.2.2.1 (128 + e1)) 14 [.int (nI e1)] := k1
    replace d1 : zOb E H v1 14 [.int (nI y1)] := d1
    replace g1 : g e1 = nI y1 := g1
    replace n1 : v1 < zB E ∨ Z v1 := n1
    replace c1 : ∀ c : Nat × va_E, c ∈ _ → v1 ≠ c.1 := c1
    have kk1 := zOb.old k1 ho
    have al1 : a1 < H.size := (hz.at 2 rfl).lt
    have bn1 : zB E ≤ a1 := (hz.at 2 rfl).new
    obtain ⟨⟨z2, k2, y2, b2, d2, g2, n2⟩, c2⟩ := hL (a2, e2, v2) (by simp)
    replace z2 : Z a2 := z2
    replace k2 : zOb E E.2.1 (E.2.2.2.1 (128 + e2)) 14 [.int (nI e2)] := k2
    replace d2 : zOb E H v2 14 [.int (nI y2)] := d2
    replace g2 : g e2 = nI y2 := g2
    replace n2 : v2 < zB E ∨ Z v2 := n2
    replace c2 : ∀ c : Nat × va_E, c ∈ _ → v2 ≠ c.1 := c2
    have kk2 := zOb.old k2 ho
    have al2 : a2 < H.size := (hz.at 3 rfl).lt
    have bn2 : zB E ≤ a2 := (hz.at 3 rfl).new
    obtain ⟨⟨z3, k3, y3, b3, d3, g3, n3⟩, c3⟩ := hL (a3, e3, v3) (by simp)
    replace z3 : Z a3 := z3
    replace k3 : zOb E E.2.1 (E.2.2.2.1 (128 + e3)) 14 [.int (nI e3)] := k3
    replace d3 : zOb E H v3 14 [.int (nI y3)] := d3
    replace g3 : g e3 = nI y3 := g3
    replace n3 : v3 < zB E ∨ Z v3 := n3
    replace c3 : ∀ c : Nat × va_E, c ∈ _ → v3 ≠ c.1 := c3
    have kk3 := zOb.old k3 ho
    have al3 : a3 < H.size := (hz.at 4 rfl).lt
    have bn3 : zB E ≤ a3 := (hz.at 4 rfl).new
    have tl : t < H.size := (hz.at 0 rfl).lt
    have tn : zB E ≤ t := (hz.at 0 rfl).new
    have so : e0 < e1 ∧ e1 < e2 ∧ e2 < e3 ∧ e3 < 4 := by simpa [TSo] using hso
    have pos : (x < e0) ∨ (x = e0) ∨ (e0 < x ∧ x < e1) ∨ (x = e1) ∨ (e1 < x ∧ x < e2) ∨ (x = e2) ∨ (e2 < x ∧ x < e3) ∨ (x = e3) ∨ (e3 < x) := by omega
    rcases pos with q | q | q | q | q | q | q | q | q
    · exact (t_get_43 hz hxx kk0 kk1 kk2 kk3 (by omega)).mono (fun v H1 ⟨q1, q2⟩ => ⟨q2, Or.inl ⟨hno x hx (fun q hq => by
        simp only [List.mem_cons, List.not_mem_nil, or_false] at hq
        rcases hq with rfl | rfl | rfl | rfl <;> (dsimp only; omega)), q1⟩⟩)
    · subst q
      exact (t_get_39 hz hxx kk0 kk1 kk2 kk3 (by omega)).mono (fun v H1 ⟨q1, q2⟩ => ⟨q2, Or.inr ⟨v0, y0, q1, d0, b0, g0⟩⟩)
    · exact (t_get_44 hz hxx kk0 kk1 kk2 kk3 (by omega)).mono (fun v H1 ⟨q1, q2⟩ => ⟨q2, Or.inl ⟨hno x hx (fun q hq => by
        simp only [List.mem_cons, List.not_mem_nil, or_false] at hq
        rcases hq with rfl | rfl | rfl | rfl <;> (dsimp only; omega)), q1⟩⟩)
    · subst q
      exact (t_get_40 hz hxx kk0 kk1 kk2 kk3 (by omega)).mono (fun v H1 ⟨q1, q2⟩ => ⟨q2, Or.inr ⟨v1, y1, q1, d1, b1, g1⟩⟩)
    · exact (t_get_45 hz hxx kk0 kk1 kk2 kk3 (by omega)).mono (fun v H1 ⟨q1, q2⟩ => ⟨q2, Or.inl ⟨hno x hx (fun q hq => by
        simp only [List.mem_cons, List.not_mem_nil, or_false] at hq
        rcases hq with rfl | rfl | rfl | rfl <;> (dsimp only; omega)), q1⟩⟩)
    · subst q
      exact (t_get_41 hz hxx kk0 kk1 kk2 kk3 (by omega)).mono (fun v H1 ⟨q1, q2⟩ => ⟨q2, Or.inr ⟨v2, y2, q1, d2, b2, g2⟩⟩)
    · exact (t_get_46 hz hxx kk0 kk1 kk2 kk3 (by omega)).mono (fun v H1 ⟨q1, q2⟩ => ⟨q2, Or.inl ⟨hno x hx (fun q hq => by
        simp only [List.mem_cons, List.not_mem_nil, or_false] at hq
        rcases hq with rfl | rfl | rfl | rfl <;> (dsimp only; omega)), q1⟩⟩)
    · subst q
      exact (t_get_42 hz hxx kk0 kk1 kk2 kk3 (by omega)).mono (fun v H1 ⟨q1, q2⟩ => ⟨q2, Or.inr ⟨v3, y3, q1, d3, b3, g3⟩⟩)
    · exact (t_get_47 hz hxx kk0 kk1 kk2 kk3 (by omega)).mono (fun v H1 ⟨q1, q2⟩ => ⟨q2, Or.inl ⟨hno x hx (fun q hq => by
        simp only [List.mem_cons, List.not_mem_nil, or_false] at hq
        rcases hq with rfl | rfl | rfl | rfl <;> (dsimp only; omega)), q1⟩⟩)
  · obtain ⟨⟨z0, k0, y0, b0, d0, g0, n0⟩, c0⟩ := hL (a0, e0, v0) (by simp)
    replace z0 : Z a0 := z0
    replace k0 : zOb E E.2.1 (E.2.2.2.1 (128 + e0)) 14 [.int (nI e0)] := k0
    replace d0 : zOb E H v0 14 [.int (nI y0)] := d0
    replace g0 : g e0 = nI y0 := g0
    replace n0 : v0 < zB E ∨ Z v0 := n0
    replace c0 : ∀ c : Nat × va_E, c ∈ _ → v0 ≠ c.1 := c0
    have kk0 := zOb.old k0 ho
    have al0 : a0 < H.size := (hz.at 1 rfl).lt
    have bn0 : zB E ≤ a0 := (hz.at 1 rfl).new
    obtain ⟨⟨z1, k1, y1, b1, d1, g1, n1⟩, c1⟩ := hL (a1, e1, v1) (by simp)
    replace z1 : Z a1 := z1
    replace k1 : zOb E E.2.1 (E.2.2.2.1 (128 + e1)) 14 [.int (nI e1)] := k1
    replace d1 : zOb E H v1 14 [.int (nI y1)] := d1
    replace g1 : g e1 = nI y1 := g1
    replace n1 : v1 < zB E ∨ Z v1 := n1
    replace c1 : ∀ c : Nat × va_E, c ∈ _ → v1 ≠ c.1 := c1
    have kk1 := zOb.old k1 ho
    have al1 : a1 < H.size := (hz.at 2 rfl).lt
    have bn1 : zB E ≤ a1 := (hz.at 2 rfl).new
    obtain ⟨⟨z2, k2, y2, b2, d2, g2, n2⟩, c2⟩ := hL (a2, e2, v2) (by simp)
    replace z2 : Z a2 := z2
    replace k2 : zOb E E.2.1 (E.2.2.2.1 (128 + e2)) 14 [.int (nI e2)] := k2
    replace d2 : zOb E H v2 14 [.int (nI y2)] := d2
    replace g2 : g e2 = nI y2 := g2
    replace n2 : v2 < zB E ∨ Z v2 := n2
    replace c2 : ∀ c : Nat × va_E, c ∈ _ → v2 ≠ c.1 := c2
    have kk2 := zOb.old k2 ho
    have al2 : a2 < H.size := (hz.at 3 rfl).lt
    have bn2 : zB E ≤ a2 := (hz.at 3 rfl).new
    obtain ⟨⟨z3, k3, y3, b3, d3, g3, n3⟩, c3⟩ := hL (a3, e3, v3) (by simp)
    replace z3 : Z a3 := z3
    replace k3 : zOb E E.2.1 (E.2.2.2.1 (128 + e3)) 14 [.int (nI e3)] := k3
    replace d3 : zOb E H v3 14 [.int (nI y3)] := d3
    replace g3 : g e3 = nI y3 := g3
    replace n3 : v3 < zB E ∨ Z v3 := n3
    replace c3 : ∀ c : Nat × va_E, c ∈ _ → v3 ≠ c.1 := c3
    have kk3 := zOb.old k3 ho
    have al3 : a3 < H.size := (hz.at 4 rfl).lt
    have bn3 : zB E ≤ a3 := (hz.at 4 rfl).new
    have tl : t < H.size := (hz.at 0 rfl).lt
    have tn : zB E ≤ t := (hz.at 0 rfl).new
    have so : e0 < e1 ∧ e1 < e2 ∧ e2 < e3 ∧ e3 < 4 := by simpa [TSo] using hso
    have pos : (x < e0) ∨ (x = e0) ∨ (e0 < x ∧ x < e1) ∨ (x = e1) ∨ (e1 < x ∧ x < e2) ∨ (x = e2) ∨ (e2 < x ∧ x < e3) ∨ (x = e3) ∨ (e3 < x) := by omega
    rcases pos with q | q | q | q | q | q | q | q | q
    · exact (t_get_52 hz hxx kk0 kk1 kk2 kk3 (by omega)).mono (fun v H1 ⟨q1, q2⟩ => ⟨q2, Or.inl ⟨hno x hx (fun q hq => by
        simp only [List.mem_cons, List.not_mem_nil, or_false] at hq
        rcases hq with rfl | rfl | rfl | rfl <;> (dsimp only; omega)), q1⟩⟩)
    · subst q
      exact (t_get_48 hz hxx kk0 kk1 kk2 kk3 (by omega)).mono (fun v H1 ⟨q1, q2⟩ => ⟨q2, Or.inr ⟨v0, y0, q1, d0, b0, g0⟩⟩)
    · exact (t_get_53 hz hxx kk0 kk1 kk2 kk3 (by omega)).mono (fun v H1 ⟨q1, q2⟩ => ⟨q2, Or.inl ⟨hno x hx (fun q hq => by
        simp only [List.mem_cons, List.not_mem_nil, or_false] at hq
        rcases hq with rfl | rfl | rfl | rfl <;> (dsimp only; omega)), q1⟩⟩)
    · subst q
      exact (t_get_49 hz hxx kk0 kk1 kk2 kk3 (by omega)).mono (fun v H1 ⟨q1, q2⟩ => ⟨q2, Or.inr ⟨v1, y1, q1, d1, b1, g1⟩⟩)
    · exact (t_get_54 hz hxx kk0 kk1 kk2 kk3 (by omega)).mono (fun v H1 ⟨q1, q2⟩ => ⟨q2, Or.inl ⟨hno x hx (fun q hq => by
        simp only [List.mem_cons, List.not_mem_nil, or_false] at hq
        rcases hq with rfl | rfl | rfl | rfl <;> (dsimp only; omega)), q1⟩⟩)
    · subst q
      exact (t_get_50 hz hxx kk0 kk1 kk2 kk3 (by omega)).mono (fun v H1 ⟨q1, q2⟩ => ⟨q2, Or.inr ⟨v2, y2, q1, d2, b2, g2⟩⟩)
    · exact (t_get_55 hz hxx kk0 kk1 kk2 kk3 (by omega)).mono (fun v H1 ⟨q1, q2⟩ => ⟨q2, Or.inl ⟨hno x hx (fun q hq => by
        simp only [List.mem_cons, List.not_mem_nil, or_false] at hq
        rcases hq with rfl | rfl | rfl | rfl <;> (dsimp only; omega)), q1⟩⟩)
    · subst q
      exact (t_get_51 hz hxx kk0 kk1 kk2 kk3 (by omega)).mono (fun v H1 ⟨q1, q2⟩ => ⟨q2, Or.inr ⟨v3, y3, q1, d3, b3, g3⟩⟩)
    · exact (t_get_56 hz hxx kk0 kk1 kk2 kk3 (by omega)).mono (fun v H1 ⟨q1, q2⟩ => ⟨q2, Or.inl ⟨hno x hx (fun q hq => by
        simp only [List.mem_cons, List.not_mem_nil, or_false] at hq
        rcases hq with rfl | rfl | rfl | rfl <;> (dsimp only; omega)), q1⟩⟩)
  · obtain ⟨⟨z0, k0, y0, b0, d0, g0, n0⟩, c0⟩ := hL (a0, e0, v0) (by simp)
    replace z0 : Z a0 := z0
    replace k0 : zOb E E.2.1 (E.2.2.2.1 (128 + e0)) 14 [.int (nI e0)] := k0
    replace d0 : zOb E H v0 14 [.int (nI y0)] := d0
    replace g0 : g e0 = nI y0 := g0
    replace n0 : v0 < zB E ∨ Z v0 := n0
    replace c0 : ∀ c : Nat × va_E, c ∈ _ → v0 ≠ c.1 := c0
    have kk0 := zOb.old k0 ho
    have al0 : a0 < H.size := (hz.at 1 rfl).lt
    have bn0 : zB E ≤ a0 := (hz.at 1 rfl).new
    obtain ⟨⟨z1, k1, y1, b1, d1, g1, n1⟩, c1⟩ := hL (a1, e1, v1) (by simp)
    replace z1 : Z a1 := z1
    replace k1 : zOb E E.2.1 (E.2.2.2.1 (128 + e1)) 14 [.int (nI e1)] := k1
    replace d1 : zOb E H v1 14 [.int (nI y1)] := d1
    replace g1 : g e1 = nI y1 := g1
    replace n1 : v1 < zB E ∨ Z v1 := n1
    replace c1 : ∀ c : Nat × va_E, c ∈ _ → v1 ≠ c.1 := c1
    have kk1 := zOb.old k1 ho
    have al1 : a1 < H.size := (hz.at 2 rfl).lt
    have bn1 : zB E ≤ a1 := (hz.at 2 rfl).new
    obtain ⟨⟨z2, k2, y2, b2, d2, g2, n2⟩, c2⟩ := hL (a2, e2, v2) (by simp)
    replace z2 : Z a2 := z2
    replace k2 : zOb E E.2.1 (E.2.2.2.1 (128 + e2)) 14 [.int (nI e2)] := k2
    replace d2 : zOb E H v2 14 [.int (nI y2)] := d2
    replace g2 : g e2 = nI y2 := g2
    replace n2 : v2 < zB E ∨ Z v2 := n2
    replace c2 : ∀ c : Nat × va_E, c ∈ _ → v2 ≠ c.1 := c2
    have kk2 := zOb.old k2 ho
    have al2 : a2 < H.size := (hz.at 3 rfl).lt
    have bn2 : zB E ≤ a2 := (hz.at 3 rfl).new
    have tl : t < H.size := (hz.at 0 rfl).lt
    have tn : zB E ≤ t := (hz.at 0 rfl).new
    have so : e0 < e1 ∧ e1 < e2 ∧ e2 < 4 := by simpa [TSo] using hso
    have pos : (x < e0) ∨ (x = e0) ∨ (e0 < x ∧ x < e1) ∨ (x = e1) ∨ (e1 < x ∧ x < e2) ∨ (x = e2) ∨ (e2 < x) := by omega
    rcases pos with q | q | q | q | q | q | q
    · exact (t_get_60 hz hxx kk0 kk1 kk2 (by omega)).mono (fun v H1 ⟨q1, q2⟩ => ⟨q2, Or.inl ⟨hno x hx (fun q hq => by
        simp only [List.mem_cons, List.not_mem_nil, or_false] at hq
        rcases hq with rfl | rfl | rfl <;> (dsimp only; omega)), q1⟩⟩)
    · subst q
      exact (t_get_57 hz hxx kk0 kk1 kk2 (by omega)).mono (fun v H1 ⟨q1, q2⟩ => ⟨q2, Or.inr ⟨v0, y0, q1, d0, b0, g0⟩⟩)
    · exact (t_get_61 hz hxx kk0 kk1 kk2 (by omega)).mono (fun v H1 ⟨q1, q2⟩ => ⟨q2, Or.inl ⟨hno x hx (fun q hq => by
        simp only [List.mem_cons, List.not_mem_nil, or_false] at hq
        rcases hq with rfl | rfl | rfl <;> (dsimp only; omega)), q1⟩⟩)
    · subst q
      exact (t_get_58 hz hxx kk0 kk1 kk2 (by omega)).mono (fun v H1 ⟨q1, q2⟩ => ⟨q2, Or.inr ⟨v1, y1, q1, d1, b1, g1⟩⟩)
    · exact (t_get_62 hz hxx kk0 kk1 kk2 (by omega)).mono (fun v H1 ⟨q1, q2⟩ => ⟨q2, Or.inl ⟨hno x hx (fun q hq => by
        simp only [List.mem_cons, List.not_mem_nil, or_false] at hq
        rcases hq with rfl | rfl | rfl <;> (dsimp only; omega)), q1⟩⟩)
    · subst q
      exact (t_get_59 hz hxx kk0 kk1 kk2 (by omega)).mono (fun v H1 ⟨q1, q2⟩ => ⟨q2, Or.inr ⟨v2, y2, q1, d2, b2, g2⟩⟩)
    · exact (t_get_63 hz hxx kk0 kk1 kk2 (by omega)).mono (fun v H1 ⟨q1, q2⟩ => ⟨q2, Or.inl ⟨hno x hx (fun q hq => by
        simp only [List.mem_cons, List.not_mem_nil, or_false] at hq
        rcases hq with rfl | rfl | rfl <;> (dsimp only; omega)), q1⟩⟩)
set_option maxHeartbeats 4000000 in
theorem m_J4_putM {E : zE} {H : Heap} {t x : Nat} {Z : Nat → Prop} {g : Nat → Int32} (h : TM E H t Z g) (hx : x < 4) (hkx : zOb E E.2.1 (E.2.2.2.1 (128 + x)) 14 [.int (nI x)]) {vx y : Nat} (hvx : zOb E H vx 14 [.int (nI y)]) (hy : y < 1000000) (hvf : vx < zB E ∨ (vx ≠ t ∧ ¬ Z vx)) : zM E 9 yJ4_put (ws_ yJ4_put cJ4_put 3 (some (.object "java/lang/Object"))) 1 6 H [.ref t, .ref (E.2.2.2.1 (128 + x)), .ref vx] (TMp E H t Z (fun q => Z q ∨ q = vx ∨ H.size ≤ q) g (fun e => if e = x then nI y else g e) x) zNX := by
  obtain ⟨s, m, L, cs, hsh, hz, hso, hL, hno⟩ := h
  refine zM.old (fun ho => ?_)
  have hxx := hkx.old ho
  have hvl := hvx.is.lt
  rcases hsh with ⟨rfl, rfl⟩ | ⟨a0, e0, v0, rfl, rfl⟩ | ⟨a0, e0, v0, a1, e1, v1, rfl, rfl⟩ | ⟨a0, e0, v0, a1, e1, v1, rfl, rfl⟩ | ⟨a0, e0, v0, a1, e1, v1, a2, e2, v2, rfl, rfl⟩ | ⟨a0, e0, v0, a1, e1, v1, a2, e2, v2, a3, e3, v3, rfl, rfl⟩ | ⟨a0, e0, v0, a1, e1, v1, a2, e2, v2, a3, e3, v3, rfl, rfl⟩ | ⟨a0, e0, v0, a1, e1, v1, a2, e2, v2, a3, e3, v3, rfl, rfl⟩ | ⟨a0, e0, v0, a1, e1, v1, a2, e2, v2, a3, e3, v3, rfl, rfl⟩ | ⟨a0, e0, v0, a1, e1, v1, a2, e2, v2, rfl, rfl⟩
  · have tl : t < H.size := (hz.at 0 rfl).lt
    have tn : zB E ≤ t := (hz.at 0 rfl).new
    have pos : (True) := by trivial
    rcases pos with q
    · refine (t_put_0 hz hxx  (by omega)).mono (fun v H1 hv => ?_)
      obtain ⟨q1, b, hb, hz1⟩ := hv
      refine ⟨TM.mk (L := [(b, x, vx)]) hz1 [0, 1] (by rfl) (by have h9 := hz1.nd; simp only [List.map_cons, List.map_nil, List.nodup_cons, List.mem_cons, List.not_mem_nil, or_false, not_false_eq_true, List.nodup_nil, and_true] at h9 ⊢ <;> omega) (TSh.c1 ..) (by simp only [TSo] <;> omega) ?_ ?_, ?_, hz1.2.2.1, hz1.fr ?_⟩
      · intro q hq
        simp only [List.mem_cons, List.not_mem_nil, or_false] at hq
        rcases hq with rfl
        · refine ⟨⟨Or.inr (Or.inr hb), hkx, y, hy, hvx, if_pos rfl, hvf.imp id (fun _ => Or.inr (Or.inl rfl))⟩, ?_⟩
          intro c hc
          simp only [List.mem_cons, List.not_mem_nil, or_false] at hc
          rcases hc with rfl | rfl
          · exact hvf.elim (fun z => show vx ≠ t by omega) (fun z => z.1)
          · exact Nat.ne_of_lt (Nat.lt_of_lt_of_le hvl hb)
      · intro e he hne
        by_cases q9 : e = x
        · exact absurd q9.symm (hne (b, x, vx) (by simp))
        · exact (if_neg q9).trans (hno e he (fun q hq => nomatch hq))
      · exact Or.inl ⟨hno x hx (fun q hq => nomatch hq), q1⟩
      · intro c hc
        simp only [List.mem_cons, List.not_mem_nil, or_false] at hc
        rcases hc with rfl | rfl
        · exact Or.inl rfl
        · exact Or.inr (Or.inr hb)
  · obtain ⟨⟨z0, k0, y0, b0, d0, g0, n0⟩, c0⟩ := hL (a0, e0, v0) (by simp)
    replace z0 : Z a0 := z0
    replace k0 : zOb E E.2.1 (E.2.2.2.1 (128 + e0)) 14 [.int (nI e0)] := k0
    replace d0 : zOb E H v0 14 [.int (nI y0)] := d0
    replace g0 : g e0 = nI y0 := g0
    replace n0 : v0 < zB E ∨ Z v0 := n0
    replace c0 : ∀ c : Nat × va_E, c ∈ _ → v0 ≠ c.1 := c0
    have kk0 := zOb.old k0 ho
    have al0 : a0 < H.size := (hz.at 1 rfl).lt
    have bn0 : zB E ≤ a0 := (hz.at 1 rfl).new
    have tl : t < H.size := (hz.at 0 rfl).lt
    have tn : zB E ≤ t := (hz.at 0 rfl).new
    have so : e0 < 4 := by simpa [TSo] using hso
    have pos : (x < e0) ∨ (x = e0) ∨ (e0 < x) := by omega
    rcases pos with q | q | q
    · refine (t_put_2 hz hxx kk0 (by omega)).mono (fun v H1 hv => ?_)
      obtain ⟨q1, b, hb, hz1⟩ := hv
      refine ⟨TM.mk (L := [(b, x, vx), (a0, e0, v0)]) hz1 [0, 2, 1] (by rfl) (by have h9 := hz1.nd; simp only [List.map_cons, List.map_nil, List.nodup_cons, List.mem_cons, List.not_mem_nil, or_false, not_false_eq_true, List.nodup_nil, and_true] at h9 ⊢ <;> omega) (TSh.c2 ..) (by simp only [TSo] <;> omega) ?_ ?_, ?_, hz1.2.2.1, hz1.fr ?_⟩
      · intro q hq
        simp only [List.mem_cons, List.not_mem_nil, or_false] at hq
        rcases hq with rfl | rfl
        · refine ⟨⟨Or.inr (Or.inr hb), hkx, y, hy, hvx, if_pos rfl, hvf.imp id (fun _ => Or.inr (Or.inl rfl))⟩, ?_⟩
          intro c hc
          simp only [List.mem_cons, List.not_mem_nil, or_false] at hc
          rcases hc with rfl | rfl | rfl
          · exact hvf.elim (fun z => show vx ≠ t by omega) (fun z => z.1)
          · exact hvf.elim (fun z => show vx ≠ a0 by omega) (fun w7 (w8 : vx = a0) => w7.2 (w8 ▸ z0))
          · exact Nat.ne_of_lt (Nat.lt_of_lt_of_le hvl hb)
        · refine ⟨⟨Or.inl z0, k0, y0, b0, d0, (if_neg (show ¬ e0 = x by omega)).trans g0, n0.imp id Or.inl⟩, ?_⟩
          intro c hc
          simp only [List.mem_cons, List.not_mem_nil, or_false] at hc
          rcases hc with rfl | rfl | rfl
          · have e8 := c0 _ (List.mem_of_getElem? (i := 0) rfl)
            exact e8
          · have e8 := c0 _ (List.mem_of_getElem? (i := 1) rfl)
            exact e8
          · exact Nat.ne_of_lt (Nat.lt_of_lt_of_le d0.is.lt hb)
      · intro e he hne
        by_cases q9 : e = x
        · exact absurd q9.symm (hne (b, x, vx) (by simp))
        · refine (if_neg q9).trans (hno e he (fun q hq => ?_))
          simp only [List.mem_cons, List.not_mem_nil, or_false] at hq
          rcases hq with rfl
          · exact hne (a0, e0, v0) (by simp)
      · exact Or.inl ⟨hno x hx (fun q hq => by
        simp only [List.mem_cons, List.not_mem_nil, or_false] at hq
        rcases hq with rfl <;> (dsimp only; omega)), q1⟩
      · intro c hc
        simp only [List.mem_cons, List.not_mem_nil, or_false] at hc
        rcases hc with rfl | rfl | rfl
        · exact Or.inl rfl
        · exact Or.inr (Or.inl z0)
        · exact Or.inr (Or.inr hb)
    · subst q
      refine (t_put_1 hz hxx kk0 (by omega)).mono (fun v H1 hv => ?_)
      obtain ⟨q1, hz1⟩ := hv
      refine ⟨TM.mk (L := [(a0, x, vx)]) hz1 [0, 1] (by rfl) (by have h9 := hz1.nd; simp only [List.map_cons, List.map_nil, List.nodup_cons, List.mem_cons, List.not_mem_nil, or_false, not_false_eq_true, List.nodup_nil, and_true] at h9 ⊢ <;> omega) (TSh.c1 ..) (by simp only [TSo] <;> omega) ?_ ?_, ?_, hz1.2.2.1, hz1.fr ?_⟩
      · intro q hq
        simp only [List.mem_cons, List.not_mem_nil, or_false] at hq
        rcases hq with rfl
        · refine ⟨⟨Or.inl z0, hkx, y, hy, hvx, if_pos rfl, hvf.imp id (fun _ => Or.inr (Or.inl rfl))⟩, ?_⟩
          intro c hc
          simp only [List.mem_cons, List.not_mem_nil, or_false] at hc
          rcases hc with rfl | rfl
          · exact hvf.elim (fun z => show vx ≠ t by omega) (fun z => z.1)
          · exact hvf.elim (fun z => show vx ≠ a0 by omega) (fun w7 (w8 : vx = a0) => w7.2 (w8 ▸ z0))
      · intro e he hne
        by_cases q9 : e = x
        · exact absurd q9.symm (hne (a0, x, vx) (by simp))
        · refine (if_neg q9).trans (hno e he (fun q hq => ?_))
          simp only [List.mem_cons, List.not_mem_nil, or_false] at hq
          rcases hq with rfl
          · exact fun z => q9 z.symm
      · exact Or.inr ⟨v0, y0, q1, zOb.kept d0 (hz1.2.2.2 _ (zOb.is d0).lt (fun hm => by
          obtain ⟨c, hc, e9⟩ := List.mem_map.mp hm
          simp only [List.mem_cons, List.not_mem_nil, or_false] at hc
          rcases hc with rfl | rfl
          · have e8 := c0 _ (List.mem_of_getElem? (i := 0) rfl)
            exact e8 e9.symm
          · have e8 := c0 _ (List.mem_of_getElem? (i := 1) rfl)
            exact e8 e9.symm)), b0, g0⟩
      · intro c hc
        simp only [List.mem_cons, List.not_mem_nil, or_false] at hc
        rcases hc with rfl | rfl
        · exact Or.inl rfl
        · exact Or.inr (Or.inl z0)
    · refine (t_put_3 hz hxx kk0 (by omega)).mono (fun v H1 hv => ?_)
      obtain ⟨q1, b, hb, hz1⟩ := hv
      refine ⟨TM.mk (L := [(a0, e0, v0), (b, x, vx)]) hz1 [0, 1, 2] (by rfl) (by have h9 := hz1.nd; simp only [List.map_cons, List.map_nil, List.nodup_cons, List.mem_cons, List.not_mem_nil, or_false, not_false_eq_true, List.nodup_nil, and_true] at h9 ⊢ <;> omega) (TSh.c3 ..) (by simp only [TSo] <;> omega) ?_ ?_, ?_, hz1.2.2.1, hz1.fr ?_⟩
      · intro q hq
        simp only [List.mem_cons, List.not_mem_nil, or_false] at hq
        rcases hq with rfl | rfl
        · refine ⟨⟨Or.inl z0, k0, y0, b0, d0, (if_neg (show ¬ e0 = x by omega)).trans g0, n0.imp id Or.inl⟩, ?_⟩
          intro c hc
          simp only [List.mem_cons, List.not_mem_nil, or_false] at hc
          rcases hc with rfl | rfl | rfl
          · have e8 := c0 _ (List.mem_of_getElem? (i := 0) rfl)
            exact e8
          · have e8 := c0 _ (List.mem_of_getElem? (i := 1) rfl)
            exact e8
          · exact Nat.ne_of_lt (Nat.lt_of_lt_of_le d0.is.lt hb)
        · refine ⟨⟨Or.inr (Or.inr hb), hkx, y, hy, hvx, if_pos rfl, hvf.imp id (fun _ => Or.inr (Or.inl rfl))⟩, ?_⟩
          intro c hc
          simp only [List.mem_cons, List.not_mem_nil, or_false] at hc
          rcases hc with rfl | rfl | rfl
          · exact hvf.elim (fun z => show vx ≠ t by omega) (fun z => z.1)
          · exact hvf.elim (fun z => show vx ≠ a0 by omega) (fun w7 (w8 : vx = a0) => w7.2 (w8 ▸ z0))
          · exact Nat.ne_of_lt (Nat.lt_of_lt_of_le hvl hb)
      · intro e he hne
        by_cases q9 : e = x
        · exact absurd q9.symm (hne (b, x, vx) (by simp))
        · refine (if_neg q9).trans (hno e he (fun q hq => ?_))
          simp only [List.mem_cons, List.not_mem_nil, or_false] at hq
          rcases hq with rfl
          · exact hne (a0, e0, v0) (by simp)
      · exact Or.inl ⟨hno x hx (fun q hq => by
        simp only [List.mem_cons, List.not_mem_nil, or_false] at hq
        rcases hq with rfl <;> (dsimp only; omega)), q1⟩
      · intro c hc
        simp only [List.mem_cons, List.not_mem_nil, or_false] at hc
        rcases hc with rfl | rfl | rfl
        · exact Or.inl rfl
        · exact Or.inr (Or.inl z0)
        · exact Or.inr (Or.inr hb)
  · obtain ⟨⟨z0, k0, y0, b0, d0, g0, n0⟩, c0⟩ := hL (a0, e0, v0) (by simp)
    replace z0 : Z a0 := z0
    replace k0 : zOb E E.2.1 (E.2.2.2.1 (128 + e0)) 14 [.int (nI e0)] := k0
    replace d0 : zOb E H v0 14 [.int (nI y0)] := d0
    replace g0 : g e0 = nI y0 := g0
    replace n0 : v0 < zB E ∨ Z v0 := n0
    replace c0 : ∀ c : Nat × va_E, c ∈ _ → v0 ≠ c.1 := c0
    have kk0 := zOb.old k0 ho
    have al0 : a0 < H.size := (hz.at 1 rfl).lt
    have bn0 : zB E ≤ a0 := (hz.at 1 rfl).new
    obtain ⟨⟨z1, k1, y1, b1, d1, g1, n1⟩, c1⟩ := hL (a1, e1, v1) (by simp)
    replace z1 : Z a1 := z1
    replace k1 : zOb E E.2.1 (E.2.2.2.1 (128 + e1)) 14 [.int (nI e1)] := k1
    replace d1 : zOb E H v1 14 [.int (nI y1)] := d1
    replace g1 : g e1 = nI y1 := g1
    replace n1 : v1 < zB E ∨ Z v1 := n1
    replace c1 : ∀ c : Nat × va_E, c ∈ _ → v1 ≠ c.1 := c1
    have kk1 := zOb.old k1 ho
    have al1 : a1 < H.size := (hz.at 2 rfl).lt
    have bn1 : zB E ≤ a1 := (hz.at 2 rfl).new
    have tl : t < H.size := (hz.at 0 rfl).lt
    have tn : zB E ≤ t := (hz.at 0 rfl).new
    have so : e0 < e1 ∧ e1 < 4 := by simpa [TSo] using hso
    have pos : (x < e0) ∨ (x = e0) ∨ (e0 < x ∧ x < e1) ∨ (x = e1) ∨ (e1 < x) := by omega
    rcases pos with q | q | q | q | q
    · refine (t_put_6 hz hxx kk0 kk1 (by omega)).mono (fun v H1 hv => ?_)
      obtain ⟨q1, b, hb, hz1⟩ := hv
      refine ⟨TM.mk (L := [(b, x, vx), (a0, e0, v0), (a1, e1, v1)]) hz1 [0, 3, 1, 2] (by rfl) (by have h9 := hz1.nd; simp only [List.map_cons, List.map_nil, List.nodup_cons, List.mem_cons, List.not_mem_nil, or_false, not_false_eq_true, List.nodup_nil, and_true] at h9 ⊢ <;> omega) (TSh.c4 ..) (by simp only [TSo] <;> omega) ?_ ?_, ?_, hz1.2.2.1, hz1.fr ?_⟩
      · intro q hq
        simp only [List.mem_cons, List.not_mem_nil, or_false] at hq
        rcases hq with rfl | rfl | rfl
        · refine ⟨⟨Or.inr (Or.inr hb), hkx, y, hy, hvx, if_pos rfl, hvf.imp id (fun _ => Or.inr (Or.inl rfl))⟩, ?_⟩
          intro c hc
          simp only [List.mem_cons, List.not_mem_nil, or_false] at hc
          rcases hc with rfl | rfl | rfl | rfl
          · exact hvf.elim (fun z => show vx ≠ t by omega) (fun z => z.1)
          · exact hvf.elim (fun z => show vx ≠ a0 by omega) (fun w7 (w8 : vx = a0) => w7.2 (w8 ▸ z0))
          · exact hvf.elim (fun z => show vx ≠ a1 by omega) (fun w7 (w8 : vx = a1) => w7.2 (w8 ▸ z1))
          · exact Nat.ne_of_lt (Nat.lt_of_lt_of_le hvl hb)
        · refine ⟨⟨Or.inl z0, k0, y0, b0, d0, (if_neg (show ¬ e0 = x by omega)).trans g0, n0.imp id Or.inl⟩, ?_⟩
          intro c hc
          simp only [List.mem_cons, List.not_mem_nil, or_false] at hc
          rcases hc with rfl | rfl | rfl | rfl
          · have e8 := c0 _ (List.mem_of_getElem? (i := 0) rfl)
            exact e8
          · have e8 := c0 _ (List.mem_of_getElem? (i := 1) rfl)
            exact e8
          · have e8 := c0 _ (List.mem_of_getElem? (i := 2) rfl)
            exact e8
          · exact Nat.ne_of_lt (Nat.lt_of_lt_of_le d0.is.lt hb)
        · refine ⟨⟨Or.inl z1, k1, y1, b1, d1, (if_neg (show ¬ e1 = x by omega)).trans g1, n1.imp id Or.inl⟩, ?_⟩
          intro c hc
          simp only [List.mem_cons, List.not_mem_nil, or_false] at hc
          rcases hc with rfl | rfl | rfl | rfl
          · have e8 := c1 _ (List.mem_of_getElem? (i := 0) rfl)
            exact e8
          · have e8 := c1 _ (List.mem_of_getElem? (i := 1) rfl)
            exact e8
          · have e8 := c1 _ (List.mem_of_getElem? (i := 2) rfl)
            exact e8
          · exact Nat.ne_of_lt (Nat.lt_of_lt_of_le d1.is.lt hb)
      · intro e he hne
        by_cases q9 : e = x
        · exact absurd q9.symm (hne (b, x, vx) (by simp))
        · refine (if_neg q9).trans (hno e he (fun q hq => ?_))
          simp only [List.mem_cons, List.not_mem_nil, or_false] at hq
          rcases hq with rfl | rfl
          · exact hne (a0, e0, v0) (by simp)
          · exact hne (a1, e1, v1) (by simp)
      · exact Or.inl ⟨hno x hx (fun q hq => by
        simp only [List.mem_cons, List.not_mem_nil, or_false] at hq
        rcases hq with rfl | rfl <;> (dsimp only; omega)), q1⟩
      · intro c hc
        simp only [List.mem_cons, List.not_mem_nil, or_false] at hc
        rcases hc with rfl | rfl | rfl | rfl
        · exact Or.inl rfl
        · exact Or.inr (Or.inl z0)
        · exact Or.inr (Or.inl z1)
        · exact Or.inr (Or.inr hb)
    · subst q
      refine (t_put_4 hz hxx kk0 kk1 (by omega)).mono (fun v H1 hv => ?_)
      obtain ⟨q1, hz1⟩ := hv
      refine ⟨TM.mk (L := [(a0, x, vx), (a1, e1, v1)]) hz1 [0, 1, 2] (by rfl) (by have h9 := hz1.nd; simp only [List.map_cons, List.map_nil, List.nodup_cons, List.mem_cons, List.not_mem_nil, or_false, not_false_eq_true, List.nodup_nil, and_true] at h9 ⊢ <;> omega) (TSh.c2 ..) (by simp only [TSo] <;> omega) ?_ ?_, ?_, hz1.2.2.1, hz1.fr ?_⟩
      · intro q hq
        simp only [List.mem_cons, List.not_mem_nil, or_false] at hq
        rcases hq with rfl | rfl
        · refine ⟨⟨Or.inl z0, hkx, y, hy, hvx, if_pos rfl, hvf.imp id (fun _ => Or.inr (Or.inl rfl))⟩, ?_⟩
          intro c hc
          simp only [List.mem_cons, List.not_mem_nil, or_false] at hc
          rcases hc with rfl | rfl | rfl
          · exact hvf.elim (fun z => show vx ≠ t by omega) (fun z => z.1)
          · exact hvf.elim (fun z => show vx ≠ a0 by omega) (fun w7 (w8 : vx = a0) => w7.2 (w8 ▸ z0))
          · exact hvf.elim (fun z => show vx ≠ a1 by omega) (fun w7 (w8 : vx = a1) => w7.2 (w8 ▸ z1))
        · refine ⟨⟨Or.inl z1, k1, y1, b1, d1, (if_neg (show ¬ e1 = x by omega)).trans g1, n1.imp id Or.inl⟩, ?_⟩
          intro c hc
          simp only [List.mem_cons, List.not_mem_nil, or_false] at hc
          rcases hc with rfl | rfl | rfl
          · have e8 := c1 _ (List.mem_of_getElem? (i := 0) rfl)
            exact e8
          · have e8 := c1 _ (List.mem_of_getElem? (i := 1) rfl)
            exact e8
          · have e8 := c1 _ (List.mem_of_getElem? (i := 2) rfl)
            exact e8
      · intro e he hne
        by_cases q9 : e = x
        · exact absurd q9.symm (hne (a0, x, vx) (by simp))
        · refine (if_neg q9).trans (hno e he (fun q hq => ?_))
          simp only [List.mem_cons, List.not_mem_nil, or_false] at hq
          rcases hq with rfl | rfl
          · exact fun z => q9 z.symm
          · exact hne (a1, e1, v1) (by simp)
      · exact Or.inr ⟨v0, y0, q1, zOb.kept d0 (hz1.2.2.2 _ (zOb.is d0).lt (fun hm => by
          obtain ⟨c, hc, e9⟩ := List.mem_map.mp hm
          simp only [List.mem_cons, List.not_mem_nil, or_false] at hc
          rcases hc with rfl | rfl | rfl
          · have e8 := c0 _ (List.mem_of_getElem? (i := 0) rfl)
            exact e8 e9.symm
          · have e8 := c0 _ (List.mem_of_getElem? (i := 1) rfl)
            exact e8 e9.symm
          · have e8 := c0 _ (List.mem_of_getElem? (i := 2) rfl)
            exact e8 e9.symm)), b0, g0⟩
      · intro c hc
        simp only [List.mem_cons, List.not_mem_nil, or_false] at hc
        rcases hc with rfl | rfl | rfl
        · exact Or.inl rfl
        · exact Or.inr (Or.inl z0)
        · exact Or.inr (Or.inl z1)
    · refine (t_put_7 hz hxx kk0 kk1 (by omega)).mono (fun v H1 hv => ?_)
      obtain ⟨q1, b, hb, hz1⟩ := hv
      refine ⟨TM.mk (L := [(a0, e0, v0), (b, x, vx), (a1, e1, v1)]) hz1 [0, 1, 3, 2] (by rfl) (by have h9 := hz1.nd; simp only [List.map_cons, List.map_nil, List.nodup_cons, List.mem_cons, List.not_mem_nil, or_false, not_false_eq_true, List.nodup_nil, and_true] at h9 ⊢ <;> omega) (TSh.c4 ..) (by simp only [TSo] <;> omega) ?_ ?_, ?_, hz1.2.2.1, hz1.fr ?_⟩
      · intro q hq
        simp only [List.mem_cons, List.not_mem_nil, or_false] at hq
        rcases hq with rfl | rfl | rfl
        · refine ⟨⟨Or.inl z0, k0, y0, b0, d0, (if_neg (show ¬ e0 = x by omega)).trans g0, n0.imp id Or.inl⟩, ?_⟩
          intro c hc
          simp only [List.mem_cons, List.not_mem_nil, or_false] at hc
          rcases hc with rfl | rfl | rfl | rfl
          · have e8 := c0 _ (List.mem_of_getElem? (i := 0) rfl)
            exact e8
          · have e8 := c0 _ (List.mem_of_getElem? (i := 1) rfl)
            exact e8
          · have e8 := c0 _ (List.mem_of_getElem? (i := 2) rfl)
            exact e8
          · exact Nat.ne_of_lt (Nat.lt_of_lt_of_le d0.is.lt hb)
        · refine ⟨⟨Or.inr (Or.inr hb), hkx, y, hy, hvx, if_pos rfl, hvf.imp id (fun _ => Or.inr (Or.inl rfl))⟩, ?_⟩
          intro c hc
          simp only [List.mem_cons, List.not_mem_nil, or_false] at hc
          rcases hc with rfl | rfl | rfl | rfl
          · exact hvf.elim (fun z => show vx ≠ t by omega) (fun z => z.1)
          · exact hvf.elim (fun z => show vx ≠ a0 by omega) (fun w7 (w8 : vx = a0) => w7.2 (w8 ▸ z0))
          · exact hvf.elim (fun z => show vx ≠ a1 by omega) (fun w7 (w8 : vx = a1) => w7.2 (w8 ▸ z1))
          · exact Nat.ne_of_lt (Nat.lt_of_lt_of_le hvl hb)
        · refine ⟨⟨Or.inl z1, k1, y1, b1, d1, (if_neg (show ¬ e1 = x by omega)).trans g1, n1.imp id Or.inl⟩, ?_⟩
          intro c hc
          simp only [List.mem_cons, List.not_mem_nil, or_false] at hc
          rcases hc with rfl | rfl | rfl | rfl
          · have e8 := c1 _ (List.mem_of_getElem? (i := 0) rfl)
            exact e8
          · have e8 := c1 _ (List.mem_of_getElem? (i := 1) rfl)
            exact e8
          · have e8 := c1 _ (List.mem_of_getElem? (i := 2) rfl)
            exact e8
          · exact Nat.ne_of_lt (Nat.lt_of_lt_of_le d1.is.lt hb)
      · intro e he hne
        by_cases q9 : e = x
        · exact absurd q9.symm (hne (b, x, vx) (by simp))
        · refine (if_neg q9).trans (hno e he (fun q hq => ?_))
          simp only [List.mem_cons, List.not_mem_nil, or_false] at hq
          rcases hq with rfl | rfl
          · exact hne (a0, e0, v0) (by simp)
          · exact hne (a1, e1, v1) (by simp)
      · exact Or.inl ⟨hno x hx (fun q hq => by
        simp only [List.mem_cons, List.not_mem_nil, or_false] at hq
        rcases hq with rfl | rfl <;> (dsimp only; omega)), q1⟩
      · intro c hc
        simp only [List.mem_cons, List.not_mem_nil, or_false] at hc
        rcases hc with rfl | rfl | rfl | rfl
        · exact Or.inl rfl
        · exact Or.inr (Or.inl z0)
        · exact Or.inr (Or.inl z1)
        · exact Or.inr (Or.inr hb)
    · subst q
      refine (t_put_5 hz hxx kk0 kk1 (by omega)).mono (fun v H1 hv => ?_)
      obtain ⟨q1, hz1⟩ := hv
      refine ⟨TM.mk (L := [(a0, e0, v0), (a1, x, vx)]) hz1 [0, 1, 2] (by rfl) (by have h9 := hz1.nd; simp only [List.map_cons, List.map_nil, List.nodup_cons, List.mem_cons, List.not_mem_nil, or_false, not_false_eq_true, List.nodup_nil, and_true] at h9 ⊢ <;> omega) (TSh.c2 ..) (by simp only [TSo] <;> omega) ?_ ?_, ?_, hz1.2.2.1, hz1.fr ?_⟩
      · intro q hq
        simp only [List.mem_cons, List.not_mem_nil, or_false] at hq
        rcases hq with rfl | rfl
        · refine ⟨⟨Or.inl z0, k0, y0, b0, d0, (if_neg (show ¬ e0 = x by omega)).trans g0, n0.imp id Or.inl⟩, ?_⟩
          intro c hc
          simp only [List.mem_cons, List.not_mem_nil, or_false] at hc
          rcases hc with rfl | rfl | rfl
          · have e8 := c0 _ (List.mem_of_getElem? (i := 0) rfl)
            exact e8
          · have e8 := c0 _ (List.mem_of_getElem? (i := 1) rfl)
            exact e8
          · have e8 := c0 _ (List.mem_of_getElem? (i := 2) rfl)
            exact e8
        · refine ⟨⟨Or.inl z1, hkx, y, hy, hvx, if_pos rfl, hvf.imp id (fun _ => Or.inr (Or.inl rfl))⟩, ?_⟩
          intro c hc
          simp only [List.mem_cons, List.not_mem_nil, or_false] at hc
          rcases hc with rfl | rfl | rfl
          · exact hvf.elim (fun z => show vx ≠ t by omega) (fun z => z.1)
          · exact hvf.elim (fun z => show vx ≠ a0 by omega) (fun w7 (w8 : vx = a0) => w7.2 (w8 ▸ z0))
          · exact hvf.elim (fun z => show vx ≠ a1 by omega) (fun w7 (w8 : vx = a1) => w7.2 (w8 ▸ z1))
      · intro e he hne
        by_cases q9 : e = x
        · exact absurd q9.symm (hne (a1, x, vx) (by simp))
        · refine (if_neg q9).trans (hno e he (fun q hq => ?_))
          simp only [List.mem_cons, List.not_mem_nil, or_false] at hq
          rcases hq with rfl | rfl
          · exact hne (a0, e0, v0) (by simp)
          · exact fun z => q9 z.symm
      · exact Or.inr ⟨v1, y1, q1, zOb.kept d1 (hz1.2.2.2 _ (zOb.is d1).lt (fun hm => by
          obtain ⟨c, hc, e9⟩ := List.mem_map.mp hm
          simp only [List.mem_cons, List.not_mem_nil, or_false] at hc
          rcases hc with rfl | rfl | rfl
          · have e8 := c1 _ (List.mem_of_getElem? (i := 0) rfl)
            exact e8 e9.symm
          · have e8 := c1 _ (List.mem_of_getElem? (i := 1) rfl)
            exact e8 e9.symm
          · have e8 := c1 _ (List.mem_of_getElem? (i := 2) rfl)
            exact e8 e9.symm)), b1, g1⟩
      · intro c hc
        simp only [List.mem_cons, List.not_mem_nil, or_false] at hc
        rcases hc with rfl | rfl | rfl
        · exact Or.inl rfl
        · exact Or.inr (Or.inl z0)
        · exact Or.inr (Or.inl z1)
    · refine (t_put_8 hz hxx kk0 kk1 (by omega)).mono (fun v H1 hv => ?_)
      obtain ⟨q1, b, hb, hz1⟩ := hv
      refine ⟨TM.mk (L := [(a0, e0, v0), (a1, e1, v1), (b, x, vx)]) hz1 [0, 1, 2, 3] (by rfl) (by have h9 := hz1.nd; simp only [List.map_cons, List.map_nil, List.nodup_cons, List.mem_cons, List.not_mem_nil, or_false, not_false_eq_true, List.nodup_nil, and_true] at h9 ⊢ <;> omega) (TSh.c4 ..) (by simp only [TSo] <;> omega) ?_ ?_, ?_, hz1.2.2.1, hz1.fr ?_⟩
      · intro q hq
        simp only [List.mem_cons, List.not_mem_nil, or_false] at hq
        rcases hq with rfl | rfl | rfl
        · refine ⟨⟨Or.inl z0, k0, y0, b0, d0, (if_neg (show ¬ e0 = x by omega)).trans g0, n0.imp id Or.inl⟩, ?_⟩
          intro c hc
          simp only [List.mem_cons, List.not_mem_nil, or_false] at hc
          rcases hc with rfl | rfl | rfl | rfl
          · have e8 := c0 _ (List.mem_of_getElem? (i := 0) rfl)
            exact e8
          · have e8 := c0 _ (List.mem_of_getElem? (i := 1) rfl)
            exact e8
          · have e8 := c0 _ (List.mem_of_getElem? (i := 2) rfl)
            exact e8
          · exact Nat.ne_of_lt (Nat.lt_of_lt_of_le d0.is.lt hb)
        · refine ⟨⟨Or.inl z1, k1, y1, b1, d1, (if_neg (show ¬ e1 = x by omega)).trans g1, n1.imp id Or.inl⟩, ?_⟩
          intro c hc
          simp only [List.mem_cons, List.not_mem_nil, or_false] at hc
          rcases hc with rfl | rfl | rfl | rfl
          · have e8 := c1 _ (List.mem_of_getElem? (i := 0) rfl)
            exact e8
          · have e8 := c1 _ (List.mem_of_getElem? (i := 1) rfl)
            exact e8
          · have e8 := c1 _ (List.mem_of_getElem? (i := 2) rfl)
            exact e8
          · exact Nat.ne_of_lt (Nat.lt_of_lt_of_le d1.is.lt hb)
        · refine ⟨⟨Or.inr (Or.inr hb), hkx, y, hy, hvx, if_pos rfl, hvf.imp id (fun _ => Or.inr (Or.inl rfl))⟩, ?_⟩
          intro c hc
          simp only [List.mem_cons, List.not_mem_nil, or_false] at hc
          rcases hc with rfl | rfl | rfl | rfl
          · exact hvf.elim (fun z => show vx ≠ t by omega) (fun z => z.1)
          · exact hvf.elim (fun z => show vx ≠ a0 by omega) (fun w7 (w8 : vx = a0) => w7.2 (w8 ▸ z0))
          · exact hvf.elim (fun z => show vx ≠ a1 by omega) (fun w7 (w8 : vx = a1) => w7.2 (w8 ▸ z1))
          · exact Nat.ne_of_lt (Nat.lt_of_lt_of_le hvl hb)
      · intro e he hne
        by_cases q9 : e = x
        · exact absurd q9.symm (hne (b, x, vx) (by simp))
        · refine (if_neg q9).trans (hno e he (fun q hq => ?_))
          simp only [List.mem_cons, List.not_mem_nil, or_false] at hq
          rcases hq with rfl | rfl
          · exact hne (a0, e0, v0) (by simp)
          · exact hne (a1, e1, v1) (by simp)
      · exact Or.inl ⟨hno x hx (fun q hq => by
        simp only [List.mem_cons, List.not_mem_nil, or_false] at hq
        rcases hq with rfl | rfl <;> (dsimp only; omega)), q1⟩
      · intro c hc
        simp only [List.mem_cons, List.not_mem_nil, or_false] at hc
        rcases hc with rfl | rfl | rfl | rfl
        · exact Or.inl rfl
        · exact Or.inr (Or.inl z0)
        · exact Or.inr (Or.inl z1)
        · exact Or.inr (Or.inr hb)
  · obtain ⟨⟨z0, k0, y0, b0, d0, g0, n0⟩, c0⟩ := hL (a0, e0, v0) (by simp)
    replace z0 : Z a0 := z0
    replace k0 : zOb E E.2.1 (E.2.2.2.1 (128 + e0)) 14 [.int (nI e0)] := k0
    replace d0 : zOb E H v0 14 [.int (nI y0)] := d0
    replace g0 : g e0 = nI y0 := g0
    replace n0 : v0 < zB E ∨ Z v0 := n0
    replace c0 : ∀ c : Nat × va_E, c ∈ _ → v0 ≠ c.1 := c0
    have kk0 := zOb.old k0 ho
    have al0 : a0 < H.size := (hz.at 1 rfl).lt
    have bn0 : zB E ≤ a0 := (hz.at 1 rfl).new
    obtain ⟨⟨z1, k1, y1, b1, d1, g1, n1⟩, c1⟩ := hL (a1, e1, v1) (by simp)
    replace z1 : Z a1 := z1
    replace k1 : zOb E E.2.1 (E.2.2.2.1 (128 + e1)) 14 [.int (nI e1)] := k1
    replace d1 : zOb E H v1 14 [.int (nI y1)] := d1
    replace g1 : g e1 = nI y1 := g1
    replace n1 : v1 < zB E ∨ Z v1 := n1
    replace c1 : ∀ c : Nat × va_E, c ∈ _ → v1 ≠ c.1 := c1
    have kk1 := zOb.old k1 ho
    have al1 : a1 < H.size := (hz.at 2 rfl).lt
    have bn1 : zB E ≤ a1 := (hz.at 2 rfl).new
    have tl : t < H.size := (hz.at 0 rfl).lt
    have tn : zB E ≤ t := (hz.at 0 rfl).new
    have so : e0 < e1 ∧ e1 < 4 := by simpa [TSo] using hso
    have pos : (x < e0) ∨ (x = e0) ∨ (e0 < x ∧ x < e1) ∨ (x = e1) ∨ (e1 < x) := by omega
    rcases pos with q | q | q | q | q
    · refine (t_put_11 hz hxx kk0 kk1 (by omega)).mono (fun v H1 hv => ?_)
      obtain ⟨q1, b, hb, hz1⟩ := hv
      refine ⟨TM.mk (L := [(b, x, vx), (a0, e0, v0), (a1, e1, v1)]) hz1 [0, 3, 1, 2] (by rfl) (by have h9 := hz1.nd; simp only [List.map_cons, List.map_nil, List.nodup_cons, List.mem_cons, List.not_mem_nil, or_false, not_false_eq_true, List.nodup_nil, and_true] at h9 ⊢ <;> omega) (TSh.c4 ..) (by simp only [TSo] <;> omega) ?_ ?_, ?_, hz1.2.2.1, hz1.fr ?_⟩
      · intro q hq
        simp only [List.mem_cons, List.not_mem_nil, or_false] at hq
        rcases hq with rfl | rfl | rfl
        · refine ⟨⟨Or.inr (Or.inr hb), hkx, y, hy, hvx, if_pos rfl, hvf.imp id (fun _ => Or.inr (Or.inl rfl))⟩, ?_⟩
          intro c hc
          simp only [List.mem_cons, List.not_mem_nil, or_false] at hc
          rcases hc with rfl | rfl | rfl | rfl
          · exact hvf.elim (fun z => show vx ≠ t by omega) (fun z => z.1)
          · exact hvf.elim (fun z => show vx ≠ a0 by omega) (fun w7 (w8 : vx = a0) => w7.2 (w8 ▸ z0))
          · exact hvf.elim (fun z => show vx ≠ a1 by omega) (fun w7 (w8 : vx = a1) => w7.2 (w8 ▸ z1))
          · exact Nat.ne_of_lt (Nat.lt_of_lt_of_le hvl hb)
        · refine ⟨⟨Or.inl z0, k0, y0, b0, d0, (if_neg (show ¬ e0 = x by omega)).trans g0, n0.imp id Or.inl⟩, ?_⟩
          intro c hc
          simp only [List.mem_cons, List.not_mem_nil, or_false] at hc
          rcases hc with rfl | rfl | rfl | rfl
          · have e8 := c0 _ (List.mem_of_getElem? (i := 0) rfl)
            exact e8
          · have e8 := c0 _ (List.mem_of_getElem? (i := 1) rfl)
            exact e8
          · have e8 := c0 _ (List.mem_of_getElem? (i := 2) rfl)
            exact e8
          · exact Nat.ne_of_lt (Nat.lt_of_lt_of_le d0.is.lt hb)
        · refine ⟨⟨Or.inl z1, k1, y1, b1, d1, (if_neg (show ¬ e1 = x by omega)).trans g1, n1.imp id Or.inl⟩, ?_⟩
          intro c hc
          simp only [List.mem_cons, List.not_mem_nil, or_false] at hc
          rcases hc with rfl | rfl | rfl | rfl
          · have e8 := c1 _ (List.mem_of_getElem? (i := 0) rfl)
            exact e8
          · have e8 := c1 _ (List.mem_of_getElem? (i := 1) rfl)
            exact e8
          · have e8 := c1 _ (List.mem_of_getElem? (i := 2) rfl)
            exact e8
          · exact Nat.ne_of_lt (Nat.lt_of_lt_of_le d1.is.lt hb)
      · intro e he hne
        by_cases q9 : e = x
        · exact absurd q9.symm (hne (b, x, vx) (by simp))
        · refine (if_neg q9).trans (hno e he (fun q hq => ?_))
          simp only [List.mem_cons, List.not_mem_nil, or_false] at hq
          rcases hq with rfl | rfl
          · exact hne (a0, e0, v0) (by simp)
          · exact hne (a1, e1, v1) (by simp)
      · exact Or.inl ⟨hno x hx (fun q hq => by
        simp only [List.mem_cons, List.not_mem_nil, or_false] at hq
        rcases hq with rfl | rfl <;> (dsimp only; omega)), q1⟩
      · intro c hc
        simp only [List.mem_cons, List.not_mem_nil, or_false] at hc
        rcases hc with rfl | rfl | rfl | rfl
        · exact Or.inl rfl
        · exact Or.inr (Or.inl z0)
        · exact Or.inr (Or.inl z1)
        · exact Or.inr (Or.inr hb)
    · subst q
      refine (t_put_9 hz hxx kk0 kk1 (by omega)).mono (fun v H1 hv => ?_)
      obtain ⟨q1, hz1⟩ := hv
      refine ⟨TM.mk (L := [(a0, x, vx), (a1, e1, v1)]) hz1 [0, 1, 2] (by rfl) (by have h9 := hz1.nd; simp only [List.map_cons, List.map_nil, List.nodup_cons, List.mem_cons, List.not_mem_nil, or_false, not_false_eq_true, List.nodup_nil, and_true] at h9 ⊢ <;> omega) (TSh.c3 ..) (by simp only [TSo] <;> omega) ?_ ?_, ?_, hz1.2.2.1, hz1.fr ?_⟩
      · intro q hq
        simp only [List.mem_cons, List.not_mem_nil, or_false] at hq
        rcases hq with rfl | rfl
        · refine ⟨⟨Or.inl z0, hkx, y, hy, hvx, if_pos rfl, hvf.imp id (fun _ => Or.inr (Or.inl rfl))⟩, ?_⟩
          intro c hc
          simp only [List.mem_cons, List.not_mem_nil, or_false] at hc
          rcases hc with rfl | rfl | rfl
          · exact hvf.elim (fun z => show vx ≠ t by omega) (fun z => z.1)
          · exact hvf.elim (fun z => show vx ≠ a0 by omega) (fun w7 (w8 : vx = a0) => w7.2 (w8 ▸ z0))
          · exact hvf.elim (fun z => show vx ≠ a1 by omega) (fun w7 (w8 : vx = a1) => w7.2 (w8 ▸ z1))
        · refine ⟨⟨Or.inl z1, k1, y1, b1, d1, (if_neg (show ¬ e1 = x by omega)).trans g1, n1.imp id Or.inl⟩, ?_⟩
          intro c hc
          simp only [List.mem_cons, List.not_mem_nil, or_false] at hc
          rcases hc with rfl | rfl | rfl
          · have e8 := c1 _ (List.mem_of_getElem? (i := 0) rfl)
            exact e8
          · have e8 := c1 _ (List.mem_of_getElem? (i := 1) rfl)
            exact e8
          · have e8 := c1 _ (List.mem_of_getElem? (i := 2) rfl)
            exact e8
      · intro e he hne
        by_cases q9 : e = x
        · exact absurd q9.symm (hne (a0, x, vx) (by simp))
        · refine (if_neg q9).trans (hno e he (fun q hq => ?_))
          simp only [List.mem_cons, List.not_mem_nil, or_false] at hq
          rcases hq with rfl | rfl
          · exact fun z => q9 z.symm
          · exact hne (a1, e1, v1) (by simp)
      · exact Or.inr ⟨v0, y0, q1, zOb.kept d0 (hz1.2.2.2 _ (zOb.is d0).lt (fun hm => by
          obtain ⟨c, hc, e9⟩ := List.mem_map.mp hm
          simp only [List.mem_cons, List.not_mem_nil, or_false] at hc
          rcases hc with rfl | rfl | rfl
          · have e8 := c0 _ (List.mem_of_getElem? (i := 0) rfl)
            exact e8 e9.symm
          · have e8 := c0 _ (List.mem_of_getElem? (i := 1) rfl)
            exact e8 e9.symm
          · have e8 := c0 _ (List.mem_of_getElem? (i := 2) rfl)
            exact e8 e9.symm)), b0, g0⟩
      · intro c hc
        simp only [List.mem_cons, List.not_mem_nil, or_false] at hc
        rcases hc with rfl | rfl | rfl
        · exact Or.inl rfl
        · exact Or.inr (Or.inl z0)
        · exact Or.inr (Or.inl z1)
    · refine (t_put_12 hz hxx kk0 kk1 (by omega)).mono (fun v H1 hv => ?_)
      obtain ⟨q1, b, hb, hz1⟩ := hv
      refine ⟨TM.mk (L := [(a0, e0, v0), (b, x, vx), (a1, e1, v1)]) hz1 [0, 1, 3, 2] (by rfl) (by have h9 := hz1.nd; simp only [List.map_cons, List.map_nil, List.nodup_cons, List.mem_cons, List.not_mem_nil, or_false, not_false_eq_true, List.nodup_nil, and_true] at h9 ⊢ <;> omega) (TSh.c4 ..) (by simp only [TSo] <;> omega) ?_ ?_, ?_, hz1.2.2.1, hz1.fr ?_⟩
      · intro q hq
        simp only [List.mem_cons, List.not_mem_nil, or_false] at hq
        rcases hq with rfl | rfl | rfl
        · refine ⟨⟨Or.inl z0, k0, y0, b0, d0, (if_neg (show ¬ e0 = x by omega)).trans g0, n0.imp id Or.inl⟩, ?_⟩
          intro c hc
          simp only [List.mem_cons, List.not_mem_nil, or_false] at hc
          rcases hc with rfl | rfl | rfl | rfl
          · have e8 := c0 _ (List.mem_of_getElem? (i := 0) rfl)
            exact e8
          · have e8 := c0 _ (List.mem_of_getElem? (i := 1) rfl)
            exact e8
          · have e8 := c0 _ (List.mem_of_getElem? (i := 2) rfl)
            exact e8
          · exact Nat.ne_of_lt (Nat.lt_of_lt_of_le d0.is.lt hb)
        · refine ⟨⟨Or.inr (Or.inr hb), hkx, y, hy, hvx, if_pos rfl, hvf.imp id (fun _ => Or.inr (Or.inl rfl))⟩, ?_⟩
          intro c hc
          simp only [List.mem_cons, List.not_mem_nil, or_false] at hc
          rcases hc with rfl | rfl | rfl | rfl
          · exact hvf.elim (fun z => show vx ≠ t by omega) (fun z => z.1)
          · exact hvf.elim (fun z => show vx ≠ a0 by omega) (fun w7 (w8 : vx = a0) => w7.2 (w8 ▸ z0))
          · exact hvf.elim (fun z => show vx ≠ a1 by omega) (fun w7 (w8 : vx = a1) => w7.2 (w8 ▸ z1))
          · exact Nat.ne_of_lt (Nat.lt_of_lt_of_le hvl hb)
        · refine ⟨⟨Or.inl z1, k1, y1, b1, d1, (if_neg (show ¬ e1 = x by omega)).trans g1, n1.imp id Or.inl⟩, ?_⟩
          intro c hc
          simp only [List.mem_cons, List.not_mem_nil, or_false] at hc
          rcases hc with rfl | rfl | rfl | rfl
          · have e8 := c1 _ (List.mem_of_getElem? (i := 0) rfl)
            exact e8
          · have e8 := c1 _ (List.mem_of_getElem? (i := 1) rfl)
            exact e8
          · have e8 := c1 _ (List.mem_of_getElem? (i := 2) rfl)
            exact e8
          · exact Nat.ne_of_lt (Nat.lt_of_lt_of_le d1.is.lt hb)
      · intro e he hne
        by_cases q9 : e = x
        · exact absurd q9.symm (hne (b, x, vx) (by simp))
        · refine (if_neg q9).trans (hno e he (fun q hq => ?_))
          simp only [List.mem_cons, List.not_mem_nil, or_false] at hq
          rcases hq with rfl | rfl
          · exact hne (a0, e0, v0) (by simp)
          · exact hne (a1, e1, v1) (by simp)
      · exact Or.inl ⟨hno x hx (fun q hq => by
        simp only [List.mem_cons, List.not_mem_nil, or_false] at hq
        rcases hq with rfl | rfl <;> (dsimp only; omega)), q1⟩
      · intro c hc
        simp only [List.mem_cons, List.not_mem_nil, or_false] at hc
        rcases hc with rfl | rfl | rfl | rfl
        · exact Or.inl rfl
        · exact Or.inr (Or.inl z0)
        · exact Or.inr (Or.inl z1)
        · exact Or.inr (Or.inr hb)
    · subst q
      refine (t_put_10 hz hxx kk0 kk1 (by omega)).mono (fun v H1 hv => ?_)
      obtain ⟨q1, hz1⟩ := hv
      refine ⟨TM.mk (L := [(a0, e0, v0), (a1, x, vx)]) hz1 [0, 1, 2] (by rfl) (by have h9 := hz1.nd; simp only [List.map_cons, List.map_nil, List.nodup_cons, List.mem_cons, List.not_mem_nil, or_false, not_false_eq_true, List.nodup_nil, and_true] at h9 ⊢ <;> omega) (TSh.c3 ..) (by simp only [TSo] <;> omega) ?_ ?_, ?_, hz1.2.2.1, hz1.fr ?_⟩
      · intro q hq
        simp only [List.mem_cons, List.not_mem_nil, or_false] at hq
        rcases hq with rfl | rfl
        · refine ⟨⟨Or.inl z0, k0, y0, b0, d0, (if_neg (show ¬ e0 = x by omega)).trans g0, n0.imp id Or.inl⟩, ?_⟩
          intro c hc
          simp only [List.mem_cons, List.not_mem_nil, or_false] at hc
          rcases hc with rfl | rfl | rfl
          · have e8 := c0 _ (List.mem_of_getElem? (i := 0) rfl)
            exact e8
          · have e8 := c0 _ (List.mem_of_getElem? (i := 1) rfl)
            exact e8
          · have e8 := c0 _ (List.mem_of_getElem? (i := 2) rfl)
            exact e8
        · refine ⟨⟨Or.inl z1, hkx, y, hy, hvx, if_pos rfl, hvf.imp id (fun _ => Or.inr (Or.inl rfl))⟩, ?_⟩
          intro c hc
          simp only [List.mem_cons, List.not_mem_nil, or_false] at hc
          rcases hc with rfl | rfl | rfl
          · exact hvf.elim (fun z => show vx ≠ t by omega) (fun z => z.1)
          · exact hvf.elim (fun z => show vx ≠ a0 by omega) (fun w7 (w8 : vx = a0) => w7.2 (w8 ▸ z0))
          · exact hvf.elim (fun z => show vx ≠ a1 by omega) (fun w7 (w8 : vx = a1) => w7.2 (w8 ▸ z1))
      · intro e he hne
        by_cases q9 : e = x
        · exact absurd q9.symm (hne (a1, x, vx) (by simp))
        · refine (if_neg q9).trans (hno e he (fun q hq => ?_))
          simp only [List.mem_cons, List.not_mem_nil, or_false] at hq
          rcases hq with rfl | rfl
          · exact hne (a0, e0, v0) (by simp)
          · exact fun z => q9 z.symm
      · exact Or.inr ⟨v1, y1, q1, zOb.kept d1 (hz1.2.2.2 _ (zOb.is d1).lt (fun hm => by
          obtain ⟨c, hc, e9⟩ := List.mem_map.mp hm
          simp only [List.mem_cons, List.not_mem_nil, or_false] at hc
          rcases hc with rfl | rfl | rfl
          · have e8 := c1 _ (List.mem_of_getElem? (i := 0) rfl)
            exact e8 e9.symm
          · have e8 := c1 _ (List.mem_of_getElem? (i := 1) rfl)
            exact e8 e9.symm
          · have e8 := c1 _ (List.mem_of_getElem? (i := 2) rfl)
            exact e8 e9.symm)), b1, g1⟩
      · intro c hc
        simp only [List.mem_cons, List.not_mem_nil, or_false] at hc
        rcases hc with rfl | rfl | rfl
        · exact Or.inl rfl
        · exact Or.inr (Or.inl z0)
        · exact Or.inr (Or.inl z1)
    · refine (t_put_13 hz hxx kk0 kk1 (by omega)).mono (fun v H1 hv => ?_)
      obtain ⟨q1, b, hb, hz1⟩ := hv
      refine ⟨TM.mk (L := [(a0, e0, v0), (a1, e1, v1), (b, x, vx)]) hz1 [0, 1, 2, 3] (by rfl) (by have h9 := hz1.nd; simp only [List.map_cons, List.map_nil, List.nodup_cons, List.mem_cons, List.not_mem_nil, or_false, not_false_eq_true, List.nodup_nil, and_true] at h9 ⊢ <;> omega) (TSh.c4 ..) (by simp only [TSo] <;> omega) ?_ ?_, ?_, hz1.2.2.1, hz1.fr ?_⟩
      · intro q hq
        simp only [List.mem_cons, List.not_mem_nil, or_false] at hq
        rcases hq with rfl | rfl | rfl
        · refine ⟨⟨Or.inl z0, k0, y0, b0, d0, (if_neg (show ¬ e0 = x by omega)).trans g0, n0.imp id Or.inl⟩, ?_⟩
          intro c hc
          simp only [List.mem_cons, List.not_mem_nil, or_false] at hc
          rcases hc with rfl | rfl | rfl | rfl
          · have e8 := c0 _ (List.mem_of_getElem? (i := 0) rfl)
            exact e8
          · have e8 := c0 _ (List.mem_of_getElem? (i := 1) rfl)
            exact e8
          · have e8 := c0 _ (List.mem_of_getElem? (i := 2) rfl)
            exact e8
          · exact Nat.ne_of_lt (Nat.lt_of_lt_of_le d0.is.lt hb)
        · refine ⟨⟨Or.inl z1, k1, y1, b1, d1, (if_neg (show ¬ e1 = x by omega)).trans g1, n1.imp id Or.inl⟩, ?_⟩
          intro c hc
          simp only [List.mem_cons, List.not_mem_nil, or_false] at hc
          rcases hc with rfl | rfl | rfl | rfl
          · have e8 := c1 _ (List.mem_of_getElem? (i := 0) rfl)
            exact e8
          · have e8 := c1 _ (List.mem_of_getElem? (i := 1) rfl)
            exact e8
          · have e8 := c1 _ (List.mem_of_getElem? (i := 2) rfl)
            exact e8
          · exact Nat.ne_of_lt (Nat.lt_of_lt_of_le d1.is.lt hb)
        · refine ⟨⟨Or.inr (Or.inr hb), hkx, y, hy, hvx, if_pos rfl, hvf.imp id (fun _ => Or.inr (Or.inl rfl))⟩, ?_⟩
          intro c hc
          simp only [List.mem_cons, List.not_mem_nil, or_false] at hc
          rcases hc with rfl | rfl | rfl | rfl
          · exact hvf.elim (fun z => show vx ≠ t by omega) (fun z => z.1)
          · exact hvf.elim (fun z => show vx ≠ a0 by omega) (fun w7 (w8 : vx = a0) => w7.2 (w8 ▸ z0))
          · exact hvf.elim (fun z => show vx ≠ a1 by omega) (fun w7 (w8 : vx = a1) => w7.2 (w8 ▸ z1))
          · exact Nat.ne_of_lt (Nat.lt_of_lt_of_le hvl hb)
      · intro e he hne
        by_cases q9 : e = x
        · exact absurd q9.symm (hne (b, x, vx) (by simp))
        · refine (if_neg q9).trans (hno e he (fun q hq => ?_))
          simp only [List.mem_cons, List.not_mem_nil, or_false] at hq
          rcases hq with rfl | rfl
          · exact hne (a0, e0, v0) (by simp)
          · exact hne (a1, e1, v1) (by simp)
      · exact Or.inl ⟨hno x hx (fun q hq => by
        simp only [List.mem_cons, List.not_mem_nil, or_false] at hq
        rcases hq with rfl | rfl <;> (dsimp only; omega)), q1⟩
      · intro c hc
        simp only [List.mem_cons, List.not_mem_nil, or_false] at hc
        rcases hc with rfl | rfl | rfl | rfl
        · exact Or.inl rfl
        · exact Or.inr (Or.inl z0)
        · exact Or.inr (Or.inl z1)
        · exact Or.inr (Or.inr hb)
  · obtain ⟨⟨z0, k0, y0, b0, d0, g0, n0⟩, c0⟩ := hL (a0, e0, v0) (by simp)
    replace z0 : Z a0 := z0
    replace k0 : zOb E E.2.1 (E.2.2.2.1 (128 + e0)) 14 [.int (nI e0)] := k0
    replace d0 : zOb E H v0 14 [.int (nI y0)] := d0
    replace g0 : g e0 = nI y0 := g0
    replace n0 : v0 < zB E ∨ Z v0 := n0
    replace c0 : ∀ c : Nat × va_E, c ∈ _ → v0 ≠ c.1 := c0
    have kk0 := zOb.old k0 ho
    have al0 : a0 < H.size := (hz.at 1 rfl).lt
    have bn0 : zB E ≤ a0 := (hz.at 1 rfl).new
    obtain ⟨⟨z1, k1, y1, b1, d1, g1, n1⟩, c1⟩ := hL (a1, e1, v1) (by simp)
    replace z1 : Z a1 := z1
    replace k1 : zOb E E.2.1 (E.2.2.2.1 (128 + e1)) 14 [.int (nI e1)] := k1
    replace d1 : zOb E H v1 14 [.int (nI y1)] := d1
    replace g1 : g e1 = nI y1 := g1
    replace n1 : v1 < zB E ∨ Z v1 := n1
    replace c1 : ∀ c : Nat × va_E, c ∈ _ → v1 ≠ c.1 := c1
    have kk1 := zOb.old k1 ho
    have al1 : a1 < H.size := (hz.at 2 rfl).lt
    have bn1 : zB E ≤ a1 := (hz.at 2 rfl).new
    obtain ⟨⟨z2, k2, y2, b2, d2, g2, n2⟩, c2⟩ := hL (a2, e2, v2) (by simp)
    replace z2 : Z a2 := z2
    replace k2 : zOb E E.2.1 (E.2.2.2.1 (128 + e2)) 14 [.int (nI e2)] := k2
    replace d2 : zOb E H v2 14 [.int (nI y2)] := d2
    replace g2 : g e2 = nI y2 := g2
    replace n2 : v2 < zB E ∨ Z v2 := n2
    replace c2 : ∀ c : Nat × va_E, c ∈ _ → v2 ≠ c.1 := c2
    have kk2 := zOb.old k2 ho
    have al2 : a2 < H.size := (hz.at 3 rfl).lt
    have bn2 : zB E ≤ a2 := (hz.at 3 rfl).new
    have tl : t < H.size := (hz.at 0 rfl).lt
    have tn : zB E ≤ t := (hz.at 0 rfl).new
    have so : e0 < e1 ∧ e1 < e2 ∧ e2 < 4 := by simpa [TSo] using hso
    have pos : (x < e0) ∨ (x = e0) ∨ (e0 < x ∧ x < e1) ∨ (x = e1) ∨ (e1 < x ∧ x < e2) ∨ (x = e2) ∨ (e2 < x) := by omega
    rcases pos with q | q | q | q | q | q | q
    · refine (t_put_17 hz hxx kk0 kk1 kk2 (by omega)).mono (fun v H1 hv => ?_)
      obtain ⟨q1, b, hb, hz1⟩ := hv
      refine ⟨TM.mk (L := [(b, x, vx), (a0, e0, v0), (a1, e1, v1), (a2, e2, v2)]) hz1 [0, 4, 1, 2, 3] (by rfl) (by have h9 := hz1.nd; simp only [List.map_cons, List.map_nil, List.nodup_cons, List.mem_cons, List.not_mem_nil, or_false, not_false_eq_true, List.nodup_nil, and_true] at h9 ⊢ <;> omega) (TSh.c5 ..) (by simp only [TSo] <;> omega) ?_ ?_, ?_, hz1.2.2.1, hz1.fr ?_⟩
      · intro q hq
        simp only [List.mem_cons, List.not_mem_nil, or_false] at hq
        rcases hq with rfl | rfl | rfl | rfl
        · refine ⟨⟨Or.inr (Or.inr hb), hkx, y, hy, hvx, if_pos rfl, hvf.imp id (fun _ => Or.inr (Or.inl rfl))⟩, ?_⟩
          intro c hc
          simp only [List.mem_cons, List.not_mem_nil, or_false] at hc
          rcases hc with rfl | rfl | rfl | rfl | rfl
          · exact hvf.elim (fun z => show vx ≠ t by omega) (fun z => z.1)
          · exact hvf.elim (fun z => show vx ≠ a0 by omega) (fun w7 (w8 : vx = a0) => w7.2 (w8 ▸ z0))
          · exact hvf.elim (fun z => show vx ≠ a1 by omega) (fun w7 (w8 : vx = a1) => w7.2 (w8 ▸ z1))
          · exact hvf.elim (fun z => show vx ≠ a2 by omega) (fun w7 (w8 : vx = a2) => w7.2 (w8 ▸ z2))
          · exact Nat.ne_of_lt (Nat.lt_of_lt_of_le hvl hb)
        · refine ⟨⟨Or.inl z0, k0, y0, b0, d0, (if_neg (show ¬ e0 = x by omega)).trans g0, n0.imp id Or.inl⟩, ?_⟩
          intro c hc
          simp only [List.mem_cons, List.not_mem_nil, or_false] at hc
          rcases hc with rfl | rfl | rfl | rfl | rfl
          · have e8 := c0 _ (List.mem_of_getElem? (i := 0) rfl)
            exact e8
          · have e8 := c0 _ (List.mem_of_getElem? (i := 1) rfl)
            exact e8
          · have e8 := c0 _ (List.mem_of_getElem? (i := 2) rfl)
            exact e8
          · have e8 := c0 _ (List.mem_of_getElem? (i := 3) rfl)
            exact e8
          · exact Nat.ne_of_lt (Nat.lt_of_lt_of_le d0.is.lt hb)
        · refine ⟨⟨Or.inl z1, k1, y1, b1, d1, (if_neg (show ¬ e1 = x by omega)).trans g1, n1.imp id Or.inl⟩, ?_⟩
          intro c hc
          simp only [List.mem_cons, List.not_mem_nil, or_false] at hc
          rcases hc with rfl | rfl | rfl | rfl | rfl
          · have e8 := c1 _ (List.mem_of_getElem? (i := 0) rfl)
            exact e8
          · have e8 := c1 _ (List.mem_of_getElem? (i := 1) rfl)
            exact e8
          · have e8 := c1 _ (List.mem_of_getElem? (i := 2) rfl)
            exact e8
          · have e8 := c1 _ (List.mem_of_getElem? (i := 3) rfl)
            exact e8
          · exact Nat.ne_of_lt (Nat.lt_of_lt_of_le d1.is.lt hb)
        · refine ⟨⟨Or.inl z2, k2, y2, b2, d2, (if_neg (show ¬ e2 = x by omega)).trans g2, n2.imp id Or.inl⟩, ?_⟩
          intro c hc
          simp only [List.mem_cons, List.not_mem_nil, or_false] at hc
          rcases hc with rfl | rfl | rfl | rfl | rfl
          · have e8 := c2 _ (List.mem_of_getElem? (i := 0) rfl)
            exact e8
          · have e8 := c2 _ (List.mem_of_getElem? (i := 1) rfl)
            exact e8
          · have e8 := c2 _ (List.mem_of_getElem? (i := 2) rfl)
            exact e8
          · have e8 := c2 _ (List.mem_of_getElem? (i := 3) rfl)
            exact e8
          · exact Nat.ne_of_lt (Nat.lt_of_lt_of_le d2.is.lt hb)
      · intro e he hne
        by_cases q9 : e = x
        · exact absurd q9.symm (hne (b, x, vx) (by simp))
        · refine (if_neg q9).trans (hno e he (fun q hq => ?_))
          simp only [List.mem_cons, List.not_mem_nil, or_false] at hq
          rcases hq with rfl | rfl | rfl
          · exact hne (a0, e0, v0) (by simp)
          · exact hne (a1, e1, v1) (by simp)
          · exact hne (a2, e2, v2) (by simp)
      · exact Or.inl ⟨hno x hx (fun q hq => by
        simp only [List.mem_cons, List.not_mem_nil, or_false] at hq
        rcases hq with rfl | rfl | rfl <;> (dsimp only; omega)), q1⟩
      · intro c hc
        simp only [List.mem_cons, List.not_mem_nil, or_false] at hc
        rcases hc with rfl | rfl | rfl | rfl | rfl
        · exact Or.inl rfl
        · exact Or.inr (Or.inl z0)
        · exact Or.inr (Or.inl z1)
        · exact Or.inr (Or.inl z2)
        · exact Or.inr (Or.inr hb)
    · subst q
      refine (t_put_14 hz hxx kk0 kk1 kk2 (by omega)).mono (fun v H1 hv => ?_)
      obtain ⟨q1, hz1⟩ := hv
      refine ⟨TM.mk (L := [(a0, x, vx), (a1, e1, v1), (a2, e2, v2)]) hz1 [0, 1, 2, 3] (by rfl) (by have h9 := hz1.nd; simp only [List.map_cons, List.map_nil, List.nodup_cons, List.mem_cons, List.not_mem_nil, or_false, not_false_eq_true, List.nodup_nil, and_true] at h9 ⊢ <;> omega) (TSh.c4 ..) (by simp only [TSo] <;> omega) ?_ ?_, ?_, hz1.2.2.1, hz1.fr ?_⟩
      · intro q hq
        simp only [List.mem_cons, List.not_mem_nil, or_false] at hq
        rcases hq with rfl | rfl | rfl
        · refine ⟨⟨Or.inl z0, hkx, y, hy, hvx, if_pos rfl, hvf.imp id (fun _ => Or.inr (Or.inl rfl))⟩, ?_⟩
          intro c hc
          simp only [List.mem_cons, List.not_mem_nil, or_false] at hc
          rcases hc with rfl | rfl | rfl | rfl
          · exact hvf.elim (fun z => show vx ≠ t by omega) (fun z => z.1)
          · exact hvf.elim (fun z => show vx ≠ a0 by omega) (fun w7 (w8 : vx = a0) => w7.2 (w8 ▸ z0))
          · exact hvf.elim (fun z => show vx ≠ a1 by omega) (fun w7 (w8 : vx = a1) => w7.2 (w8 ▸ z1))
          · exact hvf.elim (fun z => show vx ≠ a2 by omega) (fun w7 (w8 : vx = a2) => w7.2 (w8 ▸ z2))
        · refine ⟨⟨Or.inl z1, k1, y1, b1, d1, (if_neg (show ¬ e1 = x by omega)).trans g1, n1.imp id Or.inl⟩, ?_⟩
          intro c hc
          simp only [List.mem_cons, List.not_mem_nil, or_false] at hc
          rcases hc with rfl | rfl | rfl | rfl
          · have e8 := c1 _ (List.mem_of_getElem? (i := 0) rfl)
            exact e8
          · have e8 := c1 _ (List.mem_of_getElem? (i := 1) rfl)
            exact e8
          · have e8 := c1 _ (List.mem_of_getElem? (i := 2) rfl)
            exact e8
          · have e8 := c1 _ (List.mem_of_getElem? (i := 3) rfl)
            exact e8
        · refine ⟨⟨Or.inl z2, k2, y2, b2, d2, (if_neg (show ¬ e2 = x by omega)).trans g2, n2.imp id Or.inl⟩, ?_⟩
          intro c hc
          simp only [List.mem_cons, List.not_mem_nil, or_false] at hc
          rcases hc with rfl | rfl | rfl | rfl
          · have e8 := c2 _ (List.mem_of_getElem? (i := 0) rfl)
            exact e8
          · have e8 := c2 _ (List.mem_of_getElem? (i := 1) rfl)
            exact e8
          · have e8 := c2 _ (List.mem_of_getElem? (i := 2) rfl)
            exact e8
          · have e8 := c2 _ (List.mem_of_getElem? (i := 3) rfl)
            exact e8
      · intro e he hne
        by_cases q9 : e = x
        · exact absurd q9.symm (hne (a0, x, vx) (by simp))
        · refine (if_neg q9).trans (hno e he (fun q hq => ?_))
          simp only [List.mem_cons, List.not_mem_nil, or_false] at hq
          rcases hq with rfl | rfl | rfl
          · exact fun z => q9 z.symm
          · exact hne (a1, e1, v1) (by simp)
          · exact hne (a2, e2, v2) (by simp)
      · exact Or.inr ⟨v0, y0, q1, zOb.kept d0 (hz1.2.2.2 _ (zOb.is d0).lt (fun hm => by
          obtain ⟨c, hc, e9⟩ := List.mem_map.mp hm
          simp only [List.mem_cons, List.not_mem_nil, or_false] at hc
          rcases hc with rfl | rfl | rfl | rfl
          · have e8 := c0 _ (List.mem_of_getElem? (i := 0) rfl)
            exact e8 e9.symm
          · have e8 := c0 _ (List.mem_of_getElem? (i := 1) rfl)
            exact e8 e9.symm
          · have e8 := c0 _ (List.mem_of_getElem? (i := 2) rfl)
            exact e8 e9.symm
          · have e8 := c0 _ (List.mem_of_getElem? (i := 3) rfl)
            exact e8 e9.symm)), b0, g0⟩
      · intro c hc
        simp only [List.mem_cons, List.not_mem_nil, or_false] at hc
        rcases hc with rfl | rfl | rfl | rfl
        · exact Or.inl rfl
        · exact Or.inr (Or.inl z0)
        · exact Or.inr (Or.inl z1)
        · exact Or.inr (Or.inl z2)
    · refine (t_put_18 hz hxx kk0 kk1 kk2 (by omega)).mono (fun v H1 hv => ?_)
      obtain ⟨q1, b, hb, hz1⟩ := hv
      refine ⟨TM.mk (L := [(a0, e0, v0), (b, x, vx), (a1, e1, v1), (a2, e2, v2)]) hz1 [0, 1, 4, 2, 3] (by rfl) (by have h9 := hz1.nd; simp only [List.map_cons, List.map_nil, List.nodup_cons, List.mem_cons, List.not_mem_nil, or_false, not_false_eq_true, List.nodup_nil, and_true] at h9 ⊢ <;> omega) (TSh.c6 ..) (by simp only [TSo] <;> omega) ?_ ?_, ?_, hz1.2.2.1, hz1.fr ?_⟩
      · intro q hq
        simp only [List.mem_cons, List.not_mem_nil, or_false] at hq
        rcases hq with rfl | rfl | rfl | rfl
        · refine ⟨⟨Or.inl z0, k0, y0, b0, d0, (if_neg (show ¬ e0 = x by omega)).trans g0, n0.imp id Or.inl⟩, ?_⟩
          intro c hc
          simp only [List.mem_cons, List.not_mem_nil, or_false] at hc
          rcases hc with rfl | rfl | rfl | rfl | rfl
          · have e8 := c0 _ (List.mem_of_getElem? (i := 0) rfl)
            exact e8
          · have e8 := c0 _ (List.mem_of_getElem? (i := 1) rfl)
            exact e8
          · have e8 := c0 _ (List.mem_of_getElem? (i := 2) rfl)
            exact e8
          · have e8 := c0 _ (List.mem_of_getElem? (i := 3) rfl)
            exact e8
          · exact Nat.ne_of_lt (Nat.lt_of_lt_of_le d0.is.lt hb)
        · refine ⟨⟨Or.inr (Or.inr hb), hkx, y, hy, hvx, if_pos rfl, hvf.imp id (fun _ => Or.inr (Or.inl rfl))⟩, ?_⟩
          intro c hc
          simp only [List.mem_cons, List.not_mem_nil, or_false] at hc
          rcases hc with rfl | rfl | rfl | rfl | rfl
          · exact hvf.elim (fun z => show vx ≠ t by omega) (fun z => z.1)
          · exact hvf.elim (fun z => show vx ≠ a0 by omega) (fun w7 (w8 : vx = a0) => w7.2 (w8 ▸ z0))
          · exact hvf.elim (fun z => show vx ≠ a1 by omega) (fun w7 (w8 : vx = a1) => w7.2 (w8 ▸ z1))
          · exact hvf.elim (fun z => show vx ≠ a2 by omega) (fun w7 (w8 : vx = a2) => w7.2 (w8 ▸ z2))
          · exact Nat.ne_of_lt (Nat.lt_of_lt_of_le hvl hb)
        · refine ⟨⟨Or.inl z1, k1, y1, b1, d1, (if_neg (show ¬ e1 = x by omega)).trans g1, n1.imp id Or.inl⟩, ?_⟩
          intro c hc
          simp only [List.mem_cons, List.not_mem_nil, or_false] at hc
          rcases hc with rfl | rfl | rfl | rfl | rfl
          · have e8 := c1 _ (List.mem_of_getElem? (i := 0) rfl)
            exact e8
          · have e8 := c1 _ (List.mem_of_getElem? (i := 1) rfl)
            exact e8
          · have e8 := c1 _ (List.mem_of_getElem? (i := 2) rfl)
            exact e8
          · have e8 := c1 _ (List.mem_of_getElem? (i := 3) rfl)
            exact e8
          · exact Nat.ne_of_lt (Nat.lt_of_lt_of_le d1.is.lt hb)
        · refine ⟨⟨Or.inl z2, k2, y2, b2, d2, (if_neg (show ¬ e2 = x by omega)).trans g2, n2.imp id Or.inl⟩, ?_⟩
          intro c hc
          simp only [List.mem_cons, List.not_mem_nil, or_false] at hc
          rcases hc with rfl | rfl | rfl | rfl | rfl
          · have e8 := c2 _ (List.mem_of_getElem? (i := 0) rfl)
            exact e8
          · have e8 := c2 _ (List.mem_of_getElem? (i := 1) rfl)
            exact e8
          · have e8 := c2 _ (List.mem_of_getElem? (i := 2) rfl)
            exact e8
          · have e8 := c2 _ (List.mem_of_getElem? (i := 3) rfl)
            exact e8
          · exact Nat.ne_of_lt (Nat.lt_of_lt_of_le d2.is.lt hb)
      · intro e he hne
        by_cases q9 : e = x
        · exact absurd q9.symm (hne (b, x, vx) (by simp))
        · refine (if_neg q9).trans (hno e he (fun q hq => ?_))
          simp only [List.mem_cons, List.not_mem_nil, or_false] at hq
          rcases hq with rfl | rfl | rfl
          · exact hne (a0, e0, v0) (by simp)
          · exact hne (a1, e1, v1) (by simp)
          · exact hne (a2, e2, v2) (by simp)
      · exact Or.inl ⟨hno x hx (fun q hq => by
        simp only [List.mem_cons, List.not_mem_nil, or_false] at hq
        rcases hq with rfl | rfl | rfl <;> (dsimp only; omega)), q1⟩
      · intro c hc
        simp only [List.mem_cons, List.not_mem_nil, or_false] at hc
        rcases hc with rfl | rfl | rfl | rfl | rfl
        · exact Or.inl rfl
        · exact Or.inr (Or.inl z0)
        · exact Or.inr (Or.inl z1)
        · exact Or.inr (Or.inl z2)
        · exact Or.inr (Or.inr hb)
    · subst q
      refine (t_put_15 hz hxx kk0 kk1 kk2 (by omega)).mono (fun v H1 hv => ?_)
      obtain ⟨q1, hz1⟩ := hv
      refine ⟨TM.mk (L := [(a0, e0, v0), (a1, x, vx), (a2, e2, v2)]) hz1 [0, 1, 2, 3] (by rfl) (by have h9 := hz1.nd; simp only [List.map_cons, List.map_nil, List.nodup_cons, List.mem_cons, List.not_mem_nil, or_false, not_false_eq_true, List.nodup_nil, and_true] at h9 ⊢ <;> omega) (TSh.c4 ..) (by simp only [TSo] <;> omega) ?_ ?_, ?_, hz1.2.2.1, hz1.fr ?_⟩
      · intro q hq
        simp only [List.mem_cons, List.not_mem_nil, or_false] at hq
        rcases hq with rfl | rfl | rfl
        · refine ⟨⟨Or.inl z0, k0, y0, b0, d0, (if_neg (show ¬ e0 = x by omega)).trans g0, n0.imp id Or.inl⟩, ?_⟩
          intro c hc
          simp only [List.mem_cons, List.not_mem_nil, or_false] at hc
          rcases hc with rfl | rfl | rfl | rfl
          · have e8 := c0 _ (List.mem_of_getElem? (i := 0) rfl)
            exact e8
          · have e8 := c0 _ (List.mem_of_getElem? (i := 1) rfl)
            exact e8
          · have e8 := c0 _ (List.mem_of_getElem? (i := 2) rfl)
            exact e8
          · have e8 := c0 _ (List.mem_of_getElem? (i := 3) rfl)
            exact e8
        · refine ⟨⟨Or.inl z1, hkx, y, hy, hvx, if_pos rfl, hvf.imp id (fun _ => Or.inr (Or.inl rfl))⟩, ?_⟩
          intro c hc
          simp only [List.mem_cons, List.not_mem_nil, or_false] at hc
          rcases hc with rfl | rfl | rfl | rfl
          · exact hvf.elim (fun z => show vx ≠ t by omega) (fun z => z.1)
          · exact hvf.elim (fun z => show vx ≠ a0 by omega) (fun w7 (w8 : vx = a0) => w7.2 (w8 ▸ z0))
          · exact hvf.elim (fun z => show vx ≠ a1 by omega) (fun w7 (w8 : vx = a1) => w7.2 (w8 ▸ z1))
          · exact hvf.elim (fun z => show vx ≠ a2 by omega) (fun w7 (w8 : vx = a2) => w7.2 (w8 ▸ z2))
        · refine ⟨⟨Or.inl z2, k2, y2, b2, d2, (if_neg (show ¬ e2 = x by omega)).trans g2, n2.imp id Or.inl⟩, ?_⟩
          intro c hc
          simp only [List.mem_cons, List.not_mem_nil, or_false] at hc
          rcases hc with rfl | rfl | rfl | rfl
          · have e8 := c2 _ (List.mem_of_getElem? (i := 0) rfl)
            exact e8
          · have e8 := c2 _ (List.mem_of_getElem? (i := 1) rfl)
            exact e8
          · have e8 := c2 _ (List.mem_of_getElem? (i := 2) rfl)
            exact e8
          · have e8 := c2 _ (List.mem_of_getElem? (i := 3) rfl)
            exact e8
      · intro e he hne
        by_cases q9 : e = x
        · exact absurd q9.symm (hne (a1, x, vx) (by simp))
        · refine (if_neg q9).trans (hno e he (fun q hq => ?_))
          simp only [List.mem_cons, List.not_mem_nil, or_false] at hq
          rcases hq with rfl | rfl | rfl
          · exact hne (a0, e0, v0) (by simp)
          · exact fun z => q9 z.symm
          · exact hne (a2, e2, v2) (by simp)
      · exact Or.inr ⟨v1, y1, q1, zOb.kept d1 (hz1.2.2.2 _ (zOb.is d1).lt (fun hm => by
          obtain ⟨c, hc, e9⟩ := List.mem_map.mp hm
          simp only [List.mem_cons, List.not_mem_nil, or_false] at hc
          rcases hc with rfl | rfl | rfl | rfl
          · have e8 := c1 _ (List.mem_of_getElem? (i := 0) rfl)
            exact e8 e9.symm
          · have e8 := c1 _ (List.mem_of_getElem? (i := 1) rfl)
            exact e8 e9.symm
          · have e8 := c1 _ (List.mem_of_getElem? (i := 2) rfl)
            exact e8 e9.symm
          · have e8 := c1 _ (List.mem_of_getElem? (i := 3) rfl)
            exact e8 e9.symm)), b1, g1⟩
      · intro c hc
        simp only [List.mem_cons, List.not_mem_nil, or_false] at hc
        rcases hc with rfl | rfl | rfl | rfl
        · exact Or.inl rfl
        · exact Or.inr (Or.inl z0)
        · exact Or.inr (Or.inl z1)
        · exact Or.inr (Or.inl z2)
    · refine (t_put_19 hz hxx kk0 kk1 kk2 (by omega)).mono (fun v H1 hv => ?_)
      obtain ⟨q1, b, hb, hz1⟩ := hv
      refine ⟨TM.mk (L := [(a0, e0, v0), (a1, e1, v1), (b, x, vx), (a2, e2, v2)]) hz1 [0, 1, 2, 4, 3] (by rfl) (by have h9 := hz1.nd; simp only [List.map_cons, List.map_nil, List.nodup_cons, List.mem_cons, List.not_mem_nil, or_false, not_false_eq_true, List.nodup_nil, and_true] at h9 ⊢ <;> omega) (TSh.c7 ..) (by simp only [TSo] <;> omega) ?_ ?_, ?_, hz1.2.2.1, hz1.fr ?_⟩
      · intro q hq
        simp only [List.mem_cons, List.not_mem_nil, or_false] at hq
        rcases hq with rfl | rfl | rfl | rfl
        · refine ⟨⟨Or.inl z0, k0, y0, b0, d0, (if_neg (show ¬ e0 = x by omega)).trans g0, n0.imp id Or.inl⟩, ?_⟩
          intro c hc
          simp only [List.mem_cons, List.not_mem_nil, or_false] at hc
          rcases hc with rfl | rfl | rfl | rfl | rfl
          · have e8 := c0 _ (List.mem_of_getElem? (i := 0) rfl)
            exact e8
          · have e8 := c0 _ (List.mem_of_getElem? (i := 1) rfl)
            exact e8
          · have e8 := c0 _ (List.mem_of_getElem? (i := 2) rfl)
            exact e8
          · have e8 := c0 _ (List.mem_of_getElem? (i := 3) rfl)
            exact e8
          · exact Nat.ne_of_lt (Nat.lt_of_lt_of_le d0.is.lt hb)
        · refine ⟨⟨Or.inl z1, k1, y1, b1, d1, (if_neg (show ¬ e1 = x by omega)).trans g1, n1.imp id Or.inl⟩, ?_⟩
          intro c hc
          simp only [List.mem_cons, List.not_mem_nil, or_false] at hc
          rcases hc with rfl | rfl | rfl | rfl | rfl
          · have e8 := c1 _ (List.mem_of_getElem? (i := 0) rfl)
            exact e8
          · have e8 := c1 _ (List.mem_of_getElem? (i := 1) rfl)
            exact e8
          · have e8 := c1 _ (List.mem_of_getElem? (i := 2) rfl)
            exact e8
          · have e8 := c1 _ (List.mem_of_getElem? (i := 3) rfl)
            exact e8
          · exact Nat.ne_of_lt (Nat.lt_of_lt_of_le d1.is.lt hb)
        · refine ⟨⟨Or.inr (Or.inr hb), hkx, y, hy, hvx, if_pos rfl, hvf.imp id (fun _ => Or.inr (Or.inl rfl))⟩, ?_⟩
          intro c hc
          simp only [List.mem_cons, List.not_mem_nil, or_false] at hc
          rcases hc with rfl | rfl | rfl | rfl | rfl
          · exact hvf.elim (fun z => show vx ≠ t by omega) (fun z => z.1)
          · exact hvf.elim (fun z => show vx ≠ a0 by omega) (fun w7 (w8 : vx = a0) => w7.2 (w8 ▸ z0))
          · exact hvf.elim (fun z => show vx ≠ a1 by omega) (fun w7 (w8 : vx = a1) => w7.2 (w8 ▸ z1))
          · exact hvf.elim (fun z => show vx ≠ a2 by omega) (fun w7 (w8 : vx = a2) => w7.2 (w8 ▸ z2))
          · exact Nat.ne_of_lt (Nat.lt_of_lt_of_le hvl hb)
        · refine ⟨⟨Or.inl z2, k2, y2, b2, d2, (if_neg (show ¬ e2 = x by omega)).trans g2, n2.imp id Or.inl⟩, ?_⟩
          intro c hc
          simp only [List.mem_cons, List.not_mem_nil, or_false] at hc
          rcases hc with rfl | rfl | rfl | rfl | rfl
          · have e8 := c2 _ (List.mem_of_getElem? (i := 0) rfl)
            exact e8
          · have e8 := c2 _ (List.mem_of_getElem? (i := 1) rfl)
            exact e8
          · have e8 := c2 _ (List.mem_of_getElem? (i := 2) rfl)
            exact e8
          · have e8 := c2 _ (List.mem_of_getElem? (i := 3) rfl)
            exact e8
          · exact Nat.ne_of_lt (Nat.lt_of_lt_of_le d2.is.lt hb)
      · intro e he hne
        by_cases q9 : e = x
        · exact absurd q9.symm (hne (b, x, vx) (by simp))
        · refine (if_neg q9).trans (hno e he (fun q hq => ?_))
          simp only [List.mem_cons, List.not_mem_nil, or_false] at hq
          rcases hq with rfl | rfl | rfl
          · exact hne (a0, e0, v0) (by simp)
          · exact hne (a1, e1, v1) (by simp)
          · exact hne (a2, e2, v2) (by simp)
      · exact Or.inl ⟨hno x hx (fun q hq => by
        simp only [List.mem_cons, List.not_mem_nil, or_false] at hq
        rcases hq with rfl | rfl | rfl <;> (dsimp only; omega)), q1⟩
      · intro c hc
        simp only [List.mem_cons, List.not_mem_nil, or_false] at hc
        rcases hc with rfl | rfl | rfl | rfl | rfl
        · exact Or.inl rfl
        · exact Or.inr (Or.inl z0)
        · exact Or.inr (Or.inl z1)
        · exact Or.inr (Or.inl z2)
        · exact Or.inr (Or.inr hb)
    · subst q
      refine (t_put_16 hz hxx kk0 kk1 kk2 (by omega)).mono (fun v H1 hv => ?_)
      obtain ⟨q1, hz1⟩ := hv
      refine ⟨TM.mk (L := [(a0, e0, v0), (a1, e1, v1), (a2, x, vx)]) hz1 [0, 1, 2, 3] (by rfl) (by have h9 := hz1.nd; simp only [List.map_cons, List.map_nil, List.nodup_cons, List.mem_cons, List.not_mem_nil, or_false, not_false_eq_true, List.nodup_nil, and_true] at h9 ⊢ <;> omega) (TSh.c4 ..) (by simp only [TSo] <;> omega) ?_ ?_, ?_, hz1.2.2.1, hz1.fr ?_⟩
      · intro q hq
        simp only [List.mem_cons, List.not_mem_nil, or_false] at hq
        rcases hq with rfl | rfl | rfl
        · refine ⟨⟨Or.inl z0, k0, y0, b0, d0, (if_neg (show ¬ e0 = x by omega)).trans g0, n0.imp id Or.inl⟩, ?_⟩
          intro c hc
          simp only [List.mem_cons, List.not_mem_nil, or_false] at hc
          rcases hc with rfl | rfl | rfl | rfl
          · have e8 := c0 _ (List.mem_of_getElem? (i := 0) rfl)
            exact e8
          · have e8 := c0 _ (List.mem_of_getElem? (i := 1) rfl)
            exact e8
          · have e8 := c0 _ (List.mem_of_getElem? (i := 2) rfl)
            exact e8
          · have e8 := c0 _ (List.mem_of_getElem? (i := 3) rfl)
            exact e8
        · refine ⟨⟨Or.inl z1, k1, y1, b1, d1, (if_neg (show ¬ e1 = x by omega)).trans g1, n1.imp id Or.inl⟩, ?_⟩
          intro c hc
          simp only [List.mem_cons, List.not_mem_nil, or_false] at hc
          rcases hc with rfl | rfl | rfl | rfl
          · have e8 := c1 _ (List.mem_of_getElem? (i := 0) rfl)
            exact e8
          · have e8 := c1 _ (List.mem_of_getElem? (i := 1) rfl)
            exact e8
          · have e8 := c1 _ (List.mem_of_getElem? (i := 2) rfl)
            exact e8
          · have e8 := c1 _ (List.mem_of_getElem? (i := 3) rfl)
            exact e8
        · refine ⟨⟨Or.inl z2, hkx, y, hy, hvx, if_pos rfl, hvf.imp id (fun _ => Or.inr (Or.inl rfl))⟩, ?_⟩
          intro c hc
          simp only [List.mem_cons, List.not_mem_nil, or_false] at hc
          rcases hc with rfl | rfl | rfl | rfl
          · exact hvf.elim (fun z => show vx ≠ t by omega) (fun z => z.1)
          · exact hvf.elim (fun z => show vx ≠ a0 by omega) (fun w7 (w8 : vx = a0) => w7.2 (w8 ▸ z0))
          · exact hvf.elim (fun z => show vx ≠ a1 by omega) (fun w7 (w8 : vx = a1) => w7.2 (w8 ▸ z1))
          · exact hvf.elim (fun z => show vx ≠ a2 by omega) (fun w7 (w8 : vx = a2) => w7.2 (w8 ▸ z2))
      · intro e he hne
        by_cases q9 : e = x
        · exact absurd q9.symm (hne (a2, x, vx) (by simp))
        · refine (if_neg q9).trans (hno e he (fun q hq => ?_))
          simp only [List.mem_cons, List.not_mem_nil, or_false] at hq
          rcases hq with rfl | rfl | rfl
          · exact hne (a0, e0, v0) (by simp)
          · exact hne (a1, e1, v1) (by simp)
          · exact fun z => q9 z.symm
      · exact Or.inr ⟨v2, y2, q1, zOb.kept d2 (hz1.2.2.2 _ (zOb.is d2).lt (fun hm => by
          obtain ⟨c, hc, e9⟩ := List.mem_map.mp hm
          simp only [List.mem_cons, List.not_mem_nil, or_false] at hc
          rcases hc with rfl | rfl | rfl | rfl
          · have e8 := c2 _ (List.mem_of_getElem? (i := 0) rfl)
            exact e8 e9.symm
          · have e8 := c2 _ (List.mem_of_getElem? (i := 1) rfl)
            exact e8 e9.symm
          · have e8 := c2 _ (List.mem_of_getElem? (i := 2) rfl)
            exact e8 e9.symm
          · have e8 := c2 _ (List.mem_of_getElem? (i := 3) rfl)
            exact e8 e9.symm)), b2, g2⟩
      · intro c hc
        simp only [List.mem_cons, List.not_mem_nil, or_false] at hc
        rcases hc with rfl | rfl | rfl | rfl
        · exact Or.inl rfl
        · exact Or.inr (Or.inl z0)
        · exact Or.inr (Or.inl z1)
        · exact Or.inr (Or.inl z2)
    · refine (t_put_20 hz hxx kk0 kk1 kk2 (by omega)).mono (fun v H1 hv => ?_)
      obtain ⟨q1, b, hb, hz1⟩ := hv
      refine ⟨TM.mk (L := [(a0, e0, v0), (a1, e1, v1), (a2, e2, v2), (b, x, vx)]) hz1 [0, 1, 2, 3, 4] (by rfl) (by have h9 := hz1.nd; simp only [List.map_cons, List.map_nil, List.nodup_cons, List.mem_cons, List.not_mem_nil, or_false, not_false_eq_true, List.nodup_nil, and_true] at h9 ⊢ <;> omega) (TSh.c8 ..) (by simp only [TSo] <;> omega) ?_ ?_, ?_, hz1.2.2.1, hz1.fr ?_⟩
      · intro q hq
        simp only [List.mem_cons, List.not_mem_nil, or_false] at hq
        rcases hq with rfl | rfl | rfl | rfl
        · refine ⟨⟨Or.inl z0, k0, y0, b0, d0, (if_neg (show ¬ e0 = x by omega)).trans g0, n0.imp id Or.inl⟩, ?_⟩
          intro c hc
          simp only [List.mem_cons, List.not_mem_nil, or_false] at hc
          rcases hc with rfl | rfl | rfl | rfl | rfl
          · have e8 := c0 _ (List.mem_of_getElem? (i := 0) rfl)
            exact e8
          · have e8 := c0 _ (List.mem_of_getElem? (i := 1) rfl)
            exact e8
          · have e8 := c0 _ (List.mem_of_getElem? (i := 2) rfl)
            exact e8
          · have e8 := c0 _ (List.mem_of_getElem? (i := 3) rfl)
            exact e8
          · exact Nat.ne_of_lt (Nat.lt_of_lt_of_le d0.is.lt hb)
        · refine ⟨⟨Or.inl z1, k1, y1, b1, d1, (if_neg (show ¬ e1 = x by omega)).trans g1, n1.imp id Or.inl⟩, ?_⟩
          intro c hc
          simp only [List.mem_cons, List.not_mem_nil, or_false] at hc
          rcases hc with rfl | rfl | rfl | rfl | rfl
          · have e8 := c1 _ (List.mem_of_getElem? (i := 0) rfl)
            exact e8
          · have e8 := c1 _ (List.mem_of_getElem? (i := 1) rfl)
            exact e8
          · have e8 := c1 _ (List.mem_of_getElem? (i := 2) rfl)
            exact e8
          · have e8 := c1 _ (List.mem_of_getElem? (i := 3) rfl)
            exact e8
          · exact Nat.ne_of_lt (Nat.lt_of_lt_of_le d1.is.lt hb)
        · refine ⟨⟨Or.inl z2, k2, y2, b2, d2, (if_neg (show ¬ e2 = x by omega)).trans g2, n2.imp id Or.inl⟩, ?_⟩
          intro c hc
          simp only [List.mem_cons, List.not_mem_nil, or_false] at hc
          rcases hc with rfl | rfl | rfl | rfl | rfl
          · have e8 := c2 _ (List.mem_of_getElem? (i := 0) rfl)
            exact e8
          · have e8 := c2 _ (List.mem_of_getElem? (i := 1) rfl)
            exact e8
          · have e8 := c2 _ (List.mem_of_getElem? (i := 2) rfl)
            exact e8
          · have e8 := c2 _ (List.mem_of_getElem? (i := 3) rfl)
            exact e8
          · exact Nat.ne_of_lt (Nat.lt_of_lt_of_le d2.is.lt hb)
        · refine ⟨⟨Or.inr (Or.inr hb), hkx, y, hy, hvx, if_pos rfl, hvf.imp id (fun _ => Or.inr (Or.inl rfl))⟩, ?_⟩
          intro c hc
          simp only [List.mem_cons, List.not_mem_nil, or_false] at hc
          rcases hc with rfl | rfl | rfl | rfl | rfl
          · exact hvf.elim (fun z => show vx ≠ t by omega) (fun z => z.1)
          · exact hvf.elim (fun z => show vx ≠ a0 by omega) (fun w7 (w8 : vx = a0) => w7.2 (w8 ▸ z0))
          · exact hvf.elim (fun z => show vx ≠ a1 by omega) (fun w7 (w8 : vx = a1) => w7.2 (w8 ▸ z1))
          · exact hvf.elim (fun z => show vx ≠ a2 by omega) (fun w7 (w8 : vx = a2) => w7.2 (w8 ▸ z2))
          · exact Nat.ne_of_lt (Nat.lt_of_lt_of_le hvl hb)
      · intro e he hne
        by_cases q9 : e = x
        · exact absurd q9.symm (hne (b, x, vx) (by simp))
        · refine (if_neg q9).trans (hno e he (fun q hq => ?_))
          simp only [List.mem_cons, List.not_mem_nil, or_false] at hq
          rcases hq with rfl | rfl | rfl
          · exact hne (a0, e0, v0) (by simp)
          · exact hne (a1, e1, v1) (by simp)
          · exact hne (a2, e2, v2) (by simp)
      · exact Or.inl ⟨hno x hx (fun q hq => by
        simp only [List.mem_cons, List.not_mem_nil, or_false] at hq
        rcases hq with rfl | rfl | rfl <;> (dsimp only; omega)), q1⟩
      · intro c hc
        simp only [List.mem_cons, List.not_mem_nil, or_false] at hc
        rcases hc with rfl | rfl | rfl | rfl | rfl
        · exact Or.inl rfl
        · exact Or.inr (Or.inl z0)
        · exact Or.inr (Or.inl z1)
        · exact Or.inr (Or.inl z2)
        · exact Or.inr (Or.inr hb)
  · obtain ⟨⟨z0, k0, y0, b0, d0, g0, n0⟩, c0⟩ := hL (a0, e0, v0) (by simp)
    replace z0 : Z a0 := z0
    replace k0 : zOb E E.2.1 (E.2.2.2.1 (128 + e0)) 14 [.int (nI e0)] := k0
    replace d0 : zOb E H v0 14 [.int (nI y0)] := d0
    replace g0 : g e0 = nI y0 := g0
    replace n0 : v0 < zB E ∨ Z v0 := n0
    replace c0 : ∀ c : Nat × va_E, c ∈ _ → v0 ≠ c.1 := c0
    have kk0 := zOb.old k0 ho
    have al0 : a0 < H.size := (hz.at 1 rfl).lt
    have bn0 : zB E ≤ a0 := (hz.at 1 rfl).new
    obtain ⟨⟨z1, k1, y1, b1, d1, g1, n1⟩, c1⟩ := hL (a1, e1, v1) (by simp)
    replace z1 : Z a1 := z1
    replace k1 : zOb E E.2.1 (E.2.2.2.1 (128 + e1)) 14 [.int (nI e1)] := k1
    replace d1 : zOb E H v1 14 [.int (nI y1)] := d1
    replace g1 : g e1 = nI y1 := g1
    replace n1 : v1 < zB E ∨ Z v1 := n1
    replace c1 : ∀ c : Nat × va_E, c ∈ _ → v1 ≠ c.1 := c1
    have kk1 := zOb.old k1 ho
    have al1 : a1 < H.size := (hz.at 2 rfl).lt
    have bn1 : zB E ≤ a1 := (hz.at 2 rfl).new
    obtain ⟨⟨z2, k2, y2, b2, d2, g2, n2⟩, c2⟩ := hL (a2, e2, v2) (by simp)
    replace z2 : Z a2 := z2
    replace k2 : zOb E E.2.1 (E.2.2.2.1 (128 + e2)) 14 [.int (nI e2)] := k2
    replace d2 : zOb E H v2 14 [.int (nI y2)] := d2
    replace g2 : g e2 = nI y2 := g2
    replace n2 : v2 < zB E ∨ Z v2 := n2
    replace c2 : ∀ c : Nat × va_E, c ∈ _ → v2 ≠ c.1 := c2
    have kk2 := zOb.old k2 ho
    have al2 : a2 < H.size := (hz.at 3 rfl).lt
    have bn2 : zB E ≤ a2 := (hz.at 3 rfl).new
    obtain ⟨⟨z3, k3, y3, b3, d3, g3, n3⟩, c3⟩ := hL (a3, e3, v3) (by simp)
    replace z3 : Z a3 := z3
    replace k3 : zOb E E.2.1 (E.2.2.2.1 (128 + e3)) 14 [.int (nI e3)] := k3
    replace d3 : zOb E H v3 14 [.int (nI y3)] := d3
    replace g3 : g e3 = nI y3 := g3
    replace n3 : v3 < zB E ∨ Z v3 := n3
    replace c3 : ∀ c : Nat × va_E, c ∈ _ → v3 ≠ c.1 := c3
    have kk3 := zOb.old k3 ho
    have al3 : a3 < H.size := (hz.at 4 rfl).lt
    have bn3 : zB E ≤ a3 := (hz.at 4 rfl).new
    have tl : t < H.size := (hz.at 0 rfl).lt
    have tn : zB E ≤ t := (hz.at 0 rfl).new
    have so : e0 < e1 ∧ e1 < e2 ∧ e2 < e3 ∧ e3 < 4 := by simpa [TSo] using hso
    have pos : (x < e0) ∨ (x = e0) ∨ (e0 < x ∧ x < e1) ∨ (x = e1) ∨ (e1 < x ∧ x < e2) ∨ (x = e2) ∨ (e2 < x ∧ x < e3) ∨ (x = e3) ∨ (e3 < x) := by omega
    rcases pos with q | q | q | q | q | q | q | q | q
    · omega
    · subst q
      refine (t_put_21 hz hxx kk0 kk1 kk2 kk3 (by omega)).mono (fun v H1 hv => ?_)
      obtain ⟨q1, hz1⟩ := hv
      refine ⟨TM.mk (L := [(a0, x, vx), (a1, e1, v1), (a2, e2, v2), (a3, e3, v3)]) hz1 [0, 1, 2, 3, 4] (by rfl) (by have h9 := hz1.nd; simp only [List.map_cons, List.map_nil, List.nodup_cons, List.mem_cons, List.not_mem_nil, or_false, not_false_eq_true, List.nodup_nil, and_true] at h9 ⊢ <;> omega) (TSh.c5 ..) (by simp only [TSo] <;> omega) ?_ ?_, ?_, hz1.2.2.1, hz1.fr ?_⟩
      · intro q hq
        simp only [List.mem_cons, List.not_mem_nil, or_false] at hq
        rcases hq with rfl | rfl | rfl | rfl
        · refine ⟨⟨Or.inl z0, hkx, y, hy, hvx, if_pos rfl, hvf.imp id (fun _ => Or.inr (Or.inl rfl))⟩, ?_⟩
          intro c hc
          simp only [List.mem_cons, List.not_mem_nil, or_false] at hc
          rcases hc with rfl | rfl | rfl | rfl | rfl
          · exact hvf.elim (fun z => show vx ≠ t by omega) (fun z => z.1)
          · exact hvf.elim (fun z => show vx ≠ a0 by omega) (fun w7 (w8 : vx = a0) => w7.2 (w8 ▸ z0))
          · exact hvf.elim (fun z => show vx ≠ a1 by omega) (fun w7 (w8 : vx = a1) => w7.2 (w8 ▸ z1))
          · exact hvf.elim (fun z => show vx ≠ a2 by omega) (fun w7 (w8 : vx = a2) => w7.2 (w8 ▸ z2))
          · exact hvf.elim (fun z => show vx ≠ a3 by omega) (fun w7 (w8 : vx = a3) => w7.2 (w8 ▸ z3))
        · refine ⟨⟨Or.inl z1, k1, y1, b1, d1, (if_neg (show ¬ e1 = x by omega)).trans g1, n1.imp id Or.inl⟩, ?_⟩
          intro c hc
          simp only [List.mem_cons, List.not_mem_nil, or_false] at hc
          rcases hc with rfl | rfl | rfl | rfl | rfl
          · have e8 := c1 _ (List.mem_of_getElem? (i := 0) rfl)
            exact e8
          · have e8 := c1 _ (List.mem_of_getElem? (i := 1) rfl)
            exact e8
          · have e8 := c1 _ (List.mem_of_getElem? (i := 2) rfl)
            exact e8
          · have e8 := c1 _ (List.mem_of_getElem? (i := 3) rfl)
            exact e8
          · have e8 := c1 _ (List.mem_of_getElem? (i := 4) rfl)
            exact e8
        · refine ⟨⟨Or.inl z2, k2, y2, b2, d2, (if_neg (show ¬ e2 = x by omega)).trans g2, n2.imp id Or.inl⟩, ?_⟩
          intro c hc
          simp only [List.mem_cons, List.not_mem_nil, or_false] at hc
          rcases hc with rfl | rfl | rfl | rfl | rfl
          · have e8 := c2 _ (List.mem_of_getElem? (i := 0) rfl)
            exact e8
          · have e8 := c2 _ (List.mem_of_getElem? (i := 1) rfl)
            exact e8
          · have e8 := c2 _ (List.mem_of_getElem? (i := 2) rfl)
            exact e8
          · have e8 := c2 _ (List.mem_of_getElem? (i := 3) rfl)
            exact e8
          · have e8 := c2 _ (List.mem_of_getElem? (i := 4) rfl)
            exact e8
        · refine ⟨⟨Or.inl z3, k3, y3, b3, d3, (if_neg (show ¬ e3 = x by omega)).trans g3, n3.imp id Or.inl⟩, ?_⟩
          intro c hc
          simp only [List.mem_cons, List.not_mem_nil, or_false] at hc
          rcases hc with rfl | rfl | rfl | rfl | rfl
          · have e8 := c3 _ (List.mem_of_getElem? (i := 0) rfl)
            exact e8
          · have e8 := c3 _ (List.mem_of_getElem? (i := 1) rfl)
            exact e8
          · have e8 := c3 _ (List.mem_of_getElem? (i := 2) rfl)
            exact e8
          · have e8 := c3 _ (List.mem_of_getElem? (i := 3) rfl)
            exact e8
          · have e8 := c3 _ (List.mem_of_getElem? (i := 4) rfl)
            exact e8
      · intro e he hne
        by_cases q9 : e = x
        · exact absurd q9.symm (hne (a0, x, vx) (by simp))
        · refine (if_neg q9).trans (hno e he (fun q hq => ?_))
          simp only [List.mem_cons, List.not_mem_nil, or_false] at hq
          rcases hq with rfl | rfl | rfl | rfl
          · exact fun z => q9 z.symm
          · exact hne (a1, e1, v1) (by simp)
          · exact hne (a2, e2, v2) (by simp)
          · exact hne (a3, e3, v3) (by simp)
      · exact Or.inr ⟨v0, y0, q1, zOb.kept d0 (hz1.2.2.2 _ (zOb.is d0).lt (fun hm => by
          obtain ⟨c, hc, e9⟩ := List.mem_map.mp hm
          simp only [List.mem_cons, List.not_mem_nil, or_false] at hc
          rcases hc with rfl | rfl | rfl | rfl | rfl
          · have e8 := c0 _ (List.mem_of_getElem? (i := 0) rfl)
            exact e8 e9.symm
          · have e8 := c0 _ (List.mem_of_getElem? (i := 1) rfl)
            exact e8 e9.symm
          · have e8 := c0 _ (List.mem_of_getElem? (i := 2) rfl)
            exact e8 e9.symm
          · have e8 := c0 _ (List.mem_of_getElem? (i := 3) rfl)
            exact e8 e9.symm
          · have e8 := c0 _ (List.mem_of_getElem? (i := 4) rfl)
            exact e8 e9.symm)), b0, g0⟩
      · intro c hc
        simp only [List.mem_cons, List.not_mem_nil, or_false] at hc
        rcases hc with rfl | rfl | rfl | rfl | rfl
        · exact Or.inl rfl
        · exact Or.inr (Or.inl z0)
        · exact Or.inr (Or.inl z1)
        · exact Or.inr (Or.inl z2)
        · exact Or.inr (Or.inl z3)
    · omega
    · subst q
      refine (t_put_22 hz hxx kk0 kk1 kk2 kk3 (by omega)).mono (fun v H1 hv => ?_)
      obtain ⟨q1, hz1⟩ := hv
      refine ⟨TM.mk (L := [(a0, e0, v0), (a1, x, vx), (a2, e2, v2), (a3, e3, v3)]) hz1 [0, 1, 2, 3, 4] (by rfl) (by have h9 := hz1.nd; simp only [List.map_cons, List.map_nil, List.nodup_cons, List.mem_cons, List.not_mem_nil, or_false, not_false_eq_true, List.nodup_nil, and_true] at h9 ⊢ <;> omega) (TSh.c5 ..) (by simp only [TSo] <;> omega) ?_ ?_, ?_, hz1.2.2.1, hz1.fr ?_⟩
      · intro q hq
        simp only [List.mem_cons, List.not_mem_nil, or_false] at hq
        rcases hq with rfl | rfl | rfl | rfl
        · refine ⟨⟨Or.inl z0, k0, y0, b0, d0, (if_neg (show ¬ e0 = x by omega)).trans g0, n0.imp id Or.inl⟩, ?_⟩
          intro c hc
          simp only [List.mem_cons, List.not_mem_nil, or_false] at hc
          rcases hc with rfl | rfl | rfl | rfl | rfl
          · have e8 := c0 _ (List.mem_of_getElem? (i := 0) rfl)
            exact e8
          · have e8 := c0 _ (List.mem_of_getElem? (i := 1) rfl)
            exact e8
          · have e8 := c0 _ (List.mem_of_getElem? (i := 2) rfl)
            exact e8
          · have e8 := c0 _ (List.mem_of_getElem? (i := 3) rfl)
            exact e8
          · have e8 := c0 _ (List.mem_of_getElem? (i := 4) rfl)
            exact e8
        · refine ⟨⟨Or.inl z1, hkx, y, hy, hvx, if_pos rfl, hvf.imp id (fun _ => Or.inr (Or.inl rfl))⟩, ?_⟩
          intro c hc
          simp only [List.mem_cons, List.not_mem_nil, or_false] at hc
          rcases hc with rfl | rfl | rfl | rfl | rfl
          · exact hvf.elim (fun z => show vx ≠ t by omega) (fun z => z.1)
          · exact hvf.elim (fun z => show vx ≠ a0 by omega) (fun w7 (w8 : vx = a0) => w7.2 (w8 ▸ z0))
          · exact hvf.elim (fun z => show vx ≠ a1 by omega) (fun w7 (w8 : vx = a1) => w7.2 (w8 ▸ z1))
          · exact hvf.elim (fun z => show vx ≠ a2 by omega) (fun w7 (w8 : vx = a2) => w7.2 (w8 ▸ z2))
          · exact hvf.elim (fun z => show vx ≠ a3 by omega) (fun w7 (w8 : vx = a3) => w7.2 (w8 ▸ z3))
        · refine ⟨⟨Or.inl z2, k2, y2, b2, d2, (if_neg (show ¬ e2 = x by omega)).trans g2, n2.imp id Or.inl⟩, ?_⟩
          intro c hc
          simp only [List.mem_cons, List.not_mem_nil, or_false] at hc
          rcases hc with rfl | rfl | rfl | rfl | rfl
          · have e8 := c2 _ (List.mem_of_getElem? (i := 0) rfl)
            exact e8
          · have e8 := c2 _ (List.mem_of_getElem? (i := 1) rfl)
            exact e8
          · have e8 := c2 _ (List.mem_of_getElem? (i := 2) rfl)
            exact e8
          · have e8 := c2 _ (List.mem_of_getElem? (i := 3) rfl)
            exact e8
          · have e8 := c2 _ (List.mem_of_getElem? (i := 4) rfl)
            exact e8
        · refine ⟨⟨Or.inl z3, k3, y3, b3, d3, (if_neg (show ¬ e3 = x by omega)).trans g3, n3.imp id Or.inl⟩, ?_⟩
          intro c hc
          simp only [List.mem_cons, List.not_mem_nil, or_false] at hc
          rcases hc with rfl | rfl | rfl | rfl | rfl
          · have e8 := c3 _ (List.mem_of_getElem? (i := 0) rfl)
            exact e8
          · have e8 := c3 _ (List.mem_of_getElem? (i := 1) rfl)
            exact e8
          · have e8 := c3 _ (List.mem_of_getElem? (i := 2) rfl)
            exact e8
          · have e8 := c3 _ (List.mem_of_getElem? (i := 3) rfl)
            exact e8
          · have e8 := c3 _ (List.mem_of_getElem? (i := 4) rfl)
            exact e8
      · intro e he hne
        by_cases q9 : e = x
        · exact absurd q9.symm (hne (a1, x, vx) (by simp))
        · refine (if_neg q9).trans (hno e he (fun q hq => ?_))
          simp only [List.mem_cons, List.not_mem_nil, or_false] at hq
          rcases hq with rfl | rfl | rfl | rfl
          · exact hne (a0, e0, v0) (by simp)
          · exact fun z => q9 z.symm
          · exact hne (a2, e2, v2) (by simp)
          · exact hne (a3, e3, v3) (by simp)
      · exact Or.inr ⟨v1, y1, q1, zOb.kept d1 (hz1.2.2.2 _ (zOb.is d1).lt (fun hm => by
          obtain ⟨c, hc, e9⟩ := List.mem_map.mp hm
          simp only [List.mem_cons, List.not_mem_nil, or_false] at hc
          rcases hc with rfl | rfl | rfl | rfl | rfl
          · have e8 := c1 _ (List.mem_of_getElem? (i := 0) rfl)
            exact e8 e9.symm
          · have e8 := c1 _ (List.mem_of_getElem? (i := 1) rfl)
            exact e8 e9.symm
          · have e8 := c1 _ (List.mem_of_getElem? (i := 2) rfl)
            exact e8 e9.symm
          · have e8 := c1 _ (List.mem_of_getElem? (i := 3) rfl)
            exact e8 e9.symm
          · have e8 := c1 _ (List.mem_of_getElem? (i := 4) rfl)
            exact e8 e9.symm)), b1, g1⟩
      · intro c hc
        simp only [List.mem_cons, List.not_mem_nil, or_false] at hc
        rcases hc with rfl | rfl | rfl | rfl | rfl
        · exact Or.inl rfl
        · exact Or.inr (Or.inl z0)
        · exact Or.inr (Or.inl z1)
        · exact Or.inr (Or.inl z2)
        · exact Or.inr (Or.inl z3)
    · omega
    · subst q
      refine (t_put_23 hz hxx kk0 kk1 kk2 kk3 (by omega)).mono (fun v H1 hv => ?_)
      obtain ⟨q1, hz1⟩ := hv
      refine ⟨TM.mk (L := [(a0, e0, v0), (a1, e1, v1), (a2, x, vx), (a3, e3, v3)]) hz1 [0, 1, 2, 3, 4] (by rfl) (by have h9 := hz1.nd; simp only [List.map_cons, List.map_nil, List.nodup_cons, List.mem_cons, List.not_mem_nil, or_false, not_false_eq_true, List.nodup_nil, and_true] at h9 ⊢ <;> omega) (TSh.c5 ..) (by simp only [TSo] <;> omega) ?_ ?_, ?_, hz1.2.2.1, hz1.fr ?_⟩
      · intro q hq
        simp only [List.mem_cons, List.not_mem_nil, or_false] at hq
        rcases hq with rfl | rfl | rfl | rfl
        · refine ⟨⟨Or.inl z0, k0, y0, b0, d0, (if_neg (show ¬ e0 = x by omega)).trans g0, n0.imp id Or.inl⟩, ?_⟩
          intro c hc
          simp only [List.mem_cons, List.not_mem_nil, or_false] at hc
          rcases hc with rfl | rfl | rfl | rfl | rfl
          · have e8 := c0 _ (List.mem_of_getElem? (i := 0) rfl)
            exact e8
          · have e8 := c0 _ (List.mem_of_getElem? (i := 1) rfl)
            exact e8
          · have e8 := c0 _ (List.mem_of_getElem? (i := 2) rfl)
            exact e8
          · have e8 := c0 _ (List.mem_of_getElem? (i := 3) rfl)
            exact e8
          · have e8 := c0 _ (List.mem_of_getElem? (i := 4) rfl)
            exact e8
        · refine ⟨⟨Or.inl z1, k1, y1, b1, d1, (if_neg (show ¬ e1 = x by omega)).trans g1, n1.imp id Or.inl⟩, ?_⟩
          intro c hc
          simp only [List.mem_cons, List.not_mem_nil, or_false] at hc
          rcases hc with rfl | rfl | rfl | rfl | rfl
          · have e8 := c1 _ (List.mem_of_getElem? (i := 0) rfl)
            exact e8
          · have e8 := c1 _ (List.mem_of_getElem? (i := 1) rfl)
            exact e8
          · have e8 := c1 _ (List.mem_of_getElem? (i := 2) rfl)
            exact e8
          · have e8 := c1 _ (List.mem_of_getElem? (i := 3) rfl)
            exact e8
          · have e8 := c1 _ (List.mem_of_getElem? (i := 4) rfl)
            exact e8
        · refine ⟨⟨Or.inl z2, hkx, y, hy, hvx, if_pos rfl, hvf.imp id (fun _ => Or.inr (Or.inl rfl))⟩, ?_⟩
          intro c hc
          simp only [List.mem_cons, List.not_mem_nil, or_false] at hc
          rcases hc with rfl | rfl | rfl | rfl | rfl
          · exact hvf.elim (fun z => show vx ≠ t by omega) (fun z => z.1)
          · exact hvf.elim (fun z => show vx ≠ a0 by omega) (fun w7 (w8 : vx = a0) => w7.2 (w8 ▸ z0))
          · exact hvf.elim (fun z => show vx ≠ a1 by omega) (fun w7 (w8 : vx = a1) => w7.2 (w8 ▸ z1))
          · exact hvf.elim (fun z => show vx ≠ a2 by omega) (fun w7 (w8 : vx = a2) => w7.2 (w8 ▸ z2))
          · exact hvf.elim (fun z => show vx ≠ a3 by omega) (fun w7 (w8 : vx = a3) => w7.2 (w8 ▸ z3))
        · refine ⟨⟨Or.inl z3, k3, y3, b3, d3, (if_neg (show ¬ e3 = x by omega)).trans g3, n3.imp id Or.inl⟩, ?_⟩
          intro c hc
          simp only [List.mem_cons, List.not_mem_nil, or_false] at hc
          rcases hc with rfl | rfl | rfl | rfl | rfl
          · have e8 := c3 _ (List.mem_of_getElem? (i := 0) rfl)
            exact e8
          · have e8 := c3 _ (List.mem_of_getElem? (i := 1) rfl)
            exact e8
          · have e8 := c3 _ (List.mem_of_getElem? (i := 2) rfl)
            exact e8
          · have e8 := c3 _ (List.mem_of_getElem? (i := 3) rfl)
            exact e8
          · have e8 := c3 _ (List.mem_of_getElem? (i := 4) rfl)
            exact e8
      · intro e he hne
        by_cases q9 : e = x
        · exact absurd q9.symm (hne (a2, x, vx) (by simp))
        · refine (if_neg q9).trans (hno e he (fun q hq => ?_))
          simp only [List.mem_cons, List.not_mem_nil, or_false] at hq
          rcases hq with rfl | rfl | rfl | rfl
          · exact hne (a0, e0, v0) (by simp)
          · exact hne (a1, e1, v1) (by simp)
          · exact fun z => q9 z.symm
          · exact hne (a3, e3, v3) (by simp)
      · exact Or.inr ⟨v2, y2, q1, zOb.kept d2 (hz1.2.2.2 _ (zOb.is d2).lt (fun hm => by
          obtain ⟨c, hc, e9⟩ := List.mem_map.mp hm
          simp only [List.mem_cons, List.not_mem_nil, or_false] at hc
          rcases hc with rfl | rfl | rfl | rfl | rfl
          · have e8 := c2 _ (List.mem_of_getElem? (i := 0) rfl)
            exact e8 e9.symm
          · have e8 := c2 _ (List.mem_of_getElem? (i := 1) rfl)
            exact e8 e9.symm
          · have e8 := c2 _ (List.mem_of_getElem? (i := 2) rfl)
            exact e8 e9.symm
          · have e8 := c2 _ (List.mem_of_getElem? (i := 3) rfl)
            exact e8 e9.symm
          · have e8 := c2 _ (List.mem_of_getElem? (i := 4) rfl)
            exact e8 e9.symm)), b2, g2⟩
      · intro c hc
        simp only [List.mem_cons, List.not_mem_nil, or_false] at hc
        rcases hc with rfl | rfl | rfl | rfl | rfl
        · exact Or.inl rfl
        · exact Or.inr (Or.inl z0)
        · exact Or.inr (Or.inl z1)
        · exact Or.inr (Or.inl z2)
        · exact Or.inr (Or.inl z3)
    · omega
    · subst q
      refine (t_put_24 hz hxx kk0 kk1 kk2 kk3 (by omega)).mono (fun v H1 hv => ?_)
      obtain ⟨q1, hz1⟩ := hv
      refine ⟨TM.mk (L := [(a0, e0, v0), (a1, e1, v1), (a2, e2, v2), (a3, x, vx)]) hz1 [0, 1, 2, 3, 4] (by rfl) (by have h9 := hz1.nd; simp only [List.map_cons, List.map_nil, List.nodup_cons, List.mem_cons, List.not_mem_nil, or_false, not_false_eq_true, List.nodup_nil, and_true] at h9 ⊢ <;> omega) (TSh.c5 ..) (by simp only [TSo] <;> omega) ?_ ?_, ?_, hz1.2.2.1, hz1.fr ?_⟩
      · intro q hq
        simp only [List.mem_cons, List.not_mem_nil, or_false] at hq
        rcases hq with rfl | rfl | rfl | rfl
        · refine ⟨⟨Or.inl z0, k0, y0, b0, d0, (if_neg (show ¬ e0 = x by omega)).trans g0, n0.imp id Or.inl⟩, ?_⟩
          intro c hc
          simp only [List.mem_cons, List.not_mem_nil, or_false] at hc
          rcases hc with rfl | rfl | rfl | rfl | rfl
          · have e8 := c0 _ (List.mem_of_getElem? (i := 0) rfl)
            exact e8
          · have e8 := c0 _ (List.mem_of_getElem? (i := 1) rfl)
            exact e8
          · have e8 := c0 _ (List.mem_of_getElem? (i := 2) rfl)
            exact e8
          · have e8 := c0 _ (List.mem_of_getElem? (i := 3) rfl)
            exact e8
          · have e8 := c0 _ (List.mem_of_getElem? (i := 4) rfl)
            exact e8
        · refine ⟨⟨Or.inl z1, k1, y1, b1, d1, (if_neg (show ¬ e1 = x by omega)).trans g1, n1.imp id Or.inl⟩, ?_⟩
          intro c hc
          simp only [List.mem_cons, List.not_mem_nil, or_false] at hc
          rcases hc with rfl | rfl | rfl | rfl | rfl
          · have e8 := c1 _ (List.mem_of_getElem? (i := 0) rfl)
            exact e8
          · have e8 := c1 _ (List.mem_of_getElem? (i := 1) rfl)
            exact e8
          · have e8 := c1 _ (List.mem_of_getElem? (i := 2) rfl)
            exact e8
          · have e8 := c1 _ (List.mem_of_getElem? (i := 3) rfl)
            exact e8
          · have e8 := c1 _ (List.mem_of_getElem? (i := 4) rfl)
            exact e8
        · refine ⟨⟨Or.inl z2, k2, y2, b2, d2, (if_neg (show ¬ e2 = x by omega)).trans g2, n2.imp id Or.inl⟩, ?_⟩
          intro c hc
          simp only [List.mem_cons, List.not_mem_nil, or_false] at hc
          rcases hc with rfl | rfl | rfl | rfl | rfl
          · have e8 := c2 _ (List.mem_of_getElem? (i := 0) rfl)
            exact e8
          · have e8 := c2 _ (List.mem_of_getElem? (i := 1) rfl)
            exact e8
          · have e8 := c2 _ (List.mem_of_getElem? (i := 2) rfl)
            exact e8
          · have e8 := c2 _ (List.mem_of_getElem? (i := 3) rfl)
            exact e8
          · have e8 := c2 _ (List.mem_of_getElem? (i := 4) rfl)
            exact e8
        · refine ⟨⟨Or.inl z3, hkx, y, hy, hvx, if_pos rfl, hvf.imp id (fun _ => Or.inr (Or.inl rfl))⟩, ?_⟩
          intro c hc
          simp only [List.mem_cons, List.not_mem_nil, or_false] at hc
          rcases hc with rfl | rfl | rfl | rfl | rfl
          · exact hvf.elim (fun z => show vx ≠ t by omega) (fun z => z.1)
          · exact hvf.elim (fun z => show vx ≠ a0 by omega) (fun w7 (w8 : vx = a0) => w7.2 (w8 ▸ z0))
          · exact hvf.elim (fun z => show vx ≠ a1 by omega) (fun w7 (w8 : vx = a1) => w7.2 (w8 ▸ z1))
          · exact hvf.elim (fun z => show vx ≠ a2 by omega) (fun w7 (w8 : vx = a2) => w7.2 (w8 ▸ z2))
          · exact hvf.elim (fun z => show vx ≠ a3 by omega) (fun w7 (w8 : vx = a3) => w7.2 (w8 ▸ z3))
      · intro e he hne
        by_cases q9 : e = x
        · exact absurd q9.symm (hne (a3, x, vx) (by simp))
        · refine (if_neg q9).trans (hno e he (fun q hq => ?_))
          simp only [List.mem_cons, List.not_mem_nil, or_false] at hq
          rcases hq with rfl | rfl | rfl | rfl
          · exact hne (a0, e0, v0) (by simp)
          · exact hne (a1, e1, v1) (by simp)
          · exact hne (a2, e2, v2) (by simp)
          · exact fun z => q9 z.symm
      · exact Or.inr ⟨v3, y3, q1, zOb.kept d3 (hz1.2.2.2 _ (zOb.is d3).lt (fun hm => by
          obtain ⟨c, hc, e9⟩ := List.mem_map.mp hm
          simp only [List.mem_cons, List.not_mem_nil, or_false] at hc
          rcases hc with rfl | rfl | rfl | rfl | rfl
          · have e8 := c3 _ (List.mem_of_getElem? (i := 0) rfl)
            exact e8 e9.symm
          · have e8 := c3 _ (List.mem_of_getElem? (i := 1) rfl)
            exact e8 e9.symm
          · have e8 := c3 _ (List.mem_of_getElem? (i := 2) rfl)
            exact e8 e9.symm
          · have e8 := c3 _ (List.mem_of_getElem? (i := 3) rfl)
            exact e8 e9.symm
          · have e8 := c3 _ (List.mem_of_getElem? (i := 4) rfl)
            exact e8 e9.symm)), b3, g3⟩
      · intro c hc
        simp only [List.mem_cons, List.not_mem_nil, or_false] at hc
        rcases hc with rfl | rfl | rfl | rfl | rfl
        · exact Or.inl rfl
        · exact Or.inr (Or.inl z0)
        · exact Or.inr (Or.inl z1)
        · exact Or.inr (Or.inl z2)
        · exact Or.inr (Or.inl z3)
    · omega
  · obtain ⟨⟨z0, k0, y0, b0, d0, g0, n0⟩, c0⟩ := hL (a0, e0, v0) (by simp)
    replace z0 : Z a0 := z0
    replace k0 : zOb E E.2.1 (E.2.2.2.1 (128 + e0)) 14 [.int (nI e0)] := k0
    replace d0 : zOb E H v0 14 [.int (nI y0)] := d0
    replace g0 : g e0 = nI y0 := g0
    replace n0 : v0 < zB E ∨ Z v0 := n0
    replace c0 : ∀ c : Nat × va_E, c ∈ _ → v0 ≠ c.1 := c0
    have kk0 := zOb.old k0 ho
    have al0 : a0 < H.size := (hz.at 1 rfl).lt
    have bn0 : zB E ≤ a0 := (hz.at 1 rfl).new
    obtain ⟨⟨z1, k1, y1, b1, d1, g1, n1⟩, c1⟩ := hL (a1, e1, v1) (by simp)
    replace z1 : Z a1 := z1
    replace k1 : zOb E E.2.1 (E.2.2.2.1 (128 + e1)) 14 [.int (nI e1)] := k1
    replace d1 : zOb E H v1 14 [.int (nI y1)] := d1
    replace g1 : g e1 = nI y1 := g1
    replace n1 : v1 < zB E ∨ Z v1 := n1
    replace c1 : ∀ c : Nat × va_E, c ∈ _ → v1 ≠ c.1 := c1
    have kk1 := zOb.old k1 ho
    have al1 : a1 < H.size := (hz.at 2 rfl).lt
    have bn1 : zB E ≤ a1 := (hz.at 2 rfl).new
    obtain ⟨⟨z2, k2, y2, b2, d2, g2, n2⟩, c2⟩ := hL (a2, e2, v2) (by simp)
    replace z2 : Z a2 := z2
    replace k2 : zOb E E.2.1 (E.2.2.2.1 (128 + e2)) 14 [.int (nI e2)] := k2
    replace d2 : zOb E H v2 14 [.int (nI y2)] := d2
    replace g2 : g e2 = nI y2 := g2
    replace n2 : v2 < zB E ∨ Z v2 := n2
    replace c2 : ∀ c : Nat × va_E, c ∈ _ → v2 ≠ c.1 := c2
    have kk2 := zOb.old k2 ho
    have al2 : a2 < H.size := (hz.at 3 rfl).lt
    have bn2 : zB E ≤ a2 := (hz.at 3 rfl).new
    obtain ⟨⟨z3, k3, y3, b3, d3, g3, n3⟩, c3⟩ := hL (a3, e3, v3) (by simp)
    replace z3 : Z a3 := z3
    replace k3 : zOb E E.2.1 (E.2.2.2.1 (128 + e3)) 14 [.int (nI e3)] := k3
    replace d3 : zOb E H v3 14 [.int (nI y3)] := d3
    replace g3 : g e3 = nI y3 := g3
    replace n3 : v3 < zB E ∨ Z v3 := n3
    replace c3 : ∀ c : Nat × va_E, c ∈ _ → v3 ≠ c.1 := c3
    have kk3 := zOb.old k3 ho
    have al3 : a3 < H.size := (hz.at 4 rfl).lt
    have bn3 : zB E ≤ a3 := (hz.at 4 rfl).new
    have tl : t < H.size := (hz.at 0 rfl).lt
    have tn : zB E ≤ t := (hz.at 0 rfl).new
    have so : e0 < e1 ∧ e1 < e2 ∧ e2 < e3 ∧ e3 < 4 := by simpa [TSo] using hso
    have pos : (x < e0) ∨ (x = e0) ∨ (e0 < x ∧ x < e1) ∨ (x = e1) ∨ (e1 < x ∧ x < e2) ∨ (x = e2) ∨ (e2 < x ∧ x < e3) ∨ (x = e3) ∨ (e3 < x) := by omega
    rcases pos with q | q | q | q | q | q | q | q | q
    · omega
    · subst q
      refine (t_put_25 hz hxx kk0 kk1 kk2 kk3 (by omega)).mono (fun v H1 hv => ?_)
      obtain ⟨q1, hz1⟩ := hv
      refine ⟨TM.mk (L := [(a0, x, vx), (a1, e1, v1), (a2, e2, v2), (a3, e3, v3)]) hz1 [0, 1, 2, 3, 4] (by rfl) (by have h9 := hz1.nd; simp only [List.map_cons, List.map_nil, List.nodup_cons, List.mem_cons, List.not_mem_nil, or_false, not_false_eq_true, List.nodup_nil, and_true] at h9 ⊢ <;> omega) (TSh.c6 ..) (by simp only [TSo] <;> omega) ?_ ?_, ?_, hz1.2.2.1, hz1.fr ?_⟩
      · intro q hq
        simp only [List.mem_cons, List.not_mem_nil, or_false] at hq
        rcases hq with rfl | rfl | rfl | rfl
        · refine ⟨⟨Or.inl z0, hkx, y, hy, hvx, if_pos rfl, hvf.imp id (fun _ => Or.inr (Or.inl rfl))⟩, ?_⟩
          intro c hc
          simp only [List.mem_cons, List.not_mem_nil, or_false] at hc
          rcases hc with rfl | rfl | rfl | rfl | rfl
          · exact hvf.elim (fun z => show vx ≠ t by omega) (fun z => z.1)
          · exact hvf.elim (fun z => show vx ≠ a0 by omega) (fun w7 (w8 : vx = a0) => w7.2 (w8 ▸ z0))
          · exact hvf.elim (fun z => show vx ≠ a1 by omega) (fun w7 (w8 : vx = a1) => w7.2 (w8 ▸ z1))
          · exact hvf.elim (fun z => show vx ≠ a2 by omega) (fun w7 (w8 : vx = a2) => w7.2 (w8 ▸ z2))
          · exact hvf.elim (fun z => show vx ≠ a3 by omega) (fun w7 (w8 : vx = a3) => w7.2 (w8 ▸ z3))
        · refine ⟨⟨Or.inl z1, k1, y1, b1, d1, (if_neg (show ¬ e1 = x by omega)).trans g1, n1.imp id Or.inl⟩, ?_⟩
          intro c hc
          simp only [List.mem_cons, List.not_mem_nil, or_false] at hc
          rcases hc with rfl | rfl | rfl | rfl | rfl
          · have e8 := c1 _ (List.mem_of_getElem? (i := 0) rfl)
            exact e8
          · have e8 := c1 _ (List.mem_of_getElem? (i := 1) rfl)
            exact e8
          · have e8 := c1 _ (List.mem_of_getElem? (i := 2) rfl)
            exact e8
          · have e8 := c1 _ (List.mem_of_getElem? (i := 3) rfl)
            exact e8
          · have e8 := c1 _ (List.mem_of_getElem? (i := 4) rfl)
            exact e8
        · refine ⟨⟨Or.inl z2, k2, y2, b2, d2, (if_neg (show ¬ e2 = x by omega)).trans g2, n2.imp id Or.inl⟩, ?_⟩
          intro c hc
          simp only [List.mem_cons, List.not_mem_nil, or_false] at hc
          rcases hc with rfl | rfl | rfl | rfl | rfl
          · have e8 := c2 _ (List.mem_of_getElem? (i := 0) rfl)
            exact e8
          · have e8 := c2 _ (List.mem_of_getElem? (i := 1) rfl)
            exact e8
          · have e8 := c2 _ (List.mem_of_getElem? (i := 2) rfl)
            exact e8
          · have e8 := c2 _ (List.mem_of_getElem? (i := 3) rfl)
            exact e8
          · have e8 := c2 _ (List.mem_of_getElem? (i := 4) rfl)
            exact e8
        · refine ⟨⟨Or.inl z3, k3, y3, b3, d3, (if_neg (show ¬ e3 = x by omega)).trans g3, n3.imp id Or.inl⟩, ?_⟩
          intro c hc
          simp only [List.mem_cons, List.not_mem_nil, or_false] at hc
          rcases hc with rfl | rfl | rfl | rfl | rfl
          · have e8 := c3 _ (List.mem_of_getElem? (i := 0) rfl)
            exact e8
          · have e8 := c3 _ (List.mem_of_getElem? (i := 1) rfl)
            exact e8
          · have e8 := c3 _ (List.mem_of_getElem? (i := 2) rfl)
            exact e8
          · have e8 := c3 _ (List.mem_of_getElem? (i := 3) rfl)
            exact e8
          · have e8 := c3 _ (List.mem_of_getElem? (i := 4) rfl)
            exact e8
      · intro e he hne
        by_cases q9 : e = x
        · exact absurd q9.symm (hne (a0, x, vx) (by simp))
        · refine (if_neg q9).trans (hno e he (fun q hq => ?_))
          simp only [List.mem_cons, List.not_mem_nil, or_false] at hq
          rcases hq with rfl | rfl | rfl | rfl
          · exact fun z => q9 z.symm
          · exact hne (a1, e1, v1) (by simp)
          · exact hne (a2, e2, v2) (by simp)
          · exact hne (a3, e3, v3) (by simp)
      · exact Or.inr ⟨v0, y0, q1, zOb.kept d0 (hz1.2.2.2 _ (zOb.is d0).lt (fun hm => by
          obtain ⟨c, hc, e9⟩ := List.mem_map.mp hm
          simp only [List.mem_cons, List.not_mem_nil, or_false] at hc
          rcases hc with rfl | rfl | rfl | rfl | rfl
          · have e8 := c0 _ (List.mem_of_getElem? (i := 0) rfl)
            exact e8 e9.symm
          · have e8 := c0 _ (List.mem_of_getElem? (i := 1) rfl)
            exact e8 e9.symm
          · have e8 := c0 _ (List.mem_of_getElem? (i := 2) rfl)
            exact e8 e9.symm
          · have e8 := c0 _ (List.mem_of_getElem? (i := 3) rfl)
            exact e8 e9.symm
          · have e8 := c0 _ (List.mem_of_getElem? (i := 4) rfl)
            exact e8 e9.symm)), b0, g0⟩
      · intro c hc
        simp only [List.mem_cons, List.not_mem_nil, or_false] at hc
        rcases hc with rfl | rfl | rfl | rfl | rfl
        · exact Or.inl rfl
        · exact Or.inr (Or.inl z0)
        · exact Or.inr (Or.inl z1)
        · exact Or.inr (Or.inl z2)
        · exact Or.inr (Or.inl z3)
    · omega
    · subst q
      refine (t_put_26 hz hxx kk0 kk1 kk2 kk3 (by omega)).mono (fun v H1 hv => ?_)
      obtain ⟨q1, hz1⟩ := hv
      refine ⟨TM.mk (L := [(a0, e0, v0), (a1, x, vx), (a2, e2, v2), (a3, e3, v3)]) hz1 [0, 1, 2, 3, 4] (by rfl) (by have h9 := hz1.nd; simp only [List.map_cons, List.map_nil, List.nodup_cons, List.mem_cons, List.not_mem_nil, or_false, not_false_eq_true, List.nodup_nil, and_true] at h9 ⊢ <;> omega) (TSh.c6 ..) (by simp only [TSo] <;> omega) ?_ ?_, ?_, hz1.2.2.1, hz1.fr ?_⟩
      · intro q hq
        simp only [List.mem_cons, List.not_mem_nil, or_false] at hq
        rcases hq with rfl | rfl | rfl | rfl
        · refine ⟨⟨Or.inl z0, k0, y0, b0, d0, (if_neg (show ¬ e0 = x by omega)).trans g0, n0.imp id Or.inl⟩, ?_⟩
          intro c hc
          simp only [List.mem_cons, List.not_mem_nil, or_false] at hc
          rcases hc with rfl | rfl | rfl | rfl | rfl
          · have e8 := c0 _ (List.mem_of_getElem? (i := 0) rfl)
            exact e8
          · have e8 := c0 _ (List.mem_of_getElem? (i := 1) rfl)
            exact e8
          · have e8 := c0 _ (List.mem_of_getElem? (i := 2) rfl)
            exact e8
          · have e8 := c0 _ (List.mem_of_getElem? (i := 3) rfl)
            exact e8
          · have e8 := c0 _ (List.mem_of_getElem? (i := 4) rfl)
            exact e8
        · refine ⟨⟨Or.inl z1, hkx, y, hy, hvx, if_pos rfl, hvf.imp id (fun _ => Or.inr (Or.inl rfl))⟩, ?_⟩
          intro c hc
          simp only [List.mem_cons, List.not_mem_nil, or_false] at hc
          rcases hc with rfl | rfl | rfl | rfl | rfl
          · exact hvf.elim (fun z => show vx ≠ t by omega) (fun z => z.1)
          · exact hvf.elim (fun z => show vx ≠ a0 by omega) (fun w7 (w8 : vx = a0) => w7.2 (w8 ▸ z0))
          · exact hvf.elim (fun z => show vx ≠ a1 by omega) (fun w7 (w8 : vx = a1) => w7.2 (w8 ▸ z1))
          · exact hvf.elim (fun z => show vx ≠ a2 by omega) (fun w7 (w8 : vx = a2) => w7.2 (w8 ▸ z2))
          · exact hvf.elim (fun z => show vx ≠ a3 by omega) (fun w7 (w8 : vx = a3) => w7.2 (w8 ▸ z3))
        · refine ⟨⟨Or.inl z2, k2, y2, b2, d2, (if_neg (show ¬ e2 = x by omega)).trans g2, n2.imp id Or.inl⟩, ?_⟩
          intro c hc
          simp only [List.mem_cons, List.not_mem_nil, or_false] at hc
          rcases hc with rfl | rfl | rfl | rfl | rfl
          · have e8 := c2 _ (List.mem_of_getElem? (i := 0) rfl)
            exact e8
          · have e8 := c2 _ (List.mem_of_getElem? (i := 1) rfl)
            exact e8
          · have e8 := c2 _ (List.mem_of_getElem? (i := 2) rfl)
            exact e8
          · have e8 := c2 _ (List.mem_of_getElem? (i := 3) rfl)
            exact e8
          · have e8 := c2 _ (List.mem_of_getElem? (i := 4) rfl)
            exact e8
        · refine ⟨⟨Or.inl z3, k3, y3, b3, d3, (if_neg (show ¬ e3 = x by omega)).trans g3, n3.imp id Or.inl⟩, ?_⟩
          intro c hc
          simp only [List.mem_cons, List.not_mem_nil, or_false] at hc
          rcases hc with rfl | rfl | rfl | rfl | rfl
          · have e8 := c3 _ (List.mem_of_getElem? (i := 0) rfl)
            exact e8
          · have e8 := c3 _ (List.mem_of_getElem? (i := 1) rfl)
            exact e8
          · have e8 := c3 _ (List.mem_of_getElem? (i := 2) rfl)
            exact e8
          · have e8 := c3 _ (List.mem_of_getElem? (i := 3) rfl)
            exact e8
          · have e8 := c3 _ (List.mem_of_getElem? (i := 4) rfl)
            exact e8
      · intro e he hne
        by_cases q9 : e = x
        · exact absurd q9.symm (hne (a1, x, vx) (by simp))
        · refine (if_neg q9).trans (hno e he (fun q hq => ?_))
          simp only [List.mem_cons, List.not_mem_nil, or_false] at hq
          rcases hq with rfl | rfl | rfl | rfl
          · exact hne (a0, e0, v0) (by simp)
          · exact fun z => q9 z.symm
          · exact hne (a2, e2, v2) (by simp)
          · exact hne (a3, e3, v3) (by simp)
      · exact Or.inr ⟨v1, y1, q1, zOb.kept d1 (hz1.2.2.2 _ (zOb.is d1).lt (fun hm => by
          obtain ⟨c, hc, e9⟩ := List.mem_map.mp hm
          simp only [List.mem_cons, List.not_mem_nil, or_false] at hc
          rcases hc with rfl | rfl | rfl | rfl | rfl
          · have e8 := c1 _ (List.mem_of_getElem? (i := 0) rfl)
            exact e8 e9.symm
          · have e8 := c1 _ (List.mem_of_getElem? (i := 1) rfl)
            exact e8 e9.symm
          · have e8 := c1 _ (List.mem_of_getElem? (i := 2) rfl)
            exact e8 e9.symm
          · have e8 := c1 _ (List.mem_of_getElem? (i := 3) rfl)
            exact e8 e9.symm
          · have e8 := c1 _ (List.mem_of_getElem? (i := 4) rfl)
            exact e8 e9.symm)), b1, g1⟩
      · intro c hc
        simp only [List.mem_cons, List.not_mem_nil, or_false] at hc
        rcases hc with rfl | rfl | rfl | rfl | rfl
        · exact Or.inl rfl
        · exact Or.inr (Or.inl z0)
        · exact Or.inr (Or.inl z1)
        · exact Or.inr (Or.inl z2)
        · exact Or.inr (Or.inl z3)
    · omega
    · subst q
      refine (t_put_27 hz hxx kk0 kk1 kk2 kk3 (by omega)).mono (fun v H1 hv => ?_)
      obtain ⟨q1, hz1⟩ := hv
      refine ⟨TM.mk (L := [(a0, e0, v0), (a1, e1, v1), (a2, x, vx), (a3, e3, v3)]) hz1 [0, 1, 2, 3, 4] (by rfl) (by have h9 := hz1.nd; simp only [List.map_cons, List.map_nil, List.nodup_cons, List.mem_cons, List.not_mem_nil, or_false, not_false_eq_true, List.nodup_nil, and_true] at h9 ⊢ <;> omega) (TSh.c6 ..) (by simp only [TSo] <;> omega) ?_ ?_, ?_, hz1.2.2.1, hz1.fr ?_⟩
      · intro q hq
        simp only [List.mem_cons, List.not_mem_nil, or_false] at hq
        rcases hq with rfl | rfl | rfl | rfl
        · refine ⟨⟨Or.inl z0, k0, y0, b0, d0, (if_neg (show ¬ e0 = x by omega)).trans g0, n0.imp id Or.inl⟩, ?_⟩
          intro c hc
          simp only [List.mem_cons, List.not_mem_nil, or_false] at hc
          rcases hc with rfl | rfl | rfl | rfl | rfl
          · have e8 := c0 _ (List.mem_of_getElem? (i := 0) rfl)
            exact e8
          · have e8 := c0 _ (List.mem_of_getElem? (i := 1) rfl)
            exact e8
          · have e8 := c0 _ (List.mem_of_getElem? (i := 2) rfl)
            exact e8
          · have e8 := c0 _ (List.mem_of_getElem? (i := 3) rfl)
            exact e8
          · have e8 := c0 _ (List.mem_of_getElem? (i := 4) rfl)
            exact e8
        · refine ⟨⟨Or.inl z1, k1, y1, b1, d1, (if_neg (show ¬ e1 = x by omega)).trans g1, n1.imp id Or.inl⟩, ?_⟩
          intro c hc
          simp only [List.mem_cons, List.not_mem_nil, or_false] at hc
          rcases hc with rfl | rfl | rfl | rfl | rfl
          · have e8 := c1 _ (List.mem_of_getElem? (i := 0) rfl)
            exact e8
          · have e8 := c1 _ (List.mem_of_getElem? (i := 1) rfl)
            exact e8
          · have e8 := c1 _ (List.mem_of_getElem? (i := 2) rfl)
            exact e8
          · have e8 := c1 _ (List.mem_of_getElem? (i := 3) rfl)
            exact e8
          · have e8 := c1 _ (List.mem_of_getElem? (i := 4) rfl)
            exact e8
        · refine ⟨⟨Or.inl z2, hkx, y, hy, hvx, if_pos rfl, hvf.imp id (fun _ => Or.inr (Or.inl rfl))⟩, ?_⟩
          intro c hc
          simp only [List.mem_cons, List.not_mem_nil, or_false] at hc
          rcases hc with rfl | rfl | rfl | rfl | rfl
          · exact hvf.elim (fun z => show vx ≠ t by omega) (fun z => z.1)
          · exact hvf.elim (fun z => show vx ≠ a0 by omega) (fun w7 (w8 : vx = a0) => w7.2 (w8 ▸ z0))
          · exact hvf.elim (fun z => show vx ≠ a1 by omega) (fun w7 (w8 : vx = a1) => w7.2 (w8 ▸ z1))
          · exact hvf.elim (fun z => show vx ≠ a2 by omega) (fun w7 (w8 : vx = a2) => w7.2 (w8 ▸ z2))
          · exact hvf.elim (fun z => show vx ≠ a3 by omega) (fun w7 (w8 : vx = a3) => w7.2 (w8 ▸ z3))
        · refine ⟨⟨Or.inl z3, k3, y3, b3, d3, (if_neg (show ¬ e3 = x by omega)).trans g3, n3.imp id Or.inl⟩, ?_⟩
          intro c hc
          simp only [List.mem_cons, List.not_mem_nil, or_false] at hc
          rcases hc with rfl | rfl | rfl | rfl | rfl
          · have e8 := c3 _ (List.mem_of_getElem? (i := 0) rfl)
            exact e8
          · have e8 := c3 _ (List.mem_of_getElem? (i := 1) rfl)
            exact e8
          · have e8 := c3 _ (List.mem_of_getElem? (i := 2) rfl)
            exact e8
          · have e8 := c3 _ (List.mem_of_getElem? (i := 3) rfl)
            exact e8
          · have e8 := c3 _ (List.mem_of_getElem? (i := 4) rfl)
            exact e8
      · intro e he hne
        by_cases q9 : e = x
        · exact absurd q9.symm (hne (a2, x, vx) (by simp))
        · refine (if_neg q9).trans (hno e he (fun q hq => ?_))
          simp only [List.mem_cons, List.not_mem_nil, or_false] at hq
          rcases hq with rfl | rfl | rfl | rfl
          · exact hne (a0, e0, v0) (by simp)
          · exact hne (a1, e1, v1) (by simp)
          · exact fun z => q9 z.symm
          · exact hne (a3, e3, v3) (by simp)
      · exact Or.inr ⟨v2, y2, q1, zOb.kept d2 (hz1.2.2.2 _ (zOb.is d2).lt (fun hm => by
          obtain ⟨c, hc, e9⟩ := List.mem_map.mp hm
          simp only [List.mem_cons, List.not_mem_nil, or_false] at hc
          rcases hc with rfl | rfl | rfl | rfl | rfl
          · have e8 := c2 _ (List.mem_of_getElem? (i := 0) rfl)
            exact e8 e9.symm
          · have e8 := c2 _ (List.mem_of_getElem? (i := 1) rfl)
            exact e8 e9.symm
          · have e8 := c2 _ (List.mem_of_getElem? (i := 2) rfl)
            exact e8 e9.symm
          · have e8 := c2 _ (List.mem_of_getElem? (i := 3) rfl)
            exact e8 e9.symm
          · have e8 := c2 _ (List.mem_of_getElem? (i := 4) rfl)
            exact e8 e9.symm)), b2, g2⟩
      · intro c hc
        simp only [List.mem_cons, List.not_mem_nil, or_false] at hc
        rcases hc with rfl | rfl | rfl | rfl | rfl
        · exact Or.inl rfl
        · exact Or.inr (Or.inl z0)
        · exact Or.inr (Or.inl z1)
        · exact Or.inr (Or.inl z2)
        · exact Or.inr (Or.inl z3)
    · omega
    · subst q
      refine (t_put_28 hz hxx kk0 kk1 kk2 kk3 (by omega)).mono (fun v H1 hv => ?_)
      obtain ⟨q1, hz1⟩ := hv
      refine ⟨TM.mk (L := [(a0, e0, v0), (a1, e1, v1), (a2, e2, v2), (a3, x, vx)]) hz1 [0, 1, 2, 3, 4] (by rfl) (by have h9 := hz1.nd; simp only [List.map_cons, List.map_nil, List.nodup_cons, List.mem_cons, List.not_mem_nil, or_false, not_false_eq_true, List.nodup_nil, and_true] at h9 ⊢ <;> omega) (TSh.c6 ..) (by simp only [TSo] <;> omega) ?_ ?_, ?_, hz1.2.2.1, hz1.fr ?_⟩
      · intro q hq
        simp only [List.mem_cons, List.not_mem_nil, or_false] at hq
        rcases hq with rfl | rfl | rfl | rfl
        · refine ⟨⟨Or.inl z0, k0, y0, b0, d0, (if_neg (show ¬ e0 = x by omega)).trans g0, n0.imp id Or.inl⟩, ?_⟩
          intro c hc
          simp only [List.mem_cons, List.not_mem_nil, or_false] at hc
          rcases hc with rfl | rfl | rfl | rfl | rfl
          · have e8 := c0 _ (List.mem_of_getElem? (i := 0) rfl)
            exact e8
          · have e8 := c0 _ (List.mem_of_getElem? (i := 1) rfl)
            exact e8
          · have e8 := c0 _ (List.mem_of_getElem? (i := 2) rfl)
            exact e8
          · have e8 := c0 _ (List.mem_of_getElem? (i := 3) rfl)
            exact e8
          · have e8 := c0 _ (List.mem_of_getElem? (i := 4) rfl)
            exact e8
        · refine ⟨⟨Or.inl z1, k1, y1, b1, d1, (if_neg (show ¬ e1 = x by omega)).trans g1, n1.imp id Or.inl⟩, ?_⟩
          intro c hc
          simp only [List.mem_cons, List.not_mem_nil, or_false] at hc
          rcases hc with rfl | rfl | rfl | rfl | rfl
          · have e8 := c1 _ (List.mem_of_getElem? (i := 0) rfl)
            exact e8
          · have e8 := c1 _ (List.mem_of_getElem? (i := 1) rfl)
            exact e8
          · have e8 := c1 _ (List.mem_of_getElem? (i := 2) rfl)
            exact e8
          · have e8 := c1 _ (List.mem_of_getElem? (i := 3) rfl)
            exact e8
          · have e8 := c1 _ (List.mem_of_getElem? (i := 4) rfl)
            exact e8
        · refine ⟨⟨Or.inl z2, k2, y2, b2, d2, (if_neg (show ¬ e2 = x by omega)).trans g2, n2.imp id Or.inl⟩, ?_⟩
          intro c hc
          simp only [List.mem_cons, List.not_mem_nil, or_false] at hc
          rcases hc with rfl | rfl | rfl | rfl | rfl
          · have e8 := c2 _ (List.mem_of_getElem? (i := 0) rfl)
            exact e8
          · have e8 := c2 _ (List.mem_of_getElem? (i := 1) rfl)
            exact e8
          · have e8 := c2 _ (List.mem_of_getElem? (i := 2) rfl)
            exact e8
          · have e8 := c2 _ (List.mem_of_getElem? (i := 3) rfl)
            exact e8
          · have e8 := c2 _ (List.mem_of_getElem? (i := 4) rfl)
            exact e8
        · refine ⟨⟨Or.inl z3, hkx, y, hy, hvx, if_pos rfl, hvf.imp id (fun _ => Or.inr (Or.inl rfl))⟩, ?_⟩
          intro c hc
          simp only [List.mem_cons, List.not_mem_nil, or_false] at hc
          rcases hc with rfl | rfl | rfl | rfl | rfl
          · exact hvf.elim (fun z => show vx ≠ t by omega) (fun z => z.1)
          · exact hvf.elim (fun z => show vx ≠ a0 by omega) (fun w7 (w8 : vx = a0) => w7.2 (w8 ▸ z0))
          · exact hvf.elim (fun z => show vx ≠ a1 by omega) (fun w7 (w8 : vx = a1) => w7.2 (w8 ▸ z1))
          · exact hvf.elim (fun z => show vx ≠ a2 by omega) (fun w7 (w8 : vx = a2) => w7.2 (w8 ▸ z2))
          · exact hvf.elim (fun z => show vx ≠ a3 by omega) (fun w7 (w8 : vx = a3) => w7.2 (w8 ▸ z3))
      · intro e he hne
        by_cases q9 : e = x
        · exact absurd q9.symm (hne (a3, x, vx) (by simp))
        · refine (if_neg q9).trans (hno e he (fun q hq => ?_))
          simp only [List.mem_cons, List.not_mem_nil, or_false] at hq
          rcases hq with rfl | rfl | rfl | rfl
          · exact hne (a0, e0, v0) (by simp)
          · exact hne (a1, e1, v1) (by simp)
          · exact hne (a2, e2, v2) (by simp)
          · exact fun z => q9 z.symm
      · exact Or.inr ⟨v3, y3, q1, zOb.kept d3 (hz1.2.2.2 _ (zOb.is d3).lt (fun hm => by
          obtain ⟨c, hc, e9⟩ := List.mem_map.mp hm
          simp only [List.mem_cons, List.not_mem_nil, or_false] at hc
          rcases hc with rfl | rfl | rfl | rfl | rfl
          · have e8 := c3 _ (List.mem_of_getElem? (i := 0) rfl)
            exact e8 e9.symm
          · have e8 := c3 _ (List.mem_of_getElem? (i := 1) rfl)
            exact e8 e9.symm
          · have e8 := c3 _ (List.mem_of_getElem? (i := 2) rfl)
            exact e8 e9.symm
          · have e8 := c3 _ (List.mem_of_getElem? (i := 3) rfl)
            exact e8 e9.symm
          · have e8 := c3 _ (List.mem_of_getElem? (i := 4) rfl)
            exact e8 e9.symm)), b3, g3⟩
      · intro c hc
        simp only [List.mem_cons, List.not_mem_nil, or_false] at hc
        rcases hc with rfl | rfl | rfl | rfl | rfl
        · exact Or.inl rfl
        · exact Or.inr (Or.inl z0)
        · exact Or.inr (Or.inl z1)
        · exact Or.inr (Or.inl z2)
        · exact Or.inr (Or.inl z3)
    · omega
  · obtain ⟨⟨z0, k0, y0, b0, d0, g0, n0⟩, c0⟩ := hL (a0, e0, v0) (by simp)
    replace z0 : Z a0 := z0
    replace k0 : zOb E E.2.1 (E.2.2.2.1 (128 + e0)) 14 [.int (nI e0)] := k0
    replace d0 : zOb E H v0 14 [.int (nI y0)] := d0
    replace g0 : g e0 = nI y0 := g0
    replace n0 : v0 < zB E ∨ Z v0 := n0
    replace c0 : ∀ c : Nat × va_E, c ∈ _ → v0 ≠ c.1 := c0
    have kk0 := zOb.old k0 ho
    have al0 : a0 < H.size := (hz.at 1 rfl).lt
    have bn0 : zB E ≤ a0 := (hz.at 1 rfl).new
    obtain ⟨⟨z1, k1, y1, b1, d1, g1, n1⟩, c1⟩ := hL (a1, e1, v1) (by simp)
    replace z1 : Z a1 := z1
    replace k1 : zOb E E.2.1 (E.2.2.2.1 (128 + e1)) 14 [.int (nI e1)] := k1
    replace d1 : zOb E H v1 14 [.int (nI y1)] := d1
    replace g1 : g e1 = nI y1 := g1
    replace n1 : v1 < zB E ∨ Z v1 := n1
    replace c1 : ∀ c : Nat × va_E, c ∈ _ → v1 ≠ c.1 := c1
    have kk1 := zOb.old k1 ho
    have al1 : a1 < H.size := (hz.at 2 rfl).lt
    have bn1 : zB E ≤ a1 := (hz.at 2 rfl).new
    obtain ⟨⟨z2, k2, y2, b2, d2, g2, n2⟩, c2⟩ := hL (a2, e2, v2) (by simp)
    replace z2 : Z a2 := z2
    replace k2 : zOb E E.2.1 (E.2.2.2.1 (128 + e2)) 14 [.int (nI e2)] := k2
    replace d2 : zOb E H v2 14 [.int (nI y2)] := d2
    replace g2 : g e2 = nI y2 := g2
    replace n2 : v2 < zB E ∨ Z v2 := n2
    replace c2 : ∀ c : Nat × va_E, c ∈ _ → v2 ≠ c.1 := c2
    have kk2 := zOb.old k2 ho
    have al2 : a2 < H.size := (hz.at 3 rfl).lt
    have bn2 : zB E ≤ a2 := (hz.at 3 rfl).new
    obtain ⟨⟨z3, k3, y3, b3, d3, g3, n3⟩, c3⟩ := hL (a3, e3, v3) (by simp)
    replace z3 : Z a3 := z3
    replace k3 : zOb E E.2.1 (E.2.2.2.1 (128 + e3)) 14 [.int (nI e3)] := k3
    replace d3 : zOb E H v3 14 [.int (nI y3)] := d3
    replace g3 : g e3 = nI y3 := g3
    replace n3 : v3 < zB E ∨ Z v3 := n3
    replace c3 : ∀ c : Nat × va_E, c ∈ _ → v3 ≠ c.1 := c3
    have kk3 := zOb.old k3 ho
    have al3 : a3 < H.size := (hz.at 4 rfl).lt
    have bn3 : zB E ≤ a3 := (hz.at 4 rfl).new
    have tl : t < H.size := (hz.at 0 rfl).lt
    have tn : zB E ≤ t := (hz.at 0 rfl).new
    have so : e0 < e1 ∧ e1 < e2 ∧ e2 < e3 ∧ e3 < 4 := by simpa [TSo] using hso
    have pos : (x < e0) ∨ (x = e0) ∨ (e0 < x ∧ x < e1) ∨ (x = e1) ∨ (e1 < x ∧ x < e2) ∨ (x = e2) ∨ (e2 < x ∧ x < e3) ∨ (x = e3) ∨ (e3 < x) := by omega
    rcases pos with q | q | q | q | q | q | q | q | q
    · omega
    · subst q
      refine (t_put_29 hz hxx kk0 kk1 kk2 kk3 (by omega)).mono (fun v H1 hv => ?_)
      obtain ⟨q1, hz1⟩ := hv
      refine ⟨TM.mk (L := [(a0, x, vx), (a1, e1, v1), (a2, e2, v2), (a3, e3, v3)]) hz1 [0, 1, 2, 3, 4] (by rfl) (by have h9 := hz1.nd; simp only [List.map_cons, List.map_nil, List.nodup_cons, List.mem_cons, List.not_mem_nil, or_false, not_false_eq_true, List.nodup_nil, and_true] at h9 ⊢ <;> omega) (TSh.c7 ..) (by simp only [TSo] <;> omega) ?_ ?_, ?_, hz1.2.2.1, hz1.fr ?_⟩
      · intro q hq
        simp only [List.mem_cons, List.not_mem_nil, or_false] at hq
        rcases hq with rfl | rfl | rfl | rfl
        · refine ⟨⟨Or.inl z0, hkx, y, hy, hvx, if_pos rfl, hvf.imp id (fun _ => Or.inr (Or.inl rfl))⟩, ?_⟩
          intro c hc
          simp only [List.mem_cons, List.not_mem_nil, or_false] at hc
          rcases hc with rfl | rfl | rfl | rfl | rfl
          · exact hvf.elim (fun z => show vx ≠ t by omega) (fun z => z.1)
          · exact hvf.elim (fun z => show vx ≠ a0 by omega) (fun w7 (w8 : vx = a0) => w7.2 (w8 ▸ z0))
          · exact hvf.elim (fun z => show vx ≠ a1 by omega) (fun w7 (w8 : vx = a1) => w7.2 (w8 ▸ z1))
          · exact hvf.elim (fun z => show vx ≠ a2 by omega) (fun w7 (w8 : vx = a2) => w7.2 (w8 ▸ z2))
          · exact hvf.elim (fun z => show vx ≠ a3 by omega) (fun w7 (w8 : vx = a3) => w7.2 (w8 ▸ z3))
        · refine ⟨⟨Or.inl z1, k1, y1, b1, d1, (if_neg (show ¬ e1 = x by omega)).trans g1, n1.imp id Or.inl⟩, ?_⟩
          intro c hc
          simp only [List.mem_cons, List.not_mem_nil, or_false] at hc
          rcases hc with rfl | rfl | rfl | rfl | rfl
          · have e8 := c1 _ (List.mem_of_getElem? (i := 0) rfl)
            exact e8
          · have e8 := c1 _ (List.mem_of_getElem? (i := 1) rfl)
            exact e8
          · have e8 := c1 _ (List.mem_of_getElem? (i := 2) rfl)
            exact e8
          · have e8 := c1 _ (List.mem_of_getElem? (i := 3) rfl)
            exact e8
          · have e8 := c1 _ (List.mem_of_getElem? (i := 4) rfl)
            exact e8
        · refine ⟨⟨Or.inl z2, k2, y2, b2, d2, (if_neg (show ¬ e2 = x by omega)).trans g2, n2.imp id Or.inl⟩, ?_⟩
          intro c hc
          simp only [List.mem_cons, List.not_mem_nil, or_false] at hc
          rcases hc with rfl | rfl | rfl | rfl | rfl
          · have e8 := c2 _ (List.mem_of_getElem? (i := 0) rfl)
            exact e8
          · have e8 := c2 _ (List.mem_of_getElem? (i := 1) rfl)
            exact e8
          · have e8 := c2 _ (List.mem_of_getElem? (i := 2) rfl)
            exact e8
          · have e8 := c2 _ (List.mem_of_getElem? (i := 3) rfl)
            exact e8
          · have e8 := c2 _ (List.mem_of_getElem? (i := 4) rfl)
            exact e8
        · refine ⟨⟨Or.inl z3, k3, y3, b3, d3, (if_neg (show ¬ e3 = x by omega)).trans g3, n3.imp id Or.inl⟩, ?_⟩
          intro c hc
          simp only [List.mem_cons, List.not_mem_nil, or_false] at hc
          rcases hc with rfl | rfl | rfl | rfl | rfl
          · have e8 := c3 _ (List.mem_of_getElem? (i := 0) rfl)
            exact e8
          · have e8 := c3 _ (List.mem_of_getElem? (i := 1) rfl)
            exact e8
          · have e8 := c3 _ (List.mem_of_getElem? (i := 2) rfl)
            exact e8
          · have e8 := c3 _ (List.mem_of_getElem? (i := 3) rfl)
            exact e8
          · have e8 := c3 _ (List.mem_of_getElem? (i := 4) rfl)
            exact e8
      · intro e he hne
        by_cases q9 : e = x
        · exact absurd q9.symm (hne (a0, x, vx) (by simp))
        · refine (if_neg q9).trans (hno e he (fun q hq => ?_))
          simp only [List.mem_cons, List.not_mem_nil, or_false] at hq
          rcases hq with rfl | rfl | rfl | rfl
          · exact fun z => q9 z.symm
          · exact hne (a1, e1, v1) (by simp)
          · exact hne (a2, e2, v2) (by simp)
          · exact hne (a3, e3, v3) (by simp)
      · exact Or.inr ⟨v0, y0, q1, zOb.kept d0 (hz1.2.2.2 _ (zOb.is d0).lt (fun hm => by
          obtain ⟨c, hc, e9⟩ := List.mem_map.mp hm
          simp only [List.mem_cons, List.not_mem_nil, or_false] at hc
          rcases hc with rfl | rfl | rfl | rfl | rfl
          · have e8 := c0 _ (List.mem_of_getElem? (i := 0) rfl)
            exact e8 e9.symm
          · have e8 := c0 _ (List.mem_of_getElem? (i := 1) rfl)
            exact e8 e9.symm
          · have e8 := c0 _ (List.mem_of_getElem? (i := 2) rfl)
            exact e8 e9.symm
          · have e8 := c0 _ (List.mem_of_getElem? (i := 3) rfl)
            exact e8 e9.symm
          · have e8 := c0 _ (List.mem_of_getElem? (i := 4) rfl)
            exact e8 e9.symm)), b0, g0⟩
      · intro c hc
        simp only [List.mem_cons, List.not_mem_nil, or_false] at hc
        rcases hc with rfl | rfl | rfl | rfl | rfl
        · exact Or.inl rfl
        · exact Or.inr (Or.inl z0)
        · exact Or.inr (Or.inl z1)
        · exact Or.inr (Or.inl z2)
        · exact Or.inr (Or.inl z3)
    · omega
    · subst q
      refine (t_put_30 hz hxx kk0 kk1 kk2 kk3 (by omega)).mono (fun v H1 hv => ?_)
      obtain ⟨q1, hz1⟩ := hv
      refine ⟨TM.mk (L := [(a0, e0, v0), (a1, x, vx), (a2, e2, v2), (a3, e3, v3)]) hz1 [0, 1, 2, 3, 4] (by rfl) (by have h9 := hz1.nd; simp only [List.map_cons, List.map_nil, List.nodup_cons, List.mem_cons, List.not_mem_nil, or_false, not_false_eq_true, List.nodup_nil, and_true] at h9 ⊢ <;> omega) (TSh.c7 ..) (by simp only [TSo] <;> omega) ?_ ?_, ?_, hz1.2.2.1, hz1.fr ?_⟩
      · intro q hq
        simp only [List.mem_cons, List.not_mem_nil, or_false] at hq
        rcases hq with rfl | rfl | rfl | rfl
        · refine ⟨⟨Or.inl z0, k0, y0, b0, d0, (if_neg (show ¬ e0 = x by omega)).trans g0, n0.imp id Or.inl⟩, ?_⟩
          intro c hc
          simp only [List.mem_cons, List.not_mem_nil, or_false] at hc
          rcases hc with rfl | rfl | rfl | rfl | rfl
          · have e8 := c0 _ (List.mem_of_getElem? (i := 0) rfl)
            exact e8
          · have e8 := c0 _ (List.mem_of_getElem? (i := 1) rfl)
            exact e8
          · have e8 := c0 _ (List.mem_of_getElem? (i := 2) rfl)
            exact e8
          · have e8 := c0 _ (List.mem_of_getElem? (i := 3) rfl)
            exact e8
          · have e8 := c0 _ (List.mem_of_getElem? (i := 4) rfl)
            exact e8
        · refine ⟨⟨Or.inl z1, hkx, y, hy, hvx, if_pos rfl, hvf.imp id (fun _ => Or.inr (Or.inl rfl))⟩, ?_⟩
          intro c hc
          simp only [List.mem_cons, List.not_mem_nil, or_false] at hc
          rcases hc with rfl | rfl | rfl | rfl | rfl
          · exact hvf.elim (fun z => show vx ≠ t by omega) (fun z => z.1)
          · exact hvf.elim (fun z => show vx ≠ a0 by omega) (fun w7 (w8 : vx = a0) => w7.2 (w8 ▸ z0))
          · exact hvf.elim (fun z => show vx ≠ a1 by omega) (fun w7 (w8 : vx = a1) => w7.2 (w8 ▸ z1))
          · exact hvf.elim (fun z => show vx ≠ a2 by omega) (fun w7 (w8 : vx = a2) => w7.2 (w8 ▸ z2))
          · exact hvf.elim (fun z => show vx ≠ a3 by omega) (fun w7 (w8 : vx = a3) => w7.2 (w8 ▸ z3))
        · refine ⟨⟨Or.inl z2, k2, y2, b2, d2, (if_neg (show ¬ e2 = x by omega)).trans g2, n2.imp id Or.inl⟩, ?_⟩
          intro c hc
          simp only [List.mem_cons, List.not_mem_nil, or_false] at hc
          rcases hc with rfl | rfl | rfl | rfl | rfl
          · have e8 := c2 _ (List.mem_of_getElem? (i := 0) rfl)
            exact e8
          · have e8 := c2 _ (List.mem_of_getElem? (i := 1) rfl)
            exact e8
          · have e8 := c2 _ (List.mem_of_getElem? (i := 2) rfl)
            exact e8
          · have e8 := c2 _ (List.mem_of_getElem? (i := 3) rfl)
            exact e8
          · have e8 := c2 _ (List.mem_of_getElem? (i := 4) rfl)
            exact e8
        · refine ⟨⟨Or.inl z3, k3, y3, b3, d3, (if_neg (show ¬ e3 = x by omega)).trans g3, n3.imp id Or.inl⟩, ?_⟩
          intro c hc
          simp only [List.mem_cons, List.not_mem_nil, or_false] at hc
          rcases hc with rfl | rfl | rfl | rfl | rfl
          · have e8 := c3 _ (List.mem_of_getElem? (i := 0) rfl)
            exact e8
          · have e8 := c3 _ (List.mem_of_getElem? (i := 1) rfl)
            exact e8
          · have e8 := c3 _ (List.mem_of_getElem? (i := 2) rfl)
            exact e8
          · have e8 := c3 _ (List.mem_of_getElem? (i := 3) rfl)
            exact e8
          · have e8 := c3 _ (List.mem_of_getElem? (i := 4) rfl)
            exact e8
      · intro e he hne
        by_cases q9 : e = x
        · exact absurd q9.symm (hne (a1, x, vx) (by simp))
        · refine (if_neg q9).trans (hno e he (fun q hq => ?_))
          simp only [List.mem_cons, List.not_mem_nil, or_false] at hq
          rcases hq with rfl | rfl | rfl | rfl
          · exact hne (a0, e0, v0) (by simp)
          · exact fun z => q9 z.symm
          · exact hne (a2, e2, v2) (by simp)
          · exact hne (a3, e3, v3) (by simp)
      · exact Or.inr ⟨v1, y1, q1, zOb.kept d1 (hz1.2.2.2 _ (zOb.is d1).lt (fun hm => by
          obtain ⟨c, hc, e9⟩ := List.mem_map.mp hm
          simp only [List.mem_cons, List.not_mem_nil, or_false] at hc
          rcases hc with rfl | rfl | rfl | rfl | rfl
          · have e8 := c1 _ (List.mem_of_getElem? (i := 0) rfl)
            exact e8 e9.symm
          · have e8 := c1 _ (List.mem_of_getElem? (i := 1) rfl)
            exact e8 e9.symm
          · have e8 := c1 _ (List.mem_of_getElem? (i := 2) rfl)
            exact e8 e9.symm
          · have e8 := c1 _ (List.mem_of_getElem? (i := 3) rfl)
            exact e8 e9.symm
          · have e8 := c1 _ (List.mem_of_getElem? (i := 4) rfl)
            exact e8 e9.symm)), b1, g1⟩
      · intro c hc
        simp only [List.mem_cons, List.not_mem_nil, or_false] at hc
        rcases hc with rfl | rfl | rfl | rfl | rfl
        · exact Or.inl rfl
        · exact Or.inr (Or.inl z0)
        · exact Or.inr (Or.inl z1)
        · exact Or.inr (Or.inl z2)
        · exact Or.inr (Or.inl z3)
    · omega
    · subst q
      refine (t_put_31 hz hxx kk0 kk1 kk2 kk3 (by omega)).mono (fun v H1 hv => ?_)
      obtain ⟨q1, hz1⟩ := hv
      refine ⟨TM.mk (L := [(a0, e0, v0), (a1, e1, v1), (a2, x, vx), (a3, e3, v3)]) hz1 [0, 1, 2, 3, 4] (by rfl) (by have h9 := hz1.nd; simp only [List.map_cons, List.map_nil, List.nodup_cons, List.mem_cons, List.not_mem_nil, or_false, not_false_eq_true, List.nodup_nil, and_true] at h9 ⊢ <;> omega) (TSh.c7 ..) (by simp only [TSo] <;> omega) ?_ ?_, ?_, hz1.2.2.1, hz1.fr ?_⟩
      · intro q hq
        simp only [List.mem_cons, List.not_mem_nil, or_false] at hq
        rcases hq with rfl | rfl | rfl | rfl
        · refine ⟨⟨Or.inl z0, k0, y0, b0, d0, (if_neg (show ¬ e0 = x by omega)).trans g0, n0.imp id Or.inl⟩, ?_⟩
          intro c hc
          simp only [List.mem_cons, List.not_mem_nil, or_false] at hc
          rcases hc with rfl | rfl | rfl | rfl | rfl
          · have e8 := c0 _ (List.mem_of_getElem? (i := 0) rfl)
            exact e8
          · have e8 := c0 _ (List.mem_of_getElem? (i := 1) rfl)
            exact e8
          · have e8 := c0 _ (List.mem_of_getElem? (i := 2) rfl)
            exact e8
          · have e8 := c0 _ (List.mem_of_getElem? (i := 3) rfl)
            exact e8
          · have e8 := c0 _ (List.mem_of_getElem? (i := 4) rfl)
            exact e8
        · refine ⟨⟨Or.inl z1, k1, y1, b1, d1, (if_neg (show ¬ e1 = x by omega)).trans g1, n1.imp id Or.inl⟩, ?_⟩
          intro c hc
          simp only [List.mem_cons, List.not_mem_nil, or_false] at hc
          rcases hc with rfl | rfl | rfl | rfl | rfl
          · have e8 := c1 _ (List.mem_of_getElem? (i := 0) rfl)
            exact e8
          · have e8 := c1 _ (List.mem_of_getElem? (i := 1) rfl)
            exact e8
          · have e8 := c1 _ (List.mem_of_getElem? (i := 2) rfl)
            exact e8
          · have e8 := c1 _ (List.mem_of_getElem? (i := 3) rfl)
            exact e8
          · have e8 := c1 _ (List.mem_of_getElem? (i := 4) rfl)
            exact e8
        · refine ⟨⟨Or.inl z2, hkx, y, hy, hvx, if_pos rfl, hvf.imp id (fun _ => Or.inr (Or.inl rfl))⟩, ?_⟩
          intro c hc
          simp only [List.mem_cons, List.not_mem_nil, or_false] at hc
          rcases hc with rfl | rfl | rfl | rfl | rfl
          · exact hvf.elim (fun z => show vx ≠ t by omega) (fun z => z.1)
          · exact hvf.elim (fun z => show vx ≠ a0 by omega) (fun w7 (w8 : vx = a0) => w7.2 (w8 ▸ z0))
          · exact hvf.elim (fun z => show vx ≠ a1 by omega) (fun w7 (w8 : vx = a1) => w7.2 (w8 ▸ z1))
          · exact hvf.elim (fun z => show vx ≠ a2 by omega) (fun w7 (w8 : vx = a2) => w7.2 (w8 ▸ z2))
          · exact hvf.elim (fun z => show vx ≠ a3 by omega) (fun w7 (w8 : vx = a3) => w7.2 (w8 ▸ z3))
        · refine ⟨⟨Or.inl z3, k3, y3, b3, d3, (if_neg (show ¬ e3 = x by omega)).trans g3, n3.imp id Or.inl⟩, ?_⟩
          intro c hc
          simp only [List.mem_cons, List.not_mem_nil, or_false] at hc
          rcases hc with rfl | rfl | rfl | rfl | rfl
          · have e8 := c3 _ (List.mem_of_getElem? (i := 0) rfl)
            exact e8
          · have e8 := c3 _ (List.mem_of_getElem? (i := 1) rfl)
            exact e8
          · have e8 := c3 _ (List.mem_of_getElem? (i := 2) rfl)
            exact e8
          · have e8 := c3 _ (List.mem_of_getElem? (i := 3) rfl)
            exact e8
          · have e8 := c3 _ (List.mem_of_getElem? (i := 4) rfl)
            exact e8
      · intro e he hne
        by_cases q9 : e = x
        · exact absurd q9.symm (hne (a2, x, vx) (by simp))
        · refine (if_neg q9).trans (hno e he (fun q hq => ?_))
          simp only [List.mem_cons, List.not_mem_nil, or_false] at hq
          rcases hq with rfl | rfl | rfl | rfl
          · exact hne (a0, e0, v0) (by simp)
          · exact hne (a1, e1, v1) (by simp)
          · exact fun z => q9 z.symm
          · exact hne (a3, e3, v3) (by simp)
      · exact Or.inr ⟨v2, y2, q1, zOb.kept d2 (hz1.2.2.2 _ (zOb.is d2).lt (fun hm => by
          obtain ⟨c, hc, e9⟩ := List.mem_map.mp hm
          simp only [List.mem_cons, List.not_mem_nil, or_false] at hc
          rcases hc with rfl | rfl | rfl | rfl | rfl
          · have e8 := c2 _ (List.mem_of_getElem? (i := 0) rfl)
            exact e8 e9.symm
          · have e8 := c2 _ (List.mem_of_getElem? (i := 1) rfl)
            exact e8 e9.symm
          · have e8 := c2 _ (List.mem_of_getElem? (i := 2) rfl)
            exact e8 e9.symm
          · have e8 := c2 _ (List.mem_of_getElem? (i := 3) rfl)
            exact e8 e9.symm
          · have e8 := c2 _ (List.mem_of_getElem? (i := 4) rfl)
            exact e8 e9.symm)), b2, g2⟩
      · intro c hc
        simp only [List.mem_cons, List.not_mem_nil, or_false] at hc
        rcases hc with rfl | rfl | rfl | rfl | rfl
        · exact Or.inl rfl
        · exact Or.inr (Or.inl z0)
        · exact Or.inr (Or.inl z1)
        · exact Or.inr (Or.inl z2)
        · exact Or.inr (Or.inl z3)
    · omega
    · subst q
      refine (t_put_32 hz hxx kk0 kk1 kk2 kk3 (by omega)).mono (fun v H1 hv => ?_)
      obtain ⟨q1, hz1⟩ := hv
      refine ⟨TM.mk (L := [(a0, e0, v0), (a1, e1, v1), (a2, e2, v2), (a3, x, vx)]) hz1 [0, 1, 2, 3, 4] (by rfl) (by have h9 := hz1.nd; simp only [List.map_cons, List.map_nil, List.nodup_cons, List.mem_cons, List.not_mem_nil, or_false, not_false_eq_true, List.nodup_nil, and_true] at h9 ⊢ <;> omega) (TSh.c7 ..) (by simp only [TSo] <;> omega) ?_ ?_, ?_, hz1.2.2.1, hz1.fr ?_⟩
      · intro q hq
        simp only [List.mem_cons, List.not_mem_nil, or_false] at hq
        rcases hq with rfl | rfl | rfl | rfl
        · refine ⟨⟨Or.inl z0, k0, y0, b0, d0, (if_neg (show ¬ e0 = x by omega)).trans g0, n0.imp id Or.inl⟩, ?_⟩
          intro c hc
          simp only [List.mem_cons, List.not_mem_nil, or_false] at hc
          rcases hc with rfl | rfl | rfl | rfl | rfl
          · have e8 := c0 _ (List.mem_of_getElem? (i := 0) rfl)
            exact e8
          · have e8 := c0 _ (List.mem_of_getElem? (i := 1) rfl)
            exact e8
          · have e8 := c0 _ (List.mem_of_getElem? (i := 2) rfl)
            exact e8
          · have e8 := c0 _ (List.mem_of_getElem? (i := 3) rfl)
            exact e8
          · have e8 := c0 _ (List.mem_of_getElem? (i := 4) rfl)
            exact e8
        · refine ⟨⟨Or.inl z1, k1, y1, b1, d1, (if_neg (show ¬ e1 = x by omega)).trans g1, n1.imp id Or.inl⟩, ?_⟩
          intro c hc
          simp only [List.mem_cons, List.not_mem_nil, or_false] at hc
          rcases hc with rfl | rfl | rfl | rfl | rfl
          · have e8 := c1 _ (List.mem_of_getElem? (i := 0) rfl)
            exact e8
          · have e8 := c1 _ (List.mem_of_getElem? (i := 1) rfl)
            exact e8
          · have e8 := c1 _ (List.mem_of_getElem? (i := 2) rfl)
            exact e8
          · have e8 := c1 _ (List.mem_of_getElem? (i := 3) rfl)
            exact e8
          · have e8 := c1 _ (List.mem_of_getElem? (i := 4) rfl)
            exact e8
        · refine ⟨⟨Or.inl z2, k2, y2, b2, d2, (if_neg (show ¬ e2 = x by omega)).trans g2, n2.imp id Or.inl⟩, ?_⟩
          intro c hc
          simp only [List.mem_cons, List.not_mem_nil, or_false] at hc
          rcases hc with rfl | rfl | rfl | rfl | rfl
          · have e8 := c2 _ (List.mem_of_getElem? (i := 0) rfl)
            exact e8
          · have e8 := c2 _ (List.mem_of_getElem? (i := 1) rfl)
            exact e8
          · have e8 := c2 _ (List.mem_of_getElem? (i := 2) rfl)
            exact e8
          · have e8 := c2 _ (List.mem_of_getElem? (i := 3) rfl)
            exact e8
          · have e8 := c2 _ (List.mem_of_getElem? (i := 4) rfl)
            exact e8
        · refine ⟨⟨Or.inl z3, hkx, y, hy, hvx, if_pos rfl, hvf.imp id (fun _ => Or.inr (Or.inl rfl))⟩, ?_⟩
          intro c hc
          simp only [List.mem_cons, List.not_mem_nil, or_false] at hc
          rcases hc with rfl | rfl | rfl | rfl | rfl
          · exact hvf.elim (fun z => show vx ≠ t by omega) (fun z => z.1)
          · exact hvf.elim (fun z => show vx ≠ a0 by omega) (fun w7 (w8 : vx = a0) => w7.2 (w8 ▸ z0))
          · exact hvf.elim (fun z => show vx ≠ a1 by omega) (fun w7 (w8 : vx = a1) => w7.2 (w8 ▸ z1))
          · exact hvf.elim (fun z => show vx ≠ a2 by omega) (fun w7 (w8 : vx = a2) => w7.2 (w8 ▸ z2))
          · exact hvf.elim (fun z => show vx ≠ a3 by omega) (fun w7 (w8 : vx = a3) => w7.2 (w8 ▸ z3))
      · intro e he hne
        by_cases q9 : e = x
        · exact absurd q9.symm (hne (a3, x, vx) (by simp))
        · refine (if_neg q9).trans (hno e he (fun q hq => ?_))
          simp only [List.mem_cons, List.not_mem_nil, or_false] at hq
          rcases hq with rfl | rfl | rfl | rfl
          · exact hne (a0, e0, v0) (by simp)
          · exact hne (a1, e1, v1) (by simp)
          · exact hne (a2, e2, v2) (by simp)
          · exact fun z => q9 z.symm
      · exact Or.inr ⟨v3, y3, q1, zOb.kept d3 (hz1.2.2.2 _ (zOb.is d3).lt (fun hm => by
          obtain ⟨c, hc, e9⟩ := List.mem_map.mp hm
          simp only [List.mem_cons, List.not_mem_nil, or_false] at hc
          rcases hc with rfl | rfl | rfl | rfl | rfl
          · have e8 := c3 _ (List.mem_of_getElem? (i := 0) rfl)
            exact e8 e9.symm
          · have e8 := c3 _ (List.mem_of_getElem? (i := 1) rfl)
            exact e8 e9.symm
          · have e8 := c3 _ (List.mem_of_getElem? (i := 2) rfl)
            exact e8 e9.symm
          · have e8 := c3 _ (List.mem_of_getElem? (i := 3) rfl)
            exact e8 e9.symm
          · have e8 := c3 _ (List.mem_of_getElem? (i := 4) rfl)
            exact e8 e9.symm)), b3, g3⟩
      · intro c hc
        simp only [List.mem_cons, List.not_mem_nil, or_false] at hc
        rcases hc with rfl | rfl | rfl | rfl | rfl
        · exact Or.inl rfl
        · exact Or.inr (Or.inl z0)
        · exact Or.inr (Or.inl z1)
        · exact Or.inr (Or.inl z2)
        · exact Or.inr (Or.inl z3)
    · omega
  · obtain ⟨⟨z0, k0, y0, b0, d0, g0, n0⟩, c0⟩ := hL (a0, e0, v0) (by simp)
    replace z0 : Z a0 := z0
    replace k0 : zOb E E.2.1 (E.2.2.2.1 (128 + e0)) 14 [.int (nI e0)] := k0
    replace d0 : zOb E H v0 14 [.int (nI y0)] := d0
    replace g0 : g e0 = nI y0 := g0
    replace n0 : v0 < zB E ∨ Z v0 := n0
    replace c0 : ∀ c : Nat × va_E, c ∈ _ → v0 ≠ c.1 := c0
    have kk0 := zOb.old k0 ho
    have al0 : a0 < H.size := (hz.at 1 rfl).lt
    have bn0 : zB E ≤ a0 := (hz.at 1 rfl).new
    obtain ⟨⟨z1, k1, y1, b1, d1, g1, n1⟩, c1⟩ := hL (a1, e1, v1) (by simp)
    replace z1 : Z a1 := z1
    replace k1 : zOb E E.2.1 (E.2.2.2.1 (128 + e1)) 14 [.int (nI e1)] := k1
    replace d1 : zOb E H v1 14 [.int (nI y1)] := d1
    replace g1 : g e1 = nI y1 := g1
    replace n1 : v1 < zB E ∨ Z v1 := n1
    replace c1 : ∀ c : Nat × va_E, c ∈ _ → v1 ≠ c.1 := c1
    have kk1 := zOb.old k1 ho
    have al1 : a1 < H.size := (hz.at 2 rfl).lt
    have bn1 : zB E ≤ a1 := (hz.at 2 rfl).new
    obtain ⟨⟨z2, k2, y2, b2, d2, g2, n2⟩, c2⟩ := hL (a2, e2, v2) (by simp)
    replace z2 : Z a2 := z2
    replace k2 : zOb E E.2.1 (E.2.2.2.1 (128 + e2)) 14 [.int (nI e2)] := k2
    replace d2 : zOb E H v2 14 [.int (nI y2)] := d2
    replace g2 : g e2 = nI y2 := g2
    replace n2 : v2 < zB E ∨ Z v2 := n2
    replace c2 : ∀ c : Nat × va_E, c ∈ _ → v2 ≠ c.1 := c2
    have kk2 := zOb.old k2 ho
    have al2 : a2 < H.size := (hz.at 3 rfl).lt
    have bn2 : zB E ≤ a2 := (hz.at 3 rfl).new
    obtain ⟨⟨z3, k3, y3, b3, d3, g3, n3⟩, c3⟩ := hL (a3, e3, v3) (by simp)
    replace z3 : Z a3 := z3
    replace k3 : zOb E E.2.1 (E.2.2.2.1 (128 + e3)) 14 [.int (nI e3)] := k3
    replace d3 : zOb E H v3 14 [.int (nI y3)] := d3
    replace g3 : g e3 = nI y3 := g3
    replace n3 : v3 < zB E ∨ Z v3 := n3
    replace c3 : ∀ c : Nat × va_E, c ∈ _ → v3 ≠ c.1 := c3
    have kk3 := zOb.old k3 ho
    have al3 : a3 < H.size := (hz.at 4 rfl).lt
    have bn3 : zB E ≤ a3 := (hz.at 4 rfl).new
    have tl : t < H.size := (hz.at 0 rfl).lt
    have tn : zB E ≤ t := (hz.at 0 rfl).new
    have so : e0 < e1 ∧ e1 < e2 ∧ e2 < e3 ∧ e3 < 4 := by simpa [TSo] using hso
    have pos : (x < e0) ∨ (x = e0) ∨ (e0 < x ∧ x < e1) ∨ (x = e1) ∨ (e1 < x ∧ x < e2) ∨ (x = e2) ∨ (e2 < x ∧ x < e3) ∨ (x = e3) ∨ (e3 < x) := by omega
    rcases pos with q | q | q | q | q | q | q | q | q
    · omega
    · subst q
      refine (t_put_33 hz hxx kk0 kk1 kk2 kk3 (by omega)).mono (fun v H1 hv => ?_)
      obtain ⟨q1, hz1⟩ := hv
      refine ⟨TM.mk (L := [(a0, x, vx), (a1, e1, v1), (a2, e2, v2), (a3, e3, v3)]) hz1 [0, 1, 2, 3, 4] (by rfl) (by have h9 := hz1.nd; simp only [List.map_cons, List.map_nil, List.nodup_cons, List.mem_cons, List.not_mem_nil, or_false, not_false_eq_true, List.nodup_nil, and_true] at h9 ⊢ <;> omega) (TSh.c8 ..) (by simp only [TSo] <;> omega) ?_ ?_, ?_, hz1.2.2.1, hz1.fr ?_⟩
      · intro q hq
        simp only [List.mem_cons, List.not_mem_nil, or_false] at hq
        rcases hq with rfl | rfl | rfl | rfl
        · refine ⟨⟨Or.inl z0, hkx, y, hy, hvx, if_pos rfl, hvf.imp id (fun _ => Or.inr (Or.inl rfl))⟩, ?_⟩
          intro c hc
          simp only [List.mem_cons, List.not_mem_nil, or_false] at hc
          rcases hc with rfl | rfl | rfl | rfl | rfl
          · exact hvf.elim (fun z => show vx ≠ t by omega) (fun z => z.1)
          · exact hvf.elim (fun z => show vx ≠ a0 by omega) (fun w7 (w8 : vx = a0) => w7.2 (w8 ▸ z0))
          · exact hvf.elim (fun z => show vx ≠ a1 by omega) (fun w7 (w8 : vx = a1) => w7.2 (w8 ▸ z1))
          · exact hvf.elim (fun z => show vx ≠ a2 by omega) (fun w7 (w8 : vx = a2) => w7.2 (w8 ▸ z2))
          · exact hvf.elim (fun z => show vx ≠ a3 by omega) (fun w7 (w8 : vx = a3) => w7.2 (w8 ▸ z3))
        · refine ⟨⟨Or.inl z1, k1, y1, b1, d1, (if_neg (show ¬ e1 = x by omega)).trans g1, n1.imp id Or.inl⟩, ?_⟩
          intro c hc
          simp only [List.mem_cons, List.not_mem_nil, or_false] at hc
          rcases hc with rfl | rfl | rfl | rfl | rfl
          · have e8 := c1 _ (List.mem_of_getElem? (i := 0) rfl)
            exact e8
          · have e8 := c1 _ (List.mem_of_getElem? (i := 1) rfl)
            exact e8
          · have e8 := c1 _ (List.mem_of_getElem? (i := 2) rfl)
            exact e8
          · have e8 := c1 _ (List.mem_of_getElem? (i := 3) rfl)
            exact e8
          · have e8 := c1 _ (List.mem_of_getElem? (i := 4) rfl)
            exact e8
        · refine ⟨⟨Or.inl z2, k2, y2, b2, d2, (if_neg (show ¬ e2 = x by omega)).trans g2, n2.imp id Or.inl⟩, ?_⟩
          intro c hc
          simp only [List.mem_cons, List.not_mem_nil, or_false] at hc
          rcases hc with rfl | rfl | rfl | rfl | rfl
          · have e8 := c2 _ (List.mem_of_getElem? (i := 0) rfl)
            exact e8
          · have e8 := c2 _ (List.mem_of_getElem? (i := 1) rfl)
            exact e8
          · have e8 := c2 _ (List.mem_of_getElem? (i := 2) rfl)
            exact e8
          · have e8 := c2 _ (List.mem_of_getElem? (i := 3) rfl)
            exact e8
          · have e8 := c2 _ (List.mem_of_getElem? (i := 4) rfl)
            exact e8
        · refine ⟨⟨Or.inl z3, k3, y3, b3, d3, (if_neg (show ¬ e3 = x by omega)).trans g3, n3.imp id Or.inl⟩, ?_⟩
          intro c hc
          simp only [List.mem_cons, List.not_mem_nil, or_false] at hc
          rcases hc with rfl | rfl | rfl | rfl | rfl
          · have e8 := c3 _ (List.mem_of_getElem? (i := 0) rfl)
            exact e8
          · have e8 := c3 _ (List.mem_of_getElem? (i := 1) rfl)
            exact e8
          · have e8 := c3 _ (List.mem_of_getElem? (i := 2) rfl)
            exact e8
          · have e8 := c3 _ (List.mem_of_getElem? (i := 3) rfl)
            exact e8
          · have e8 := c3 _ (List.mem_of_getElem? (i := 4) rfl)
            exact e8
      · intro e he hne
        by_cases q9 : e = x
        · exact absurd q9.symm (hne (a0, x, vx) (by simp))
        · refine (if_neg q9).trans (hno e he (fun q hq => ?_))
          simp only [List.mem_cons, List.not_mem_nil, or_false] at hq
          rcases hq with rfl | rfl | rfl | rfl
          · exact fun z => q9 z.symm
          · exact hne (a1, e1, v1) (by simp)
          · exact hne (a2, e2, v2) (by simp)
          · exact hne (a3, e3, v3) (by simp)
      · exact Or.inr ⟨v0, y0, q1, zOb.kept d0 (hz1.2.2.2 _ (zOb.is d0).lt (fun hm => by
          obtain ⟨c, hc, e9⟩ := List.mem_map.mp hm
          simp only [List.mem_cons, List.not_mem_nil, or_false] at hc
          rcases hc with rfl | rfl | rfl | rfl | rfl
          · have e8 := c0 _ (List.mem_of_getElem? (i := 0) rfl)
            exact e8 e9.symm
          · have e8 := c0 _ (List.mem_of_getElem? (i := 1) rfl)
            exact e8 e9.symm
          · have e8 := c0 _ (List.mem_of_getElem? (i := 2) rfl)
            exact e8 e9.symm
          · have e8 := c0 _ (List.mem_of_getElem? (i := 3) rfl)
            exact e8 e9.symm
          · have e8 := c0 _ (List.mem_of_getElem? (i := 4) rfl)
            exact e8 e9.symm)), b0, g0⟩
      · intro c hc
        simp only [List.mem_cons, List.not_mem_nil, or_false] at hc
        rcases hc with rfl | rfl | rfl | rfl | rfl
        · exact Or.inl rfl
        · exact Or.inr (Or.inl z0)
        · exact Or.inr (Or.inl z1)
        · exact Or.inr (Or.inl z2)
        · exact Or.inr (Or.inl z3)
    · omega
    · subst q
      refine (t_put_34 hz hxx kk0 kk1 kk2 kk3 (by omega)).mono (fun v H1 hv => ?_)
      obtain ⟨q1, hz1⟩ := hv
      refine ⟨TM.mk (L := [(a0, e0, v0), (a1, x, vx), (a2, e2, v2), (a3, e3, v3)]) hz1 [0, 1, 2, 3, 4] (by rfl) (by have h9 := hz1.nd; simp only [List.map_cons, List.map_nil, List.nodup_cons, List.mem_cons, List.not_mem_nil, or_false, not_false_eq_true, List.nodup_nil, and_true] at h9 ⊢ <;> omega) (TSh.c8 ..) (by simp only [TSo] <;> omega) ?_ ?_, ?_, hz1.2.2.1, hz1.fr ?_⟩
      · intro q hq
        simp only [List.mem_cons, List.not_mem_nil, or_false] at hq
        rcases hq with rfl | rfl | rfl | rfl
        · refine ⟨⟨Or.inl z0, k0, y0, b0, d0, (if_neg (show ¬ e0 = x by omega)).trans g0, n0.imp id Or.inl⟩, ?_⟩
          intro c hc
          simp only [List.mem_cons, List.not_mem_nil, or_false] at hc
          rcases hc with rfl | rfl | rfl | rfl | rfl
          · have e8 := c0 _ (List.mem_of_getElem? (i := 0) rfl)
            exact e8
          · have e8 := c0 _ (List.mem_of_getElem? (i := 1) rfl)
            exact e8
          · have e8 := c0 _ (List.mem_of_getElem? (i := 2) rfl)
            exact e8
          · have e8 := c0 _ (List.mem_of_getElem? (i := 3) rfl)
            exact e8
          · have e8 := c0 _ (List.mem_of_getElem? (i := 4) rfl)
            exact e8
        · refine ⟨⟨Or.inl z1, hkx, y, hy, hvx, if_pos rfl, hvf.imp id (fun _ => Or.inr (Or.inl rfl))⟩, ?_⟩
          intro c hc
          simp only [List.mem_cons, List.not_mem_nil, or_false] at hc
          rcases hc with rfl | rfl | rfl | rfl | rfl
          · exact hvf.elim (fun z => show vx ≠ t by omega) (fun z => z.1)
          · exact hvf.elim (fun z => show vx ≠ a0 by omega) (fun w7 (w8 : vx = a0) => w7.2 (w8 ▸ z0))
          · exact hvf.elim (fun z => show vx ≠ a1 by omega) (fun w7 (w8 : vx = a1) => w7.2 (w8 ▸ z1))
          · exact hvf.elim (fun z => show vx ≠ a2 by omega) (fun w7 (w8 : vx = a2) => w7.2 (w8 ▸ z2))
          · exact hvf.elim (fun z => show vx ≠ a3 by omega) (fun w7 (w8 : vx = a3) => w7.2 (w8 ▸ z3))
        · refine ⟨⟨Or.inl z2, k2, y2, b2, d2, (if_neg (show ¬ e2 = x by omega)).trans g2, n2.imp id Or.inl⟩, ?_⟩
          intro c hc
          simp only [List.mem_cons, List.not_mem_nil, or_false] at hc
          rcases hc with rfl | rfl | rfl | rfl | rfl
          · have e8 := c2 _ (List.mem_of_getElem? (i := 0) rfl)
            exact e8
          · have e8 := c2 _ (List.mem_of_getElem? (i := 1) rfl)
            exact e8
          · have e8 := c2 _ (List.mem_of_getElem? (i := 2) rfl)
            exact e8
          · have e8 := c2 _ (List.mem_of_getElem? (i := 3) rfl)
            exact e8
          · have e8 := c2 _ (List.mem_of_getElem? (i := 4) rfl)
            exact e8
        · refine ⟨⟨Or.inl z3, k3, y3, b3, d3, (if_neg (show ¬ e3 = x by omega)).trans g3, n3.imp id Or.inl⟩, ?_⟩
          intro c hc
          simp only [List.mem_cons, List.not_mem_nil, or_false] at hc
          rcases hc with rfl | rfl | rfl | rfl | rfl
          · have e8 := c3 _ (List.mem_of_getElem? (i := 0) rfl)
            exact e8
          · have e8 := c3 _ (List.mem_of_getElem? (i := 1) rfl)
            exact e8
          · have e8 := c3 _ (List.mem_of_getElem? (i := 2) rfl)
            exact e8
          · have e8 := c3 _ (List.mem_of_getElem? (i := 3) rfl)
            exact e8
          · have e8 := c3 _ (List.mem_of_getElem? (i := 4) rfl)
            exact e8
      · intro e he hne
        by_cases q9 : e = x
        · exact absurd q9.symm (hne (a1, x, vx) (by simp))
        · refine (if_neg q9).trans (hno e he (fun q hq => ?_))
          simp only [List.mem_cons, List.not_mem_nil, or_false] at hq
          rcases hq with rfl | rfl | rfl | rfl
          · exact hne (a0, e0, v0) (by simp)
          · exact fun z => q9 z.symm
          · exact hne (a2, e2, v2) (by simp)
          · exact hne (a3, e3, v3) (by simp)
      · exact Or.inr ⟨v1, y1, q1, zOb.kept d1 (hz1.2.2.2 _ (zOb.is d1).lt (fun hm => by
          obtain ⟨c, hc, e9⟩ := List.mem_map.mp hm
          simp only [List.mem_cons, List.not_mem_nil, or_false] at hc
          rcases hc with rfl | rfl | rfl | rfl | rfl
          · have e8 := c1 _ (List.mem_of_getElem? (i := 0) rfl)
            exact e8 e9.symm
          · have e8 := c1 _ (List.mem_of_getElem? (i := 1) rfl)
            exact e8 e9.symm
          · have e8 := c1 _ (List.mem_of_getElem? (i := 2) rfl)
            exact e8 e9.symm
          · have e8 := c1 _ (List.mem_of_getElem? (i := 3) rfl)
            exact e8 e9.symm
          · have e8 := c1 _ (List.mem_of_getElem? (i := 4) rfl)
            exact e8 e9.symm)), b1, g1⟩
      · intro c hc
        simp only [List.mem_cons, List.not_mem_nil, or_false] at hc
        rcases hc with rfl | rfl | rfl | rfl | rfl
        · exact Or.inl rfl
        · exact Or.inr (Or.inl z0)
        · exact Or.inr (Or.inl z1)
        · exact Or.inr (Or.inl z2)
        · exact Or.inr (Or.inl z3)
    · omega
    · subst q
      refine (t_put_35 hz hxx kk0 kk1 kk2 kk3 (by omega)).mono (fun v H1 hv => ?_)
      obtain ⟨q1, hz1⟩ := hv
      refine ⟨TM.mk (L := [(a0, e0, v0), (a1, e1, v1), (a2, x, vx), (a3, e3, v3)]) hz1 [0, 1, 2, 3, 4] (by rfl) (by have h9 := hz1.nd; simp only [List.map_cons, List.map_nil, List.nodup_cons, List.mem_cons, List.not_mem_nil, or_false, not_false_eq_true, List.nodup_nil, and_true] at h9 ⊢ <;> omega) (TSh.c8 ..) (by simp only [TSo] <;> omega) ?_ ?_, ?_, hz1.2.2.1, hz1.fr ?_⟩
      · intro q hq
        simp only [List.mem_cons, List.not_mem_nil, or_false] at hq
        rcases hq with rfl | rfl | rfl | rfl
        · refine ⟨⟨Or.inl z0, k0, y0, b0, d0, (if_neg (show ¬ e0 = x by omega)).trans g0, n0.imp id Or.inl⟩, ?_⟩
          intro c hc
          simp only [List.mem_cons, List.not_mem_nil, or_false] at hc
          rcases hc with rfl | rfl | rfl | rfl | rfl
          · have e8 := c0 _ (List.mem_of_getElem? (i := 0) rfl)
            exact e8
          · have e8 := c0 _ (List.mem_of_getElem? (i := 1) rfl)
            exact e8
          · have e8 := c0 _ (List.mem_of_getElem? (i := 2) rfl)
            exact e8
          · have e8 := c0 _ (List.mem_of_getElem? (i := 3) rfl)
            exact e8
          · have e8 := c0 _ (List.mem_of_getElem? (i := 4) rfl)
            exact e8
        · refine ⟨⟨Or.inl z1, k1, y1, b1, d1, (if_neg (show ¬ e1 = x by omega)).trans g1, n1.imp id Or.inl⟩, ?_⟩
          intro c hc
          simp only [List.mem_cons, List.not_mem_nil, or_false] at hc
          rcases hc with rfl | rfl | rfl | rfl | rfl
          · have e8 := c1 _ (List.mem_of_getElem? (i := 0) rfl)
            exact e8
          · have e8 := c1 _ (List.mem_of_getElem? (i := 1) rfl)
            exact e8
          · have e8 := c1 _ (List.mem_of_getElem? (i := 2) rfl)
            exact e8
          · have e8 := c1 _ (List.mem_of_getElem? (i := 3) rfl)
            exact e8
          · have e8 := c1 _ (List.mem_of_getElem? (i := 4) rfl)
            exact e8
        · refine ⟨⟨Or.inl z2, hkx, y, hy, hvx, if_pos rfl, hvf.imp id (fun _ => Or.inr (Or.inl rfl))⟩, ?_⟩
          intro c hc
          simp only [List.mem_cons, List.not_mem_nil, or_false] at hc
          rcases hc with rfl | rfl | rfl | rfl | rfl
          · exact hvf.elim (fun z => show vx ≠ t by omega) (fun z => z.1)
          · exact hvf.elim (fun z => show vx ≠ a0 by omega) (fun w7 (w8 : vx = a0) => w7.2 (w8 ▸ z0))
          · exact hvf.elim (fun z => show vx ≠ a1 by omega) (fun w7 (w8 : vx = a1) => w7.2 (w8 ▸ z1))
          · exact hvf.elim (fun z => show vx ≠ a2 by omega) (fun w7 (w8 : vx = a2) => w7.2 (w8 ▸ z2))
          · exact hvf.elim (fun z => show vx ≠ a3 by omega) (fun w7 (w8 : vx = a3) => w7.2 (w8 ▸ z3))
        · refine ⟨⟨Or.inl z3, k3, y3, b3, d3, (if_neg (show ¬ e3 = x by omega)).trans g3, n3.imp id Or.inl⟩, ?_⟩
          intro c hc
          simp only [List.mem_cons, List.not_mem_nil, or_false] at hc
          rcases hc with rfl | rfl | rfl | rfl | rfl
          · have e8 := c3 _ (List.mem_of_getElem? (i := 0) rfl)
            exact e8
          · have e8 := c3 _ (List.mem_of_getElem? (i := 1) rfl)
            exact e8
          · have e8 := c3 _ (List.mem_of_getElem? (i := 2) rfl)
            exact e8
          · have e8 := c3 _ (List.mem_of_getElem? (i := 3) rfl)
            exact e8
          · have e8 := c3 _ (List.mem_of_getElem? (i := 4) rfl)
            exact e8
      · intro e he hne
        by_cases q9 : e = x
        · exact absurd q9.symm (hne (a2, x, vx) (by simp))
        · refine (if_neg q9).trans (hno e he (fun q hq => ?_))
          simp only [List.mem_cons, List.not_mem_nil, or_false] at hq
          rcases hq with rfl | rfl | rfl | rfl
          · exact hne (a0, e0, v0) (by simp)
          · exact hne (a1, e1, v1) (by simp)
          · exact fun z => q9 z.symm
          · exact hne (a3, e3, v3) (by simp)
      · exact Or.inr ⟨v2, y2, q1, zOb.kept d2 (hz1.2.2.2 _ (zOb.is d2).lt (fun hm => by
          obtain ⟨c, hc, e9⟩ := List.mem_map.mp hm
          simp only [List.mem_cons, List.not_mem_nil, or_false] at hc
          rcases hc with rfl | rfl | rfl | rfl | rfl
          · have e8 := c2 _ (List.mem_of_getElem? (i := 0) rfl)
            exact e8 e9.symm
          · have e8 := c2 _ (List.mem_of_getElem? (i := 1) rfl)
            exact e8 e9.symm
          · have e8 := c2 _ (List.mem_of_getElem? (i := 2) rfl)
            exact e8 e9.symm
          · have e8 := c2 _ (List.mem_of_getElem? (i := 3) rfl)
            exact e8 e9.symm
          · have e8 := c2 _ (List.mem_of_getElem? (i := 4) rfl)
            exact e8 e9.symm)), b2, g2⟩
      · intro c hc
        simp only [List.mem_cons, List.not_mem_nil, or_false] at hc
        rcases hc with rfl | rfl | rfl | rfl | rfl
        · exact Or.inl rfl
        · exact Or.inr (Or.inl z0)
        · exact Or.inr (Or.inl z1)
        · exact Or.inr (Or.inl z2)
        · exact Or.inr (Or.inl z3)
    · omega
    · subst q
      refine (t_put_36 hz hxx kk0 kk1 kk2 kk3 (by omega)).mono (fun v H1 hv => ?_)
      obtain ⟨q1, hz1⟩ := hv
      refine ⟨TM.mk (L := [(a0, e0, v0), (a1, e1, v1), (a2, e2, v2), (a3, x, vx)]) hz1 [0, 1, 2, 3, 4] (by rfl) (by have h9 := hz1.nd; simp only [List.map_cons, List.map_nil, List.nodup_cons, List.mem_cons, List.not_mem_nil, or_false, not_false_eq_true, List.nodup_nil, and_true] at h9 ⊢ <;> omega) (TSh.c8 ..) (by simp only [TSo] <;> omega) ?_ ?_, ?_, hz1.2.2.1, hz1.fr ?_⟩
      · intro q hq
        simp only [List.mem_cons, List.not_mem_nil, or_false] at hq
        rcases hq with rfl | rfl | rfl | rfl
        · refine ⟨⟨Or.inl z0, k0, y0, b0, d0, (if_neg (show ¬ e0 = x by omega)).trans g0, n0.imp id Or.inl⟩, ?_⟩
          intro c hc
          simp only [List.mem_cons, List.not_mem_nil, or_false] at hc
          rcases hc with rfl | rfl | rfl | rfl | rfl
          · have e8 := c0 _ (List.mem_of_getElem? (i := 0) rfl)
            exact e8
          · have e8 := c0 _ (List.mem_of_getElem? (i := 1) rfl)
            exact e8
          · have e8 := c0 _ (List.mem_of_getElem? (i := 2) rfl)
            exact e8
          · have e8 := c0 _ (List.mem_of_getElem? (i := 3) rfl)
            exact e8
          · have e8 := c0 _ (List.mem_of_getElem? (i := 4) rfl)
            exact e8
        · refine ⟨⟨Or.inl z1, k1, y1, b1, d1, (if_neg (show ¬ e1 = x by omega)).trans g1, n1.imp id Or.inl⟩, ?_⟩
          intro c hc
          simp only [List.mem_cons, List.not_mem_nil, or_false] at hc
          rcases hc with rfl | rfl | rfl | rfl | rfl
          · have e8 := c1 _ (List.mem_of_getElem? (i := 0) rfl)
            exact e8
          · have e8 := c1 _ (List.mem_of_getElem? (i := 1) rfl)
            exact e8
          · have e8 := c1 _ (List.mem_of_getElem? (i := 2) rfl)
            exact e8
          · have e8 := c1 _ (List.mem_of_getElem? (i := 3) rfl)
            exact e8
          · have e8 := c1 _ (List.mem_of_getElem? (i := 4) rfl)
            exact e8
        · refine ⟨⟨Or.inl z2, k2, y2, b2, d2, (if_neg (show ¬ e2 = x by omega)).trans g2, n2.imp id Or.inl⟩, ?_⟩
          intro c hc
          simp only [List.mem_cons, List.not_mem_nil, or_false] at hc
          rcases hc with rfl | rfl | rfl | rfl | rfl
          · have e8 := c2 _ (List.mem_of_getElem? (i := 0) rfl)
            exact e8
          · have e8 := c2 _ (List.mem_of_getElem? (i := 1) rfl)
            exact e8
          · have e8 := c2 _ (List.mem_of_getElem? (i := 2) rfl)
            exact e8
          · have e8 := c2 _ (List.mem_of_getElem? (i := 3) rfl)
            exact e8
          · have e8 := c2 _ (List.mem_of_getElem? (i := 4) rfl)
            exact e8
        · refine ⟨⟨Or.inl z3, hkx, y, hy, hvx, if_pos rfl, hvf.imp id (fun _ => Or.inr (Or.inl rfl))⟩, ?_⟩
          intro c hc
          simp only [List.mem_cons, List.not_mem_nil, or_false] at hc
          rcases hc with rfl | rfl | rfl | rfl | rfl
          · exact hvf.elim (fun z => show vx ≠ t by omega) (fun z => z.1)
          · exact hvf.elim (fun z => show vx ≠ a0 by omega) (fun w7 (w8 : vx = a0) => w7.2 (w8 ▸ z0))
          · exact hvf.elim (fun z => show vx ≠ a1 by omega) (fun w7 (w8 : vx = a1) => w7.2 (w8 ▸ z1))
          · exact hvf.elim (fun z => show vx ≠ a2 by omega) (fun w7 (w8 : vx = a2) => w7.2 (w8 ▸ z2))
          · exact hvf.elim (fun z => show vx ≠ a3 by omega) (fun w7 (w8 : vx = a3) => w7.2 (w8 ▸ z3))
      · intro e he hne
        by_cases q9 : e = x
        · exact absurd q9.symm (hne (a3, x, vx) (by simp))
        · refine (if_neg q9).trans (hno e he (fun q hq => ?_))
          simp only [List.mem_cons, List.not_mem_nil, or_false] at hq
          rcases hq with rfl | rfl | rfl | rfl
          · exact hne (a0, e0, v0) (by simp)
          · exact hne (a1, e1, v1) (by simp)
          · exact hne (a2, e2, v2) (by simp)
          · exact fun z => q9 z.symm
      · exact Or.inr ⟨v3, y3, q1, zOb.kept d3 (hz1.2.2.2 _ (zOb.is d3).lt (fun hm => by
          obtain ⟨c, hc, e9⟩ := List.mem_map.mp hm
          simp only [List.mem_cons, List.not_mem_nil, or_false] at hc
          rcases hc with rfl | rfl | rfl | rfl | rfl
          · have e8 := c3 _ (List.mem_of_getElem? (i := 0) rfl)
            exact e8 e9.symm
          · have e8 := c3 _ (List.mem_of_getElem? (i := 1) rfl)
            exact e8 e9.symm
          · have e8 := c3 _ (List.mem_of_getElem? (i := 2) rfl)
            exact e8 e9.symm
          · have e8 := c3 _ (List.mem_of_getElem? (i := 3) rfl)
            exact e8 e9.symm
          · have e8 := c3 _ (List.mem_of_getElem? (i := 4) rfl)
            exact e8 e9.symm)), b3, g3⟩
      · intro c hc
        simp only [List.mem_cons, List.not_mem_nil, or_false] at hc
        rcases hc with rfl | rfl | rfl | rfl | rfl
        · exact Or.inl rfl
        · exact Or.inr (Or.inl z0)
        · exact Or.inr (Or.inl z1)
        · exact Or.inr (Or.inl z2)
        · exact Or.inr (Or.inl z3)
    · omega
  · obtain ⟨⟨z0, k0, y0, b0, d0, g0, n0⟩, c0⟩ := hL (a0, e0, v0) (by simp)
    replace z0 : Z a0 := z0
    replace k0 : zOb E E.2.1 (E.2.2.2.1 (128 + e0)) 14 [.int (nI e0)] := k0
    replace d0 : zOb E H v0 14 [.int (nI y0)] := d0
    replace g0 : g e0 = nI y0 := g0
    replace n0 : v0 < zB E ∨ Z v0 := n0
    replace c0 : ∀ c : Nat × va_E, c ∈ _ → v0 ≠ c.1 := c0
    have kk0 := zOb.old k0 ho
    have al0 : a0 < H.size := (hz.at 1 rfl).lt
    have bn0 : zB E ≤ a0 := (hz.at 1 rfl).new
    obtain ⟨⟨z1, k1, y1, b1, d1, g1, n1⟩, c1⟩ := hL (a1, e1, v1) (by simp)
    replace z1 : Z a1 := z1
    replace k1 : zOb E E.2.1 (E.2.2.2.1 (128 + e1)) 14 [.int (nI e1)] := k1
    replace d1 : zOb E H v1 14 [.int (nI y1)] := d1
    replace g1 : g e1 = nI y1 := g1
    replace n1 : v1 < zB E ∨ Z v1 := n1
    replace c1 : ∀ c : Nat × va_E, c ∈ _ → v1 ≠ c.1 := c1
    have kk1 := zOb.old k1 ho
    have al1 : a1 < H.size := (hz.at 2 rfl).lt
    have bn1 : zB E ≤ a1 := (hz.at 2 rfl).new
    obtain ⟨⟨z2, k2, y2, b2, d2, g2, n2⟩, c2⟩ := hL (a2, e2, v2) (by simp)
    replace z2 : Z a2 := z2
    replace k2 : zOb E E.2.1 (E.2.2.2.1 (128 + e2)) 14 [.int (nI e2)] := k2
    replace d2 : zOb E H v2 14 [.int (nI y2)] := d2
    replace g2 : g e2 = nI y2 := g2
    replace n2 : v2 < zB E ∨ Z v2 := n2
    replace c2 : ∀ c : Nat × va_E, c ∈ _ → v2 ≠ c.1 := c2
    have kk2 := zOb.old k2 ho
    have al2 : a2 < H.size := (hz.at 3 rfl).lt
    have bn2 : zB E ≤ a2 := (hz.at 3 rfl).new
    have tl : t < H.size := (hz.at 0 rfl).lt
    have tn : zB E ≤ t := (hz.at 0 rfl).new
    have so : e0 < e1 ∧ e1 < e2 ∧ e2 < 4 := by simpa [TSo] using hso
    have pos : (x < e0) ∨ (x = e0) ∨ (e0 < x ∧ x < e1) ∨ (x = e1) ∨ (e1 < x ∧ x < e2) ∨ (x = e2) ∨ (e2 < x) := by omega
    rcases pos with q | q | q | q | q | q | q
    · refine (t_put_40 hz hxx kk0 kk1 kk2 (by omega)).mono (fun v H1 hv => ?_)
      obtain ⟨q1, b, hb, hz1⟩ := hv
      refine ⟨TM.mk (L := [(b, x, vx), (a0, e0, v0), (a1, e1, v1), (a2, e2, v2)]) hz1 [0, 4, 1, 2, 3] (by rfl) (by have h9 := hz1.nd; simp only [List.map_cons, List.map_nil, List.nodup_cons, List.mem_cons, List.not_mem_nil, or_false, not_false_eq_true, List.nodup_nil, and_true] at h9 ⊢ <;> omega) (TSh.c5 ..) (by simp only [TSo] <;> omega) ?_ ?_, ?_, hz1.2.2.1, hz1.fr ?_⟩
      · intro q hq
        simp only [List.mem_cons, List.not_mem_nil, or_false] at hq
        rcases hq with rfl | rfl | rfl | rfl
        · refine ⟨⟨Or.inr (Or.inr hb), hkx, y, hy, hvx, if_pos rfl, hvf.imp id (fun _ => Or.inr (Or.inl rfl))⟩, ?_⟩
          intro c hc
          simp only [List.mem_cons, List.not_mem_nil, or_false] at hc
          rcases hc with rfl | rfl | rfl | rfl | rfl
          · exact hvf.elim (fun z => show vx ≠ t by omega) (fun z => z.1)
          · exact hvf.elim (fun z => show vx ≠ a0 by omega) (fun w7 (w8 : vx = a0) => w7.2 (w8 ▸ z0))
          · exact hvf.elim (fun z => show vx ≠ a1 by omega) (fun w7 (w8 : vx = a1) => w7.2 (w8 ▸ z1))
          · exact hvf.elim (fun z => show vx ≠ a2 by omega) (fun w7 (w8 : vx = a2) => w7.2 (w8 ▸ z2))
          · exact Nat.ne_of_lt (Nat.lt_of_lt_of_le hvl hb)
        · refine ⟨⟨Or.inl z0, k0, y0, b0, d0, (if_neg (show ¬ e0 = x by omega)).trans g0, n0.imp id Or.inl⟩, ?_⟩
          intro c hc
          simp only [List.mem_cons, List.not_mem_nil, or_false] at hc
          rcases hc with rfl | rfl | rfl | rfl | rfl
          · have e8 := c0 _ (List.mem_of_getElem? (i := 0) rfl)
            exact e8
          · have e8 := c0 _ (List.mem_of_getElem? (i := 1) rfl)
            exact e8
          · have e8 := c0 _ (List.mem_of_getElem? (i := 2) rfl)
            exact e8
          · have e8 := c0 _ (List.mem_of_getElem? (i := 3) rfl)
            exact e8
          · exact Nat.ne_of_lt (Nat.lt_of_lt_of_le d0.is.lt hb)
        · refine ⟨⟨Or.inl z1, k1, y1, b1, d1, (if_neg (show ¬ e1 = x by omega)).trans g1, n1.imp id Or.inl⟩, ?_⟩
          intro c hc
          simp only [List.mem_cons, List.not_mem_nil, or_false] at hc
          rcases hc with rfl | rfl | rfl | rfl | rfl
          · have e8 := c1 _ (List.mem_of_getElem? (i := 0) rfl)
            exact e8
          · have e8 := c1 _ (List.mem_of_getElem? (i := 1) rfl)
            exact e8
          · have e8 := c1 _ (List.mem_of_getElem? (i := 2) rfl)
            exact e8
          · have e8 := c1 _ (List.mem_of_getElem? (i := 3) rfl)
            exact e8
          · exact Nat.ne_of_lt (Nat.lt_of_lt_of_le d1.is.lt hb)
        · refine ⟨⟨Or.inl z2, k2, y2, b2, d2, (if_neg (show ¬ e2 = x by omega)).trans g2, n2.imp id Or.inl⟩, ?_⟩
          intro c hc
          simp only [List.mem_cons, List.not_mem_nil, or_false] at hc
          rcases hc with rfl | rfl | rfl | rfl | rfl
          · have e8 := c2 _ (List.mem_of_getElem? (i := 0) rfl)
            exact e8
          · have e8 := c2 _ (List.mem_of_getElem? (i := 1) rfl)
            exact e8
          · have e8 := c2 _ (List.mem_of_getElem? (i := 2) rfl)
            exact e8
          · have e8 := c2 _ (List.mem_of_getElem? (i := 3) rfl)
            exact e8
          · exact Nat.ne_of_lt (Nat.lt_of_lt_of_le d2.is.lt hb)
      · intro e he hne
        by_cases q9 : e = x
        · exact absurd q9.symm (hne (b, x, vx) (by simp))
        · refine (if_neg q9).trans (hno e he (fun q hq => ?_))
          simp only [List.mem_cons, List.not_mem_nil, or_false] at hq
          rcases hq with rfl | rfl | rfl
          · exact hne (a0, e0, v0) (by simp)
          · exact hne (a1, e1, v1) (by simp)
          · exact hne (a2, e2, v2) (by simp)
      · exact Or.inl ⟨hno x hx (fun q hq => by
        simp only [List.mem_cons, List.not_mem_nil, or_false] at hq
        rcases hq with rfl | rfl | rfl <;> (dsimp only; omega)), q1⟩
      · intro c hc
        simp only [List.mem_cons, List.not_mem_nil, or_false] at hc
        rcases hc with rfl | rfl | rfl | rfl | rfl
        · exact Or.inl rfl
        · exact Or.inr (Or.inl z0)
        · exact Or.inr (Or.inl z1)
        · exact Or.inr (Or.inl z2)
        · exact Or.inr (Or.inr hb)
    · subst q
      refine (t_put_37 hz hxx kk0 kk1 kk2 (by omega)).mono (fun v H1 hv => ?_)
      obtain ⟨q1, hz1⟩ := hv
      refine ⟨TM.mk (L := [(a0, x, vx), (a1, e1, v1), (a2, e2, v2)]) hz1 [0, 1, 2, 3] (by rfl) (by have h9 := hz1.nd; simp only [List.map_cons, List.map_nil, List.nodup_cons, List.mem_cons, List.not_mem_nil, or_false, not_false_eq_true, List.nodup_nil, and_true] at h9 ⊢ <;> omega) (TSh.c9 ..) (by simp only [TSo] <;> omega) ?_ ?_, ?_, hz1.2.2.1, hz1.fr ?_⟩
      · intro q hq
        simp only [List.mem_cons, List.not_mem_nil, or_false] at hq
        rcases hq with rfl | rfl | rfl
        · refine ⟨⟨Or.inl z0, hkx, y, hy, hvx, if_pos rfl, hvf.imp id (fun _ => Or.inr (Or.inl rfl))⟩, ?_⟩
          intro c hc
          simp only [List.mem_cons, List.not_mem_nil, or_false] at hc
          rcases hc with rfl | rfl | rfl | rfl
          · exact hvf.elim (fun z => show vx ≠ t by omega) (fun z => z.1)
          · exact hvf.elim (fun z => show vx ≠ a0 by omega) (fun w7 (w8 : vx = a0) => w7.2 (w8 ▸ z0))
          · exact hvf.elim (fun z => show vx ≠ a1 by omega) (fun w7 (w8 : vx = a1) => w7.2 (w8 ▸ z1))
          · exact hvf.elim (fun z => show vx ≠ a2 by omega) (fun w7 (w8 : vx = a2) => w7.2 (w8 ▸ z2))
        · refine ⟨⟨Or.inl z1, k1, y1, b1, d1, (if_neg (show ¬ e1 = x by omega)).trans g1, n1.imp id Or.inl⟩, ?_⟩
          intro c hc
          simp only [List.mem_cons, List.not_mem_nil, or_false] at hc
          rcases hc with rfl | rfl | rfl | rfl
          · have e8 := c1 _ (List.mem_of_getElem? (i := 0) rfl)
            exact e8
          · have e8 := c1 _ (List.mem_of_getElem? (i := 1) rfl)
            exact e8
          · have e8 := c1 _ (List.mem_of_getElem? (i := 2) rfl)
            exact e8
          · have e8 := c1 _ (List.mem_of_getElem? (i := 3) rfl)
            exact e8
        · refine ⟨⟨Or.inl z2, k2, y2, b2, d2, (if_neg (show ¬ e2 = x by omega)).trans g2, n2.imp id Or.inl⟩, ?_⟩
          intro c hc
          simp only [List.mem_cons, List.not_mem_nil, or_false] at hc
          rcases hc with rfl | rfl | rfl | rfl
          · have e8 := c2 _ (List.mem_of_getElem? (i := 0) rfl)
            exact e8
          · have e8 := c2 _ (List.mem_of_getElem? (i := 1) rfl)
            exact e8
          · have e8 := c2 _ (List.mem_of_getElem? (i := 2) rfl)
            exact e8
          · have e8 := c2 _ (List.mem_of_getElem? (i := 3) rfl)
            exact e8
      · intro e he hne
        by_cases q9 : e = x
        · exact absurd q9.symm (hne (a0, x, vx) (by simp))
        · refine (if_neg q9).trans (hno e he (fun q hq => ?_))
          simp only [List.mem_cons, List.not_mem_nil, or_false] at hq
          rcases hq with rfl | rfl | rfl
          · exact fun z => q9 z.symm
          · exact hne (a1, e1, v1) (by simp)
          · exact hne (a2, e2, v2) (by simp)
      · exact Or.inr ⟨v0, y0, q1, zOb.kept d0 (hz1.2.2.2 _ (zOb.is d0).lt (fun hm => by
          obtain ⟨c, hc, e9⟩ := List.mem_map.mp hm
          simp only [List.mem_cons, List.not_mem_nil, or_false] at hc
          rcases hc with rfl | rfl | rfl | rfl
          · have e8 := c0 _ (List.mem_of_getElem? (i := 0) rfl)
            exact e8 e9.symm
          · have e8 := c0 _ (List.mem_of_getElem? (i := 1) rfl)
            exact e8 e9.symm
          · have e8 := c0 _ (List.mem_of_getElem? (i := 2) rfl)
            exact e8 e9.symm
          · have e8 := c0 _ (List.mem_of_getElem? (i := 3) rfl)
            exact e8 e9.symm)), b0, g0⟩
      · intro c hc
        simp only [List.mem_cons, List.not_mem_nil, or_false] at hc
        rcases hc with rfl | rfl | rfl | rfl
        · exact Or.inl rfl
        · exact Or.inr (Or.inl z0)
        · exact Or.inr (Or.inl z1)
        · exact Or.inr (Or.inl z2)
    · refine (t_put_41 hz hxx kk0 kk1 kk2 (by omega)).mono (fun v H1 hv => ?_)
      obtain ⟨q1, b, hb, hz1⟩ := hv
      refine ⟨TM.mk (L := [(a0, e0, v0), (b, x, vx), (a1, e1, v1), (a2, e2, v2)]) hz1 [0, 1, 4, 2, 3] (by rfl) (by have h9 := hz1.nd; simp only [List.map_cons, List.map_nil, List.nodup_cons, List.mem_cons, List.not_mem_nil, or_false, not_false_eq_true, List.nodup_nil, and_true] at h9 ⊢ <;> omega) (TSh.c6 ..) (by simp only [TSo] <;> omega) ?_ ?_, ?_, hz1.2.2.1, hz1.fr ?_⟩
      · intro q hq
        simp only [List.mem_cons, List.not_mem_nil, or_false] at hq
        rcases hq with rfl | rfl | rfl | rfl
        · refine ⟨⟨Or.inl z0, k0, y0, b0, d0, (if_neg (show ¬ e0 = x by omega)).trans g0, n0.imp id Or.inl⟩, ?_⟩
          intro c hc
          simp only [List.mem_cons, List.not_mem_nil, or_false] at hc
          rcases hc with rfl | rfl | rfl | rfl | rfl
          · have e8 := c0 _ (List.mem_of_getElem? (i := 0) rfl)
            exact e8
          · have e8 := c0 _ (List.mem_of_getElem? (i := 1) rfl)
            exact e8
          · have e8 := c0 _ (List.mem_of_getElem? (i := 2) rfl)
            exact e8
          · have e8 := c0 _ (List.mem_of_getElem? (i := 3) rfl)
            exact e8
          · exact Nat.ne_of_lt (Nat.lt_of_lt_of_le d0.is.lt hb)
        · refine ⟨⟨Or.inr (Or.inr hb), hkx, y, hy, hvx, if_pos rfl, hvf.imp id (fun _ => Or.inr (Or.inl rfl))⟩, ?_⟩
          intro c hc
          simp only [List.mem_cons, List.not_mem_nil, or_false] at hc
          rcases hc with rfl | rfl | rfl | rfl | rfl
          · exact hvf.elim (fun z => show vx ≠ t by omega) (fun z => z.1)
          · exact hvf.elim (fun z => show vx ≠ a0 by omega) (fun w7 (w8 : vx = a0) => w7.2 (w8 ▸ z0))
          · exact hvf.elim (fun z => show vx ≠ a1 by omega) (fun w7 (w8 : vx = a1) => w7.2 (w8 ▸ z1))
          · exact hvf.elim (fun z => show vx ≠ a2 by omega) (fun w7 (w8 : vx = a2) => w7.2 (w8 ▸ z2))
          · exact Nat.ne_of_lt (Nat.lt_of_lt_of_le hvl hb)
        · refine ⟨⟨Or.inl z1, k1, y1, b1, d1, (if_neg (show ¬ e1 = x by omega)).trans g1, n1.imp id Or.inl⟩, ?_⟩
          intro c hc
          simp only [List.mem_cons, List.not_mem_nil, or_false] at hc
          rcases hc with rfl | rfl | rfl | rfl | rfl
          · have e8 := c1 _ (List.mem_of_getElem? (i := 0) rfl)
            exact e8
          · have e8 := c1 _ (List.mem_of_getElem? (i := 1) rfl)
            exact e8
          · have e8 := c1 _ (List.mem_of_getElem? (i := 2) rfl)
            exact e8
          · have e8 := c1 _ (List.mem_of_getElem? (i := 3) rfl)
            exact e8
          · exact Nat.ne_of_lt (Nat.lt_of_lt_of_le d1.is.lt hb)
        · refine ⟨⟨Or.inl z2, k2, y2, b2, d2, (if_neg (show ¬ e2 = x by omega)).trans g2, n2.imp id Or.inl⟩, ?_⟩
          intro c hc
          simp only [List.mem_cons, List.not_mem_nil, or_false] at hc
          rcases hc with rfl | rfl | rfl | rfl | rfl
          · have e8 := c2 _ (List.mem_of_getElem? (i := 0) rfl)
            exact e8
          · have e8 := c2 _ (List.mem_of_getElem? (i := 1) rfl)
            exact e8
          · have e8 := c2 _ (List.mem_of_getElem? (i := 2) rfl)
            exact e8
          · have e8 := c2 _ (List.mem_of_getElem? (i := 3) rfl)
            exact e8
          · exact Nat.ne_of_lt (Nat.lt_of_lt_of_le d2.is.lt hb)
      · intro e he hne
        by_cases q9 : e = x
        · exact absurd q9.symm (hne (b, x, vx) (by simp))
        · refine (if_neg q9).trans (hno e he (fun q hq => ?_))
          simp only [List.mem_cons, List.not_mem_nil, or_false] at hq
          rcases hq with rfl | rfl | rfl
          · exact hne (a0, e0, v0) (by simp)
          · exact hne (a1, e1, v1) (by simp)
          · exact hne (a2, e2, v2) (by simp)
      · exact Or.inl ⟨hno x hx (fun q hq => by
        simp only [List.mem_cons, List.not_mem_nil, or_false] at hq
        rcases hq with rfl | rfl | rfl <;> (dsimp only; omega)), q1⟩
      · intro c hc
        simp only [List.mem_cons, List.not_mem_nil, or_false] at hc
        rcases hc with rfl | rfl | rfl | rfl | rfl
        · exact Or.inl rfl
        · exact Or.inr (Or.inl z0)
        · exact Or.inr (Or.inl z1)
        · exact Or.inr (Or.inl z2)
        · exact Or.inr (Or.inr hb)
    · subst q
      refine (t_put_38 hz hxx kk0 kk1 kk2 (by omega)).mono (fun v H1 hv => ?_)
      obtain ⟨q1, hz1⟩ := hv
      refine ⟨TM.mk (L := [(a0, e0, v0), (a1, x, vx), (a2, e2, v2)]) hz1 [0, 1, 2, 3] (by rfl) (by have h9 := hz1.nd; simp only [List.map_cons, List.map_nil, List.nodup_cons, List.mem_cons, List.not_mem_nil, or_false, not_false_eq_true, List.nodup_nil, and_true] at h9 ⊢ <;> omega) (TSh.c9 ..) (by simp only [TSo] <;> omega) ?_ ?_, ?_, hz1.2.2.1, hz1.fr ?_⟩
      · intro q hq
        simp only [List.mem_cons, List.not_mem_nil, or_false] at hq
        rcases hq with rfl | rfl | rfl
        · refine ⟨⟨Or.inl z0, k0, y0, b0, d0, (if_neg (show ¬ e0 = x by omega)).trans g0, n0.imp id Or.inl⟩, ?_⟩
          intro c hc
          simp only [List.mem_cons, List.not_mem_nil, or_false] at hc
          rcases hc with rfl | rfl | rfl | rfl
          · have e8 := c0 _ (List.mem_of_getElem? (i := 0) rfl)
            exact e8
          · have e8 := c0 _ (List.mem_of_getElem? (i := 1) rfl)
            exact e8
          · have e8 := c0 _ (List.mem_of_getElem? (i := 2) rfl)
            exact e8
          · have e8 := c0 _ (List.mem_of_getElem? (i := 3) rfl)
            exact e8
        · refine ⟨⟨Or.inl z1, hkx, y, hy, hvx, if_pos rfl, hvf.imp id (fun _ => Or.inr (Or.inl rfl))⟩, ?_⟩
          intro c hc
          simp only [List.mem_cons, List.not_mem_nil, or_false] at hc
          rcases hc with rfl | rfl | rfl | rfl
          · exact hvf.elim (fun z => show vx ≠ t by omega) (fun z => z.1)
          · exact hvf.elim (fun z => show vx ≠ a0 by omega) (fun w7 (w8 : vx = a0) => w7.2 (w8 ▸ z0))
          · exact hvf.elim (fun z => show vx ≠ a1 by omega) (fun w7 (w8 : vx = a1) => w7.2 (w8 ▸ z1))
          · exact hvf.elim (fun z => show vx ≠ a2 by omega) (fun w7 (w8 : vx = a2) => w7.2 (w8 ▸ z2))
        · refine ⟨⟨Or.inl z2, k2, y2, b2, d2, (if_neg (show ¬ e2 = x by omega)).trans g2, n2.imp id Or.inl⟩, ?_⟩
          intro c hc
          simp only [List.mem_cons, List.not_mem_nil, or_false] at hc
          rcases hc with rfl | rfl | rfl | rfl
          · have e8 := c2 _ (List.mem_of_getElem? (i := 0) rfl)
            exact e8
          · have e8 := c2 _ (List.mem_of_getElem? (i := 1) rfl)
            exact e8
          · have e8 := c2 _ (List.mem_of_getElem? (i := 2) rfl)
            exact e8
          · have e8 := c2 _ (List.mem_of_getElem? (i := 3) rfl)
            exact e8
      · intro e he hne
        by_cases q9 : e = x
        · exact absurd q9.symm (hne (a1, x, vx) (by simp))
        · refine (if_neg q9).trans (hno e he (fun q hq => ?_))
          simp only [List.mem_cons, List.not_mem_nil, or_false] at hq
          rcases hq with rfl | rfl | rfl
          · exact hne (a0, e0, v0) (by simp)
          · exact fun z => q9 z.symm
          · exact hne (a2, e2, v2) (by simp)
      · exact Or.inr ⟨v1, y1, q1, zOb.kept d1 (hz1.2.2.2 _ (zOb.is d1).lt (fun hm => by
          obtain ⟨c, hc, e9⟩ := List.mem_map.mp hm
          simp only [List.mem_cons, List.not_mem_nil, or_false] at hc
          rcases hc with rfl | rfl | rfl | rfl
          · have e8 := c1 _ (List.mem_of_getElem? (i := 0) rfl)
            exact e8 e9.symm
          · have e8 := c1 _ (List.mem_of_getElem? (i := 1) rfl)
            exact e8 e9.symm
          · have e8 := c1 _ (List.mem_of_getElem? (i := 2) rfl)
            exact e8 e9.symm
          · have e8 := c1 _ (List.mem_of_getElem? (i := 3) rfl)
            exact e8 e9.symm)), b1, g1⟩
      · intro c hc
        simp only [List.mem_cons, List.not_mem_nil, or_false] at hc
        rcases hc with rfl | rfl | rfl | rfl
        · exact Or.inl rfl
        · exact Or.inr (Or.inl z0)
        · exact Or.inr (Or.inl z1)
        · exact Or.inr (Or.inl z2)
    · refine (t_put_42 hz hxx kk0 kk1 kk2 (by omega)).mono (fun v H1 hv => ?_)
      obtain ⟨q1, b, hb, hz1⟩ := hv
      refine ⟨TM.mk (L := [(a0, e0, v0), (a1, e1, v1), (b, x, vx), (a2, e2, v2)]) hz1 [0, 1, 2, 4, 3] (by rfl) (by have h9 := hz1.nd; simp only [List.map_cons, List.map_nil, List.nodup_cons, List.mem_cons, List.not_mem_nil, or_false, not_false_eq_true, List.nodup_nil, and_true] at h9 ⊢ <;> omega) (TSh.c7 ..) (by simp only [TSo] <;> omega) ?_ ?_, ?_, hz1.2.2.1, hz1.fr ?_⟩
      · intro q hq
        simp only [List.mem_cons, List.not_mem_nil, or_false] at hq
        rcases hq with rfl | rfl | rfl | rfl
        · refine ⟨⟨Or.inl z0, k0, y0, b0, d0, (if_neg (show ¬ e0 = x by omega)).trans g0, n0.imp id Or.inl⟩, ?_⟩
          intro c hc
          simp only [List.mem_cons, List.not_mem_nil, or_false] at hc
          rcases hc with rfl | rfl | rfl | rfl | rfl
          · have e8 := c0 _ (List.mem_of_getElem? (i := 0) rfl)
            exact e8
          · have e8 := c0 _ (List.mem_of_getElem? (i := 1) rfl)
            exact e8
          · have e8 := c0 _ (List.mem_of_getElem? (i := 2) rfl)
            exact e8
          · have e8 := c0 _ (List.mem_of_getElem? (i := 3) rfl)
            exact e8
          · exact Nat.ne_of_lt (Nat.lt_of_lt_of_le d0.is.lt hb)
        · refine ⟨⟨Or.inl z1, k1, y1, b1, d1, (if_neg (show ¬ e1 = x by omega)).trans g1, n1.imp id Or.inl⟩, ?_⟩
          intro c hc
          simp only [List.mem_cons, List.not_mem_nil, or_false] at hc
          rcases hc with rfl | rfl | rfl | rfl | rfl
          · have e8 := c1 _ (List.mem_of_getElem? (i := 0) rfl)
            exact e8
          · have e8 := c1 _ (List.mem_of_getElem? (i := 1) rfl)
            exact e8
          · have e8 := c1 _ (List.mem_of_getElem? (i := 2) rfl)
            exact e8
          · have e8 := c1 _ (List.mem_of_getElem? (i := 3) rfl)
            exact e8
          · exact Nat.ne_of_lt (Nat.lt_of_lt_of_le d1.is.lt hb)
        · refine ⟨⟨Or.inr (Or.inr hb), hkx, y, hy, hvx, if_pos rfl, hvf.imp id (fun _ => Or.inr (Or.inl rfl))⟩, ?_⟩
          intro c hc
          simp only [List.mem_cons, List.not_mem_nil, or_false] at hc
          rcases hc with rfl | rfl | rfl | rfl | rfl
          · exact hvf.elim (fun z => show vx ≠ t by omega) (fun z => z.1)
          · exact hvf.elim (fun z => show vx ≠ a0 by omega) (fun w7 (w8 : vx = a0) => w7.2 (w8 ▸ z0))
          · exact hvf.elim (fun z => show vx ≠ a1 by omega) (fun w7 (w8 : vx = a1) => w7.2 (w8 ▸ z1))
          · exact hvf.elim (fun z => show vx ≠ a2 by omega) (fun w7 (w8 : vx = a2) => w7.2 (w8 ▸ z2))
          · exact Nat.ne_of_lt (Nat.lt_of_lt_of_le hvl hb)
        · refine ⟨⟨Or.inl z2, k2, y2, b2, d2, (if_neg (show ¬ e2 = x by omega)).trans g2, n2.imp id Or.inl⟩, ?_⟩
          intro c hc
          simp only [List.mem_cons, List.not_mem_nil, or_false] at hc
          rcases hc with rfl | rfl | rfl | rfl | rfl
          · have e8 := c2 _ (List.mem_of_getElem? (i := 0) rfl)
            exact e8
          · have e8 := c2 _ (List.mem_of_getElem? (i := 1) rfl)
            exact e8
          · have e8 := c2 _ (List.mem_of_getElem? (i := 2) rfl)
            exact e8
          · have e8 := c2 _ (List.mem_of_getElem? (i := 3) rfl)
            exact e8
          · exact Nat.ne_of_lt (Nat.lt_of_lt_of_le d2.is.lt hb)
      · intro e he hne
        by_cases q9 : e = x
        · exact absurd q9.symm (hne (b, x, vx) (by simp))
        · refine (if_neg q9).trans (hno e he (fun q hq => ?_))
          simp only [List.mem_cons, List.not_mem_nil, or_false] at hq
          rcases hq with rfl | rfl | rfl
          · exact hne (a0, e0, v0) (by simp)
          · exact hne (a1, e1, v1) (by simp)
          · exact hne (a2, e2, v2) (by simp)
      · exact Or.inl ⟨hno x hx (fun q hq => by
        simp only [List.mem_cons, List.not_mem_nil, or_false] at hq
        rcases hq with rfl | rfl | rfl <;> (dsimp only; omega)), q1⟩
      · intro c hc
        simp only [List.mem_cons, List.not_mem_nil, or_false] at hc
        rcases hc with rfl | rfl | rfl | rfl | rfl
        · exact Or.inl rfl
        · exact Or.inr (Or.inl z0)
        · exact Or.inr (Or.inl z1)
        · exact Or.inr (Or.inl z2)
        · exact Or.inr (Or.inr hb)
    · subst q
      refine (t_put_39 hz hxx kk0 kk1 kk2 (by omega)).mono (fun v H1 hv => ?_)
      obtain ⟨q1, hz1⟩ := hv
      refine ⟨TM.mk (L := [(a0, e0, v0), (a1, e1, v1), (a2, x, vx)]) hz1 [0, 1, 2, 3] (by rfl) (by have h9 := hz1.nd; simp only [List.map_cons, List.map_nil, List.nodup_cons, List.mem_cons, List.not_mem_nil, or_false, not_false_eq_true, List.nodup_nil, and_true] at h9 ⊢ <;> omega) (TSh.c9 ..) (by simp only [TSo] <;> omega) ?_ ?_, ?_, hz1.2.2.1, hz1.fr ?_⟩
      · intro q hq
        simp only [List.mem_cons, List.not_mem_nil, or_false] at hq
        rcases hq with rfl | rfl | rfl
        · refine ⟨⟨Or.inl z0, k0, y0, b0, d0, (if_neg (show ¬ e0 = x by omega)).trans g0, n0.imp id Or.inl⟩, ?_⟩
          intro c hc
          simp only [List.mem_cons, List.not_mem_nil, or_false] at hc
          rcases hc with rfl | rfl | rfl | rfl
          · have e8 := c0 _ (List.mem_of_getElem? (i := 0) rfl)
            exact e8
          · have e8 := c0 _ (List.mem_of_getElem? (i := 1) rfl)
            exact e8
          · have e8 := c0 _ (List.mem_of_getElem? (i := 2) rfl)
            exact e8
          · have e8 := c0 _ (List.mem_of_getElem? (i := 3) rfl)
            exact e8
        · refine ⟨⟨Or.inl z1, k1, y1, b1, d1, (if_neg (show ¬ e1 = x by omega)).trans g1, n1.imp id Or.inl⟩, ?_⟩
          intro c hc
          simp only [List.mem_cons, List.not_mem_nil, or_false] at hc
          rcases hc with rfl | rfl | rfl | rfl
          · have e8 := c1 _ (List.mem_of_getElem? (i := 0) rfl)
            exact e8
          · have e8 := c1 _ (List.mem_of_getElem? (i := 1) rfl)
            exact e8
          · have e8 := c1 _ (List.mem_of_getElem? (i := 2) rfl)
            exact e8
          · have e8 := c1 _ (List.mem_of_getElem? (i := 3) rfl)
            exact e8
        · refine ⟨⟨Or.inl z2, hkx, y, hy, hvx, if_pos rfl, hvf.imp id (fun _ => Or.inr (Or.inl rfl))⟩, ?_⟩
          intro c hc
          simp only [List.mem_cons, List.not_mem_nil, or_false] at hc
          rcases hc with rfl | rfl | rfl | rfl
          · exact hvf.elim (fun z => show vx ≠ t by omega) (fun z => z.1)
          · exact hvf.elim (fun z => show vx ≠ a0 by omega) (fun w7 (w8 : vx = a0) => w7.2 (w8 ▸ z0))
          · exact hvf.elim (fun z => show vx ≠ a1 by omega) (fun w7 (w8 : vx = a1) => w7.2 (w8 ▸ z1))
          · exact hvf.elim (fun z => show vx ≠ a2 by omega) (fun w7 (w8 : vx = a2) => w7.2 (w8 ▸ z2))
      · intro e he hne
        by_cases q9 : e = x
        · exact absurd q9.symm (hne (a2, x, vx) (by simp))
        · refine (if_neg q9).trans (hno e he (fun q hq => ?_))
          simp only [List.mem_cons, List.not_mem_nil, or_false] at hq
          rcases hq with rfl | rfl | rfl
          · exact hne (a0, e0, v0) (by simp)
          · exact hne (a1, e1, v1) (by simp)
          · exact fun z => q9 z.symm
      · exact Or.inr ⟨v2, y2, q1, zOb.kept d2 (hz1.2.2.2 _ (zOb.is d2).lt (fun hm => by
          obtain ⟨c, hc, e9⟩ := List.mem_map.mp hm
          simp only [List.mem_cons, List.not_mem_nil, or_false] at hc
          rcases hc with rfl | rfl | rfl | rfl
          · have e8 := c2 _ (List.mem_of_getElem? (i := 0) rfl)
            exact e8 e9.symm
          · have e8 := c2 _ (List.mem_of_getElem? (i := 1) rfl)
            exact e8 e9.symm
          · have e8 := c2 _ (List.mem_of_getElem? (i := 2) rfl)
            exact e8 e9.symm
          · have e8 := c2 _ (List.mem_of_getElem? (i := 3) rfl)
            exact e8 e9.symm)), b2, g2⟩
      · intro c hc
        simp only [List.mem_cons, List.not_mem_nil, or_false] at hc
        rcases hc with rfl | rfl | rfl | rfl
        · exact Or.inl rfl
        · exact Or.inr (Or.inl z0)
        · exact Or.inr (Or.inl z1)
        · exact Or.inr (Or.inl z2)
    · refine (t_put_43 hz hxx kk0 kk1 kk2 (by omega)).mono (fun v H1 hv => ?_)
      obtain ⟨q1, b, hb, hz1⟩ := hv
      refine ⟨TM.mk (L := [(a0, e0, v0), (a1, e1, v1), (a2, e2, v2), (b, x, vx)]) hz1 [0, 1, 2, 3, 4] (by rfl) (by have h9 := hz1.nd; simp only [List.map_cons, List.map_nil, List.nodup_cons, List.mem_cons, List.not_mem_nil, or_false, not_false_eq_true, List.nodup_nil, and_true] at h9 ⊢ <;> omega) (TSh.c8 ..) (by simp only [TSo] <;> omega) ?_ ?_, ?_, hz1.2.2.1, hz1.fr ?_⟩
      · intro q hq
        simp only [List.mem_cons, List.not_mem_nil, or_false] at hq
        rcases hq with rfl | rfl | rfl | rfl
        · refine ⟨⟨Or.inl z0, k0, y0, b0, d0, (if_neg (show ¬ e0 = x by omega)).trans g0, n0.imp id Or.inl⟩, ?_⟩
          intro c hc
          simp only [List.mem_cons, List.not_mem_nil, or_false] at hc
          rcases hc with rfl | rfl | rfl | rfl | rfl
          · have e8 := c0 _ (List.mem_of_getElem? (i := 0) rfl)
            exact e8
          · have e8 := c0 _ (List.mem_of_getElem? (i := 1) rfl)
            exact e8
          · have e8 := c0 _ (List.mem_of_getElem? (i := 2) rfl)
            exact e8
          · have e8 := c0 _ (List.mem_of_getElem? (i := 3) rfl)
            exact e8
          · exact Nat.ne_of_lt (Nat.lt_of_lt_of_le d0.is.lt hb)
        · refine ⟨⟨Or.inl z1, k1, y1, b1, d1, (if_neg (show ¬ e1 = x by omega)).trans g1, n1.imp id Or.inl⟩, ?_⟩
          intro c hc
          simp only [List.mem_cons, List.not_mem_nil, or_false] at hc
          rcases hc with rfl | rfl | rfl | rfl | rfl
          · have e8 := c1 _ (List.mem_of_getElem? (i := 0) rfl)
            exact e8
          · have e8 := c1 _ (List.mem_of_getElem? (i := 1) rfl)
            exact e8
          · have e8 := c1 _ (List.mem_of_getElem? (i := 2) rfl)
            exact e8
          · have e8 := c1 _ (List.mem_of_getElem? (i := 3) rfl)
            exact e8
          · exact Nat.ne_of_lt (Nat.lt_of_lt_of_le d1.is.lt hb)
        · refine ⟨⟨Or.inl z2, k2, y2, b2, d2, (if_neg (show ¬ e2 = x by omega)).trans g2, n2.imp id Or.inl⟩, ?_⟩
          intro c hc
          simp only [List.mem_cons, List.not_mem_nil, or_false] at hc
          rcases hc with rfl | rfl | rfl | rfl | rfl
          · have e8 := c2 _ (List.mem_of_getElem? (i := 0) rfl)
            exact e8
          · have e8 := c2 _ (List.mem_of_getElem? (i := 1) rfl)
            exact e8
          · have e8 := c2 _ (List.mem_of_getElem? (i := 2) rfl)
            exact e8
          · have e8 := c2 _ (List.mem_of_getElem? (i := 3) rfl)
            exact e8
          · exact Nat.ne_of_lt (Nat.lt_of_lt_of_le d2.is.lt hb)
        · refine ⟨⟨Or.inr (Or.inr hb), hkx, y, hy, hvx, if_pos rfl, hvf.imp id (fun _ => Or.inr (Or.inl rfl))⟩, ?_⟩
          intro c hc
          simp only [List.mem_cons, List.not_mem_nil, or_false] at hc
          rcases hc with rfl | rfl | rfl | rfl | rfl
          · exact hvf.elim (fun z => show vx ≠ t by omega) (fun z => z.1)
          · exact hvf.elim (fun z => show vx ≠ a0 by omega) (fun w7 (w8 : vx = a0) => w7.2 (w8 ▸ z0))
          · exact hvf.elim (fun z => show vx ≠ a1 by omega) (fun w7 (w8 : vx = a1) => w7.2 (w8 ▸ z1))
          · exact hvf.elim (fun z => show vx ≠ a2 by omega) (fun w7 (w8 : vx = a2) => w7.2 (w8 ▸ z2))
          · exact Nat.ne_of_lt (Nat.lt_of_lt_of_le hvl hb)
      · intro e he hne
        by_cases q9 : e = x
        · exact absurd q9.symm (hne (b, x, vx) (by simp))
        · refine (if_neg q9).trans (hno e he (fun q hq => ?_))
          simp only [List.mem_cons, List.not_mem_nil, or_false] at hq
          rcases hq with rfl | rfl | rfl
          · exact hne (a0, e0, v0) (by simp)
          · exact hne (a1, e1, v1) (by simp)
          · exact hne (a2, e2, v2) (by simp)
      · exact Or.inl ⟨hno x hx (fun q hq => by
        simp only [List.mem_cons, List.not_mem_nil, or_false] at hq
        rcases hq with rfl | rfl | rfl <;> (dsimp only; omega)), q1⟩
      · intro c hc
        simp only [List.mem_cons, List.not_mem_nil, or_false] at hc
        rcases hc with rfl | rfl | rfl | rfl | rfl
        · exact Or.inl rfl
        · exact Or.inr (Or.inl z0)
        · exact Or.inr (Or.inl z1)
        · exact Or.inr (Or.inl z2)
        · exact Or.inr (Or.inr hb)
set_option maxHeartbeats 4000000 in
theorem m_J4_removeM {E : zE} {H : Heap} {t x : Nat} {Z : Nat → Prop} {g : Nat → Int32} (h : TM E H t Z g) (hx : x < 4) (hkx : zOb E E.2.1 (E.2.2.2.1 (128 + x)) 14 [.int (nI x)]) : zM E 8 yJ4_remove (ws_ yJ4_remove cJ4_remove 4 (some (.object "java/lang/Object"))) 0 0 H [.ref t, .ref (E.2.2.2.1 (128 + x))] (TMp E H t Z Z g (fun e => if e = x then -1 else g e) x) zNX := by
  obtain ⟨s, m, L, cs, hsh, hz, hso, hL, hno⟩ := h
  refine zM.old (fun ho => ?_)
  have hxx := hkx.old ho
  rcases hsh with ⟨rfl, rfl⟩ | ⟨a0, e0, v0, rfl, rfl⟩ | ⟨a0, e0, v0, a1, e1, v1, rfl, rfl⟩ | ⟨a0, e0, v0, a1, e1, v1, rfl, rfl⟩ | ⟨a0, e0, v0, a1, e1, v1, a2, e2, v2, rfl, rfl⟩ | ⟨a0, e0, v0, a1, e1, v1, a2, e2, v2, a3, e3, v3, rfl, rfl⟩ | ⟨a0, e0, v0, a1, e1, v1, a2, e2, v2, a3, e3, v3, rfl, rfl⟩ | ⟨a0, e0, v0, a1, e1, v1, a2, e2, v2, a3, e3, v3, rfl, rfl⟩ | ⟨a0, e0, v0, a1, e1, v1, a2, e2, v2, a3, e3, v3, rfl, rfl⟩ | ⟨a0, e0, v0, a1, e1, v1, a2, e2, v2, rfl, rfl⟩
  · have tl : t < H.size := (hz.at 0 rfl).lt
    have tn : zB E ≤ t := (hz.at 0 rfl).new
    have pos : (True) := by trivial
    rcases pos with q
    · refine (t_remove_0 hz hxx  (by omega)).mono (fun v H1 ⟨q1, q2⟩ => ?_)
      subst q2
      have hg : g x = -1 := hno x hx (fun q hq => nomatch hq)
      rw [show (fun e => if e = x then -1 else g e) = g from funext fun e => by by_cases q9 : e = x <;> simp [q9, hg]]
      exact ⟨⟨s, m, _, _, (TSh.c0 ..), hz, hso, hL, hno⟩, Or.inl ⟨hg, q1⟩, Nat.le_refl _, fun _ _ _ _ => rfl⟩
  · obtain ⟨⟨z0, k0, y0, b0, d0, g0, n0⟩, c0⟩ := hL (a0, e0, v0) (by simp)
    replace z0 : Z a0 := z0
    replace k0 : zOb E E.2.1 (E.2.2.2.1 (128 + e0)) 14 [.int (nI e0)] := k0
    replace d0 : zOb E H v0 14 [.int (nI y0)] := d0
    replace g0 : g e0 = nI y0 := g0
    replace n0 : v0 < zB E ∨ Z v0 := n0
    replace c0 : ∀ c : Nat × va_E, c ∈ _ → v0 ≠ c.1 := c0
    have kk0 := zOb.old k0 ho
    have al0 : a0 < H.size := (hz.at 1 rfl).lt
    have bn0 : zB E ≤ a0 := (hz.at 1 rfl).new
    have tl : t < H.size := (hz.at 0 rfl).lt
    have tn : zB E ≤ t := (hz.at 0 rfl).new
    have so : e0 < 4 := by simpa [TSo] using hso
    have pos : (x < e0) ∨ (x = e0) ∨ (e0 < x) := by omega
    rcases pos with q | q | q
    · refine (t_remove_2 hz hxx kk0 (by omega)).mono (fun v H1 ⟨q1, q2⟩ => ?_)
      subst q2
      have hg : g x = -1 := hno x hx (fun q hq => by
        simp only [List.mem_cons, List.not_mem_nil, or_false] at hq
        rcases hq with rfl <;> (dsimp only; omega))
      rw [show (fun e => if e = x then -1 else g e) = g from funext fun e => by by_cases q9 : e = x <;> simp [q9, hg]]
      exact ⟨⟨s, m, _, _, (TSh.c1 ..), hz, hso, hL, hno⟩, Or.inl ⟨hg, q1⟩, Nat.le_refl _, fun _ _ _ _ => rfl⟩
    · subst q
      refine (t_remove_1 hz hxx kk0 (by omega)).mono (fun v H1 hv => ?_)
      obtain ⟨q1, hz1⟩ := hv
      refine ⟨TM.mk (L := []) hz1 [0] (by rfl) (by have h9 := hz1.nd; simp only [List.map_cons, List.map_nil, List.nodup_cons, List.mem_cons, List.not_mem_nil, or_false, not_false_eq_true, List.nodup_nil, and_true] at h9 ⊢ <;> omega) (TSh.c0 ..) (by simp only [TSo] <;> omega) ?_ ?_, ?_, hz1.2.2.1, hz1.fr ?_⟩
      · intro q hq
        cases hq
      · intro e he hne
        by_cases q9 : e = x
        · exact if_pos q9
        · refine (if_neg q9).trans (hno e he (fun q hq => ?_))
          simp only [List.mem_cons, List.not_mem_nil, or_false] at hq
          rcases hq with rfl
          · exact fun z => q9 z.symm
      · exact Or.inr ⟨v0, y0, q1, zOb.kept d0 (hz1.2.2.2 _ (zOb.is d0).lt (fun hm => by
          obtain ⟨c, hc, e9⟩ := List.mem_map.mp hm
          simp only [List.mem_cons, List.not_mem_nil, or_false] at hc
          rcases hc with rfl | rfl
          · have e8 := c0 _ (List.mem_of_getElem? (i := 0) rfl)
            exact e8 e9.symm
          · have e8 := c0 _ (List.mem_of_getElem? (i := 1) rfl)
            exact e8 e9.symm)), b0, g0⟩
      · intro c hc
        simp only [List.mem_cons, List.not_mem_nil, or_false] at hc
        rcases hc with rfl | rfl
        · exact Or.inl rfl
        · exact Or.inr (Or.inl z0)
    · refine (t_remove_3 hz hxx kk0 (by omega)).mono (fun v H1 ⟨q1, q2⟩ => ?_)
      subst q2
      have hg : g x = -1 := hno x hx (fun q hq => by
        simp only [List.mem_cons, List.not_mem_nil, or_false] at hq
        rcases hq with rfl <;> (dsimp only; omega))
      rw [show (fun e => if e = x then -1 else g e) = g from funext fun e => by by_cases q9 : e = x <;> simp [q9, hg]]
      exact ⟨⟨s, m, _, _, (TSh.c1 ..), hz, hso, hL, hno⟩, Or.inl ⟨hg, q1⟩, Nat.le_refl _, fun _ _ _ _ => rfl⟩
  · obtain ⟨⟨z0, k0, y0, b0, d0, g0, n0⟩, c0⟩ := hL (a0, e0, v0) (by simp)
    replace z0 : Z a0 := z0
    replace k0 : zOb E E.2.1 (E.2.2.2.1 (128 + e0)) 14 [.int (nI e0)] := k0
    replace d0 : zOb E H v0 14 [.int (nI y0)] := d0
    replace g0 : g e0 = nI y0 := g0
    replace n0 : v0 < zB E ∨ Z v0 := n0
    replace c0 : ∀ c : Nat × va_E, c ∈ _ → v0 ≠ c.1 := c0
    have kk0 := zOb.old k0 ho
    have al0 : a0 < H.size := (hz.at 1 rfl).lt
    have bn0 : zB E ≤ a0 := (hz.at 1 rfl).new
    obtain ⟨⟨z1, k1, y1, b1, d1, g1, n1⟩, c1⟩ := hL (a1, e1, v1) (by simp)
    replace z1 : Z a1 := z1
    replace k1 : zOb E E.2.1 (E.2.2.2.1 (128 + e1)) 14 [.int (nI e1)] := k1
    replace d1 : zOb E H v1 14 [.int (nI y1)] := d1
    replace g1 : g e1 = nI y1 := g1
    replace n1 : v1 < zB E ∨ Z v1 := n1
    replace c1 : ∀ c : Nat × va_E, c ∈ _ → v1 ≠ c.1 := c1
    have kk1 := zOb.old k1 ho
    have al1 : a1 < H.size := (hz.at 2 rfl).lt
    have bn1 : zB E ≤ a1 := (hz.at 2 rfl).new
    have tl : t < H.size := (hz.at 0 rfl).lt
    have tn : zB E ≤ t := (hz.at 0 rfl).new
    have so : e0 < e1 ∧ e1 < 4 := by simpa [TSo] using hso
    have pos : (x < e0) ∨ (x = e0) ∨ (e0 < x ∧ x < e1) ∨ (x = e1) ∨ (e1 < x) := by omega
    rcases pos with q | q | q | q | q
    · refine (t_remove_6 hz hxx kk0 kk1 (by omega)).mono (fun v H1 ⟨q1, q2⟩ => ?_)
      subst q2
      have hg : g x = -1 := hno x hx (fun q hq => by
        simp only [List.mem_cons, List.not_mem_nil, or_false] at hq
        rcases hq with rfl | rfl <;> (dsimp only; omega))
      rw [show (fun e => if e = x then -1 else g e) = g from funext fun e => by by_cases q9 : e = x <;> simp [q9, hg]]
      exact ⟨⟨s, m, _, _, (TSh.c2 ..), hz, hso, hL, hno⟩, Or.inl ⟨hg, q1⟩, Nat.le_refl _, fun _ _ _ _ => rfl⟩
    · subst q
      refine (t_remove_4 hz hxx kk0 kk1 (by omega)).mono (fun v H1 hv => ?_)
      obtain ⟨q1, hz1⟩ := hv
      refine ⟨TM.mk (L := [(a1, e1, v1)]) hz1 [0, 2] (by rfl) (by have h9 := hz1.nd; simp only [List.map_cons, List.map_nil, List.nodup_cons, List.mem_cons, List.not_mem_nil, or_false, not_false_eq_true, List.nodup_nil, and_true] at h9 ⊢ <;> omega) (TSh.c1 ..) (by simp only [TSo] <;> omega) ?_ ?_, ?_, hz1.2.2.1, hz1.fr ?_⟩
      · intro q hq
        simp only [List.mem_cons, List.not_mem_nil, or_false] at hq
        rcases hq with rfl
        · refine ⟨⟨z1, k1, y1, b1, d1, (if_neg (show ¬ e1 = x by omega)).trans g1, n1⟩, ?_⟩
          intro c hc
          simp only [List.mem_cons, List.not_mem_nil, or_false] at hc
          rcases hc with rfl | rfl | rfl
          · have e8 := c1 _ (List.mem_of_getElem? (i := 0) rfl)
            exact e8
          · have e8 := c1 _ (List.mem_of_getElem? (i := 1) rfl)
            exact e8
          · have e8 := c1 _ (List.mem_of_getElem? (i := 2) rfl)
            exact e8
      · intro e he hne
        by_cases q9 : e = x
        · exact if_pos q9
        · refine (if_neg q9).trans (hno e he (fun q hq => ?_))
          simp only [List.mem_cons, List.not_mem_nil, or_false] at hq
          rcases hq with rfl | rfl
          · exact fun z => q9 z.symm
          · exact hne (a1, e1, v1) (by simp)
      · exact Or.inr ⟨v0, y0, q1, zOb.kept d0 (hz1.2.2.2 _ (zOb.is d0).lt (fun hm => by
          obtain ⟨c, hc, e9⟩ := List.mem_map.mp hm
          simp only [List.mem_cons, List.not_mem_nil, or_false] at hc
          rcases hc with rfl | rfl | rfl
          · have e8 := c0 _ (List.mem_of_getElem? (i := 0) rfl)
            exact e8 e9.symm
          · have e8 := c0 _ (List.mem_of_getElem? (i := 1) rfl)
            exact e8 e9.symm
          · have e8 := c0 _ (List.mem_of_getElem? (i := 2) rfl)
            exact e8 e9.symm)), b0, g0⟩
      · intro c hc
        simp only [List.mem_cons, List.not_mem_nil, or_false] at hc
        rcases hc with rfl | rfl | rfl
        · exact Or.inl rfl
        · exact Or.inr (Or.inl z0)
        · exact Or.inr (Or.inl z1)
    · refine (t_remove_7 hz hxx kk0 kk1 (by omega)).mono (fun v H1 ⟨q1, q2⟩ => ?_)
      subst q2
      have hg : g x = -1 := hno x hx (fun q hq => by
        simp only [List.mem_cons, List.not_mem_nil, or_false] at hq
        rcases hq with rfl | rfl <;> (dsimp only; omega))
      rw [show (fun e => if e = x then -1 else g e) = g from funext fun e => by by_cases q9 : e = x <;> simp [q9, hg]]
      exact ⟨⟨s, m, _, _, (TSh.c2 ..), hz, hso, hL, hno⟩, Or.inl ⟨hg, q1⟩, Nat.le_refl _, fun _ _ _ _ => rfl⟩
    · subst q
      refine (t_remove_5 hz hxx kk0 kk1 (by omega)).mono (fun v H1 hv => ?_)
      obtain ⟨q1, hz1⟩ := hv
      refine ⟨TM.mk (L := [(a0, e0, v0)]) hz1 [0, 1] (by rfl) (by have h9 := hz1.nd; simp only [List.map_cons, List.map_nil, List.nodup_cons, List.mem_cons, List.not_mem_nil, or_false, not_false_eq_true, List.nodup_nil, and_true] at h9 ⊢ <;> omega) (TSh.c1 ..) (by simp only [TSo] <;> omega) ?_ ?_, ?_, hz1.2.2.1, hz1.fr ?_⟩
      · intro q hq
        simp only [List.mem_cons, List.not_mem_nil, or_false] at hq
        rcases hq with rfl
        · refine ⟨⟨z0, k0, y0, b0, d0, (if_neg (show ¬ e0 = x by omega)).trans g0, n0⟩, ?_⟩
          intro c hc
          simp only [List.mem_cons, List.not_mem_nil, or_false] at hc
          rcases hc with rfl | rfl | rfl
          · have e8 := c0 _ (List.mem_of_getElem? (i := 0) rfl)
            exact e8
          · have e8 := c0 _ (List.mem_of_getElem? (i := 1) rfl)
            exact e8
          · have e8 := c0 _ (List.mem_of_getElem? (i := 2) rfl)
            exact e8
      · intro e he hne
        by_cases q9 : e = x
        · exact if_pos q9
        · refine (if_neg q9).trans (hno e he (fun q hq => ?_))
          simp only [List.mem_cons, List.not_mem_nil, or_false] at hq
          rcases hq with rfl | rfl
          · exact hne (a0, e0, v0) (by simp)
          · exact fun z => q9 z.symm
      · exact Or.inr ⟨v1, y1, q1, zOb.kept d1 (hz1.2.2.2 _ (zOb.is d1).lt (fun hm => by
          obtain ⟨c, hc, e9⟩ := List.mem_map.mp hm
          simp only [List.mem_cons, List.not_mem_nil, or_false] at hc
          rcases hc with rfl | rfl | rfl
          · have e8 := c1 _ (List.mem_of_getElem? (i := 0) rfl)
            exact e8 e9.symm
          · have e8 := c1 _ (List.mem_of_getElem? (i := 1) rfl)
            exact e8 e9.symm
          · have e8 := c1 _ (List.mem_of_getElem? (i := 2) rfl)
            exact e8 e9.symm)), b1, g1⟩
      · intro c hc
        simp only [List.mem_cons, List.not_mem_nil, or_false] at hc
        rcases hc with rfl | rfl | rfl
        · exact Or.inl rfl
        · exact Or.inr (Or.inl z0)
        · exact Or.inr (Or.inl z1)
    · refine (t_remove_8 hz hxx kk0 kk1 (by omega)).mono (fun v H1 ⟨q1, q2⟩ => ?_)
      subst q2
      have hg : g x = -1 := hno x hx (fun q hq => by
        simp only [List.mem_cons, List.not_mem_nil, or_false] at hq
        rcases hq with rfl | rfl <;> (dsimp only; omega))
      rw [show (fun e => if e = x then -1 else g e) = g from funext fun e => by by_cases q9 : e = x <;> simp [q9, hg]]
      exact ⟨⟨s, m, _, _, (TSh.c2 ..), hz, hso, hL, hno⟩, Or.inl ⟨hg, q1⟩, Nat.le_refl _, fun _ _ _ _ => rfl⟩
  · obtain ⟨⟨z0, k0, y0, b0, d0, g0, n0⟩, c0⟩ := hL (a0, e0, v0) (by simp)
    replace z0 : Z a0 := z0
    replace k0 : zOb E E.2.1 (E.2.2.2.1 (128 + e0)) 14 [.int (nI e0)] := k0
    replace d0 : zOb E H v0 14 [.int (nI y0)] := d0
    replace g0 : g e0 = nI y0 := g0
    replace n0 : v0 < zB E ∨ Z v0 := n0
    replace c0 : ∀ c : Nat × va_E, c ∈ _ → v0 ≠ c.1 := c0
    have kk0 := zOb.old k0 ho
    have al0 : a0 < H.size := (hz.at 1 rfl).lt
    have bn0 : zB E ≤ a0 := (hz.at 1 rfl).new
    obtain ⟨⟨z1, k1, y1, b1, d1, g1, n1⟩, c1⟩ := hL (a1, e1, v1) (by simp)
    replace z1 : Z a1 := z1
    replace k1 : zOb E E.2.1 (E.2.2.2.1 (128 + e1)) 14 [.int (nI e1)] := k1
    replace d1 : zOb E H v1 14 [.int (nI y1)] := d1
    replace g1 : g e1 = nI y1 := g1
    replace n1 : v1 < zB E ∨ Z v1 := n1
    replace c1 : ∀ c : Nat × va_E, c ∈ _ → v1 ≠ c.1 := c1
    have kk1 := zOb.old k1 ho
    have al1 : a1 < H.size := (hz.at 2 rfl).lt
    have bn1 : zB E ≤ a1 := (hz.at 2 rfl).new
    have tl : t < H.size := (hz.at 0 rfl).lt
    have tn : zB E ≤ t := (hz.at 0 rfl).new
    have so : e0 < e1 ∧ e1 < 4 := by simpa [TSo] using hso
    have pos : (x < e0) ∨ (x = e0) ∨ (e0 < x ∧ x < e1) ∨ (x = e1) ∨ (e1 < x) := by omega
    rcases pos with q | q | q | q | q
    · refine (t_remove_11 hz hxx kk0 kk1 (by omega)).mono (fun v H1 ⟨q1, q2⟩ => ?_)
      subst q2
      have hg : g x = -1 := hno x hx (fun q hq => by
        simp only [List.mem_cons, List.not_mem_nil, or_false] at hq
        rcases hq with rfl | rfl <;> (dsimp only; omega))
      rw [show (fun e => if e = x then -1 else g e) = g from funext fun e => by by_cases q9 : e = x <;> simp [q9, hg]]
      exact ⟨⟨s, m, _, _, (TSh.c3 ..), hz, hso, hL, hno⟩, Or.inl ⟨hg, q1⟩, Nat.le_refl _, fun _ _ _ _ => rfl⟩
    · subst q
      refine (t_remove_9 hz hxx kk0 kk1 (by omega)).mono (fun v H1 hv => ?_)
      obtain ⟨q1, hz1⟩ := hv
      refine ⟨TM.mk (L := [(a1, e1, v1)]) hz1 [0, 2] (by rfl) (by have h9 := hz1.nd; simp only [List.map_cons, List.map_nil, List.nodup_cons, List.mem_cons, List.not_mem_nil, or_false, not_false_eq_true, List.nodup_nil, and_true] at h9 ⊢ <;> omega) (TSh.c1 ..) (by simp only [TSo] <;> omega) ?_ ?_, ?_, hz1.2.2.1, hz1.fr ?_⟩
      · intro q hq
        simp only [List.mem_cons, List.not_mem_nil, or_false] at hq
        rcases hq with rfl
        · refine ⟨⟨z1, k1, y1, b1, d1, (if_neg (show ¬ e1 = x by omega)).trans g1, n1⟩, ?_⟩
          intro c hc
          simp only [List.mem_cons, List.not_mem_nil, or_false] at hc
          rcases hc with rfl | rfl | rfl
          · have e8 := c1 _ (List.mem_of_getElem? (i := 0) rfl)
            exact e8
          · have e8 := c1 _ (List.mem_of_getElem? (i := 1) rfl)
            exact e8
          · have e8 := c1 _ (List.mem_of_getElem? (i := 2) rfl)
            exact e8
      · intro e he hne
        by_cases q9 : e = x
        · exact if_pos q9
        · refine (if_neg q9).trans (hno e he (fun q hq => ?_))
          simp only [List.mem_cons, List.not_mem_nil, or_false] at hq
          rcases hq with rfl | rfl
          · exact fun z => q9 z.symm
          · exact hne (a1, e1, v1) (by simp)
      · exact Or.inr ⟨v0, y0, q1, zOb.kept d0 (hz1.2.2.2 _ (zOb.is d0).lt (fun hm => by
          obtain ⟨c, hc, e9⟩ := List.mem_map.mp hm
          simp only [List.mem_cons, List.not_mem_nil, or_false] at hc
          rcases hc with rfl | rfl | rfl
          · have e8 := c0 _ (List.mem_of_getElem? (i := 0) rfl)
            exact e8 e9.symm
          · have e8 := c0 _ (List.mem_of_getElem? (i := 1) rfl)
            exact e8 e9.symm
          · have e8 := c0 _ (List.mem_of_getElem? (i := 2) rfl)
            exact e8 e9.symm)), b0, g0⟩
      · intro c hc
        simp only [List.mem_cons, List.not_mem_nil, or_false] at hc
        rcases hc with rfl | rfl | rfl
        · exact Or.inl rfl
        · exact Or.inr (Or.inl z0)
        · exact Or.inr (Or.inl z1)
    · refine (t_remove_12 hz hxx kk0 kk1 (by omega)).mono (fun v H1 ⟨q1, q2⟩ => ?_)
      subst q2
      have hg : g x = -1 := hno x hx (fun q hq => by
        simp only [List.mem_cons, List.not_mem_nil, or_false] at hq
        rcases hq with rfl | rfl <;> (dsimp only; omega))
      rw [show (fun e => if e = x then -1 else g e) = g from funext fun e => by by_cases q9 : e = x <;> simp [q9, hg]]
      exact ⟨⟨s, m, _, _, (TSh.c3 ..), hz, hso, hL, hno⟩, Or.inl ⟨hg, q1⟩, Nat.le_refl _, fun _ _ _ _ => rfl⟩
    · subst q
      refine (t_remove_10 hz hxx kk0 kk1 (by omega)).mono (fun v H1 hv => ?_)
      obtain ⟨q1, hz1⟩ := hv
      refine ⟨TM.mk (L := [(a0, e0, v0)]) hz1 [0, 1] (by rfl) (by have h9 := hz1.nd; simp only [List.map_cons, List.map_nil, List.nodup_cons, List.mem_cons, List.not_mem_nil, or_false, not_false_eq_true, List.nodup_nil, and_true] at h9 ⊢ <;> omega) (TSh.c1 ..) (by simp only [TSo] <;> omega) ?_ ?_, ?_, hz1.2.2.1, hz1.fr ?_⟩
      · intro q hq
        simp only [List.mem_cons, List.not_mem_nil, or_false] at hq
        rcases hq with rfl
        · refine ⟨⟨z0, k0, y0, b0, d0, (if_neg (show ¬ e0 = x by omega)).trans g0, n0⟩, ?_⟩
          intro c hc
          simp only [List.mem_cons, List.not_mem_nil, or_false] at hc
          rcases hc with rfl | rfl | rfl
          · have e8 := c0 _ (List.mem_of_getElem? (i := 0) rfl)
            exact e8
          · have e8 := c0 _ (List.mem_of_getElem? (i := 1) rfl)
            exact e8
          · have e8 := c0 _ (List.mem_of_getElem? (i := 2) rfl)
            exact e8
      · intro e he hne
        by_cases q9 : e = x
        · exact if_pos q9
        · refine (if_neg q9).trans (hno e he (fun q hq => ?_))
          simp only [List.mem_cons, List.not_mem_nil, or_false] at hq
          rcases hq with rfl | rfl
          · exact hne (a0, e0, v0) (by simp)
          · exact fun z => q9 z.symm
      · exact Or.inr ⟨v1, y1, q1, zOb.kept d1 (hz1.2.2.2 _ (zOb.is d1).lt (fun hm => by
          obtain ⟨c, hc, e9⟩ := List.mem_map.mp hm
          simp only [List.mem_cons, List.not_mem_nil, or_false] at hc
          rcases hc with rfl | rfl | rfl
          · have e8 := c1 _ (List.mem_of_getElem? (i := 0) rfl)
            exact e8 e9.symm
          · have e8 := c1 _ (List.mem_of_getElem? (i := 1) rfl)
            exact e8 e9.symm
          · have e8 := c1 _ (List.mem_of_getElem? (i := 2) rfl)
            exact e8 e9.symm)), b1, g1⟩
      · intro c hc
        simp only [List.mem_cons, List.not_mem_nil, or_false] at hc
        rcases hc with rfl | rfl | rfl
        · exact Or.inl rfl
        · exact Or.inr (Or.inl z0)
        · exact Or.inr (Or.inl z1)
    · refine (t_remove_13 hz hxx kk0 kk1 (by omega)).mono (fun v H1 ⟨q1, q2⟩ => ?_)
      subst q2
      have hg : g x = -1 := hno x hx (fun q hq => by
        simp only [List.mem_cons, List.not_mem_nil, or_false] at hq
        rcases hq with rfl | rfl <;> (dsimp only; omega))
      rw [show (fun e => if e = x then -1 else g e) = g from funext fun e => by by_cases q9 : e = x <;> simp [q9, hg]]
      exact ⟨⟨s, m, _, _, (TSh.c3 ..), hz, hso, hL, hno⟩, Or.inl ⟨hg, q1⟩, Nat.le_refl _, fun _ _ _ _ => rfl⟩
  · obtain ⟨⟨z0, k0, y0, b0, d0, g0, n0⟩, c0⟩ := hL (a0, e0, v0) (by simp)
    replace z0 : Z a0 := z0
    replace k0 : zOb E E.2.1 (E.2.2.2.1 (128 + e0)) 14 [.int (nI e0)] := k0
    replace d0 : zOb E H v0 14 [.int (nI y0)] := d0
    replace g0 : g e0 = nI y0 := g0
    replace n0 : v0 < zB E ∨ Z v0 := n0
    replace c0 : ∀ c : Nat × va_E, c ∈ _ → v0 ≠ c.1 := c0
    have kk0 := zOb.old k0 ho
    have al0 : a0 < H.size := (hz.at 1 rfl).lt
    have bn0 : zB E ≤ a0 := (hz.at 1 rfl).new
    obtain ⟨⟨z1, k1, y1, b1, d1, g1, n1⟩, c1⟩ := hL (a1, e1, v1) (by simp)
    replace z1 : Z a1 := z1
    replace k1 : zOb E E.2.1 (E.2.2.2.1 (128 + e1)) 14 [.int (nI e1)] := k1
    replace d1 : zOb E H v1 14 [.int (nI y1)] := d1
    replace g1 : g e1 = nI y1 := g1
    replace n1 : v1 < zB E ∨ Z v1 := n1
    replace c1 : ∀ c : Nat × va_E, c ∈ _ → v1 ≠ c.1 := c1
    have kk1 := zOb.old k1 ho
    have al1 : a1 < H.size := (hz.at 2 rfl).lt
    have bn1 : zB E ≤ a1 := (hz.at 2 rfl).new
    obtain ⟨⟨z2, k2, y2, b2, d2, g2, n2⟩, c2⟩ := hL (a2, e2, v2) (by simp)
    replace z2 : Z a2 := z2
    replace k2 : zOb E E.2.1 (E.2.2.2.1 (128 + e2)) 14 [.int (nI e2)] := k2
    replace d2 : zOb E H v2 14 [.int (nI y2)] := d2
    replace g2 : g e2 = nI y2 := g2
    replace n2 : v2 < zB E ∨ Z v2 := n2
    replace c2 : ∀ c : Nat × va_E, c ∈ _ → v2 ≠ c.1 := c2
    have kk2 := zOb.old k2 ho
    have al2 : a2 < H.size := (hz.at 3 rfl).lt
    have bn2 : zB E ≤ a2 := (hz.at 3 rfl).new
    have tl : t < H.size := (hz.at 0 rfl).lt
    have tn : zB E ≤ t := (hz.at 0 rfl).new
    have so : e0 < e1 ∧ e1 < e2 ∧ e2 < 4 := by simpa [TSo] using hso
    have pos : (x < e0) ∨ (x = e0) ∨ (e0 < x ∧ x < e1) ∨ (x = e1) ∨ (e1 < x ∧ x < e2) ∨ (x = e2) ∨ (e2 < x) := by omega
    rcases pos with q | q | q | q | q | q | q
    · refine (t_remove_17 hz hxx kk0 kk1 kk2 (by omega)).mono (fun v H1 ⟨q1, q2⟩ => ?_)
      subst q2
      have hg : g x = -1 := hno x hx (fun q hq => by
        simp only [List.mem_cons, List.not_mem_nil, or_false] at hq
        rcases hq with rfl | rfl | rfl <;> (dsimp only; omega))
      rw [show (fun e => if e = x then -1 else g e) = g from funext fun e => by by_cases q9 : e = x <;> simp [q9, hg]]
      exact ⟨⟨s, m, _, _, (TSh.c4 ..), hz, hso, hL, hno⟩, Or.inl ⟨hg, q1⟩, Nat.le_refl _, fun _ _ _ _ => rfl⟩
    · subst q
      refine (t_remove_14 hz hxx kk0 kk1 kk2 (by omega)).mono (fun v H1 hv => ?_)
      obtain ⟨q1, hz1⟩ := hv
      refine ⟨TM.mk (L := [(a1, e1, v1), (a2, e2, v2)]) hz1 [0, 2, 3] (by rfl) (by have h9 := hz1.nd; simp only [List.map_cons, List.map_nil, List.nodup_cons, List.mem_cons, List.not_mem_nil, or_false, not_false_eq_true, List.nodup_nil, and_true] at h9 ⊢ <;> omega) (TSh.c3 ..) (by simp only [TSo] <;> omega) ?_ ?_, ?_, hz1.2.2.1, hz1.fr ?_⟩
      · intro q hq
        simp only [List.mem_cons, List.not_mem_nil, or_false] at hq
        rcases hq with rfl | rfl
        · refine ⟨⟨z1, k1, y1, b1, d1, (if_neg (show ¬ e1 = x by omega)).trans g1, n1⟩, ?_⟩
          intro c hc
          simp only [List.mem_cons, List.not_mem_nil, or_false] at hc
          rcases hc with rfl | rfl | rfl | rfl
          · have e8 := c1 _ (List.mem_of_getElem? (i := 0) rfl)
            exact e8
          · have e8 := c1 _ (List.mem_of_getElem? (i := 1) rfl)
            exact e8
          · have e8 := c1 _ (List.mem_of_getElem? (i := 2) rfl)
            exact e8
          · have e8 := c1 _ (List.mem_of_getElem? (i := 3) rfl)
            exact e8
        · refine ⟨⟨z2, k2, y2, b2, d2, (if_neg (show ¬ e2 = x by omega)).trans g2, n2⟩, ?_⟩
          intro c hc
          simp only [List.mem_cons, List.not_mem_nil, or_false] at hc
          rcases hc with rfl | rfl | rfl | rfl
          · have e8 := c2 _ (List.mem_of_getElem? (i := 0) rfl)
            exact e8
          · have e8 := c2 _ (List.mem_of_getElem? (i := 1) rfl)
            exact e8
          · have e8 := c2 _ (List.mem_of_getElem? (i := 2) rfl)
            exact e8
          · have e8 := c2 _ (List.mem_of_getElem? (i := 3) rfl)
            exact e8
      · intro e he hne
        by_cases q9 : e = x
        · exact if_pos q9
        · refine (if_neg q9).trans (hno e he (fun q hq => ?_))
          simp only [List.mem_cons, List.not_mem_nil, or_false] at hq
          rcases hq with rfl | rfl | rfl
          · exact fun z => q9 z.symm
          · exact hne (a1, e1, v1) (by simp)
          · exact hne (a2, e2, v2) (by simp)
      · exact Or.inr ⟨v0, y0, q1, zOb.kept d0 (hz1.2.2.2 _ (zOb.is d0).lt (fun hm => by
          obtain ⟨c, hc, e9⟩ := List.mem_map.mp hm
          simp only [List.mem_cons, List.not_mem_nil, or_false] at hc
          rcases hc with rfl | rfl | rfl | rfl
          · have e8 := c0 _ (List.mem_of_getElem? (i := 0) rfl)
            exact e8 e9.symm
          · have e8 := c0 _ (List.mem_of_getElem? (i := 1) rfl)
            exact e8 e9.symm
          · have e8 := c0 _ (List.mem_of_getElem? (i := 2) rfl)
            exact e8 e9.symm
          · have e8 := c0 _ (List.mem_of_getElem? (i := 3) rfl)
            exact e8 e9.symm)), b0, g0⟩
      · intro c hc
        simp only [List.mem_cons, List.not_mem_nil, or_false] at hc
        rcases hc with rfl | rfl | rfl | rfl
        · exact Or.inl rfl
        · exact Or.inr (Or.inl z0)
        · exact Or.inr (Or.inl z1)
        · exact Or.inr (Or.inl z2)
    · refine (t_remove_18 hz hxx kk0 kk1 kk2 (by omega)).mono (fun v H1 ⟨q1, q2⟩ => ?_)
      subst q2
      have hg : g x = -1 := hno x hx (fun q hq => by
        simp only [List.mem_cons, List.not_mem_nil, or_false] at hq
        rcases hq with rfl | rfl | rfl <;> (dsimp only; omega))
      rw [show (fun e => if e = x then -1 else g e) = g from funext fun e => by by_cases q9 : e = x <;> simp [q9, hg]]
      exact ⟨⟨s, m, _, _, (TSh.c4 ..), hz, hso, hL, hno⟩, Or.inl ⟨hg, q1⟩, Nat.le_refl _, fun _ _ _ _ => rfl⟩
    · subst q
      refine (t_remove_15 hz hxx kk0 kk1 kk2 (by omega)).mono (fun v H1 hv => ?_)
      obtain ⟨q1, hz1⟩ := hv
      refine ⟨TM.mk (L := [(a0, e0, v0), (a1, e2, v2)]) hz1 [0, 1, 2] (by rfl) (by have h9 := hz1.nd; simp only [List.map_cons, List.map_nil, List.nodup_cons, List.mem_cons, List.not_mem_nil, or_false, not_false_eq_true, List.nodup_nil, and_true] at h9 ⊢ <;> omega) (TSh.c2 ..) (by simp only [TSo] <;> omega) ?_ ?_, ?_, hz1.2.2.1, hz1.fr ?_⟩
      · intro q hq
        simp only [List.mem_cons, List.not_mem_nil, or_false] at hq
        rcases hq with rfl | rfl
        · refine ⟨⟨z0, k0, y0, b0, d0, (if_neg (show ¬ e0 = x by omega)).trans g0, n0⟩, ?_⟩
          intro c hc
          simp only [List.mem_cons, List.not_mem_nil, or_false] at hc
          rcases hc with rfl | rfl | rfl | rfl
          · have e8 := c0 _ (List.mem_of_getElem? (i := 0) rfl)
            exact e8
          · have e8 := c0 _ (List.mem_of_getElem? (i := 1) rfl)
            exact e8
          · have e8 := c0 _ (List.mem_of_getElem? (i := 2) rfl)
            exact e8
          · have e8 := c0 _ (List.mem_of_getElem? (i := 3) rfl)
            exact e8
        · refine ⟨⟨z1, k2, y2, b2, d2, (if_neg (show ¬ e2 = x by omega)).trans g2, n2⟩, ?_⟩
          intro c hc
          simp only [List.mem_cons, List.not_mem_nil, or_false] at hc
          rcases hc with rfl | rfl | rfl | rfl
          · have e8 := c2 _ (List.mem_of_getElem? (i := 0) rfl)
            exact e8
          · have e8 := c2 _ (List.mem_of_getElem? (i := 1) rfl)
            exact e8
          · have e8 := c2 _ (List.mem_of_getElem? (i := 2) rfl)
            exact e8
          · have e8 := c2 _ (List.mem_of_getElem? (i := 3) rfl)
            exact e8
      · intro e he hne
        by_cases q9 : e = x
        · exact if_pos q9
        · refine (if_neg q9).trans (hno e he (fun q hq => ?_))
          simp only [List.mem_cons, List.not_mem_nil, or_false] at hq
          rcases hq with rfl | rfl | rfl
          · exact hne (a0, e0, v0) (by simp)
          · exact fun z => q9 z.symm
          · exact hne (a1, e2, v2) (by simp)
      · exact Or.inr ⟨v1, y1, q1, zOb.kept d1 (hz1.2.2.2 _ (zOb.is d1).lt (fun hm => by
          obtain ⟨c, hc, e9⟩ := List.mem_map.mp hm
          simp only [List.mem_cons, List.not_mem_nil, or_false] at hc
          rcases hc with rfl | rfl | rfl | rfl
          · have e8 := c1 _ (List.mem_of_getElem? (i := 0) rfl)
            exact e8 e9.symm
          · have e8 := c1 _ (List.mem_of_getElem? (i := 1) rfl)
            exact e8 e9.symm
          · have e8 := c1 _ (List.mem_of_getElem? (i := 2) rfl)
            exact e8 e9.symm
          · have e8 := c1 _ (List.mem_of_getElem? (i := 3) rfl)
            exact e8 e9.symm)), b1, g1⟩
      · intro c hc
        simp only [List.mem_cons, List.not_mem_nil, or_false] at hc
        rcases hc with rfl | rfl | rfl | rfl
        · exact Or.inl rfl
        · exact Or.inr (Or.inl z0)
        · exact Or.inr (Or.inl z1)
        · exact Or.inr (Or.inl z2)
    · refine (t_remove_19 hz hxx kk0 kk1 kk2 (by omega)).mono (fun v H1 ⟨q1, q2⟩ => ?_)
      subst q2
      have hg : g x = -1 := hno x hx (fun q hq => by
        simp only [List.mem_cons, List.not_mem_nil, or_false] at hq
        rcases hq with rfl | rfl | rfl <;> (dsimp only; omega))
      rw [show (fun e => if e = x then -1 else g e) = g from funext fun e => by by_cases q9 : e = x <;> simp [q9, hg]]
      exact ⟨⟨s, m, _, _, (TSh.c4 ..), hz, hso, hL, hno⟩, Or.inl ⟨hg, q1⟩, Nat.le_refl _, fun _ _ _ _ => rfl⟩
    · subst q
      refine (t_remove_16 hz hxx kk0 kk1 kk2 (by omega)).mono (fun v H1 hv => ?_)
      obtain ⟨q1, hz1⟩ := hv
      refine ⟨TM.mk (L := [(a0, e0, v0), (a1, e1, v1)]) hz1 [0, 1, 2] (by rfl) (by have h9 := hz1.nd; simp only [List.map_cons, List.map_nil, List.nodup_cons, List.mem_cons, List.not_mem_nil, or_false, not_false_eq_true, List.nodup_nil, and_true] at h9 ⊢ <;> omega) (TSh.c2 ..) (by simp only [TSo] <;> omega) ?_ ?_, ?_, hz1.2.2.1, hz1.fr ?_⟩
      · intro q hq
        simp only [List.mem_cons, List.not_mem_nil, or_false] at hq
        rcases hq with rfl | rfl
        · refine ⟨⟨z0, k0, y0, b0, d0, (if_neg (show ¬ e0 = x by omega)).trans g0, n0⟩, ?_⟩
          intro c hc
          simp only [List.mem_cons, List.not_mem_nil, or_false] at hc
          rcases hc with rfl | rfl | rfl | rfl
          · have e8 := c0 _ (List.mem_of_getElem? (i := 0) rfl)
            exact e8
          · have e8 := c0 _ (List.mem_of_getElem? (i := 1) rfl)
            exact e8
          · have e8 := c0 _ (List.mem_of_getElem? (i := 2) rfl)
            exact e8
          · have e8 := c0 _ (List.mem_of_getElem? (i := 3) rfl)
            exact e8
        · refine ⟨⟨z1, k1, y1, b1, d1, (if_neg (show ¬ e1 = x by omega)).trans g1, n1⟩, ?_⟩
          intro c hc
          simp only [List.mem_cons, List.not_mem_nil, or_false] at hc
          rcases hc with rfl | rfl | rfl | rfl
          · have e8 := c1 _ (List.mem_of_getElem? (i := 0) rfl)
            exact e8
          · have e8 := c1 _ (List.mem_of_getElem? (i := 1) rfl)
            exact e8
          · have e8 := c1 _ (List.mem_of_getElem? (i := 2) rfl)
            exact e8
          · have e8 := c1 _ (List.mem_of_getElem? (i := 3) rfl)
            exact e8
      · intro e he hne
        by_cases q9 : e = x
        · exact if_pos q9
        · refine (if_neg q9).trans (hno e he (fun q hq => ?_))
          simp only [List.mem_cons, List.not_mem_nil, or_false] at hq
          rcases hq with rfl | rfl | rfl
          · exact hne (a0, e0, v0) (by simp)
          · exact hne (a1, e1, v1) (by simp)
          · exact fun z => q9 z.symm
      · exact Or.inr ⟨v2, y2, q1, zOb.kept d2 (hz1.2.2.2 _ (zOb.is d2).lt (fun hm => by
          obtain ⟨c, hc, e9⟩ := List.mem_map.mp hm
          simp only [List.mem_cons, List.not_mem_nil, or_false] at hc
          rcases hc with rfl | rfl | rfl | rfl
          · have e8 := c2 _ (List.mem_of_getElem? (i := 0) rfl)
            exact e8 e9.symm
          · have e8 := c2 _ (List.mem_of_getElem? (i := 1) rfl)
            exact e8 e9.symm
          · have e8 := c2 _ (List.mem_of_getElem? (i := 2) rfl)
            exact e8 e9.symm
          · have e8 := c2 _ (List.mem_of_getElem? (i := 3) rfl)
            exact e8 e9.symm)), b2, g2⟩
      · intro c hc
        simp only [List.mem_cons, List.not_mem_nil, or_false] at hc
        rcases hc with rfl | rfl | rfl | rfl
        · exact Or.inl rfl
        · exact Or.inr (Or.inl z0)
        · exact Or.inr (Or.inl z1)
        · exact Or.inr (Or.inl z2)
    · refine (t_remove_20 hz hxx kk0 kk1 kk2 (by omega)).mono (fun v H1 ⟨q1, q2⟩ => ?_)
      subst q2
      have hg : g x = -1 := hno x hx (fun q hq => by
        simp only [List.mem_cons, List.not_mem_nil, or_false] at hq
        rcases hq with rfl | rfl | rfl <;> (dsimp only; omega))
      rw [show (fun e => if e = x then -1 else g e) = g from funext fun e => by by_cases q9 : e = x <;> simp [q9, hg]]
      exact ⟨⟨s, m, _, _, (TSh.c4 ..), hz, hso, hL, hno⟩, Or.inl ⟨hg, q1⟩, Nat.le_refl _, fun _ _ _ _ => rfl⟩
  · obtain ⟨⟨z0, k0, y0, b0, d0, g0, n0⟩, c0⟩ := hL (a0, e0, v0) (by simp)
    replace z0 : Z a0 := z0
    replace k0 : zOb E E.2.1 (E.2.2.2.1 (128 + e0)) 14 [.int (nI e0)] := k0
    replace d0 : zOb E H v0 14 [.int (nI y0)] := d0
    replace g0 : g e0 = nI y0 := g0
    replace n0 : v0 < zB E ∨ Z v0 := n0
    replace c0 : ∀ c : Nat × va_E, c ∈ _ → v0 ≠ c.1 := c0
    have kk0 := zOb.old k0 ho
    have al0 : a0 < H.size := (hz.at 1 rfl).lt
    have bn0 : zB E ≤ a0 := (hz.at 1 rfl).new
    obtain ⟨⟨z1, k1, y1, b1, d1, g1, n1⟩, c1⟩ := hL (a1, e1, v1) (by simp)
    replace z1 : Z a1 := z1
    replace k1 : zOb E E.2.1 (E.2.2.2.1 (128 + e1)) 14 [.int (nI e1)] := k1
    replace d1 : zOb E H v1 14 [.int (nI y1)] := d1
    replace g1 : g e1 = nI y1 := g1
    replace n1 : v1 < zB E ∨ Z v1 := n1
    replace c1 : ∀ c : Nat × va_E, c ∈ _ → v1 ≠ c.1 := c1
    have kk1 := zOb.old k1 ho
    have al1 : a1 < H.size := (hz.at 2 rfl).lt
    have bn1 : zB E ≤ a1 := (hz.at 2 rfl).new
    obtain ⟨⟨z2, k2, y2, b2, d2, g2, n2⟩, c2⟩ := hL (a2, e2, v2) (by simp)
    replace z2 : Z a2 := z2
    replace k2 : zOb E E.2.1 (E.2.2.2.1 (128 + e2)) 14 [.int (nI e2)] := k2
    replace d2 : zOb E H v2 14 [.int (nI y2)] := d2
    replace g2 : g e2 = nI y2 := g2
    replace n2 : v2 < zB E ∨ Z v2 := n2
    replace c2 : ∀ c : Nat × va_E, c ∈ _ → v2 ≠ c.1 := c2
    have kk2 := zOb.old k2 ho
    have al2 : a2 < H.size := (hz.at 3 rfl).lt
    have bn2 : zB E ≤ a2 := (hz.at 3 rfl).new
    obtain ⟨⟨z3, k3, y3, b3, d3, g3, n3⟩, c3⟩ := hL (a3, e3, v3) (by simp)
    replace z3 : Z a3 := z3
    replace k3 : zOb E E.2.1 (E.2.2.2.1 (128 + e3)) 14 [.int (nI e3)] := k3
    replace d3 : zOb E H v3 14 [.int (nI y3)] := d3
    replace g3 : g e3 = nI y3 := g3
    replace n3 : v3 < zB E ∨ Z v3 := n3
    replace c3 : ∀ c : Nat × va_E, c ∈ _ → v3 ≠ c.1 := c3
    have kk3 := zOb.old k3 ho
    have al3 : a3 < H.size := (hz.at 4 rfl).lt
    have bn3 : zB E ≤ a3 := (hz.at 4 rfl).new
    have tl : t < H.size := (hz.at 0 rfl).lt
    have tn : zB E ≤ t := (hz.at 0 rfl).new
    have so : e0 < e1 ∧ e1 < e2 ∧ e2 < e3 ∧ e3 < 4 := by simpa [TSo] using hso
    have pos : (x < e0) ∨ (x = e0) ∨ (e0 < x ∧ x < e1) ∨ (x = e1) ∨ (e1 < x ∧ x < e2) ∨ (x = e2) ∨ (e2 < x ∧ x < e3) ∨ (x = e3) ∨ (e3 < x) := by omega
    rcases pos with q | q | q | q | q | q | q | q | q
    · refine (t_remove_25 hz hxx kk0 kk1 kk2 kk3 (by omega)).mono (fun v H1 ⟨q1, q2⟩ => ?_)
      subst q2
      have hg : g x = -1 := hno x hx (fun q hq => by
        simp only [List.mem_cons, List.not_mem_nil, or_false] at hq
        rcases hq with rfl | rfl | rfl | rfl <;> (dsimp only; omega))
      rw [show (fun e => if e = x then -1 else g e) = g from funext fun e => by by_cases q9 : e = x <;> simp [q9, hg]]
      exact ⟨⟨s, m, _, _, (TSh.c5 ..), hz, hso, hL, hno⟩, Or.inl ⟨hg, q1⟩, Nat.le_refl _, fun _ _ _ _ => rfl⟩
    · subst q
      refine (t_remove_21 hz hxx kk0 kk1 kk2 kk3 (by omega)).mono (fun v H1 hv => ?_)
      obtain ⟨q1, hz1⟩ := hv
      refine ⟨TM.mk (L := [(a1, e1, v1), (a2, e2, v2), (a3, e3, v3)]) hz1 [0, 2, 3, 4] (by rfl) (by have h9 := hz1.nd; simp only [List.map_cons, List.map_nil, List.nodup_cons, List.mem_cons, List.not_mem_nil, or_false, not_false_eq_true, List.nodup_nil, and_true] at h9 ⊢ <;> omega) (TSh.c9 ..) (by simp only [TSo] <;> omega) ?_ ?_, ?_, hz1.2.2.1, hz1.fr ?_⟩
      · intro q hq
        simp only [List.mem_cons, List.not_mem_nil, or_false] at hq
        rcases hq with rfl | rfl | rfl
        · refine ⟨⟨z1, k1, y1, b1, d1, (if_neg (show ¬ e1 = x by omega)).trans g1, n1⟩, ?_⟩
          intro c hc
          simp only [List.mem_cons, List.not_mem_nil, or_false] at hc
          rcases hc with rfl | rfl | rfl | rfl | rfl
          · have e8 := c1 _ (List.mem_of_getElem? (i := 0) rfl)
            exact e8
          · have e8 := c1 _ (List.mem_of_getElem? (i := 1) rfl)
            exact e8
          · have e8 := c1 _ (List.mem_of_getElem? (i := 2) rfl)
            exact e8
          · have e8 := c1 _ (List.mem_of_getElem? (i := 3) rfl)
            exact e8
          · have e8 := c1 _ (List.mem_of_getElem? (i := 4) rfl)
            exact e8
        · refine ⟨⟨z2, k2, y2, b2, d2, (if_neg (show ¬ e2 = x by omega)).trans g2, n2⟩, ?_⟩
          intro c hc
          simp only [List.mem_cons, List.not_mem_nil, or_false] at hc
          rcases hc with rfl | rfl | rfl | rfl | rfl
          · have e8 := c2 _ (List.mem_of_getElem? (i := 0) rfl)
            exact e8
          · have e8 := c2 _ (List.mem_of_getElem? (i := 1) rfl)
            exact e8
          · have e8 := c2 _ (List.mem_of_getElem? (i := 2) rfl)
            exact e8
          · have e8 := c2 _ (List.mem_of_getElem? (i := 3) rfl)
            exact e8
          · have e8 := c2 _ (List.mem_of_getElem? (i := 4) rfl)
            exact e8
        · refine ⟨⟨z3, k3, y3, b3, d3, (if_neg (show ¬ e3 = x by omega)).trans g3, n3⟩, ?_⟩
          intro c hc
          simp only [List.mem_cons, List.not_mem_nil, or_false] at hc
          rcases hc with rfl | rfl | rfl | rfl | rfl
          · have e8 := c3 _ (List.mem_of_getElem? (i := 0) rfl)
            exact e8
          · have e8 := c3 _ (List.mem_of_getElem? (i := 1) rfl)
            exact e8
          · have e8 := c3 _ (List.mem_of_getElem? (i := 2) rfl)
            exact e8
          · have e8 := c3 _ (List.mem_of_getElem? (i := 3) rfl)
            exact e8
          · have e8 := c3 _ (List.mem_of_getElem? (i := 4) rfl)
            exact e8
      · intro e he hne
        by_cases q9 : e = x
        · exact if_pos q9
        · refine (if_neg q9).trans (hno e he (fun q hq => ?_))
          simp only [List.mem_cons, List.not_mem_nil, or_false] at hq
          rcases hq with rfl | rfl | rfl | rfl
          · exact fun z => q9 z.symm
          · exact hne (a1, e1, v1) (by simp)
          · exact hne (a2, e2, v2) (by simp)
          · exact hne (a3, e3, v3) (by simp)
      · exact Or.inr ⟨v0, y0, q1, zOb.kept d0 (hz1.2.2.2 _ (zOb.is d0).lt (fun hm => by
          obtain ⟨c, hc, e9⟩ := List.mem_map.mp hm
          simp only [List.mem_cons, List.not_mem_nil, or_false] at hc
          rcases hc with rfl | rfl | rfl | rfl | rfl
          · have e8 := c0 _ (List.mem_of_getElem? (i := 0) rfl)
            exact e8 e9.symm
          · have e8 := c0 _ (List.mem_of_getElem? (i := 1) rfl)
            exact e8 e9.symm
          · have e8 := c0 _ (List.mem_of_getElem? (i := 2) rfl)
            exact e8 e9.symm
          · have e8 := c0 _ (List.mem_of_getElem? (i := 3) rfl)
            exact e8 e9.symm
          · have e8 := c0 _ (List.mem_of_getElem? (i := 4) rfl)
            exact e8 e9.symm)), b0, g0⟩
      · intro c hc
        simp only [List.mem_cons, List.not_mem_nil, or_false] at hc
        rcases hc with rfl | rfl | rfl | rfl | rfl
        · exact Or.inl rfl
        · exact Or.inr (Or.inl z0)
        · exact Or.inr (Or.inl z1)
        · exact Or.inr (Or.inl z2)
        · exact Or.inr (Or.inl z3)
    · refine (t_remove_26 hz hxx kk0 kk1 kk2 kk3 (by omega)).mono (fun v H1 ⟨q1, q2⟩ => ?_)
      subst q2
      have hg : g x = -1 := hno x hx (fun q hq => by
        simp only [List.mem_cons, List.not_mem_nil, or_false] at hq
        rcases hq with rfl | rfl | rfl | rfl <;> (dsimp only; omega))
      rw [show (fun e => if e = x then -1 else g e) = g from funext fun e => by by_cases q9 : e = x <;> simp [q9, hg]]
      exact ⟨⟨s, m, _, _, (TSh.c5 ..), hz, hso, hL, hno⟩, Or.inl ⟨hg, q1⟩, Nat.le_refl _, fun _ _ _ _ => rfl⟩
    · subst q
      refine (t_remove_22 hz hxx kk0 kk1 kk2 kk3 (by omega)).mono (fun v H1 hv => ?_)
      obtain ⟨q1, hz1⟩ := hv
      refine ⟨TM.mk (L := [(a0, e0, v0), (a2, e2, v2), (a3, e3, v3)]) hz1 [0, 1, 3, 4] (by rfl) (by have h9 := hz1.nd; simp only [List.map_cons, List.map_nil, List.nodup_cons, List.mem_cons, List.not_mem_nil, or_false, not_false_eq_true, List.nodup_nil, and_true] at h9 ⊢ <;> omega) (TSh.c9 ..) (by simp only [TSo] <;> omega) ?_ ?_, ?_, hz1.2.2.1, hz1.fr ?_⟩
      · intro q hq
        simp only [List.mem_cons, List.not_mem_nil, or_false] at hq
        rcases hq with rfl | rfl | rfl
        · refine ⟨⟨z0, k0, y0, b0, d0, (if_neg (show ¬ e0 = x by omega)).trans g0, n0⟩, ?_⟩
          intro c hc
          simp only [List.mem_cons, List.not_mem_nil, or_false] at hc
          rcases hc with rfl | rfl | rfl | rfl | rfl
          · have e8 := c0 _ (List.mem_of_getElem? (i := 0) rfl)
            exact e8
          · have e8 := c0 _ (List.mem_of_getElem? (i := 1) rfl)
            exact e8
          · have e8 := c0 _ (List.mem_of_getElem? (i := 2) rfl)
            exact e8
          · have e8 := c0 _ (List.mem_of_getElem? (i := 3) rfl)
            exact e8
          · have e8 := c0 _ (List.mem_of_getElem? (i := 4) rfl)
            exact e8
        · refine ⟨⟨z2, k2, y2, b2, d2, (if_neg (show ¬ e2 = x by omega)).trans g2, n2⟩, ?_⟩
          intro c hc
          simp only [List.mem_cons, List.not_mem_nil, or_false] at hc
          rcases hc with rfl | rfl | rfl | rfl | rfl
          · have e8 := c2 _ (List.mem_of_getElem? (i := 0) rfl)
            exact e8
          · have e8 := c2 _ (List.mem_of_getElem? (i := 1) rfl)
            exact e8
          · have e8 := c2 _ (List.mem_of_getElem? (i := 2) rfl)
            exact e8
          · have e8 := c2 _ (List.mem_of_getElem? (i := 3) rfl)
            exact e8
          · have e8 := c2 _ (List.mem_of_getElem? (i := 4) rfl)
            exact e8
        · refine ⟨⟨z3, k3, y3, b3, d3, (if_neg (show ¬ e3 = x by omega)).trans g3, n3⟩, ?_⟩
          intro c hc
          simp only [List.mem_cons, List.not_mem_nil, or_false] at hc
          rcases hc with rfl | rfl | rfl | rfl | rfl
          · have e8 := c3 _ (List.mem_of_getElem? (i := 0) rfl)
            exact e8
          · have e8 := c3 _ (List.mem_of_getElem? (i := 1) rfl)
            exact e8
          · have e8 := c3 _ (List.mem_of_getElem? (i := 2) rfl)
            exact e8
          · have e8 := c3 _ (List.mem_of_getElem? (i := 3) rfl)
            exact e8
          · have e8 := c3 _ (List.mem_of_getElem? (i := 4) rfl)
            exact e8
      · intro e he hne
        by_cases q9 : e = x
        · exact if_pos q9
        · refine (if_neg q9).trans (hno e he (fun q hq => ?_))
          simp only [List.mem_cons, List.not_mem_nil, or_false] at hq
          rcases hq with rfl | rfl | rfl | rfl
          · exact hne (a0, e0, v0) (by simp)
          · exact fun z => q9 z.symm
          · exact hne (a2, e2, v2) (by simp)
          · exact hne (a3, e3, v3) (by simp)
      · exact Or.inr ⟨v1, y1, q1, zOb.kept d1 (hz1.2.2.2 _ (zOb.is d1).lt (fun hm => by
          obtain ⟨c, hc, e9⟩ := List.mem_map.mp hm
          simp only [List.mem_cons, List.not_mem_nil, or_false] at hc
          rcases hc with rfl | rfl | rfl | rfl | rfl
          · have e8 := c1 _ (List.mem_of_getElem? (i := 0) rfl)
            exact e8 e9.symm
          · have e8 := c1 _ (List.mem_of_getElem? (i := 1) rfl)
            exact e8 e9.symm
          · have e8 := c1 _ (List.mem_of_getElem? (i := 2) rfl)
            exact e8 e9.symm
          · have e8 := c1 _ (List.mem_of_getElem? (i := 3) rfl)
            exact e8 e9.symm
          · have e8 := c1 _ (List.mem_of_getElem? (i := 4) rfl)
            exact e8 e9.symm)), b1, g1⟩
      · intro c hc
        simp only [List.mem_cons, List.not_mem_nil, or_false] at hc
        rcases hc with rfl | rfl | rfl | rfl | rfl
        · exact Or.inl rfl
        · exact Or.inr (Or.inl z0)
        · exact Or.inr (Or.inl z1)
        · exact Or.inr (Or.inl z2)
        · exact Or.inr (Or.inl z3)
    · refine (t_remove_27 hz hxx kk0 kk1 kk2 kk3 (by omega)).mono (fun v H1 ⟨q1, q2⟩ => ?_)
      subst q2
      have hg : g x = -1 := hno x hx (fun q hq => by
        simp only [List.mem_cons, List.not_mem_nil, or_false] at hq
        rcases hq with rfl | rfl | rfl | rfl <;> (dsimp only; omega))
      rw [show (fun e => if e = x then -1 else g e) = g from funext fun e => by by_cases q9 : e = x <;> simp [q9, hg]]
      exact ⟨⟨s, m, _, _, (TSh.c5 ..), hz, hso, hL, hno⟩, Or.inl ⟨hg, q1⟩, Nat.le_refl _, fun _ _ _ _ => rfl⟩
    · subst q
      refine (t_remove_23 hz hxx kk0 kk1 kk2 kk3 (by omega)).mono (fun v H1 hv => ?_)
      obtain ⟨q1, hz1⟩ := hv
      refine ⟨TM.mk (L := [(a0, e0, v0), (a1, e1, v1), (a2, e3, v3)]) hz1 [0, 1, 2, 3] (by rfl) (by have h9 := hz1.nd; simp only [List.map_cons, List.map_nil, List.nodup_cons, List.mem_cons, List.not_mem_nil, or_false, not_false_eq_true, List.nodup_nil, and_true] at h9 ⊢ <;> omega) (TSh.c9 ..) (by simp only [TSo] <;> omega) ?_ ?_, ?_, hz1.2.2.1, hz1.fr ?_⟩
      · intro q hq
        simp only [List.mem_cons, List.not_mem_nil, or_false] at hq
        rcases hq with rfl | rfl | rfl
        · refine ⟨⟨z0, k0, y0, b0, d0, (if_neg (show ¬ e0 = x by omega)).trans g0, n0⟩, ?_⟩
          intro c hc
          simp only [List.mem_cons, List.not_mem_nil, or_false] at hc
          rcases hc with rfl | rfl | rfl | rfl | rfl
          · have e8 := c0 _ (List.mem_of_getElem? (i := 0) rfl)
            exact e8
          · have e8 := c0 _ (List.mem_of_getElem? (i := 1) rfl)
            exact e8
          · have e8 := c0 _ (List.mem_of_getElem? (i := 2) rfl)
            exact e8
          · have e8 := c0 _ (List.mem_of_getElem? (i := 3) rfl)
            exact e8
          · have e8 := c0 _ (List.mem_of_getElem? (i := 4) rfl)
            exact e8
        · refine ⟨⟨z1, k1, y1, b1, d1, (if_neg (show ¬ e1 = x by omega)).trans g1, n1⟩, ?_⟩
          intro c hc
          simp only [List.mem_cons, List.not_mem_nil, or_false] at hc
          rcases hc with rfl | rfl | rfl | rfl | rfl
          · have e8 := c1 _ (List.mem_of_getElem? (i := 0) rfl)
            exact e8
          · have e8 := c1 _ (List.mem_of_getElem? (i := 1) rfl)
            exact e8
          · have e8 := c1 _ (List.mem_of_getElem? (i := 2) rfl)
            exact e8
          · have e8 := c1 _ (List.mem_of_getElem? (i := 3) rfl)
            exact e8
          · have e8 := c1 _ (List.mem_of_getElem? (i := 4) rfl)
            exact e8
        · refine ⟨⟨z2, k3, y3, b3, d3, (if_neg (show ¬ e3 = x by omega)).trans g3, n3⟩, ?_⟩
          intro c hc
          simp only [List.mem_cons, List.not_mem_nil, or_false] at hc
          rcases hc with rfl | rfl | rfl | rfl | rfl
          · have e8 := c3 _ (List.mem_of_getElem? (i := 0) rfl)
            exact e8
          · have e8 := c3 _ (List.mem_of_getElem? (i := 1) rfl)
            exact e8
          · have e8 := c3 _ (List.mem_of_getElem? (i := 2) rfl)
            exact e8
          · have e8 := c3 _ (List.mem_of_getElem? (i := 3) rfl)
            exact e8
          · have e8 := c3 _ (List.mem_of_getElem? (i := 4) rfl)
            exact e8
      · intro e he hne
        by_cases q9 : e = x
        · exact if_pos q9
        · refine (if_neg q9).trans (hno e he (fun q hq => ?_))
          simp only [List.mem_cons, List.not_mem_nil, or_false] at hq
          rcases hq with rfl | rfl | rfl | rfl
          · exact hne (a0, e0, v0) (by simp)
          · exact hne (a1, e1, v1) (by simp)
          · exact fun z => q9 z.symm
          · exact hne (a2, e3, v3) (by simp)
      · exact Or.inr ⟨v2, y2, q1, zOb.kept d2 (hz1.2.2.2 _ (zOb.is d2).lt (fun hm => by
          obtain ⟨c, hc, e9⟩ := List.mem_map.mp hm
          simp only [List.mem_cons, List.not_mem_nil, or_false] at hc
          rcases hc with rfl | rfl | rfl | rfl | rfl
          · have e8 := c2 _ (List.mem_of_getElem? (i := 0) rfl)
            exact e8 e9.symm
          · have e8 := c2 _ (List.mem_of_getElem? (i := 1) rfl)
            exact e8 e9.symm
          · have e8 := c2 _ (List.mem_of_getElem? (i := 2) rfl)
            exact e8 e9.symm
          · have e8 := c2 _ (List.mem_of_getElem? (i := 3) rfl)
            exact e8 e9.symm
          · have e8 := c2 _ (List.mem_of_getElem? (i := 4) rfl)
            exact e8 e9.symm)), b2, g2⟩
      · intro c hc
        simp only [List.mem_cons, List.not_mem_nil, or_false] at hc
        rcases hc with rfl | rfl | rfl | rfl | rfl
        · exact Or.inl rfl
        · exact Or.inr (Or.inl z0)
        · exact Or.inr (Or.inl z1)
        · exact Or.inr (Or.inl z2)
        · exact Or.inr (Or.inl z3)
    · refine (t_remove_28 hz hxx kk0 kk1 kk2 kk3 (by omega)).mono (fun v H1 ⟨q1, q2⟩ => ?_)
      subst q2
      have hg : g x = -1 := hno x hx (fun q hq => by
        simp only [List.mem_cons, List.not_mem_nil, or_false] at hq
        rcases hq with rfl | rfl | rfl | rfl <;> (dsimp only; omega))
      rw [show (fun e => if e = x then -1 else g e) = g from funext fun e => by by_cases q9 : e = x <;> simp [q9, hg]]
      exact ⟨⟨s, m, _, _, (TSh.c5 ..), hz, hso, hL, hno⟩, Or.inl ⟨hg, q1⟩, Nat.le_refl _, fun _ _ _ _ => rfl⟩
    · subst q
      refine (t_remove_24 hz hxx kk0 kk1 kk2 kk3 (by omega)).mono (fun v H1 hv => ?_)
      obtain ⟨q1, hz1⟩ := hv
      refine ⟨TM.mk (L := [(a0, e0, v0), (a1, e1, v1), (a2, e2, v2)]) hz1 [0, 1, 2, 3] (by rfl) (by have h9 := hz1.nd; simp only [List.map_cons, List.map_nil, List.nodup_cons, List.mem_cons, List.not_mem_nil, or_false, not_false_eq_true, List.nodup_nil, and_true] at h9 ⊢ <;> omega) (TSh.c9 ..) (by simp only [TSo] <;> omega) ?_ ?_, ?_, hz1.2.2.1, hz1.fr ?_⟩
      · intro q hq
        simp only [List.mem_cons, List.not_mem_nil, or_false] at hq
        rcases hq with rfl | rfl | rfl
        · refine ⟨⟨z0, k0, y0, b0, d0, (if_neg (show ¬ e0 = x by omega)).trans g0, n0⟩, ?_⟩
          intro c hc
          simp only [List.mem_cons, List.not_mem_nil, or_false] at hc
          rcases hc with rfl | rfl | rfl | rfl | rfl
          · have e8 := c0 _ (List.mem_of_getElem? (i := 0) rfl)
            exact e8
          · have e8 := c0 _ (List.mem_of_getElem? (i := 1) rfl)
            exact e8
          · have e8 := c0 _ (List.mem_of_getElem? (i := 2) rfl)
            exact e8
          · have e8 := c0 _ (List.mem_of_getElem? (i := 3) rfl)
            exact e8
          · have e8 := c0 _ (List.mem_of_getElem? (i := 4) rfl)
            exact e8
        · refine ⟨⟨z1, k1, y1, b1, d1, (if_neg (show ¬ e1 = x by omega)).trans g1, n1⟩, ?_⟩
          intro c hc
          simp only [List.mem_cons, List.not_mem_nil, or_false] at hc
          rcases hc with rfl | rfl | rfl | rfl | rfl
          · have e8 := c1 _ (List.mem_of_getElem? (i := 0) rfl)
            exact e8
          · have e8 := c1 _ (List.mem_of_getElem? (i := 1) rfl)
            exact e8
          · have e8 := c1 _ (List.mem_of_getElem? (i := 2) rfl)
            exact e8
          · have e8 := c1 _ (List.mem_of_getElem? (i := 3) rfl)
            exact e8
          · have e8 := c1 _ (List.mem_of_getElem? (i := 4) rfl)
            exact e8
        · refine ⟨⟨z2, k2, y2, b2, d2, (if_neg (show ¬ e2 = x by omega)).trans g2, n2⟩, ?_⟩
          intro c hc
          simp only [List.mem_cons, List.not_mem_nil, or_false] at hc
          rcases hc with rfl | rfl | rfl | rfl | rfl
          · have e8 := c2 _ (List.mem_of_getElem? (i := 0) rfl)
            exact e8
          · have e8 := c2 _ (List.mem_of_getElem? (i := 1) rfl)
            exact e8
          · have e8 := c2 _ (List.mem_of_getElem? (i := 2) rfl)
            exact e8
          · have e8 := c2 _ (List.mem_of_getElem? (i := 3) rfl)
            exact e8
          · have e8 := c2 _ (List.mem_of_getElem? (i := 4) rfl)
            exact e8
      · intro e he hne
        by_cases q9 : e = x
        · exact if_pos q9
        · refine (if_neg q9).trans (hno e he (fun q hq => ?_))
          simp only [List.mem_cons, List.not_mem_nil, or_false] at hq
          rcases hq with rfl | rfl | rfl | rfl
          · exact hne (a0, e0, v0) (by simp)
          · exact hne (a1, e1, v1) (by simp)
          · exact hne (a2, e2, v2) (by simp)
          · exact fun z => q9 z.symm
      · exact Or.inr ⟨v3, y3, q1, zOb.kept d3 (hz1.2.2.2 _ (zOb.is d3).lt (fun hm => by
          obtain ⟨c, hc, e9⟩ := List.mem_map.mp hm
          simp only [List.mem_cons, List.not_mem_nil, or_false] at hc
          rcases hc with rfl | rfl | rfl | rfl | rfl
          · have e8 := c3 _ (List.mem_of_getElem? (i := 0) rfl)
            exact e8 e9.symm
          · have e8 := c3 _ (List.mem_of_getElem? (i := 1) rfl)
            exact e8 e9.symm
          · have e8 := c3 _ (List.mem_of_getElem? (i := 2) rfl)
            exact e8 e9.symm
          · have e8 := c3 _ (List.mem_of_getElem? (i := 3) rfl)
            exact e8 e9.symm
          · have e8 := c3 _ (List.mem_of_getElem? (i := 4) rfl)
            exact e8 e9.symm)), b3, g3⟩
      · intro c hc
        simp only [List.mem_cons, List.not_mem_nil, or_false] at hc
        rcases hc with rfl | rfl | rfl | rfl | rfl
        · exact Or.inl rfl
        · exact Or.inr (Or.inl z0)
        · exact Or.inr (Or.inl z1)
        · exact Or.inr (Or.inl z2)
        · exact Or.inr (Or.inl z3)
    · refine (t_remove_29 hz hxx kk0 kk1 kk2 kk3 (by omega)).mono (fun v H1 ⟨q1, q2⟩ => ?_)
      subst q2
      have hg : g x = -1 := hno x hx (fun q hq => by
        simp only [List.mem_cons, List.not_mem_nil, or_false] at hq
        rcases hq with rfl | rfl | rfl | rfl <;> (dsimp only; omega))
      rw [show (fun e => if e = x then -1 else g e) = g from funext fun e => by by_cases q9 : e = x <;> simp [q9, hg]]
      exact ⟨⟨s, m, _, _, (TSh.c5 ..), hz, hso, hL, hno⟩, Or.inl ⟨hg, q1⟩, Nat.le_refl _, fun _ _ _ _ => rfl⟩
  · obtain ⟨⟨z0, k0, y0, b0, d0, g0, n0⟩, c0⟩ := hL (a0, e0, v0) (by simp)
    replace z0 : Z a0 := z0
    replace k0 : zOb E E.2.1 (E.2.2.2.1 (128 + e0)) 14 [.int (nI e0)] := k0
    replace d0 : zOb E H v0 14 [.int (nI y0)] := d0
    replace g0 : g e0 = nI y0 := g0
    replace n0 : v0 < zB E ∨ Z v0 := n0
    replace c0 : ∀ c : Nat × va_E, c ∈ _ → v0 ≠ c.1 := c0
    have kk0 := zOb.old k0 ho
    have al0 : a0 < H.size := (hz.at 1 rfl).lt
    have bn0 : zB E ≤ a0 := (hz.at 1 rfl).new
    obtain ⟨⟨z1, k1, y1, b1, d1, g1, n1⟩, c1⟩ := hL (a1, e1, v1) (by simp)
    replace z1 : Z a1 := z1
    replace k1 : zOb E E.2.1 (E.2.2.2.1 (128 + e1)) 14 [.int (nI e1)] := k1
    replace d1 : zOb E H v1 14 [.int (nI y1)] := d1
    replace g1 : g e1 = nI y1 := g1
    replace n1 : v1 < zB E ∨ Z v1 := n1
    replace c1 : ∀ c : Nat × va_E, c ∈ _ → v1 ≠ c.1 := c1
    have kk1 := zOb.old k1 ho
    have al1 : a1 < H.size := (hz.at 2 rfl).lt
    have bn1 : zB E ≤ a1 := (hz.at 2 rfl).new
    obtain ⟨⟨z2, k2, y2, b2, d2, g2, n2⟩, c2⟩ := hL (a2, e2, v2) (by simp)
    replace z2 : Z a2 := z2
    replace k2 : zOb E E.2.1 (E.2.2.2.1 (128 + e2)) 14 [.int (nI e2)] := k2
    replace d2 : zOb E H v2 14 [.int (nI y2)] := d2
    replace g2 : g e2 = nI y2 := g2
    replace n2 : v2 < zB E ∨ Z v2 := n2
    replace c2 : ∀ c : Nat × va_E, c ∈ _ → v2 ≠ c.1 := c2
    have kk2 := zOb.old k2 ho
    have al2 : a2 < H.size := (hz.at 3 rfl).lt
    have bn2 : zB E ≤ a2 := (hz.at 3 rfl).new
    obtain ⟨⟨z3, k3, y3, b3, d3, g3, n3⟩, c3⟩ := hL (a3, e3, v3) (by simp)
    replace z3 : Z a3 := z3
    replace k3 : zOb E E.2.1 (E.2.2.2.1 (128 + e3)) 14 [.int (nI e3)] := k3
    replace d3 : zOb E H v3 14 [.int (nI y3)] := d3
    replace g3 : g e3 = nI y3 := g3
    replace n3 : v3 < zB E ∨ Z v3 := n3
    replace c3 : ∀ c : Nat × va_E, c ∈ _ → v3 ≠ c.1 := c3
    have kk3 := zOb.old k3 ho
    have al3 : a3 < H.size := (hz.at 4 rfl).lt
    have bn3 : zB E ≤ a3 := (hz.at 4 rfl).new
    have tl : t < H.size := (hz.at 0 rfl).lt
    have tn : zB E ≤ t := (hz.at 0 rfl).new
    have so : e0 < e1 ∧ e1 < e2 ∧ e2 < e3 ∧ e3 < 4 := by simpa [TSo] using hso
    have pos : (x < e0) ∨ (x = e0) ∨ (e0 < x ∧ x < e1) ∨ (x = e1) ∨ (e1 < x ∧ x < e2) ∨ (x = e2) ∨ (e2 < x ∧ x < e3) ∨ (x = e3) ∨ (e3 < x) := by omega
    rcases pos with q | q | q | q | q | q | q | q | q
    · refine (t_remove_34 hz hxx kk0 kk1 kk2 kk3 (by omega)).mono (fun v H1 ⟨q1, q2⟩ => ?_)
      subst q2
      have hg : g x = -1 := hno x hx (fun q hq => by
        simp only [List.mem_cons, List.not_mem_nil, or_false] at hq
        rcases hq with rfl | rfl | rfl | rfl <;> (dsimp only; omega))
      rw [show (fun e => if e = x then -1 else g e) = g from funext fun e => by by_cases q9 : e = x <;> simp [q9, hg]]
      exact ⟨⟨s, m, _, _, (TSh.c6 ..), hz, hso, hL, hno⟩, Or.inl ⟨hg, q1⟩, Nat.le_refl _, fun _ _ _ _ => rfl⟩
    · subst q
      refine (t_remove_30 hz hxx kk0 kk1 kk2 kk3 (by omega)).mono (fun v H1 hv => ?_)
      obtain ⟨q1, hz1⟩ := hv
      refine ⟨TM.mk (L := [(a1, e1, v1), (a2, e2, v2), (a3, e3, v3)]) hz1 [0, 2, 3, 4] (by rfl) (by have h9 := hz1.nd; simp only [List.map_cons, List.map_nil, List.nodup_cons, List.mem_cons, List.not_mem_nil, or_false, not_false_eq_true, List.nodup_nil, and_true] at h9 ⊢ <;> omega) (TSh.c9 ..) (by simp only [TSo] <;> omega) ?_ ?_, ?_, hz1.2.2.1, hz1.fr ?_⟩
      · intro q hq
        simp only [List.mem_cons, List.not_mem_nil, or_false] at hq
        rcases hq with rfl | rfl | rfl
        · refine ⟨⟨z1, k1, y1, b1, d1, (if_neg (show ¬ e1 = x by omega)).trans g1, n1⟩, ?_⟩
          intro c hc
          simp only [List.mem_cons, List.not_mem_nil, or_false] at hc
          rcases hc with rfl | rfl | rfl | rfl | rfl
          · have e8 := c1 _ (List.mem_of_getElem? (i := 0) rfl)
            exact e8
          · have e8 := c1 _ (List.mem_of_getElem? (i := 1) rfl)
            exact e8
          · have e8 := c1 _ (List.mem_of_getElem? (i := 2) rfl)
            exact e8
          · have e8 := c1 _ (List.mem_of_getElem? (i := 3) rfl)
            exact e8
          · have e8 := c1 _ (List.mem_of_getElem? (i := 4) rfl)
            exact e8
        · refine ⟨⟨z2, k2, y2, b2, d2, (if_neg (show ¬ e2 = x by omega)).trans g2, n2⟩, ?_⟩
          intro c hc
          simp only [List.mem_cons, List.not_mem_nil, or_false] at hc
          rcases hc with rfl | rfl | rfl | rfl | rfl
          · have e8 := c2 _ (List.mem_of_getElem? (i := 0) rfl)
            exact e8
          · have e8 := c2 _ (List.mem_of_getElem? (i := 1) rfl)
            exact e8
          · have e8 := c2 _ (List.mem_of_getElem? (i := 2) rfl)
            exact e8
          · have e8 := c2 _ (List.mem_of_getElem? (i := 3) rfl)
            exact e8
          · have e8 := c2 _ (List.mem_of_getElem? (i := 4) rfl)
            exact e8
        · refine ⟨⟨z3, k3, y3, b3, d3, (if_neg (show ¬ e3 = x by omega)).trans g3, n3⟩, ?_⟩
          intro c hc
          simp only [List.mem_cons, List.not_mem_nil, or_false] at hc
          rcases hc with rfl | rfl | rfl | rfl | rfl
          · have e8 := c3 _ (List.mem_of_getElem? (i := 0) rfl)
            exact e8
          · have e8 := c3 _ (List.mem_of_getElem? (i := 1) rfl)
            exact e8
          · have e8 := c3 _ (List.mem_of_getElem? (i := 2) rfl)
            exact e8
          · have e8 := c3 _ (List.mem_of_getElem? (i := 3) rfl)
            exact e8
          · have e8 := c3 _ (List.mem_of_getElem? (i := 4) rfl)
            exact e8
      · intro e he hne
        by_cases q9 : e = x
        · exact if_pos q9
        · refine (if_neg q9).trans (hno e he (fun q hq => ?_))
          simp only [List.mem_cons, List.not_mem_nil, or_false] at hq
          rcases hq with rfl | rfl | rfl | rfl
          · exact fun z => q9 z.symm
          · exact hne (a1, e1, v1) (by simp)
          · exact hne (a2, e2, v2) (by simp)
          · exact hne (a3, e3, v3) (by simp)
      · exact Or.inr ⟨v0, y0, q1, zOb.kept d0 (hz1.2.2.2 _ (zOb.is d0).lt (fun hm => by
          obtain ⟨c, hc, e9⟩ := List.mem_map.mp hm
          simp only [List.mem_cons, List.not_mem_nil, or_false] at hc
          rcases hc with rfl | rfl | rfl | rfl | rfl
          · have e8 := c0 _ (List.mem_of_getElem? (i := 0) rfl)
            exact e8 e9.symm
          · have e8 := c0 _ (List.mem_of_getElem? (i := 1) rfl)
            exact e8 e9.symm
          · have e8 := c0 _ (List.mem_of_getElem? (i := 2) rfl)
            exact e8 e9.symm
          · have e8 := c0 _ (List.mem_of_getElem? (i := 3) rfl)
            exact e8 e9.symm
          · have e8 := c0 _ (List.mem_of_getElem? (i := 4) rfl)
            exact e8 e9.symm)), b0, g0⟩
      · intro c hc
        simp only [List.mem_cons, List.not_mem_nil, or_false] at hc
        rcases hc with rfl | rfl | rfl | rfl | rfl
        · exact Or.inl rfl
        · exact Or.inr (Or.inl z0)
        · exact Or.inr (Or.inl z1)
        · exact Or.inr (Or.inl z2)
        · exact Or.inr (Or.inl z3)
    · refine (t_remove_35 hz hxx kk0 kk1 kk2 kk3 (by omega)).mono (fun v H1 ⟨q1, q2⟩ => ?_)
      subst q2
      have hg : g x = -1 := hno x hx (fun q hq => by
        simp only [List.mem_cons, List.not_mem_nil, or_false] at hq
        rcases hq with rfl | rfl | rfl | rfl <;> (dsimp only; omega))
      rw [show (fun e => if e = x then -1 else g e) = g from funext fun e => by by_cases q9 : e = x <;> simp [q9, hg]]
      exact ⟨⟨s, m, _, _, (TSh.c6 ..), hz, hso, hL, hno⟩, Or.inl ⟨hg, q1⟩, Nat.le_refl _, fun _ _ _ _ => rfl⟩
    · subst q
      refine (t_remove_31 hz hxx kk0 kk1 kk2 kk3 (by omega)).mono (fun v H1 hv => ?_)
      obtain ⟨q1, hz1⟩ := hv
      refine ⟨TM.mk (L := [(a0, e0, v0), (a2, e2, v2), (a3, e3, v3)]) hz1 [0, 1, 3, 4] (by rfl) (by have h9 := hz1.nd; simp only [List.map_cons, List.map_nil, List.nodup_cons, List.mem_cons, List.not_mem_nil, or_false, not_false_eq_true, List.nodup_nil, and_true] at h9 ⊢ <;> omega) (TSh.c9 ..) (by simp only [TSo] <;> omega) ?_ ?_, ?_, hz1.2.2.1, hz1.fr ?_⟩
      · intro q hq
        simp only [List.mem_cons, List.not_mem_nil, or_false] at hq
        rcases hq with rfl | rfl | rfl
        · refine ⟨⟨z0, k0, y0, b0, d0, (if_neg (show ¬ e0 = x by omega)).trans g0, n0⟩, ?_⟩
          intro c hc
          simp only [List.mem_cons, List.not_mem_nil, or_false] at hc
          rcases hc with rfl | rfl | rfl | rfl | rfl
          · have e8 := c0 _ (List.mem_of_getElem? (i := 0) rfl)
            exact e8
          · have e8 := c0 _ (List.mem_of_getElem? (i := 1) rfl)
            exact e8
          · have e8 := c0 _ (List.mem_of_getElem? (i := 2) rfl)
            exact e8
          · have e8 := c0 _ (List.mem_of_getElem? (i := 3) rfl)
            exact e8
          · have e8 := c0 _ (List.mem_of_getElem? (i := 4) rfl)
            exact e8
        · refine ⟨⟨z2, k2, y2, b2, d2, (if_neg (show ¬ e2 = x by omega)).trans g2, n2⟩, ?_⟩
          intro c hc
          simp only [List.mem_cons, List.not_mem_nil, or_false] at hc
          rcases hc with rfl | rfl | rfl | rfl | rfl
          · have e8 := c2 _ (List.mem_of_getElem? (i := 0) rfl)
            exact e8
          · have e8 := c2 _ (List.mem_of_getElem? (i := 1) rfl)
            exact e8
          · have e8 := c2 _ (List.mem_of_getElem? (i := 2) rfl)
            exact e8
          · have e8 := c2 _ (List.mem_of_getElem? (i := 3) rfl)
            exact e8
          · have e8 := c2 _ (List.mem_of_getElem? (i := 4) rfl)
            exact e8
        · refine ⟨⟨z3, k3, y3, b3, d3, (if_neg (show ¬ e3 = x by omega)).trans g3, n3⟩, ?_⟩
          intro c hc
          simp only [List.mem_cons, List.not_mem_nil, or_false] at hc
          rcases hc with rfl | rfl | rfl | rfl | rfl
          · have e8 := c3 _ (List.mem_of_getElem? (i := 0) rfl)
            exact e8
          · have e8 := c3 _ (List.mem_of_getElem? (i := 1) rfl)
            exact e8
          · have e8 := c3 _ (List.mem_of_getElem? (i := 2) rfl)
            exact e8
          · have e8 := c3 _ (List.mem_of_getElem? (i := 3) rfl)
            exact e8
          · have e8 := c3 _ (List.mem_of_getElem? (i := 4) rfl)
            exact e8
      · intro e he hne
        by_cases q9 : e = x
        · exact if_pos q9
        · refine (if_neg q9).trans (hno e he (fun q hq => ?_))
          simp only [List.mem_cons, List.not_mem_nil, or_false] at hq
          rcases hq with rfl | rfl | rfl | rfl
          · exact hne (a0, e0, v0) (by simp)
          · exact fun z => q9 z.symm
          · exact hne (a2, e2, v2) (by simp)
          · exact hne (a3, e3, v3) (by simp)
      · exact Or.inr ⟨v1, y1, q1, zOb.kept d1 (hz1.2.2.2 _ (zOb.is d1).lt (fun hm => by
          obtain ⟨c, hc, e9⟩ := List.mem_map.mp hm
          simp only [List.mem_cons, List.not_mem_nil, or_false] at hc
          rcases hc with rfl | rfl | rfl | rfl | rfl
          · have e8 := c1 _ (List.mem_of_getElem? (i := 0) rfl)
            exact e8 e9.symm
          · have e8 := c1 _ (List.mem_of_getElem? (i := 1) rfl)
            exact e8 e9.symm
          · have e8 := c1 _ (List.mem_of_getElem? (i := 2) rfl)
            exact e8 e9.symm
          · have e8 := c1 _ (List.mem_of_getElem? (i := 3) rfl)
            exact e8 e9.symm
          · have e8 := c1 _ (List.mem_of_getElem? (i := 4) rfl)
            exact e8 e9.symm)), b1, g1⟩
      · intro c hc
        simp only [List.mem_cons, List.not_mem_nil, or_false] at hc
        rcases hc with rfl | rfl | rfl | rfl | rfl
        · exact Or.inl rfl
        · exact Or.inr (Or.inl z0)
        · exact Or.inr (Or.inl z1)
        · exact Or.inr (Or.inl z2)
        · exact Or.inr (Or.inl z3)
    · refine (t_remove_36 hz hxx kk0 kk1 kk2 kk3 (by omega)).mono (fun v H1 ⟨q1, q2⟩ => ?_)
      subst q2
      have hg : g x = -1 := hno x hx (fun q hq => by
        simp only [List.mem_cons, List.not_mem_nil, or_false] at hq
        rcases hq with rfl | rfl | rfl | rfl <;> (dsimp only; omega))
      rw [show (fun e => if e = x then -1 else g e) = g from funext fun e => by by_cases q9 : e = x <;> simp [q9, hg]]
      exact ⟨⟨s, m, _, _, (TSh.c6 ..), hz, hso, hL, hno⟩, Or.inl ⟨hg, q1⟩, Nat.le_refl _, fun _ _ _ _ => rfl⟩
    · subst q
      refine (t_remove_32 hz hxx kk0 kk1 kk2 kk3 (by omega)).mono (fun v H1 hv => ?_)
      obtain ⟨q1, hz1⟩ := hv
      refine ⟨TM.mk (L := [(a0, e0, v0), (a1, e1, v1), (a2, e3, v3)]) hz1 [0, 1, 2, 3] (by rfl) (by have h9 := hz1.nd; simp only [List.map_cons, List.map_nil, List.nodup_cons, List.mem_cons, List.not_mem_nil, or_false, not_false_eq_true, List.nodup_nil, and_true] at h9 ⊢ <;> omega) (TSh.c9 ..) (by simp only [TSo] <;> omega) ?_ ?_, ?_, hz1.2.2.1, hz1.fr ?_⟩
      · intro q hq
        simp only [List.mem_cons, List.not_mem_nil, or_false] at hq
        rcases hq with rfl | rfl | rfl
        · refine ⟨⟨z0, k0, y0, b0, d0, (if_neg (show ¬ e0 = x by omega)).trans g0, n0⟩, ?_⟩
          intro c hc
          simp only [List.mem_cons, List.not_mem_nil, or_false] at hc
          rcases hc with rfl | rfl | rfl | rfl | rfl
          · have e8 := c0 _ (List.mem_of_getElem? (i := 0) rfl)
            exact e8
          · have e8 := c0 _ (List.mem_of_getElem? (i := 1) rfl)
            exact e8
          · have e8 := c0 _ (List.mem_of_getElem? (i := 2) rfl)
            exact e8
          · have e8 := c0 _ (List.mem_of_getElem? (i := 3) rfl)
            exact e8
          · have e8 := c0 _ (List.mem_of_getElem? (i := 4) rfl)
            exact e8
        · refine ⟨⟨z1, k1, y1, b1, d1, (if_neg (show ¬ e1 = x by omega)).trans g1, n1⟩, ?_⟩
          intro c hc
          simp only [List.mem_cons, List.not_mem_nil, or_false] at hc
          rcases hc with rfl | rfl | rfl | rfl | rfl
          · have e8 := c1 _ (List.mem_of_getElem? (i := 0) rfl)
            exact e8
          · have e8 := c1 _ (List.mem_of_getElem? (i := 1) rfl)
            exact e8
          · have e8 := c1 _ (List.mem_of_getElem? (i := 2) rfl)
            exact e8
          · have e8 := c1 _ (List.mem_of_getElem? (i := 3) rfl)
            exact e8
          · have e8 := c1 _ (List.mem_of_getElem? (i := 4) rfl)
            exact e8
        · refine ⟨⟨z2, k3, y3, b3, d3, (if_neg (show ¬ e3 = x by omega)).trans g3, n3⟩, ?_⟩
          intro c hc
          simp only [List.mem_cons, List.not_mem_nil, or_false] at hc
          rcases hc with rfl | rfl | rfl | rfl | rfl
          · have e8 := c3 _ (List.mem_of_getElem? (i := 0) rfl)
            exact e8
          · have e8 := c3 _ (List.mem_of_getElem? (i := 1) rfl)
            exact e8
          · have e8 := c3 _ (List.mem_of_getElem? (i := 2) rfl)
            exact e8
          · have e8 := c3 _ (List.mem_of_getElem? (i := 3) rfl)
            exact e8
          · have e8 := c3 _ (List.mem_of_getElem? (i := 4) rfl)
            exact e8
      · intro e he hne
        by_cases q9 : e = x
        · exact if_pos q9
        · refine (if_neg q9).trans (hno e he (fun q hq => ?_))
          simp only [List.mem_cons, List.not_mem_nil, or_false] at hq
          rcases hq with rfl | rfl | rfl | rfl
          · exact hne (a0, e0, v0) (by simp)
          · exact hne (a1, e1, v1) (by simp)
          · exact fun z => q9 z.symm
          · exact hne (a2, e3, v3) (by simp)
      · exact Or.inr ⟨v2, y2, q1, zOb.kept d2 (hz1.2.2.2 _ (zOb.is d2).lt (fun hm => by
          obtain ⟨c, hc, e9⟩ := List.mem_map.mp hm
          simp only [List.mem_cons, List.not_mem_nil, or_false] at hc
          rcases hc with rfl | rfl | rfl | rfl | rfl
          · have e8 := c2 _ (List.mem_of_getElem? (i := 0) rfl)
            exact e8 e9.symm
          · have e8 := c2 _ (List.mem_of_getElem? (i := 1) rfl)
            exact e8 e9.symm
          · have e8 := c2 _ (List.mem_of_getElem? (i := 2) rfl)
            exact e8 e9.symm
          · have e8 := c2 _ (List.mem_of_getElem? (i := 3) rfl)
            exact e8 e9.symm
          · have e8 := c2 _ (List.mem_of_getElem? (i := 4) rfl)
            exact e8 e9.symm)), b2, g2⟩
      · intro c hc
        simp only [List.mem_cons, List.not_mem_nil, or_false] at hc
        rcases hc with rfl | rfl | rfl | rfl | rfl
        · exact Or.inl rfl
        · exact Or.inr (Or.inl z0)
        · exact Or.inr (Or.inl z1)
        · exact Or.inr (Or.inl z2)
        · exact Or.inr (Or.inl z3)
    · refine (t_remove_37 hz hxx kk0 kk1 kk2 kk3 (by omega)).mono (fun v H1 ⟨q1, q2⟩ => ?_)
      subst q2
      have hg : g x = -1 := hno x hx (fun q hq => by
        simp only [List.mem_cons, List.not_mem_nil, or_false] at hq
        rcases hq with rfl | rfl | rfl | rfl <;> (dsimp only; omega))
      rw [show (fun e => if e = x then -1 else g e) = g from funext fun e => by by_cases q9 : e = x <;> simp [q9, hg]]
      exact ⟨⟨s, m, _, _, (TSh.c6 ..), hz, hso, hL, hno⟩, Or.inl ⟨hg, q1⟩, Nat.le_refl _, fun _ _ _ _ => rfl⟩
    · subst q
      refine (t_remove_33 hz hxx kk0 kk1 kk2 kk3 (by omega)).mono (fun v H1 hv => ?_)
      obtain ⟨q1, hz1⟩ := hv
      refine ⟨TM.mk (L := [(a0, e0, v0), (a1, e1, v1), (a2, e2, v2)]) hz1 [0, 1, 2, 3] (by rfl) (by have h9 := hz1.nd; simp only [List.map_cons, List.map_nil, List.nodup_cons, List.mem_cons, List.not_mem_nil, or_false, not_false_eq_true, List.nodup_nil, and_true] at h9 ⊢ <;> omega) (TSh.c9 ..) (by simp only [TSo] <;> omega) ?_ ?_, ?_, hz1.2.2.1, hz1.fr ?_⟩
      · intro q hq
        simp only [List.mem_cons, List.not_mem_nil, or_false] at hq
        rcases hq with rfl | rfl | rfl
        · refine ⟨⟨z0, k0, y0, b0, d0, (if_neg (show ¬ e0 = x by omega)).trans g0, n0⟩, ?_⟩
          intro c hc
          simp only [List.mem_cons, List.not_mem_nil, or_false] at hc
          rcases hc with rfl | rfl | rfl | rfl | rfl
          · have e8 := c0 _ (List.mem_of_getElem? (i := 0) rfl)
            exact e8
          · have e8 := c0 _ (List.mem_of_getElem? (i := 1) rfl)
            exact e8
          · have e8 := c0 _ (List.mem_of_getElem? (i := 2) rfl)
            exact e8
          · have e8 := c0 _ (List.mem_of_getElem? (i := 3) rfl)
            exact e8
          · have e8 := c0 _ (List.mem_of_getElem? (i := 4) rfl)
            exact e8
        · refine ⟨⟨z1, k1, y1, b1, d1, (if_neg (show ¬ e1 = x by omega)).trans g1, n1⟩, ?_⟩
          intro c hc
          simp only [List.mem_cons, List.not_mem_nil, or_false] at hc
          rcases hc with rfl | rfl | rfl | rfl | rfl
          · have e8 := c1 _ (List.mem_of_getElem? (i := 0) rfl)
            exact e8
          · have e8 := c1 _ (List.mem_of_getElem? (i := 1) rfl)
            exact e8
          · have e8 := c1 _ (List.mem_of_getElem? (i := 2) rfl)
            exact e8
          · have e8 := c1 _ (List.mem_of_getElem? (i := 3) rfl)
            exact e8
          · have e8 := c1 _ (List.mem_of_getElem? (i := 4) rfl)
            exact e8
        · refine ⟨⟨z2, k2, y2, b2, d2, (if_neg (show ¬ e2 = x by omega)).trans g2, n2⟩, ?_⟩
          intro c hc
          simp only [List.mem_cons, List.not_mem_nil, or_false] at hc
          rcases hc with rfl | rfl | rfl | rfl | rfl
          · have e8 := c2 _ (List.mem_of_getElem? (i := 0) rfl)
            exact e8
          · have e8 := c2 _ (List.mem_of_getElem? (i := 1) rfl)
            exact e8
          · have e8 := c2 _ (List.mem_of_getElem? (i := 2) rfl)
            exact e8
          · have e8 := c2 _ (List.mem_of_getElem? (i := 3) rfl)
            exact e8
          · have e8 := c2 _ (List.mem_of_getElem? (i := 4) rfl)
            exact e8
      · intro e he hne
        by_cases q9 : e = x
        · exact if_pos q9
        · refine (if_neg q9).trans (hno e he (fun q hq => ?_))
          simp only [List.mem_cons, List.not_mem_nil, or_false] at hq
          rcases hq with rfl | rfl | rfl | rfl
          · exact hne (a0, e0, v0) (by simp)
          · exact hne (a1, e1, v1) (by simp)
          · exact hne (a2, e2, v2) (by simp)
          · exact fun z => q9 z.symm
      · exact Or.inr ⟨v3, y3, q1, zOb.kept d3 (hz1.2.2.2 _ (zOb.is d3).lt (fun hm => by
          obtain ⟨c, hc, e9⟩ := List.mem_map.mp hm
          simp only [List.mem_cons, List.not_mem_nil, or_false] at hc
          rcases hc with rfl | rfl | rfl | rfl | rfl
          · have e8 := c3 _ (List.mem_of_getElem? (i := 0) rfl)
            exact e8 e9.symm
          · have e8 := c3 _ (List.mem_of_getElem? (i := 1) rfl)
            exact e8 e9.symm
          · have e8 := c3 _ (List.mem_of_getElem? (i := 2) rfl)
            exact e8 e9.symm
          · have e8 := c3 _ (List.mem_of_getElem? (i := 3) rfl)
            exact e8 e9.symm
          · have e8 := c3 _ (List.mem_of_getElem? (i := 4) rfl)
            exact e8 e9.symm)), b3, g3⟩
      · intro c hc
        simp only [List.mem_cons, List.not_mem_nil, or_false] at hc
        rcases hc with rfl | rfl | rfl | rfl | rfl
        · exact Or.inl rfl
        · exact Or.inr (Or.inl z0)
        · exact Or.inr (Or.inl z1)
        · exact Or.inr (Or.inl z2)
        · exact Or.inr (Or.inl z3)
    · refine (t_remove_38 hz hxx kk0 kk1 kk2 kk3 (by omega)).mono (fun v H1 ⟨q1, q2⟩ => ?_)
      subst q2
      have hg : g x = -1 := hno x hx (fun q hq => by
        simp only [List.mem_cons, List.not_mem_nil, or_false] at hq
        rcases hq with rfl | rfl | rfl | rfl <;> (dsimp only; omega))
      rw [show (fun e => if e = x then -1 else g e) = g from funext fun e => by by_cases q9 : e = x <;> simp [q9, hg]]
      exact ⟨⟨s, m, _, _, (TSh.c6 ..), hz, hso, hL, hno⟩, Or.inl ⟨hg, q1⟩, Nat.le_refl _, fun _ _ _ _ => rfl⟩
  · obtain ⟨⟨z0, k0, y0, b0, d0, g0, n0⟩, c0⟩ := hL (a0, e0, v0) (by simp)
    replace z0 : Z a0 := z0
    replace k0 : zOb E E.2.1 (E.2.2.2.1 (128 + e0)) 14 [.int (nI e0)] := k0
    replace d0 : zOb E H v0 14 [.int (nI y0)] := d0
    replace g0 : g e0 = nI y0 := g0
    replace n0 : v0 < zB E ∨ Z v0 := n0
    replace c0 : ∀ c : Nat × va_E, c ∈ _ → v0 ≠ c.1 := c0
    have kk0 := zOb.old k0 ho
    have al0 : a0 < H.size := (hz.at 1 rfl).lt
    have bn0 : zB E ≤ a0 := (hz.at 1 rfl).new
    obtain ⟨⟨z1, k1, y1, b1, d1, g1, n1⟩, c1⟩ := hL (a1, e1, v1) (by simp)
    replace z1 : Z a1 := z1
    replace k1 : zOb E E.2.1 (E.2.2.2.1 (128 + e1)) 14 [.int (nI e1)] := k1
    replace d1 : zOb E H v1 14 [.int (nI y1)] := d1
    replace g1 : g e1 = nI y1 := g1
    replace n1 : v1 < zB E ∨ Z v1 := n1
    replace c1 : ∀ c : Nat × va_E, c ∈ _ → v1 ≠ c.1 := c1
    have kk1 := zOb.old k1 ho
    have al1 : a1 < H.size := (hz.at 2 rfl).lt
    have bn1 : zB E ≤ a1 := (hz.at 2 rfl).new
    obtain ⟨⟨z2, k2, y2, b2, d2, g2, n2⟩, c2⟩ := hL (a2, e2, v2) (by simp)
    replace z2 : Z a2 := z2
    replace k2 : zOb E E.2.1 (E.2.2.2.1 (128 + e2)) 14 [.int (nI e2)] := k2
    replace d2 : zOb E H v2 14 [.int (nI y2)] := d2
    replace g2 : g e2 = nI y2 := g2
    replace n2 : v2 < zB E ∨ Z v2 := n2
    replace c2 : ∀ c : Nat × va_E, c ∈ _ → v2 ≠ c.1 := c2
    have kk2 := zOb.old k2 ho
    have al2 : a2 < H.size := (hz.at 3 rfl).lt
    have bn2 : zB E ≤ a2 := (hz.at 3 rfl).new
    obtain ⟨⟨z3, k3, y3, b3, d3, g3, n3⟩, c3⟩ := hL (a3, e3, v3) (by simp)
    replace z3 : Z a3 := z3
    replace k3 : zOb E E.2.1 (E.2.2.2.1 (128 + e3)) 14 [.int (nI e3)] := k3
    replace d3 : zOb E H v3 14 [.int (nI y3)] := d3
    replace g3 : g e3 = nI y3 := g3
    replace n3 : v3 < zB E ∨ Z v3 := n3
    replace c3 : ∀ c : Nat × va_E, c ∈ _ → v3 ≠ c.1 := c3
    have kk3 := zOb.old k3 ho
    have al3 : a3 < H.size := (hz.at 4 rfl).lt
    have bn3 : zB E ≤ a3 := (hz.at 4 rfl).new
    have tl : t < H.size := (hz.at 0 rfl).lt
    have tn : zB E ≤ t := (hz.at 0 rfl).new
    have so : e0 < e1 ∧ e1 < e2 ∧ e2 < e3 ∧ e3 < 4 := by simpa [TSo] using hso
    have pos : (x < e0) ∨ (x = e0) ∨ (e0 < x ∧ x < e1) ∨ (x = e1) ∨ (e1 < x ∧ x < e2) ∨ (x = e2) ∨ (e2 < x ∧ x < e3) ∨ (x = e3) ∨ (e3 < x) := by omega
    rcases pos with q | q | q | q | q | q | q | q | q
    · refine (t_remove_43 hz hxx kk0 kk1 kk2 kk3 (by omega)).mono (fun v H1 ⟨q1, q2⟩ => ?_)
      subst q2
      have hg : g x = -1 := hno x hx (fun q hq => by
        simp only [List.mem_cons, List.not_mem_nil, or_false] at hq
        rcases hq with rfl | rfl | rfl | rfl <;> (dsimp only; omega))
      rw [show (fun e => if e = x then -1 else g e) = g from funext fun e => by by_cases q9 : e = x <;> simp [q9, hg]]
      exact ⟨⟨s, m, _, _, (TSh.c7 ..), hz, hso, hL, hno⟩, Or.inl ⟨hg, q1⟩, Nat.le_refl _, fun _ _ _ _ => rfl⟩
    · subst q
      refine (t_remove_39 hz hxx kk0 kk1 kk2 kk3 (by omega)).mono (fun v H1 hv => ?_)
      obtain ⟨q1, hz1⟩ := hv
      refine ⟨TM.mk (L := [(a1, e1, v1), (a2, e2, v2), (a3, e3, v3)]) hz1 [0, 2, 3, 4] (by rfl) (by have h9 := hz1.nd; simp only [List.map_cons, List.map_nil, List.nodup_cons, List.mem_cons, List.not_mem_nil, or_false, not_false_eq_true, List.nodup_nil, and_true] at h9 ⊢ <;> omega) (TSh.c9 ..) (by simp only [TSo] <;> omega) ?_ ?_, ?_, hz1.2.2.1, hz1.fr ?_⟩
      · intro q hq
        simp only [List.mem_cons, List.not_mem_nil, or_false] at hq
        rcases hq with rfl | rfl | rfl
        · refine ⟨⟨z1, k1, y1, b1, d1, (if_neg (show ¬ e1 = x by omega)).trans g1, n1⟩, ?_⟩
          intro c hc
          simp only [List.mem_cons, List.not_mem_nil, or_false] at hc
          rcases hc with rfl | rfl | rfl | rfl | rfl
          · have e8 := c1 _ (List.mem_of_getElem? (i := 0) rfl)
            exact e8
          · have e8 := c1 _ (List.mem_of_getElem? (i := 1) rfl)
            exact e8
          · have e8 := c1 _ (List.mem_of_getElem? (i := 2) rfl)
            exact e8
          · have e8 := c1 _ (List.mem_of_getElem? (i := 3) rfl)
            exact e8
          · have e8 := c1 _ (List.mem_of_getElem? (i := 4) rfl)
            exact e8
        · refine ⟨⟨z2, k2, y2, b2, d2, (if_neg (show ¬ e2 = x by omega)).trans g2, n2⟩, ?_⟩
          intro c hc
          simp only [List.mem_cons, List.not_mem_nil, or_false] at hc
          rcases hc with rfl | rfl | rfl | rfl | rfl
          · have e8 := c2 _ (List.mem_of_getElem? (i := 0) rfl)
            exact e8
          · have e8 := c2 _ (List.mem_of_getElem? (i := 1) rfl)
            exact e8
          · have e8 := c2 _ (List.mem_of_getElem? (i := 2) rfl)
            exact e8
          · have e8 := c2 _ (List.mem_of_getElem? (i := 3) rfl)
            exact e8
          · have e8 := c2 _ (List.mem_of_getElem? (i := 4) rfl)
            exact e8
        · refine ⟨⟨z3, k3, y3, b3, d3, (if_neg (show ¬ e3 = x by omega)).trans g3, n3⟩, ?_⟩
          intro c hc
          simp only [List.mem_cons, List.not_mem_nil, or_false] at hc
          rcases hc with rfl | rfl | rfl | rfl | rfl
          · have e8 := c3 _ (List.mem_of_getElem? (i := 0) rfl)
            exact e8
          · have e8 := c3 _ (List.mem_of_getElem? (i := 1) rfl)
            exact e8
          · have e8 := c3 _ (List.mem_of_getElem? (i := 2) rfl)
            exact e8
          · have e8 := c3 _ (List.mem_of_getElem? (i := 3) rfl)
            exact e8
          · have e8 := c3 _ (List.mem_of_getElem? (i := 4) rfl)
            exact e8
      · intro e he hne
        by_cases q9 : e = x
        · exact if_pos q9
        · refine (if_neg q9).trans (hno e he (fun q hq => ?_))
          simp only [List.mem_cons, List.not_mem_nil, or_false] at hq
          rcases hq with rfl | rfl | rfl | rfl
          · exact fun z => q9 z.symm
          · exact hne (a1, e1, v1) (by simp)
          · exact hne (a2, e2, v2) (by simp)
          · exact hne (a3, e3, v3) (by simp)
      · exact Or.inr ⟨v0, y0, q1, zOb.kept d0 (hz1.2.2.2 _ (zOb.is d0).lt (fun hm => by
          obtain ⟨c, hc, e9⟩ := List.mem_map.mp hm
          simp only [List.mem_cons, List.not_mem_nil, or_false] at hc
          rcases hc with rfl | rfl | rfl | rfl | rfl
          · have e8 := c0 _ (List.mem_of_getElem? (i := 0) rfl)
            exact e8 e9.symm
          · have e8 := c0 _ (List.mem_of_getElem? (i := 1) rfl)
            exact e8 e9.symm
          · have e8 := c0 _ (List.mem_of_getElem? (i := 2) rfl)
            exact e8 e9.symm
          · have e8 := c0 _ (List.mem_of_getElem? (i := 3) rfl)
            exact e8 e9.symm
          · have e8 := c0 _ (List.mem_of_getElem? (i := 4) rfl)
            exact e8 e9.symm)), b0, g0⟩
      · intro c hc
        simp only [List.mem_cons, List.not_mem_nil, or_false] at hc
        rcases hc with rfl | rfl | rfl | rfl | rfl
        · exact Or.inl rfl
        · exact Or.inr (Or.inl z0)
        · exact Or.inr (Or.inl z1)
        · exact Or.inr (Or.inl z2)
        · exact Or.inr (Or.inl z3)
    · refine (t_remove_44 hz hxx kk0 kk1 kk2 kk3 (by omega)).mono (fun v H1 ⟨q1, q2⟩ => ?_)
      subst q2
      have hg : g x = -1 := hno x hx (fun q hq => by
        simp only [List.mem_cons, List.not_mem_nil, or_false] at hq
        rcases hq with rfl | rfl | rfl | rfl <;> (dsimp only; omega))
      rw [show (fun e => if e = x then -1 else g e) = g from funext fun e => by by_cases q9 : e = x <;> simp [q9, hg]]
      exact ⟨⟨s, m, _, _, (TSh.c7 ..), hz, hso, hL, hno⟩, Or.inl ⟨hg, q1⟩, Nat.le_refl _, fun _ _ _ _ => rfl⟩
    · subst q
      refine (t_remove_40 hz hxx kk0 kk1 kk2 kk3 (by omega)).mono (fun v H1 hv => ?_)
      obtain ⟨q1, hz1⟩ := hv
      refine ⟨TM.mk (L := [(a0, e0, v0), (a1, e2, v2), (a3, e3, v3)]) hz1 [0, 1, 2, 4] (by rfl) (by have h9 := hz1.nd; simp only [List.map_cons, List.map_nil, List.nodup_cons, List.mem_cons, List.not_mem_nil, or_false, not_false_eq_true, List.nodup_nil, and_true] at h9 ⊢ <;> omega) (TSh.c9 ..) (by simp only [TSo] <;> omega) ?_ ?_, ?_, hz1.2.2.1, hz1.fr ?_⟩
      · intro q hq
        simp only [List.mem_cons, List.not_mem_nil, or_false] at hq
        rcases hq with rfl | rfl | rfl
        · refine ⟨⟨z0, k0, y0, b0, d0, (if_neg (show ¬ e0 = x by omega)).trans g0, n0⟩, ?_⟩
          intro c hc
          simp only [List.mem_cons, List.not_mem_nil, or_false] at hc
          rcases hc with rfl | rfl | rfl | rfl | rfl
          · have e8 := c0 _ (List.mem_of_getElem? (i := 0) rfl)
            exact e8
          · have e8 := c0 _ (List.mem_of_getElem? (i := 1) rfl)
            exact e8
          · have e8 := c0 _ (List.mem_of_getElem? (i := 2) rfl)
            exact e8
          · have e8 := c0 _ (List.mem_of_getElem? (i := 3) rfl)
            exact e8
          · have e8 := c0 _ (List.mem_of_getElem? (i := 4) rfl)
            exact e8
        · refine ⟨⟨z1, k2, y2, b2, d2, (if_neg (show ¬ e2 = x by omega)).trans g2, n2⟩, ?_⟩
          intro c hc
          simp only [List.mem_cons, List.not_mem_nil, or_false] at hc
          rcases hc with rfl | rfl | rfl | rfl | rfl
          · have e8 := c2 _ (List.mem_of_getElem? (i := 0) rfl)
            exact e8
          · have e8 := c2 _ (List.mem_of_getElem? (i := 1) rfl)
            exact e8
          · have e8 := c2 _ (List.mem_of_getElem? (i := 2) rfl)
            exact e8
          · have e8 := c2 _ (List.mem_of_getElem? (i := 3) rfl)
            exact e8
          · have e8 := c2 _ (List.mem_of_getElem? (i := 4) rfl)
            exact e8
        · refine ⟨⟨z3, k3, y3, b3, d3, (if_neg (show ¬ e3 = x by omega)).trans g3, n3⟩, ?_⟩
          intro c hc
          simp only [List.mem_cons, List.not_mem_nil, or_false] at hc
          rcases hc with rfl | rfl | rfl | rfl | rfl
          · have e8 := c3 _ (List.mem_of_getElem? (i := 0) rfl)
            exact e8
          · have e8 := c3 _ (List.mem_of_getElem? (i := 1) rfl)
            exact e8
          · have e8 := c3 _ (List.mem_of_getElem? (i := 2) rfl)
            exact e8
          · have e8 := c3 _ (List.mem_of_getElem? (i := 3) rfl)
            exact e8
          · have e8 := c3 _ (List.mem_of_getElem? (i := 4) rfl)
            exact e8
      · intro e he hne
        by_cases q9 : e = x
        · exact if_pos q9
        · refine (if_neg q9).trans (hno e he (fun q hq => ?_))
          simp only [List.mem_cons, List.not_mem_nil, or_false] at hq
          rcases hq with rfl | rfl | rfl | rfl
          · exact hne (a0, e0, v0) (by simp)
          · exact fun z => q9 z.symm
          · exact hne (a1, e2, v2) (by simp)
          · exact hne (a3, e3, v3) (by simp)
      · exact Or.inr ⟨v1, y1, q1, zOb.kept d1 (hz1.2.2.2 _ (zOb.is d1).lt (fun hm => by
          obtain ⟨c, hc, e9⟩ := List.mem_map.mp hm
          simp only [List.mem_cons, List.not_mem_nil, or_false] at hc
          rcases hc with rfl | rfl | rfl | rfl | rfl
          · have e8 := c1 _ (List.mem_of_getElem? (i := 0) rfl)
            exact e8 e9.symm
          · have e8 := c1 _ (List.mem_of_getElem? (i := 1) rfl)
            exact e8 e9.symm
          · have e8 := c1 _ (List.mem_of_getElem? (i := 2) rfl)
            exact e8 e9.symm
          · have e8 := c1 _ (List.mem_of_getElem? (i := 3) rfl)
            exact e8 e9.symm
          · have e8 := c1 _ (List.mem_of_getElem? (i := 4) rfl)
            exact e8 e9.symm)), b1, g1⟩
      · intro c hc
        simp only [List.mem_cons, List.not_mem_nil, or_false] at hc
        rcases hc with rfl | rfl | rfl | rfl | rfl
        · exact Or.inl rfl
        · exact Or.inr (Or.inl z0)
        · exact Or.inr (Or.inl z1)
        · exact Or.inr (Or.inl z2)
        · exact Or.inr (Or.inl z3)
    · refine (t_remove_45 hz hxx kk0 kk1 kk2 kk3 (by omega)).mono (fun v H1 ⟨q1, q2⟩ => ?_)
      subst q2
      have hg : g x = -1 := hno x hx (fun q hq => by
        simp only [List.mem_cons, List.not_mem_nil, or_false] at hq
        rcases hq with rfl | rfl | rfl | rfl <;> (dsimp only; omega))
      rw [show (fun e => if e = x then -1 else g e) = g from funext fun e => by by_cases q9 : e = x <;> simp [q9, hg]]
      exact ⟨⟨s, m, _, _, (TSh.c7 ..), hz, hso, hL, hno⟩, Or.inl ⟨hg, q1⟩, Nat.le_refl _, fun _ _ _ _ => rfl⟩
    · subst q
      refine (t_remove_41 hz hxx kk0 kk1 kk2 kk3 (by omega)).mono (fun v H1 hv => ?_)
      obtain ⟨q1, hz1⟩ := hv
      refine ⟨TM.mk (L := [(a0, e0, v0), (a1, e1, v1), (a3, e3, v3)]) hz1 [0, 1, 2, 4] (by rfl) (by have h9 := hz1.nd; simp only [List.map_cons, List.map_nil, List.nodup_cons, List.mem_cons, List.not_mem_nil, or_false, not_false_eq_true, List.nodup_nil, and_true] at h9 ⊢ <;> omega) (TSh.c9 ..) (by simp only [TSo] <;> omega) ?_ ?_, ?_, hz1.2.2.1, hz1.fr ?_⟩
      · intro q hq
        simp only [List.mem_cons, List.not_mem_nil, or_false] at hq
        rcases hq with rfl | rfl | rfl
        · refine ⟨⟨z0, k0, y0, b0, d0, (if_neg (show ¬ e0 = x by omega)).trans g0, n0⟩, ?_⟩
          intro c hc
          simp only [List.mem_cons, List.not_mem_nil, or_false] at hc
          rcases hc with rfl | rfl | rfl | rfl | rfl
          · have e8 := c0 _ (List.mem_of_getElem? (i := 0) rfl)
            exact e8
          · have e8 := c0 _ (List.mem_of_getElem? (i := 1) rfl)
            exact e8
          · have e8 := c0 _ (List.mem_of_getElem? (i := 2) rfl)
            exact e8
          · have e8 := c0 _ (List.mem_of_getElem? (i := 3) rfl)
            exact e8
          · have e8 := c0 _ (List.mem_of_getElem? (i := 4) rfl)
            exact e8
        · refine ⟨⟨z1, k1, y1, b1, d1, (if_neg (show ¬ e1 = x by omega)).trans g1, n1⟩, ?_⟩
          intro c hc
          simp only [List.mem_cons, List.not_mem_nil, or_false] at hc
          rcases hc with rfl | rfl | rfl | rfl | rfl
          · have e8 := c1 _ (List.mem_of_getElem? (i := 0) rfl)
            exact e8
          · have e8 := c1 _ (List.mem_of_getElem? (i := 1) rfl)
            exact e8
          · have e8 := c1 _ (List.mem_of_getElem? (i := 2) rfl)
            exact e8
          · have e8 := c1 _ (List.mem_of_getElem? (i := 3) rfl)
            exact e8
          · have e8 := c1 _ (List.mem_of_getElem? (i := 4) rfl)
            exact e8
        · refine ⟨⟨z3, k3, y3, b3, d3, (if_neg (show ¬ e3 = x by omega)).trans g3, n3⟩, ?_⟩
          intro c hc
          simp only [List.mem_cons, List.not_mem_nil, or_false] at hc
          rcases hc with rfl | rfl | rfl | rfl | rfl
          · have e8 := c3 _ (List.mem_of_getElem? (i := 0) rfl)
            exact e8
          · have e8 := c3 _ (List.mem_of_getElem? (i := 1) rfl)
            exact e8
          · have e8 := c3 _ (List.mem_of_getElem? (i := 2) rfl)
            exact e8
          · have e8 := c3 _ (List.mem_of_getElem? (i := 3) rfl)
            exact e8
          · have e8 := c3 _ (List.mem_of_getElem? (i := 4) rfl)
            exact e8
      · intro e he hne
        by_cases q9 : e = x
        · exact if_pos q9
        · refine (if_neg q9).trans (hno e he (fun q hq => ?_))
          simp only [List.mem_cons, List.not_mem_nil, or_false] at hq
          rcases hq with rfl | rfl | rfl | rfl
          · exact hne (a0, e0, v0) (by simp)
          · exact hne (a1, e1, v1) (by simp)
          · exact fun z => q9 z.symm
          · exact hne (a3, e3, v3) (by simp)
      · exact Or.inr ⟨v2, y2, q1, zOb.kept d2 (hz1.2.2.2 _ (zOb.is d2).lt (fun hm => by
          obtain ⟨c, hc, e9⟩ := List.mem_map.mp hm
          simp only [List.mem_cons, List.not_mem_nil, or_false] at hc
          rcases hc with rfl | rfl | rfl | rfl | rfl
          · have e8 := c2 _ (List.mem_of_getElem? (i := 0) rfl)
            exact e8 e9.symm
          · have e8 := c2 _ (List.mem_of_getElem? (i := 1) rfl)
            exact e8 e9.symm
          · have e8 := c2 _ (List.mem_of_getElem? (i := 2) rfl)
            exact e8 e9.symm
          · have e8 := c2 _ (List.mem_of_getElem? (i := 3) rfl)
            exact e8 e9.symm
          · have e8 := c2 _ (List.mem_of_getElem? (i := 4) rfl)
            exact e8 e9.symm)), b2, g2⟩
      · intro c hc
        simp only [List.mem_cons, List.not_mem_nil, or_false] at hc
        rcases hc with rfl | rfl | rfl | rfl | rfl
        · exact Or.inl rfl
        · exact Or.inr (Or.inl z0)
        · exact Or.inr (Or.inl z1)
        · exact Or.inr (Or.inl z2)
        · exact Or.inr (Or.inl z3)
    · refine (t_remove_46 hz hxx kk0 kk1 kk2 kk3 (by omega)).mono (fun v H1 ⟨q1, q2⟩ => ?_)
      subst q2
      have hg : g x = -1 := hno x hx (fun q hq => by
        simp only [List.mem_cons, List.not_mem_nil, or_false] at hq
        rcases hq with rfl | rfl | rfl | rfl <;> (dsimp only; omega))
      rw [show (fun e => if e = x then -1 else g e) = g from funext fun e => by by_cases q9 : e = x <;> simp [q9, hg]]
      exact ⟨⟨s, m, _, _, (TSh.c7 ..), hz, hso, hL, hno⟩, Or.inl ⟨hg, q1⟩, Nat.le_refl _, fun _ _ _ _ => rfl⟩
    · subst q
      refine (t_remove_42 hz hxx kk0 kk1 kk2 kk3 (by omega)).mono (fun v H1 hv => ?_)
      obtain ⟨q1, hz1⟩ := hv
      refine ⟨TM.mk (L := [(a0, e0, v0), (a1, e1, v1), (a2, e2, v2)]) hz1 [0, 1, 2, 3] (by rfl) (by have h9 := hz1.nd; simp only [List.map_cons, List.map_nil, List.nodup_cons, List.mem_cons, List.not_mem_nil, or_false, not_false_eq_true, List.nodup_nil, and_true] at h9 ⊢ <;> omega) (TSh.c9 ..) (by simp only [TSo] <;> omega) ?_ ?_, ?_, hz1.2.2.1, hz1.fr ?_⟩
      · intro q hq
        simp only [List.mem_cons, List.not_mem_nil, or_false] at hq
        rcases hq with rfl | rfl | rfl
        · refine ⟨⟨z0, k0, y0, b0, d0, (if_neg (show ¬ e0 = x by omega)).trans g0, n0⟩, ?_⟩
          intro c hc
          simp only [List.mem_cons, List.not_mem_nil, or_false] at hc
          rcases hc with rfl | rfl | rfl | rfl | rfl
          · have e8 := c0 _ (List.mem_of_getElem? (i := 0) rfl)
            exact e8
          · have e8 := c0 _ (List.mem_of_getElem? (i := 1) rfl)
            exact e8
          · have e8 := c0 _ (List.mem_of_getElem? (i := 2) rfl)
            exact e8
          · have e8 := c0 _ (List.mem_of_getElem? (i := 3) rfl)
            exact e8
          · have e8 := c0 _ (List.mem_of_getElem? (i := 4) rfl)
            exact e8
        · refine ⟨⟨z1, k1, y1, b1, d1, (if_neg (show ¬ e1 = x by omega)).trans g1, n1⟩, ?_⟩
          intro c hc
          simp only [List.mem_cons, List.not_mem_nil, or_false] at hc
          rcases hc with rfl | rfl | rfl | rfl | rfl
          · have e8 := c1 _ (List.mem_of_getElem? (i := 0) rfl)
            exact e8
          · have e8 := c1 _ (List.mem_of_getElem? (i := 1) rfl)
            exact e8
          · have e8 := c1 _ (List.mem_of_getElem? (i := 2) rfl)
            exact e8
          · have e8 := c1 _ (List.mem_of_getElem? (i := 3) rfl)
            exact e8
          · have e8 := c1 _ (List.mem_of_getElem? (i := 4) rfl)
            exact e8
        · refine ⟨⟨z2, k2, y2, b2, d2, (if_neg (show ¬ e2 = x by omega)).trans g2, n2⟩, ?_⟩
          intro c hc
          simp only [List.mem_cons, List.not_mem_nil, or_false] at hc
          rcases hc with rfl | rfl | rfl | rfl | rfl
          · have e8 := c2 _ (List.mem_of_getElem? (i := 0) rfl)
            exact e8
          · have e8 := c2 _ (List.mem_of_getElem? (i := 1) rfl)
            exact e8
          · have e8 := c2 _ (List.mem_of_getElem? (i := 2) rfl)
            exact e8
          · have e8 := c2 _ (List.mem_of_getElem? (i := 3) rfl)
            exact e8
          · have e8 := c2 _ (List.mem_of_getElem? (i := 4) rfl)
            exact e8
      · intro e he hne
        by_cases q9 : e = x
        · exact if_pos q9
        · refine (if_neg q9).trans (hno e he (fun q hq => ?_))
          simp only [List.mem_cons, List.not_mem_nil, or_false] at hq
          rcases hq with rfl | rfl | rfl | rfl
          · exact hne (a0, e0, v0) (by simp)
          · exact hne (a1, e1, v1) (by simp)
          · exact hne (a2, e2, v2) (by simp)
          · exact fun z => q9 z.symm
      · exact Or.inr ⟨v3, y3, q1, zOb.kept d3 (hz1.2.2.2 _ (zOb.is d3).lt (fun hm => by
          obtain ⟨c, hc, e9⟩ := List.mem_map.mp hm
          simp only [List.mem_cons, List.not_mem_nil, or_false] at hc
          rcases hc with rfl | rfl | rfl | rfl | rfl
          · have e8 := c3 _ (List.mem_of_getElem? (i := 0) rfl)
            exact e8 e9.symm
          · have e8 := c3 _ (List.mem_of_getElem? (i := 1) rfl)
            exact e8 e9.symm
          · have e8 := c3 _ (List.mem_of_getElem? (i := 2) rfl)
            exact e8 e9.symm
          · have e8 := c3 _ (List.mem_of_getElem? (i := 3) rfl)
            exact e8 e9.symm
          · have e8 := c3 _ (List.mem_of_getElem? (i := 4) rfl)
            exact e8 e9.symm)), b3, g3⟩
      · intro c hc
        simp only [List.mem_cons, List.not_mem_nil, or_false] at hc
        rcases hc with rfl | rfl | rfl | rfl | rfl
        · exact Or.inl rfl
        · exact Or.inr (Or.inl z0)
        · exact Or.inr (Or.inl z1)
        · exact Or.inr (Or.inl z2)
        · exact Or.inr (Or.inl z3)
    · refine (t_remove_47 hz hxx kk0 kk1 kk2 kk3 (by omega)).mono (fun v H1 ⟨q1, q2⟩ => ?_)
      subst q2
      have hg : g x = -1 := hno x hx (fun q hq => by
        simp only [List.mem_cons, List.not_mem_nil, or_false] at hq
        rcases hq with rfl | rfl | rfl | rfl <;> (dsimp only; omega))
      rw [show (fun e => if e = x then -1 else g e) = g from funext fun e => by by_cases q9 : e = x <;> simp [q9, hg]]
      exact ⟨⟨s, m, _, _, (TSh.c7 ..), hz, hso, hL, hno⟩, Or.inl ⟨hg, q1⟩, Nat.le_refl _, fun _ _ _ _ => rfl⟩
  · obtain ⟨⟨z0, k0, y0, b0, d0, g0, n0⟩, c0⟩ := hL (a0, e0, v0) (by simp)
    replace z0 : Z a0 := z0
    replace k0 : zOb E E.2.1 (E.2.2.2.1 (128 + e0)) 14 [.int (nI e0)] := k0
    replace d0 : zOb E H v0 14 [.int (nI y0)] := d0
    replace g0 : g e0 = nI y0 := g0
    replace n0 : v0 < zB E ∨ Z v0 := n0
    replace c0 : ∀ c : Nat × va_E, c ∈ _ → v0 ≠ c.1 := c0
    have kk0 := zOb.old k0 ho
    have al0 : a0 < H.size := (hz.at 1 rfl).lt
    have bn0 : zB E ≤ a0 := (hz.at 1 rfl).new
    obtain ⟨⟨z1, k1, y1, b1, d1, g1, n1⟩, c1⟩ := hL (a1, e1, v1) (by simp)
    replace z1 : Z a1 := z1
    replace k1 : zOb E E.2.1 (E.2.2.2.1 (128 + e1)) 14 [.int (nI e1)] := k1
    replace d1 : zOb E H v1 14 [.int (nI y1)] := d1
    replace g1 : g e1 = nI y1 := g1
    replace n1 : v1 < zB E ∨ Z v1 := n1
    replace c1 : ∀ c : Nat × va_E, c ∈ _ → v1 ≠ c.1 := c1
    have kk1 := zOb.old k1 ho
    have al1 : a1 < H.size := (hz.at 2 rfl).lt
    have bn1 : zB E ≤ a1 := (hz.at 2 rfl).new
    obtain ⟨⟨z2, k2, y2, b2, d2, g2, n2⟩, c2⟩ := hL (a2, e2, v2) (by simp)
    replace z2 : Z a2 := z2
    replace k2 : zOb E E.2.1 (E.2.2.2.1 (128 + e2)) 14 [.int (nI e2)] := k2
    replace d2 : zOb E H v2 14 [.int (nI y2)] := d2
    replace g2 : g e2 = nI y2 := g2
    replace n2 : v2 < zB E ∨ Z v2 := n2
    replace c2 : ∀ c : Nat × va_E, c ∈ _ → v2 ≠ c.1 := c2
    have kk2 := zOb.old k2 ho
    have al2 : a2 < H.size := (hz.at 3 rfl).lt
    have bn2 : zB E ≤ a2 := (hz.at 3 rfl).new
    obtain ⟨⟨z3, k3, y3, b3, d3, g3, n3⟩, c3⟩ := hL (a3, e3, v3) (by simp)
    replace z3 : Z a3 := z3
    replace k3 : zOb E E.2.1 (E.2.2.2.1 (128 + e3)) 14 [.int (nI e3)] := k3
    replace d3 : zOb E H v3 14 [.int (nI y3)] := d3
    replace g3 : g e3 = nI y3 := g3
    replace n3 : v3 < zB E ∨ Z v3 := n3
    replace c3 : ∀ c : Nat × va_E, c ∈ _ → v3 ≠ c.1 := c3
    have kk3 := zOb.old k3 ho
    have al3 : a3 < H.size := (hz.at 4 rfl).lt
    have bn3 : zB E ≤ a3 := (hz.at 4 rfl).new
    have tl : t < H.size := (hz.at 0 rfl).lt
    have tn : zB E ≤ t := (hz.at 0 rfl).new
    have so : e0 < e1 ∧ e1 < e2 ∧ e2 < e3 ∧ e3 < 4 := by simpa [TSo] using hso
    have pos : (x < e0) ∨ (x = e0) ∨ (e0 < x ∧ x < e1) ∨ (x = e1) ∨ (e1 < x ∧ x < e2) ∨ (x = e2) ∨ (e2 < x ∧ x < e3) ∨ (x = e3) ∨ (e3 < x) := by omega
    rcases pos with q | q | q | q | q | q | q | q | q
    · refine (t_remove_52 hz hxx kk0 kk1 kk2 kk3 (by omega)).mono (fun v H1 ⟨q1, q2⟩ => ?_)
      subst q2
      have hg : g x = -1 := hno x hx (fun q hq => by
        simp only [List.mem_cons, List.not_mem_nil, or_false] at hq
        rcases hq with rfl | rfl | rfl | rfl <;> (dsimp only; omega))
      rw [show (fun e => if e = x then -1 else g e) = g from funext fun e => by by_cases q9 : e = x <;> simp [q9, hg]]
      exact ⟨⟨s, m, _, _, (TSh.c8 ..), hz, hso, hL, hno⟩, Or.inl ⟨hg, q1⟩, Nat.le_refl _, fun _ _ _ _ => rfl⟩
    · subst q
      refine (t_remove_48 hz hxx kk0 kk1 kk2 kk3 (by omega)).mono (fun v H1 hv => ?_)
      obtain ⟨q1, hz1⟩ := hv
      refine ⟨TM.mk (L := [(a1, e1, v1), (a2, e2, v2), (a3, e3, v3)]) hz1 [0, 2, 3, 4] (by rfl) (by have h9 := hz1.nd; simp only [List.map_cons, List.map_nil, List.nodup_cons, List.mem_cons, List.not_mem_nil, or_false, not_false_eq_true, List.nodup_nil, and_true] at h9 ⊢ <;> omega) (TSh.c9 ..) (by simp only [TSo] <;> omega) ?_ ?_, ?_, hz1.2.2.1, hz1.fr ?_⟩
      · intro q hq
        simp only [List.mem_cons, List.not_mem_nil, or_false] at hq
        rcases hq with rfl | rfl | rfl
        · refine ⟨⟨z1, k1, y1, b1, d1, (if_neg (show ¬ e1 = x by omega)).trans g1, n1⟩, ?_⟩
          intro c hc
          simp only [List.mem_cons, List.not_mem_nil, or_false] at hc
          rcases hc with rfl | rfl | rfl | rfl | rfl
          · have e8 := c1 _ (List.mem_of_getElem? (i := 0) rfl)
            exact e8
          · have e8 := c1 _ (List.mem_of_getElem? (i := 1) rfl)
            exact e8
          · have e8 := c1 _ (List.mem_of_getElem? (i := 2) rfl)
            exact e8
          · have e8 := c1 _ (List.mem_of_getElem? (i := 3) rfl)
            exact e8
          · have e8 := c1 _ (List.mem_of_getElem? (i := 4) rfl)
            exact e8
        · refine ⟨⟨z2, k2, y2, b2, d2, (if_neg (show ¬ e2 = x by omega)).trans g2, n2⟩, ?_⟩
          intro c hc
          simp only [List.mem_cons, List.not_mem_nil, or_false] at hc
          rcases hc with rfl | rfl | rfl | rfl | rfl
          · have e8 := c2 _ (List.mem_of_getElem? (i := 0) rfl)
            exact e8
          · have e8 := c2 _ (List.mem_of_getElem? (i := 1) rfl)
            exact e8
          · have e8 := c2 _ (List.mem_of_getElem? (i := 2) rfl)
            exact e8
          · have e8 := c2 _ (List.mem_of_getElem? (i := 3) rfl)
            exact e8
          · have e8 := c2 _ (List.mem_of_getElem? (i := 4) rfl)
            exact e8
        · refine ⟨⟨z3, k3, y3, b3, d3, (if_neg (show ¬ e3 = x by omega)).trans g3, n3⟩, ?_⟩
          intro c hc
          simp only [List.mem_cons, List.not_mem_nil, or_false] at hc
          rcases hc with rfl | rfl | rfl | rfl | rfl
          · have e8 := c3 _ (List.mem_of_getElem? (i := 0) rfl)
            exact e8
          · have e8 := c3 _ (List.mem_of_getElem? (i := 1) rfl)
            exact e8
          · have e8 := c3 _ (List.mem_of_getElem? (i := 2) rfl)
            exact e8
          · have e8 := c3 _ (List.mem_of_getElem? (i := 3) rfl)
            exact e8
          · have e8 := c3 _ (List.mem_of_getElem? (i := 4) rfl)
            exact e8
      · intro e he hne
        by_cases q9 : e = x
        · exact if_pos q9
        · refine (if_neg q9).trans (hno e he (fun q hq => ?_))
          simp only [List.mem_cons, List.not_mem_nil, or_false] at hq
          rcases hq with rfl | rfl | rfl | rfl
          · exact fun z => q9 z.symm
          · exact hne (a1, e1, v1) (by simp)
          · exact hne (a2, e2, v2) (by simp)
          · exact hne (a3, e3, v3) (by simp)
      · exact Or.inr ⟨v0, y0, q1, zOb.kept d0 (hz1.2.2.2 _ (zOb.is d0).lt (fun hm => by
          obtain ⟨c, hc, e9⟩ := List.mem_map.mp hm
          simp only [List.mem_cons, List.not_mem_nil, or_false] at hc
          rcases hc with rfl | rfl | rfl | rfl | rfl
          · have e8 := c0 _ (List.mem_of_getElem? (i := 0) rfl)
            exact e8 e9.symm
          · have e8 := c0 _ (List.mem_of_getElem? (i := 1) rfl)
            exact e8 e9.symm
          · have e8 := c0 _ (List.mem_of_getElem? (i := 2) rfl)
            exact e8 e9.symm
          · have e8 := c0 _ (List.mem_of_getElem? (i := 3) rfl)
            exact e8 e9.symm
          · have e8 := c0 _ (List.mem_of_getElem? (i := 4) rfl)
            exact e8 e9.symm)), b0, g0⟩
      · intro c hc
        simp only [List.mem_cons, List.not_mem_nil, or_false] at hc
        rcases hc with rfl | rfl | rfl | rfl | rfl
        · exact Or.inl rfl
        · exact Or.inr (Or.inl z0)
        · exact Or.inr (Or.inl z1)
        · exact Or.inr (Or.inl z2)
        · exact Or.inr (Or.inl z3)
    · refine (t_remove_53 hz hxx kk0 kk1 kk2 kk3 (by omega)).mono (fun v H1 ⟨q1, q2⟩ => ?_)
      subst q2
      have hg : g x = -1 := hno x hx (fun q hq => by
        simp only [List.mem_cons, List.not_mem_nil, or_false] at hq
        rcases hq with rfl | rfl | rfl | rfl <;> (dsimp only; omega))
      rw [show (fun e => if e = x then -1 else g e) = g from funext fun e => by by_cases q9 : e = x <;> simp [q9, hg]]
      exact ⟨⟨s, m, _, _, (TSh.c8 ..), hz, hso, hL, hno⟩, Or.inl ⟨hg, q1⟩, Nat.le_refl _, fun _ _ _ _ => rfl⟩
    · subst q
      refine (t_remove_49 hz hxx kk0 kk1 kk2 kk3 (by omega)).mono (fun v H1 hv => ?_)
      obtain ⟨q1, hz1⟩ := hv
      refine ⟨TM.mk (L := [(a0, e0, v0), (a1, e2, v2), (a3, e3, v3)]) hz1 [0, 1, 2, 4] (by rfl) (by have h9 := hz1.nd; simp only [List.map_cons, List.map_nil, List.nodup_cons, List.mem_cons, List.not_mem_nil, or_false, not_false_eq_true, List.nodup_nil, and_true] at h9 ⊢ <;> omega) (TSh.c9 ..) (by simp only [TSo] <;> omega) ?_ ?_, ?_, hz1.2.2.1, hz1.fr ?_⟩
      · intro q hq
        simp only [List.mem_cons, List.not_mem_nil, or_false] at hq
        rcases hq with rfl | rfl | rfl
        · refine ⟨⟨z0, k0, y0, b0, d0, (if_neg (show ¬ e0 = x by omega)).trans g0, n0⟩, ?_⟩
          intro c hc
          simp only [List.mem_cons, List.not_mem_nil, or_false] at hc
          rcases hc with rfl | rfl | rfl | rfl | rfl
          · have e8 := c0 _ (List.mem_of_getElem? (i := 0) rfl)
            exact e8
          · have e8 := c0 _ (List.mem_of_getElem? (i := 1) rfl)
            exact e8
          · have e8 := c0 _ (List.mem_of_getElem? (i := 2) rfl)
            exact e8
          · have e8 := c0 _ (List.mem_of_getElem? (i := 3) rfl)
            exact e8
          · have e8 := c0 _ (List.mem_of_getElem? (i := 4) rfl)
            exact e8
        · refine ⟨⟨z1, k2, y2, b2, d2, (if_neg (show ¬ e2 = x by omega)).trans g2, n2⟩, ?_⟩
          intro c hc
          simp only [List.mem_cons, List.not_mem_nil, or_false] at hc
          rcases hc with rfl | rfl | rfl | rfl | rfl
          · have e8 := c2 _ (List.mem_of_getElem? (i := 0) rfl)
            exact e8
          · have e8 := c2 _ (List.mem_of_getElem? (i := 1) rfl)
            exact e8
          · have e8 := c2 _ (List.mem_of_getElem? (i := 2) rfl)
            exact e8
          · have e8 := c2 _ (List.mem_of_getElem? (i := 3) rfl)
            exact e8
          · have e8 := c2 _ (List.mem_of_getElem? (i := 4) rfl)
            exact e8
        · refine ⟨⟨z3, k3, y3, b3, d3, (if_neg (show ¬ e3 = x by omega)).trans g3, n3⟩, ?_⟩
          intro c hc
          simp only [List.mem_cons, List.not_mem_nil, or_false] at hc
          rcases hc with rfl | rfl | rfl | rfl | rfl
          · have e8 := c3 _ (List.mem_of_getElem? (i := 0) rfl)
            exact e8
          · have e8 := c3 _ (List.mem_of_getElem? (i := 1) rfl)
            exact e8
          · have e8 := c3 _ (List.mem_of_getElem? (i := 2) rfl)
            exact e8
          · have e8 := c3 _ (List.mem_of_getElem? (i := 3) rfl)
            exact e8
          · have e8 := c3 _ (List.mem_of_getElem? (i := 4) rfl)
            exact e8
      · intro e he hne
        by_cases q9 : e = x
        · exact if_pos q9
        · refine (if_neg q9).trans (hno e he (fun q hq => ?_))
          simp only [List.mem_cons, List.not_mem_nil, or_false] at hq
          rcases hq with rfl | rfl | rfl | rfl
          · exact hne (a0, e0, v0) (by simp)
          · exact fun z => q9 z.symm
          · exact hne (a1, e2, v2) (by simp)
          · exact hne (a3, e3, v3) (by simp)
      · exact Or.inr ⟨v1, y1, q1, zOb.kept d1 (hz1.2.2.2 _ (zOb.is d1).lt (fun hm => by
          obtain ⟨c, hc, e9⟩ := List.mem_map.mp hm
          simp only [List.mem_cons, List.not_mem_nil, or_false] at hc
          rcases hc with rfl | rfl | rfl | rfl | rfl
          · have e8 := c1 _ (List.mem_of_getElem? (i := 0) rfl)
            exact e8 e9.symm
          · have e8 := c1 _ (List.mem_of_getElem? (i := 1) rfl)
            exact e8 e9.symm
          · have e8 := c1 _ (List.mem_of_getElem? (i := 2) rfl)
            exact e8 e9.symm
          · have e8 := c1 _ (List.mem_of_getElem? (i := 3) rfl)
            exact e8 e9.symm
          · have e8 := c1 _ (List.mem_of_getElem? (i := 4) rfl)
            exact e8 e9.symm)), b1, g1⟩
      · intro c hc
        simp only [List.mem_cons, List.not_mem_nil, or_false] at hc
        rcases hc with rfl | rfl | rfl | rfl | rfl
        · exact Or.inl rfl
        · exact Or.inr (Or.inl z0)
        · exact Or.inr (Or.inl z1)
        · exact Or.inr (Or.inl z2)
        · exact Or.inr (Or.inl z3)
    · refine (t_remove_54 hz hxx kk0 kk1 kk2 kk3 (by omega)).mono (fun v H1 ⟨q1, q2⟩ => ?_)
      subst q2
      have hg : g x = -1 := hno x hx (fun q hq => by
        simp only [List.mem_cons, List.not_mem_nil, or_false] at hq
        rcases hq with rfl | rfl | rfl | rfl <;> (dsimp only; omega))
      rw [show (fun e => if e = x then -1 else g e) = g from funext fun e => by by_cases q9 : e = x <;> simp [q9, hg]]
      exact ⟨⟨s, m, _, _, (TSh.c8 ..), hz, hso, hL, hno⟩, Or.inl ⟨hg, q1⟩, Nat.le_refl _, fun _ _ _ _ => rfl⟩
    · subst q
      refine (t_remove_50 hz hxx kk0 kk1 kk2 kk3 (by omega)).mono (fun v H1 hv => ?_)
      obtain ⟨q1, hz1⟩ := hv
      refine ⟨TM.mk (L := [(a0, e0, v0), (a1, e1, v1), (a3, e3, v3)]) hz1 [0, 1, 2, 4] (by rfl) (by have h9 := hz1.nd; simp only [List.map_cons, List.map_nil, List.nodup_cons, List.mem_cons, List.not_mem_nil, or_false, not_false_eq_true, List.nodup_nil, and_true] at h9 ⊢ <;> omega) (TSh.c9 ..) (by simp only [TSo] <;> omega) ?_ ?_, ?_, hz1.2.2.1, hz1.fr ?_⟩
      · intro q hq
        simp only [List.mem_cons, List.not_mem_nil, or_false] at hq
        rcases hq with rfl | rfl | rfl
        · refine ⟨⟨z0, k0, y0, b0, d0, (if_neg (show ¬ e0 = x by omega)).trans g0, n0⟩, ?_⟩
          intro c hc
          simp only [List.mem_cons, List.not_mem_nil, or_false] at hc
          rcases hc with rfl | rfl | rfl | rfl | rfl
          · have e8 := c0 _ (List.mem_of_getElem? (i := 0) rfl)
            exact e8
          · have e8 := c0 _ (List.mem_of_getElem? (i := 1) rfl)
            exact e8
          · have e8 := c0 _ (List.mem_of_getElem? (i := 2) rfl)
            exact e8
          · have e8 := c0 _ (List.mem_of_getElem? (i := 3) rfl)
            exact e8
          · have e8 := c0 _ (List.mem_of_getElem? (i := 4) rfl)
            exact e8
        · refine ⟨⟨z1, k1, y1, b1, d1, (if_neg (show ¬ e1 = x by omega)).trans g1, n1⟩, ?_⟩
          intro c hc
          simp only [List.mem_cons, List.not_mem_nil, or_false] at hc
          rcases hc with rfl | rfl | rfl | rfl | rfl
          · have e8 := c1 _ (List.mem_of_getElem? (i := 0) rfl)
            exact e8
          · have e8 := c1 _ (List.mem_of_getElem? (i := 1) rfl)
            exact e8
          · have e8 := c1 _ (List.mem_of_getElem? (i := 2) rfl)
            exact e8
          · have e8 := c1 _ (List.mem_of_getElem? (i := 3) rfl)
            exact e8
          · have e8 := c1 _ (List.mem_of_getElem? (i := 4) rfl)
            exact e8
        · refine ⟨⟨z3, k3, y3, b3, d3, (if_neg (show ¬ e3 = x by omega)).trans g3, n3⟩, ?_⟩
          intro c hc
          simp only [List.mem_cons, List.not_mem_nil, or_false] at hc
          rcases hc with rfl | rfl | rfl | rfl | rfl
          · have e8 := c3 _ (List.mem_of_getElem? (i := 0) rfl)
            exact e8
          · have e8 := c3 _ (List.mem_of_getElem? (i := 1) rfl)
            exact e8
          · have e8 := c3 _ (List.mem_of_getElem? (i := 2) rfl)
            exact e8
          · have e8 := c3 _ (List.mem_of_getElem? (i := 3) rfl)
            exact e8
          · have e8 := c3 _ (List.mem_of_getElem? (i := 4) rfl)
            exact e8
      · intro e he hne
        by_cases q9 : e = x
        · exact if_pos q9
        · refine (if_neg q9).trans (hno e he (fun q hq => ?_))
          simp only [List.mem_cons, List.not_mem_nil, or_false] at hq
          rcases hq with rfl | rfl | rfl | rfl
          · exact hne (a0, e0, v0) (by simp)
          · exact hne (a1, e1, v1) (by simp)
          · exact fun z => q9 z.symm
          · exact hne (a3, e3, v3) (by simp)
      · exact Or.inr ⟨v2, y2, q1, zOb.kept d2 (hz1.2.2.2 _ (zOb.is d2).lt (fun hm => by
          obtain ⟨c, hc, e9⟩ := List.mem_map.mp hm
          simp only [List.mem_cons, List.not_mem_nil, or_false] at hc
          rcases hc with rfl | rfl | rfl | rfl | rfl
          · have e8 := c2 _ (List.mem_of_getElem? (i := 0) rfl)
            exact e8 e9.symm
          · have e8 := c2 _ (List.mem_of_getElem? (i := 1) rfl)
            exact e8 e9.symm
          · have e8 := c2 _ (List.mem_of_getElem? (i := 2) rfl)
            exact e8 e9.symm
          · have e8 := c2 _ (List.mem_of_getElem? (i := 3) rfl)
            exact e8 e9.symm
          · have e8 := c2 _ (List.mem_of_getElem? (i := 4) rfl)
            exact e8 e9.symm)), b2, g2⟩
      · intro c hc
        simp only [List.mem_cons, List.not_mem_nil, or_false] at hc
        rcases hc with rfl | rfl | rfl | rfl | rfl
        · exact Or.inl rfl
        · exact Or.inr (Or.inl z0)
        · exact Or.inr (Or.inl z1)
        · exact Or.inr (Or.inl z2)
        · exact Or.inr (Or.inl z3)
    · refine (t_remove_55 hz hxx kk0 kk1 kk2 kk3 (by omega)).mono (fun v H1 ⟨q1, q2⟩ => ?_)
      subst q2
      have hg : g x = -1 := hno x hx (fun q hq => by
        simp only [List.mem_cons, List.not_mem_nil, or_false] at hq
        rcases hq with rfl | rfl | rfl | rfl <;> (dsimp only; omega))
      rw [show (fun e => if e = x then -1 else g e) = g from funext fun e => by by_cases q9 : e = x <;> simp [q9, hg]]
      exact ⟨⟨s, m, _, _, (TSh.c8 ..), hz, hso, hL, hno⟩, Or.inl ⟨hg, q1⟩, Nat.le_refl _, fun _ _ _ _ => rfl⟩
    · subst q
      refine (t_remove_51 hz hxx kk0 kk1 kk2 kk3 (by omega)).mono (fun v H1 hv => ?_)
      obtain ⟨q1, hz1⟩ := hv
      refine ⟨TM.mk (L := [(a0, e0, v0), (a1, e1, v1), (a2, e2, v2)]) hz1 [0, 1, 2, 3] (by rfl) (by have h9 := hz1.nd; simp only [List.map_cons, List.map_nil, List.nodup_cons, List.mem_cons, List.not_mem_nil, or_false, not_false_eq_true, List.nodup_nil, and_true] at h9 ⊢ <;> omega) (TSh.c9 ..) (by simp only [TSo] <;> omega) ?_ ?_, ?_, hz1.2.2.1, hz1.fr ?_⟩
      · intro q hq
        simp only [List.mem_cons, List.not_mem_nil, or_false] at hq
        rcases hq with rfl | rfl | rfl
        · refine ⟨⟨z0, k0, y0, b0, d0, (if_neg (show ¬ e0 = x by omega)).trans g0, n0⟩, ?_⟩
          intro c hc
          simp only [List.mem_cons, List.not_mem_nil, or_false] at hc
          rcases hc with rfl | rfl | rfl | rfl | rfl
          · have e8 := c0 _ (List.mem_of_getElem? (i := 0) rfl)
            exact e8
          · have e8 := c0 _ (List.mem_of_getElem? (i := 1) rfl)
            exact e8
          · have e8 := c0 _ (List.mem_of_getElem? (i := 2) rfl)
            exact e8
          · have e8 := c0 _ (List.mem_of_getElem? (i := 3) rfl)
            exact e8
          · have e8 := c0 _ (List.mem_of_getElem? (i := 4) rfl)
            exact e8
        · refine ⟨⟨z1, k1, y1, b1, d1, (if_neg (show ¬ e1 = x by omega)).trans g1, n1⟩, ?_⟩
          intro c hc
          simp only [List.mem_cons, List.not_mem_nil, or_false] at hc
          rcases hc with rfl | rfl | rfl | rfl | rfl
          · have e8 := c1 _ (List.mem_of_getElem? (i := 0) rfl)
            exact e8
          · have e8 := c1 _ (List.mem_of_getElem? (i := 1) rfl)
            exact e8
          · have e8 := c1 _ (List.mem_of_getElem? (i := 2) rfl)
            exact e8
          · have e8 := c1 _ (List.mem_of_getElem? (i := 3) rfl)
            exact e8
          · have e8 := c1 _ (List.mem_of_getElem? (i := 4) rfl)
            exact e8
        · refine ⟨⟨z2, k2, y2, b2, d2, (if_neg (show ¬ e2 = x by omega)).trans g2, n2⟩, ?_⟩
          intro c hc
          simp only [List.mem_cons, List.not_mem_nil, or_false] at hc
          rcases hc with rfl | rfl | rfl | rfl | rfl
          · have e8 := c2 _ (List.mem_of_getElem? (i := 0) rfl)
            exact e8
          · have e8 := c2 _ (List.mem_of_getElem? (i := 1) rfl)
            exact e8
          · have e8 := c2 _ (List.mem_of_getElem? (i := 2) rfl)
            exact e8
          · have e8 := c2 _ (List.mem_of_getElem? (i := 3) rfl)
            exact e8
          · have e8 := c2 _ (List.mem_of_getElem? (i := 4) rfl)
            exact e8
      · intro e he hne
        by_cases q9 : e = x
        · exact if_pos q9
        · refine (if_neg q9).trans (hno e he (fun q hq => ?_))
          simp only [List.mem_cons, List.not_mem_nil, or_false] at hq
          rcases hq with rfl | rfl | rfl | rfl
          · exact hne (a0, e0, v0) (by simp)
          · exact hne (a1, e1, v1) (by simp)
          · exact hne (a2, e2, v2) (by simp)
          · exact fun z => q9 z.symm
      · exact Or.inr ⟨v3, y3, q1, zOb.kept d3 (hz1.2.2.2 _ (zOb.is d3).lt (fun hm => by
          obtain ⟨c, hc, e9⟩ := List.mem_map.mp hm
          simp only [List.mem_cons, List.not_mem_nil, or_false] at hc
          rcases hc with rfl | rfl | rfl | rfl | rfl
          · have e8 := c3 _ (List.mem_of_getElem? (i := 0) rfl)
            exact e8 e9.symm
          · have e8 := c3 _ (List.mem_of_getElem? (i := 1) rfl)
            exact e8 e9.symm
          · have e8 := c3 _ (List.mem_of_getElem? (i := 2) rfl)
            exact e8 e9.symm
          · have e8 := c3 _ (List.mem_of_getElem? (i := 3) rfl)
            exact e8 e9.symm
          · have e8 := c3 _ (List.mem_of_getElem? (i := 4) rfl)
            exact e8 e9.symm)), b3, g3⟩
      · intro c hc
        simp only [List.mem_cons, List.not_mem_nil, or_false] at hc
        rcases hc with rfl | rfl | rfl | rfl | rfl
        · exact Or.inl rfl
        · exact Or.inr (Or.inl z0)
        · exact Or.inr (Or.inl z1)
        · exact Or.inr (Or.inl z2)
        · exact Or.inr (Or.inl z3)
    · refine (t_remove_56 hz hxx kk0 kk1 kk2 kk3 (by omega)).mono (fun v H1 ⟨q1, q2⟩ => ?_)
      subst q2
      have hg : g x = -1 := hno x hx (fun q hq => by
        simp only [List.mem_cons, List.not_mem_nil, or_false] at hq
        rcases hq with rfl | rfl | rfl | rfl <;> (dsimp only; omega))
      rw [show (fun e => if e = x then -1 else g e) = g from funext fun e => by by_cases q9 : e = x <;> simp [q9, hg]]
      exact ⟨⟨s, m, _, _, (TSh.c8 ..), hz, hso, hL, hno⟩, Or.inl ⟨hg, q1⟩, Nat.le_refl _, fun _ _ _ _ => rfl⟩
  · obtain ⟨⟨z0, k0, y0, b0, d0, g0, n0⟩, c0⟩ := hL (a0, e0, v0) (by simp)
    replace z0 : Z a0 := z0
    replace k0 : zOb E E.2.1 (E.2.2.2.1 (128 + e0)) 14 [.int (nI e0)] := k0
    replace d0 : zOb E H v0 14 [.int (nI y0)] := d0
    replace g0 : g e0 = nI y0 := g0
    replace n0 : v0 < zB E ∨ Z v0 := n0
    replace c0 : ∀ c : Nat × va_E, c ∈ _ → v0 ≠ c.1 := c0
    have kk0 := zOb.old k0 ho
    have al0 : a0 < H.size := (hz.at 1 rfl).lt
    have bn0 : zB E ≤ a0 := (hz.at 1 rfl).new
    obtain ⟨⟨z1, k1, y1, b1, d1, g1, n1⟩, c1⟩ := hL (a1, e1, v1) (by simp)
    replace z1 : Z a1 := z1
    replace k1 : zOb E E.2.1 (E.2.2.2.1 (128 + e1)) 14 [.int (nI e1)] := k1
    replace d1 : zOb E H v1 14 [.int (nI y1)] := d1
    replace g1 : g e1 = nI y1 := g1
    replace n1 : v1 < zB E ∨ Z v1 := n1
    replace c1 : ∀ c : Nat × va_E, c ∈ _ → v1 ≠ c.1 := c1
    have kk1 := zOb.old k1 ho
    have al1 : a1 < H.size := (hz.at 2 rfl).lt
    have bn1 : zB E ≤ a1 := (hz.at 2 rfl).new
    obtain ⟨⟨z2, k2, y2, b2, d2, g2, n2⟩, c2⟩ := hL (a2, e2, v2) (by simp)
    replace z2 : Z a2 := z2
    replace k2 : zOb E E.2.1 (E.2.2.2.1 (128 + e2)) 14 [.int (nI e2)] := k2
    replace d2 : zOb E H v2 14 [.int (nI y2)] := d2
    replace g2 : g e2 = nI y2 := g2
    replace n2 : v2 < zB E ∨ Z v2 := n2
    replace c2 : ∀ c : Nat × va_E, c ∈ _ → v2 ≠ c.1 := c2
    have kk2 := zOb.old k2 ho
    have al2 : a2 < H.size := (hz.at 3 rfl).lt
    have bn2 : zB E ≤ a2 := (hz.at 3 rfl).new
    have tl : t < H.size := (hz.at 0 rfl).lt
    have tn : zB E ≤ t := (hz.at 0 rfl).new
    have so : e0 < e1 ∧ e1 < e2 ∧ e2 < 4 := by simpa [TSo] using hso
    have pos : (x < e0) ∨ (x = e0) ∨ (e0 < x ∧ x < e1) ∨ (x = e1) ∨ (e1 < x ∧ x < e2) ∨ (x = e2) ∨ (e2 < x) := by omega
    rcases pos with q | q | q | q | q | q | q
    · refine (t_remove_60 hz hxx kk0 kk1 kk2 (by omega)).mono (fun v H1 ⟨q1, q2⟩ => ?_)
      subst q2
      have hg : g x = -1 := hno x hx (fun q hq => by
        simp only [List.mem_cons, List.not_mem_nil, or_false] at hq
        rcases hq with rfl | rfl | rfl <;> (dsimp only; omega))
      rw [show (fun e => if e = x then -1 else g e) = g from funext fun e => by by_cases q9 : e = x <;> simp [q9, hg]]
      exact ⟨⟨s, m, _, _, (TSh.c9 ..), hz, hso, hL, hno⟩, Or.inl ⟨hg, q1⟩, Nat.le_refl _, fun _ _ _ _ => rfl⟩
    · subst q
      refine (t_remove_57 hz hxx kk0 kk1 kk2 (by omega)).mono (fun v H1 hv => ?_)
      obtain ⟨q1, hz1⟩ := hv
      refine ⟨TM.mk (L := [(a1, e1, v1), (a2, e2, v2)]) hz1 [0, 2, 3] (by rfl) (by have h9 := hz1.nd; simp only [List.map_cons, List.map_nil, List.nodup_cons, List.mem_cons, List.not_mem_nil, or_false, not_false_eq_true, List.nodup_nil, and_true] at h9 ⊢ <;> omega) (TSh.c3 ..) (by simp only [TSo] <;> omega) ?_ ?_, ?_, hz1.2.2.1, hz1.fr ?_⟩
      · intro q hq
        simp only [List.mem_cons, List.not_mem_nil, or_false] at hq
        rcases hq with rfl | rfl
        · refine ⟨⟨z1, k1, y1, b1, d1, (if_neg (show ¬ e1 = x by omega)).trans g1, n1⟩, ?_⟩
          intro c hc
          simp only [List.mem_cons, List.not_mem_nil, or_false] at hc
          rcases hc with rfl | rfl | rfl | rfl
          · have e8 := c1 _ (List.mem_of_getElem? (i := 0) rfl)
            exact e8
          · have e8 := c1 _ (List.mem_of_getElem? (i := 1) rfl)
            exact e8
          · have e8 := c1 _ (List.mem_of_getElem? (i := 2) rfl)
            exact e8
          · have e8 := c1 _ (List.mem_of_getElem? (i := 3) rfl)
            exact e8
        · refine ⟨⟨z2, k2, y2, b2, d2, (if_neg (show ¬ e2 = x by omega)).trans g2, n2⟩, ?_⟩
          intro c hc
          simp only [List.mem_cons, List.not_mem_nil, or_false] at hc
          rcases hc with rfl | rfl | rfl | rfl
          · have e8 := c2 _ (List.mem_of_getElem? (i := 0) rfl)
            exact e8
          · have e8 := c2 _ (List.mem_of_getElem? (i := 1) rfl)
            exact e8
          · have e8 := c2 _ (List.mem_of_getElem? (i := 2) rfl)
            exact e8
          · have e8 := c2 _ (List.mem_of_getElem? (i := 3) rfl)
            exact e8
      · intro e he hne
        by_cases q9 : e = x
        · exact if_pos q9
        · refine (if_neg q9).trans (hno e he (fun q hq => ?_))
          simp only [List.mem_cons, List.not_mem_nil, or_false] at hq
          rcases hq with rfl | rfl | rfl
          · exact fun z => q9 z.symm
          · exact hne (a1, e1, v1) (by simp)
          · exact hne (a2, e2, v2) (by simp)
      · exact Or.inr ⟨v0, y0, q1, zOb.kept d0 (hz1.2.2.2 _ (zOb.is d0).lt (fun hm => by
          obtain ⟨c, hc, e9⟩ := List.mem_map.mp hm
          simp only [List.mem_cons, List.not_mem_nil, or_false] at hc
          rcases hc with rfl | rfl | rfl | rfl
          · have e8 := c0 _ (List.mem_of_getElem? (i := 0) rfl)
            exact e8 e9.symm
          · have e8 := c0 _ (List.mem_of_getElem? (i := 1) rfl)
            exact e8 e9.symm
          · have e8 := c0 _ (List.mem_of_getElem? (i := 2) rfl)
            exact e8 e9.symm
          · have e8 := c0 _ (List.mem_of_getElem? (i := 3) rfl)
            exact e8 e9.symm)), b0, g0⟩
      · intro c hc
        simp only [List.mem_cons, List.not_mem_nil, or_false] at hc
        rcases hc with rfl | rfl | rfl | rfl
        · exact Or.inl rfl
        · exact Or.inr (Or.inl z0)
        · exact Or.inr (Or.inl z1)
        · exact Or.inr (Or.inl z2)
    · refine (t_remove_61 hz hxx kk0 kk1 kk2 (by omega)).mono (fun v H1 ⟨q1, q2⟩ => ?_)
      subst q2
      have hg : g x = -1 := hno x hx (fun q hq => by
        simp only [List.mem_cons, List.not_mem_nil, or_false] at hq
        rcases hq with rfl | rfl | rfl <;> (dsimp only; omega))
      rw [show (fun e => if e = x then -1 else g e) = g from funext fun e => by by_cases q9 : e = x <;> simp [q9, hg]]
      exact ⟨⟨s, m, _, _, (TSh.c9 ..), hz, hso, hL, hno⟩, Or.inl ⟨hg, q1⟩, Nat.le_refl _, fun _ _ _ _ => rfl⟩
    · subst q
      refine (t_remove_58 hz hxx kk0 kk1 kk2 (by omega)).mono (fun v H1 hv => ?_)
      obtain ⟨q1, hz1⟩ := hv
      refine ⟨TM.mk (L := [(a0, e0, v0), (a1, e2, v2)]) hz1 [0, 1, 2] (by rfl) (by have h9 := hz1.nd; simp only [List.map_cons, List.map_nil, List.nodup_cons, List.mem_cons, List.not_mem_nil, or_false, not_false_eq_true, List.nodup_nil, and_true] at h9 ⊢ <;> omega) (TSh.c2 ..) (by simp only [TSo] <;> omega) ?_ ?_, ?_, hz1.2.2.1, hz1.fr ?_⟩
      · intro q hq
        simp only [List.mem_cons, List.not_mem_nil, or_false] at hq
        rcases hq with rfl | rfl
        · refine ⟨⟨z0, k0, y0, b0, d0, (if_neg (show ¬ e0 = x by omega)).trans g0, n0⟩, ?_⟩
          intro c hc
          simp only [List.mem_cons, List.not_mem_nil, or_false] at hc
          rcases hc with rfl | rfl | rfl | rfl
          · have e8 := c0 _ (List.mem_of_getElem? (i := 0) rfl)
            exact e8
          · have e8 := c0 _ (List.mem_of_getElem? (i := 1) rfl)
            exact e8
          · have e8 := c0 _ (List.mem_of_getElem? (i := 2) rfl)
            exact e8
          · have e8 := c0 _ (List.mem_of_getElem? (i := 3) rfl)
            exact e8
        · refine ⟨⟨z1, k2, y2, b2, d2, (if_neg (show ¬ e2 = x by omega)).trans g2, n2⟩, ?_⟩
          intro c hc
          simp only [List.mem_cons, List.not_mem_nil, or_false] at hc
          rcases hc with rfl | rfl | rfl | rfl
          · have e8 := c2 _ (List.mem_of_getElem? (i := 0) rfl)
            exact e8
          · have e8 := c2 _ (List.mem_of_getElem? (i := 1) rfl)
            exact e8
          · have e8 := c2 _ (List.mem_of_getElem? (i := 2) rfl)
            exact e8
          · have e8 := c2 _ (List.mem_of_getElem? (i := 3) rfl)
            exact e8
      · intro e he hne
        by_cases q9 : e = x
        · exact if_pos q9
        · refine (if_neg q9).trans (hno e he (fun q hq => ?_))
          simp only [List.mem_cons, List.not_mem_nil, or_false] at hq
          rcases hq with rfl | rfl | rfl
          · exact hne (a0, e0, v0) (by simp)
          · exact fun z => q9 z.symm
          · exact hne (a1, e2, v2) (by simp)
      · exact Or.inr ⟨v1, y1, q1, zOb.kept d1 (hz1.2.2.2 _ (zOb.is d1).lt (fun hm => by
          obtain ⟨c, hc, e9⟩ := List.mem_map.mp hm
          simp only [List.mem_cons, List.not_mem_nil, or_false] at hc
          rcases hc with rfl | rfl | rfl | rfl
          · have e8 := c1 _ (List.mem_of_getElem? (i := 0) rfl)
            exact e8 e9.symm
          · have e8 := c1 _ (List.mem_of_getElem? (i := 1) rfl)
            exact e8 e9.symm
          · have e8 := c1 _ (List.mem_of_getElem? (i := 2) rfl)
            exact e8 e9.symm
          · have e8 := c1 _ (List.mem_of_getElem? (i := 3) rfl)
            exact e8 e9.symm)), b1, g1⟩
      · intro c hc
        simp only [List.mem_cons, List.not_mem_nil, or_false] at hc
        rcases hc with rfl | rfl | rfl | rfl
        · exact Or.inl rfl
        · exact Or.inr (Or.inl z0)
        · exact Or.inr (Or.inl z1)
        · exact Or.inr (Or.inl z2)
    · refine (t_remove_62 hz hxx kk0 kk1 kk2 (by omega)).mono (fun v H1 ⟨q1, q2⟩ => ?_)
      subst q2
      have hg : g x = -1 := hno x hx (fun q hq => by
        simp only [List.mem_cons, List.not_mem_nil, or_false] at hq
        rcases hq with rfl | rfl | rfl <;> (dsimp only; omega))
      rw [show (fun e => if e = x then -1 else g e) = g from funext fun e => by by_cases q9 : e = x <;> simp [q9, hg]]
      exact ⟨⟨s, m, _, _, (TSh.c9 ..), hz, hso, hL, hno⟩, Or.inl ⟨hg, q1⟩, Nat.le_refl _, fun _ _ _ _ => rfl⟩
    · subst q
      refine (t_remove_59 hz hxx kk0 kk1 kk2 (by omega)).mono (fun v H1 hv => ?_)
      obtain ⟨q1, hz1⟩ := hv
      refine ⟨TM.mk (L := [(a0, e0, v0), (a1, e1, v1)]) hz1 [0, 1, 2] (by rfl) (by have h9 := hz1.nd; simp only [List.map_cons, List.map_nil, List.nodup_cons, List.mem_cons, List.not_mem_nil, or_false, not_false_eq_true, List.nodup_nil, and_true] at h9 ⊢ <;> omega) (TSh.c2 ..) (by simp only [TSo] <;> omega) ?_ ?_, ?_, hz1.2.2.1, hz1.fr ?_⟩
      · intro q hq
        simp only [List.mem_cons, List.not_mem_nil, or_false] at hq
        rcases hq with rfl | rfl
        · refine ⟨⟨z0, k0, y0, b0, d0, (if_neg (show ¬ e0 = x by omega)).trans g0, n0⟩, ?_⟩
          intro c hc
          simp only [List.mem_cons, List.not_mem_nil, or_false] at hc
          rcases hc with rfl | rfl | rfl | rfl
          · have e8 := c0 _ (List.mem_of_getElem? (i := 0) rfl)
            exact e8
          · have e8 := c0 _ (List.mem_of_getElem? (i := 1) rfl)
            exact e8
          · have e8 := c0 _ (List.mem_of_getElem? (i := 2) rfl)
            exact e8
          · have e8 := c0 _ (List.mem_of_getElem? (i := 3) rfl)
            exact e8
        · refine ⟨⟨z1, k1, y1, b1, d1, (if_neg (show ¬ e1 = x by omega)).trans g1, n1⟩, ?_⟩
          intro c hc
          simp only [List.mem_cons, List.not_mem_nil, or_false] at hc
          rcases hc with rfl | rfl | rfl | rfl
          · have e8 := c1 _ (List.mem_of_getElem? (i := 0) rfl)
            exact e8
          · have e8 := c1 _ (List.mem_of_getElem? (i := 1) rfl)
            exact e8
          · have e8 := c1 _ (List.mem_of_getElem? (i := 2) rfl)
            exact e8
          · have e8 := c1 _ (List.mem_of_getElem? (i := 3) rfl)
            exact e8
      · intro e he hne
        by_cases q9 : e = x
        · exact if_pos q9
        · refine (if_neg q9).trans (hno e he (fun q hq => ?_))
          simp only [List.mem_cons, List.not_mem_nil, or_false] at hq
          rcases hq with rfl | rfl | rfl
          · exact hne (a0, e0, v0) (by simp)
          · exact hne (a1, e1, v1) (by simp)
          · exact fun z => q9 z.symm
      · exact Or.inr ⟨v2, y2, q1, zOb.kept d2 (hz1.2.2.2 _ (zOb.is d2).lt (fun hm => by
          obtain ⟨c, hc, e9⟩ := List.mem_map.mp hm
          simp only [List.mem_cons, List.not_mem_nil, or_false] at hc
          rcases hc with rfl | rfl | rfl | rfl
          · have e8 := c2 _ (List.mem_of_getElem? (i := 0) rfl)
            exact e8 e9.symm
          · have e8 := c2 _ (List.mem_of_getElem? (i := 1) rfl)
            exact e8 e9.symm
          · have e8 := c2 _ (List.mem_of_getElem? (i := 2) rfl)
            exact e8 e9.symm
          · have e8 := c2 _ (List.mem_of_getElem? (i := 3) rfl)
            exact e8 e9.symm)), b2, g2⟩
      · intro c hc
        simp only [List.mem_cons, List.not_mem_nil, or_false] at hc
        rcases hc with rfl | rfl | rfl | rfl
        · exact Or.inl rfl
        · exact Or.inr (Or.inl z0)
        · exact Or.inr (Or.inl z1)
        · exact Or.inr (Or.inl z2)
    · refine (t_remove_63 hz hxx kk0 kk1 kk2 (by omega)).mono (fun v H1 ⟨q1, q2⟩ => ?_)
      subst q2
      have hg : g x = -1 := hno x hx (fun q hq => by
        simp only [List.mem_cons, List.not_mem_nil, or_false] at hq
        rcases hq with rfl | rfl | rfl <;> (dsimp only; omega))
      rw [show (fun e => if e = x then -1 else g e) = g from funext fun e => by by_cases q9 : e = x <;> simp [q9, hg]]
      exact ⟨⟨s, m, _, _, (TSh.c9 ..), hz, hso, hL, hno⟩, Or.inl ⟨hg, q1⟩, Nat.le_refl _, fun _ _ _ _ => rfl⟩
