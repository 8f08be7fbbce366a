/-! masks of six; the relations between the heap and the reference's state -/
set_option maxRecDepth 100000
def b2n (b : Bool) : Nat := if b then 1 else 0
/-- six marks as a number -/
def mk6 (f : Nat → Bool) : Nat := b2n (f 0) + 2 * b2n (f 1) + 4 * b2n (f 2) + 8 * b2n (f 3) + 16 * b2n (f 4) + 32 * b2n (f 5)
def m6 (b0 b1 b2 b3 b4 b5 : Bool) : Nat := b2n b0 + 2 * b2n b1 + 4 * b2n b2 + 8 * b2n b3 + 16 * b2n b4 + 32 * b2n b5
theorem m6_bit0 : ∀ b0 b1 b2 b3 b4 b5 : Bool, B_X1_isIn (nI (m6 b0 b1 b2 b3 b4 b5)) (nI 0) = nI (b2n b0) ∧ B_X1_isIn (nI (m6 b0 b1 b2 b3 b4 b5)) (nI 1) = nI (b2n b1) ∧ B_X1_isIn (nI (m6 b0 b1 b2 b3 b4 b5)) (nI 2) = nI (b2n b2) ∧ B_X1_isIn (nI (m6 b0 b1 b2 b3 b4 b5)) (nI 3) = nI (b2n b3) ∧ B_X1_isIn (nI (m6 b0 b1 b2 b3 b4 b5)) (nI 4) = nI (b2n b4) ∧ B_X1_isIn (nI (m6 b0 b1 b2 b3 b4 b5)) (nI 5) = nI (b2n b5) := by decide +kernel
theorem mk6_isIn (f : Nat → Bool) {t : Nat} (ht : t < 6) : B_X1_isIn (nI (mk6 f)) (nI t) = nI (b2n (f t)) := by
  obtain ⟨h0, h1, h2, h3, h4, h5⟩ := m6_bit0 (f 0) (f 1) (f 2) (f 3) (f 4) (f 5)
  rcases (by omega : t = 0 ∨ t = 1 ∨ t = 2 ∨ t = 3 ∨ t = 4 ∨ t = 5) with rfl | rfl | rfl | rfl | rfl | rfl <;> assumption
theorem m6_set : ∀ b0 b1 b2 b3 b4 b5 : Bool, nI (m6 b0 b1 b2 b3 b4 b5) ||| ((1 : Int32) <<< (nI 0 &&& 31)) = nI (m6 true b1 b2 b3 b4 b5) ∧ nI (m6 b0 b1 b2 b3 b4 b5) ||| ((1 : Int32) <<< (nI 1 &&& 31)) = nI (m6 b0 true b2 b3 b4 b5) ∧ nI (m6 b0 b1 b2 b3 b4 b5) ||| ((1 : Int32) <<< (nI 2 &&& 31)) = nI (m6 b0 b1 true b3 b4 b5) ∧ nI (m6 b0 b1 b2 b3 b4 b5) ||| ((1 : Int32) <<< (nI 3 &&& 31)) = nI (m6 b0 b1 b2 true b4 b5) ∧ nI (m6 b0 b1 b2 b3 b4 b5) ||| ((1 : Int32) <<< (nI 4 &&& 31)) = nI (m6 b0 b1 b2 b3 true b5) ∧ nI (m6 b0 b1 b2 b3 b4 b5) ||| ((1 : Int32) <<< (nI 5 &&& 31)) = nI (m6 b0 b1 b2 b3 b4 true) := by decide +kernel
def setB (f : Nat → Bool) (t : Nat) : Nat → Bool := fun j => if j = t then true else f j
theorem mk6_set (f : Nat → Bool) {t : Nat} (ht : t < 6) : nI (mk6 f) ||| ((1 : Int32) <<< (nI t &&& nI 31)) = nI (mk6 (setB f t)) := by
  obtain ⟨h0, h1, h2, h3, h4, h5⟩ := m6_set (f 0) (f 1) (f 2) (f 3) (f 4) (f 5)
  rcases (by omega : t = 0 ∨ t = 1 ∨ t = 2 ∨ t = 3 ∨ t = 4 ∨ t = 5) with rfl | rfl | rfl | rfl | rfl | rfl
  · exact h0
  · exact h1
  · exact h2
  · exact h3
  · exact h4
  · exact h5
theorem m6_count : ∀ b0 b1 b2 b3 b4 b5 : Bool, B_J17_bitCount (nI (m6 b0 b1 b2 b3 b4 b5)) = nI (b2n b0 + b2n b1 + b2n b2 + b2n b3 + b2n b4 + b2n b5) := by decide +kernel
theorem mk6_count (f : Nat → Bool) : B_J17_bitCount (nI (mk6 f)) = nI (b2n (f 0) + b2n (f 1) + b2n (f 2) + b2n (f 3) + b2n (f 4) + b2n (f 5)) := m6_count _ _ _ _ _ _
theorem mk6_lt (f : Nat → Bool) : mk6 f < 64 := by
  have h : ∀ b : Bool, b2n b ≤ 1 := by decide
  have := h (f 0); have := h (f 1); have := h (f 2); have := h (f 3); have := h (f 4); have := h (f 5)
  unfold mk6
  omega
theorem m6_and : ∀ b0 b1 b2 b3 b4 b5 c0 c1 c2 c3 c4 c5 : Bool, (nI (m6 b0 b1 b2 b3 b4 b5) &&& nI (m6 c0 c1 c2 c3 c4 c5)) = nI (m6 (b0 && c0) (b1 && c1) (b2 && c2) (b3 && c3) (b4 && c4) (b5 && c5)) := by decide +kernel
theorem mk6_and (f c : Nat → Bool) : (nI (mk6 f) &&& nI (mk6 c)) = nI (mk6 (fun t => f t && c t)) := m6_and _ _ _ _ _ _ _ _ _ _ _ _
theorem mk6_eq0 (f : Nat → Bool) : nI (mk6 f) = 0 ↔ ∀ t, t < 6 → f t = false := by
  have h : ∀ b0 b1 b2 b3 b4 b5 : Bool, nI (m6 b0 b1 b2 b3 b4 b5) = 0 ↔ (b0 = false ∧ b1 = false ∧ b2 = false ∧ b3 = false ∧ b4 = false ∧ b5 = false) := by decide +kernel
  refine (h (f 0) (f 1) (f 2) (f 3) (f 4) (f 5)).trans ⟨fun ⟨h0, h1, h2, h3, h4, h5⟩ t ht => ?_, fun k => ⟨k 0 (by omega), k 1 (by omega), k 2 (by omega), k 3 (by omega), k 4 (by omega), k 5 (by omega)⟩⟩
  rcases (by omega : t = 0 ∨ t = 1 ∨ t = 2 ∨ t = 3 ∨ t = 4 ∨ t = 5) with rfl | rfl | rfl | rfl | rfl | rfl <;> assumption
/-- a State object S with its arrays a -/
def stS (g : GS) (S : Nat) (a : Nat → Nat) : Prop := (gK g S).1 = 4 ∧ (∀ k, k < 6 → gR g S k = some (a k) ∧ gK g (a k) = (40, 6)) ∧ ∀ i j, i < 6 → j < 6 → a i = a j → i = j
/-- where the reference keeps what array k of a State holds -/
def ofs (k : Nat) : Nat := if k = 0 then 1 else if k = 1 then 13 else if k = 2 then 19 else if k = 3 then 25 else if k = 4 then 7 else 31
def goneB (w : MS) (b : Nat) : Nat → Bool := fun t => rI w 25 (b + 37 + t) == 1
def SR (g : GS) (S : Nat) (a : Nat → Nat) (w : MS) (b : Nat) : Prop := stS g S a ∧ (∀ k t, k < 6 → t < 6 → gI g (a k) t = rI w 25 (b + ofs k + t)) ∧ gI g S 6 = rI w 25 b ∧ gI g S 7 = nI (mk6 (goneB w b)) ∧ ∀ t, t < 6 → rI w 25 (b + 37 + t) = 0 ∨ rI w 25 (b + 37 + t) = 1
/-- the cells of a State -/
def inS (S : Nat) (a : Nat → Nat) (q : Nat) : Prop := q = S ∨ ∃ k, k < 6 ∧ q = a k
/-- only ints of some cells are changed -/
def FrB (P : Nat → Prop) (g g' : GS) : Prop := g'.1 = g.1 ∧ g'.2.2 = g.2.2 ∧ ∀ q, ¬ P q → g'.2.1 q = g.2.1 q
def FrM (P : Nat → Nat → Prop) (w w' : MS) : Prop := w'.2 = w.2 ∧ ∀ k i, ¬ P k i → rI w' k i = rI w k i
theorem FrB.rf {P : Nat → Prop} {g : GS} : FrB P g g := ⟨rfl, rfl, fun _ _ => rfl⟩
theorem FrB.tr {P : Nat → Prop} {g g1 g2 : GS} (h : FrB P g g1) (h2 : FrB P g1 g2) : FrB P g g2 := ⟨h2.1.trans h.1, h2.2.1.trans h.2.1, fun q hq => (h2.2.2 q hq).trans (h.2.2 q hq)⟩
theorem FrM.rf {P : Nat → Nat → Prop} {w : MS} : FrM P w w := ⟨rfl, fun _ _ _ => rfl⟩
theorem FrM.tr {P : Nat → Nat → Prop} {w w1 w2 : MS} (h : FrM P w w1) (h2 : FrM P w1 w2) : FrM P w w2 := ⟨h2.1.trans h.1, fun k i hq => (h2.2 k i hq).trans (h.2 k i hq)⟩
theorem FrB.k {P : Nat → Prop} {g g1 : GS} (h : FrB P g g1) (q : Nat) : gK g1 q = gK g q := congrFun h.1 q
theorem FrB.r {P : Nat → Prop} {g g1 : GS} (h : FrB P g g1) (q k : Nat) : gR g1 q k = gR g q k := congrFun (congrFun (congrArg (fun x => x.1) h.2.1) q) k
theorem FrB.i {P : Nat → Prop} {g g1 : GS} (h : FrB P g g1) {q : Nat} (hq : ¬ P q) (k : Nat) : gI g1 q k = gI g q k := congrFun (h.2.2 q hq) k
theorem FrB.sI {P : Nat → Prop} {g : GS} {a k : Nat} {v : Int32} (ha : P a) : FrB P g (sI g a k v) := ⟨rfl, rfl, fun q hq => va_up_ne _ _ (fun e => hq (e ▸ ha))⟩
theorem FrM.wI {P : Nat → Nat → Prop} {w : MS} {k i : Nat} {v : Int32} (h : P k i) : FrM P w (wI w k i v) := ⟨rfl, fun k' i' hq => by rw [rI_wI, if_neg]; rintro ⟨rfl, rfl⟩; exact hq h⟩
