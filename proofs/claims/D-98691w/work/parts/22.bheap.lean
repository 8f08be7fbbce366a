/-! B: the heap, cell by cell (printed by gen/bkit.py) -/
set_option maxRecDepth 100000
abbrev gE : Type := va_G × (Nat → ClassId) × (Nat → Nat) × (Nat → Nat) × (Nat → Option Nat)
abbrev eD (E : gE) : va_G := E.1
abbrev eC (E : gE) : Nat → ClassId := E.2.1
abbrev eK (E : gE) : Nat → Nat := E.2.2.1
abbrev eV (E : gE) : Nat → Nat := E.2.2.2.1
abbrev eS (E : gE) : Nat → Option Nat := E.2.2.2.2
def gTy (E : gE) : List (ClassId × FieldType) := [(eC E 0, .int), (eC E 1, .byte), (eC E 2, .object "java/lang/Object"), (eC E 3, .object "PulseRent$State"), (eC E 4, .array .int), (eC E 5, .object "PulseRent$Mark"), (eC E 6, .long), (eC E 7, .boolean)]
def gc (E : gE) (kd : Nat × Nat) (I : Nat → Int32) (R : Nat → Option Nat) (L : Nat → Int64) : Option va_E :=
  if kd.1 = 1 then some (.inr (0, [va_rf (R 0), va_rf (R 1), va_rf (R 2), va_rf (R 3), va_rf (R 4), va_rf (R 5), va_rf (R 6), .int (I 7), va_rf (R 8), .int (I 9), va_rf (R 10), va_rf (R 11), .int (I 12), va_rf (R 13), va_rf (R 14), va_rf (R 15), va_rf (R 16), va_rf (R 17), .int (I 18), va_rf (R 19), va_rf (R 20), .int (I 21), .int (I 22), .long (L 23), va_rf (R 24)]))
  else if kd.1 = 2 then some (.inr (1, [va_rf (R 0), .int (I 1), .int (I 2), .int (I 3), .int (I 4), .int (I 5), .int (I 6), va_rf (R 7), va_rf (R 8)]))
  else if kd.1 = 3 then some (.inr (2, [va_rf (R 0), va_rf (R 1), va_rf (R 2), .int (I 3), .int (I 4), .int (I 5), va_rf (R 6), va_rf (R 7)]))
  else if kd.1 = 4 then some (.inr (3, [va_rf (R 0), va_rf (R 1), va_rf (R 2), va_rf (R 3), va_rf (R 4), va_rf (R 5), .int (I 6), .int (I 7)]))
  else if kd.1 = 5 then some (.inr (4, [.int (I 0), va_rf (R 1), .int (I 2), .int (I 3), va_rf (R 4), va_rf (R 5), va_rf (R 6), .int (I 7), .int (I 8), va_rf (R 9), va_rf (R 10), va_rf (R 11), va_rf (R 12), .int (I 13), va_rf (R 14), va_rf (R 15), va_rf (R 16), va_rf (R 17), .int (I 18), .int (I 19), .int (I 20), .int (I 21), va_rf (R 22), va_rf (R 23), va_rf (R 24), va_rf (R 25), .int (I 26), va_rf (R 27), .int (I 28), va_rf (R 29), va_rf (R 30), .int (I 31), va_rf (R 32), va_rf (R 33), va_rf (R 34), va_rf (R 35), va_rf (R 36), .int (I 37), .int (I 38), .long (L 39)]))
  else if kd.1 = 6 then some (.inr (5, [va_rf (R 0), va_rf (R 1), va_rf (R 2), va_rf (R 3), va_rf (R 4), .int (I 5), .int (I 6)]))
  else if kd.1 = 7 then some (.inr (6, [va_rf (R 0), .int (I 1), .int (I 2), .int (I 3)]))
  else if kd.1 = 8 then some (.inr (7, [va_rf (R 0), .int (I 1), .int (I 2), .int (I 3), .int (I 4), .int (I 5)]))
  else if kd.1 = 9 then some (.inr (8, [va_rf (R 0), .int (I 1), .int (I 2), .int (I 3), .int (I 4), .int (I 5)]))
  else if kd.1 = 10 then some (.inr (9, [va_rf (R 0), .int (I 1), .int (I 2), .int (I 3), .int (I 4), .int (I 5)]))
  else if kd.1 = 11 then some (.inr (10, [va_rf (R 0), .int (I 1), .int (I 2), .int (I 3), .int (I 4), .int (I 5)]))
  else if kd.1 = 12 then some (.inr (11, [va_rf (R 0), .int (I 1), .int (I 2), .int (I 3)]))
  else if kd.1 = 13 then some (.inr (12, [.int (I 0)]))
  else if kd.1 = 14 then some (.inr (13, [.int (I 0)]))
  else if kd.1 = 15 then some (.inr (14, [va_rf (R 0)]))
  else if kd.1 = 16 then some (.inr (15, [.int (I 0), va_rf (R 1), va_rf (R 2)]))
  else if kd.1 = 17 then some (.inr (16, [.int (I 0)]))
  else if kd.1 = 18 then some (.inr (17, [.int (I 0)]))
  else if kd.1 = 19 then some (.inr (18, [.int (I 0), .int (I 1)]))
  else if kd.1 = 20 then some (.inr (19, [.int (I 0)]))
  else if kd.1 = 21 then some (.inr (20, [.int (I 0), .int (I 1)]))
  else if kd.1 = 22 then some (.inr (27, []))
  else if kd.1 = 23 then some (.inr (22, [.int (I 0), va_rf (R 1), .int (I 2)]))
  else if kd.1 = 25 then some (.inr (24, [va_rf (R 0), va_rf (R 1), va_rf (R 2), va_rf (R 3), va_rf (R 4)]))
  else if kd.1 = 26 then some (.inr (25, [va_rf (R 0), .int (I 1), .int (I 2), .int (I 3)]))
  else if kd.1 = 27 then some (.inr (26, [va_rf (R 0), va_rf (R 1), va_rf (R 2), va_rf (R 3), va_rf (R 4), .int (I 5)]))
  else if kd.1 = 28 then some (.inr (21, [va_rf (R 0), va_rf (R 1), va_rf (R 2), .int (I 3)]))
  else if kd.1 = 30 then some (.inr (23, [va_rf (R 0), .int (I 1), .int (I 2), .int (I 3)]))
  else if kd.1 = 40 then some (.inl (eC E 0, kd.2, .inl I))
  else if kd.1 = 41 then some (.inl (eC E 1, kd.2, .inl I))
  else if kd.1 = 43 then some (.inl (eC E 2, kd.2, .inr (.inr (.inr (.inr R)))))
  else if kd.1 = 45 then some (.inl (eC E 3, kd.2, .inr (.inr (.inr (.inr R)))))
  else if kd.1 = 46 then some (.inl (eC E 4, kd.2, .inr (.inr (.inr (.inr R)))))
  else if kd.1 = 47 then some (.inl (eC E 5, kd.2, .inr (.inr (.inr (.inr R)))))
  else if kd.1 = 48 then some (.inl (eC E 6, kd.2, .inr (.inl L)))
  else if kd.1 = 49 then some (.inl (eC E 7, kd.2, .inl I))
  else none
def gcell (E : gE) (g : GS) (a : Nat) : Option va_E := gc E (g.1 a) (g.2.1 a) (g.2.2.1 a) (g.2.2.2.1 a)
theorem gcell_1 {E : gE} {g : GS} {a : Nat} (h : (gK g a).1 = 1) : gcell E g a = some (.inr (0, [va_rf (gR g a 0), va_rf (gR g a 1), va_rf (gR g a 2), va_rf (gR g a 3), va_rf (gR g a 4), va_rf (gR g a 5), va_rf (gR g a 6), .int (gI g a 7), va_rf (gR g a 8), .int (gI g a 9), va_rf (gR g a 10), va_rf (gR g a 11), .int (gI g a 12), va_rf (gR g a 13), va_rf (gR g a 14), va_rf (gR g a 15), va_rf (gR g a 16), va_rf (gR g a 17), .int (gI g a 18), va_rf (gR g a 19), va_rf (gR g a 20), .int (gI g a 21), .int (gI g a 22), .long (gL g a 23), va_rf (gR g a 24)])) := by
  unfold gcell gc
  rw [show (g.1 a).1 = 1 from h]
  rfl
theorem gcell_2 {E : gE} {g : GS} {a : Nat} (h : (gK g a).1 = 2) : gcell E g a = some (.inr (1, [va_rf (gR g a 0), .int (gI g a 1), .int (gI g a 2), .int (gI g a 3), .int (gI g a 4), .int (gI g a 5), .int (gI g a 6), va_rf (gR g a 7), va_rf (gR g a 8)])) := by
  unfold gcell gc
  rw [show (g.1 a).1 = 2 from h]
  rfl
theorem gcell_3 {E : gE} {g : GS} {a : Nat} (h : (gK g a).1 = 3) : gcell E g a = some (.inr (2, [va_rf (gR g a 0), va_rf (gR g a 1), va_rf (gR g a 2), .int (gI g a 3), .int (gI g a 4), .int (gI g a 5), va_rf (gR g a 6), va_rf (gR g a 7)])) := by
  unfold gcell gc
  rw [show (g.1 a).1 = 3 from h]
  rfl
theorem gcell_4 {E : gE} {g : GS} {a : Nat} (h : (gK g a).1 = 4) : gcell E g a = some (.inr (3, [va_rf (gR g a 0), va_rf (gR g a 1), va_rf (gR g a 2), va_rf (gR g a 3), va_rf (gR g a 4), va_rf (gR g a 5), .int (gI g a 6), .int (gI g a 7)])) := by
  unfold gcell gc
  rw [show (g.1 a).1 = 4 from h]
  rfl
theorem gcell_5 {E : gE} {g : GS} {a : Nat} (h : (gK g a).1 = 5) : gcell E g a = some (.inr (4, [.int (gI g a 0), va_rf (gR g a 1), .int (gI g a 2), .int (gI g a 3), va_rf (gR g a 4), va_rf (gR g a 5), va_rf (gR g a 6), .int (gI g a 7), .int (gI g a 8), va_rf (gR g a 9), va_rf (gR g a 10), va_rf (gR g a 11), va_rf (gR g a 12), .int (gI g a 13), va_rf (gR g a 14), va_rf (gR g a 15), va_rf (gR g a 16), va_rf (gR g a 17), .int (gI g a 18), .int (gI g a 19), .int (gI g a 20), .int (gI g a 21), va_rf (gR g a 22), va_rf (gR g a 23), va_rf (gR g a 24), va_rf (gR g a 25), .int (gI g a 26), va_rf (gR g a 27), .int (gI g a 28), va_rf (gR g a 29), va_rf (gR g a 30), .int (gI g a 31), va_rf (gR g a 32), va_rf (gR g a 33), va_rf (gR g a 34), va_rf (gR g a 35), va_rf (gR g a 36), .int (gI g a 37), .int (gI g a 38), .long (gL g a 39)])) := by
  unfold gcell gc
  rw [show (g.1 a).1 = 5 from h]
  rfl
theorem gcell_6 {E : gE} {g : GS} {a : Nat} (h : (gK g a).1 = 6) : gcell E g a = some (.inr (5, [va_rf (gR g a 0), va_rf (gR g a 1), va_rf (gR g a 2), va_rf (gR g a 3), va_rf (gR g a 4), .int (gI g a 5), .int (gI g a 6)])) := by
  unfold gcell gc
  rw [show (g.1 a).1 = 6 from h]
  rfl
theorem gcell_7 {E : gE} {g : GS} {a : Nat} (h : (gK g a).1 = 7) : gcell E g a = some (.inr (6, [va_rf (gR g a 0), .int (gI g a 1), .int (gI g a 2), .int (gI g a 3)])) := by
  unfold gcell gc
  rw [show (g.1 a).1 = 7 from h]
  rfl
theorem gcell_8 {E : gE} {g : GS} {a : Nat} (h : (gK g a).1 = 8) : gcell E g a = some (.inr (7, [va_rf (gR g a 0), .int (gI g a 1), .int (gI g a 2), .int (gI g a 3), .int (gI g a 4), .int (gI g a 5)])) := by
  unfold gcell gc
  rw [show (g.1 a).1 = 8 from h]
  rfl
theorem gcell_9 {E : gE} {g : GS} {a : Nat} (h : (gK g a).1 = 9) : gcell E g a = some (.inr (8, [va_rf (gR g a 0), .int (gI g a 1), .int (gI g a 2), .int (gI g a 3), .int (gI g a 4), .int (gI g a 5)])) := by
  unfold gcell gc
  rw [show (g.1 a).1 = 9 from h]
  rfl
theorem gcell_10 {E : gE} {g : GS} {a : Nat} (h : (gK g a).1 = 10) : gcell E g a = some (.inr (9, [va_rf (gR g a 0), .int (gI g a 1), .int (gI g a 2), .int (gI g a 3), .int (gI g a 4), .int (gI g a 5)])) := by
  unfold gcell gc
  rw [show (g.1 a).1 = 10 from h]
  rfl
theorem gcell_11 {E : gE} {g : GS} {a : Nat} (h : (gK g a).1 = 11) : gcell E g a = some (.inr (10, [va_rf (gR g a 0), .int (gI g a 1), .int (gI g a 2), .int (gI g a 3), .int (gI g a 4), .int (gI g a 5)])) := by
  unfold gcell gc
  rw [show (g.1 a).1 = 11 from h]
  rfl
theorem gcell_12 {E : gE} {g : GS} {a : Nat} (h : (gK g a).1 = 12) : gcell E g a = some (.inr (11, [va_rf (gR g a 0), .int (gI g a 1), .int (gI g a 2), .int (gI g a 3)])) := by
  unfold gcell gc
  rw [show (g.1 a).1 = 12 from h]
  rfl
theorem gcell_13 {E : gE} {g : GS} {a : Nat} (h : (gK g a).1 = 13) : gcell E g a = some (.inr (12, [.int (gI g a 0)])) := by
  unfold gcell gc
  rw [show (g.1 a).1 = 13 from h]
  rfl
theorem gcell_14 {E : gE} {g : GS} {a : Nat} (h : (gK g a).1 = 14) : gcell E g a = some (.inr (13, [.int (gI g a 0)])) := by
  unfold gcell gc
  rw [show (g.1 a).1 = 14 from h]
  rfl
theorem gcell_15 {E : gE} {g : GS} {a : Nat} (h : (gK g a).1 = 15) : gcell E g a = some (.inr (14, [va_rf (gR g a 0)])) := by
  unfold gcell gc
  rw [show (g.1 a).1 = 15 from h]
  rfl
theorem gcell_16 {E : gE} {g : GS} {a : Nat} (h : (gK g a).1 = 16) : gcell E g a = some (.inr (15, [.int (gI g a 0), va_rf (gR g a 1), va_rf (gR g a 2)])) := by
  unfold gcell gc
  rw [show (g.1 a).1 = 16 from h]
  rfl
theorem gcell_17 {E : gE} {g : GS} {a : Nat} (h : (gK g a).1 = 17) : gcell E g a = some (.inr (16, [.int (gI g a 0)])) := by
  unfold gcell gc
  rw [show (g.1 a).1 = 17 from h]
  rfl
theorem gcell_18 {E : gE} {g : GS} {a : Nat} (h : (gK g a).1 = 18) : gcell E g a = some (.inr (17, [.int (gI g a 0)])) := by
  unfold gcell gc
  rw [show (g.1 a).1 = 18 from h]
  rfl
theorem gcell_19 {E : gE} {g : GS} {a : Nat} (h : (gK g a).1 = 19) : gcell E g a = some (.inr (18, [.int (gI g a 0), .int (gI g a 1)])) := by
  unfold gcell gc
  rw [show (g.1 a).1 = 19 from h]
  rfl
theorem gcell_20 {E : gE} {g : GS} {a : Nat} (h : (gK g a).1 = 20) : gcell E g a = some (.inr (19, [.int (gI g a 0)])) := by
  unfold gcell gc
  rw [show (g.1 a).1 = 20 from h]
  rfl
theorem gcell_21 {E : gE} {g : GS} {a : Nat} (h : (gK g a).1 = 21) : gcell E g a = some (.inr (20, [.int (gI g a 0), .int (gI g a 1)])) := by
  unfold gcell gc
  rw [show (g.1 a).1 = 21 from h]
  rfl
theorem gcell_22 {E : gE} {g : GS} {a : Nat} (h : (gK g a).1 = 22) : gcell E g a = some (.inr (27, [])) := by
  unfold gcell gc
  rw [show (g.1 a).1 = 22 from h]
  rfl
theorem gcell_23 {E : gE} {g : GS} {a : Nat} (h : (gK g a).1 = 23) : gcell E g a = some (.inr (22, [.int (gI g a 0), va_rf (gR g a 1), .int (gI g a 2)])) := by
  unfold gcell gc
  rw [show (g.1 a).1 = 23 from h]
  rfl
theorem gcell_25 {E : gE} {g : GS} {a : Nat} (h : (gK g a).1 = 25) : gcell E g a = some (.inr (24, [va_rf (gR g a 0), va_rf (gR g a 1), va_rf (gR g a 2), va_rf (gR g a 3), va_rf (gR g a 4)])) := by
  unfold gcell gc
  rw [show (g.1 a).1 = 25 from h]
  rfl
theorem gcell_26 {E : gE} {g : GS} {a : Nat} (h : (gK g a).1 = 26) : gcell E g a = some (.inr (25, [va_rf (gR g a 0), .int (gI g a 1), .int (gI g a 2), .int (gI g a 3)])) := by
  unfold gcell gc
  rw [show (g.1 a).1 = 26 from h]
  rfl
theorem gcell_27 {E : gE} {g : GS} {a : Nat} (h : (gK g a).1 = 27) : gcell E g a = some (.inr (26, [va_rf (gR g a 0), va_rf (gR g a 1), va_rf (gR g a 2), va_rf (gR g a 3), va_rf (gR g a 4), .int (gI g a 5)])) := by
  unfold gcell gc
  rw [show (g.1 a).1 = 27 from h]
  rfl
theorem gcell_28 {E : gE} {g : GS} {a : Nat} (h : (gK g a).1 = 28) : gcell E g a = some (.inr (21, [va_rf (gR g a 0), va_rf (gR g a 1), va_rf (gR g a 2), .int (gI g a 3)])) := by
  unfold gcell gc
  rw [show (g.1 a).1 = 28 from h]
  rfl
theorem gcell_30 {E : gE} {g : GS} {a : Nat} (h : (gK g a).1 = 30) : gcell E g a = some (.inr (23, [va_rf (gR g a 0), .int (gI g a 1), .int (gI g a 2), .int (gI g a 3)])) := by
  unfold gcell gc
  rw [show (g.1 a).1 = 30 from h]
  rfl
theorem gcell_40 {E : gE} {g : GS} {a : Nat} (h : (gK g a).1 = 40) : gcell E g a = some (.inl (eC E 0, (gK g a).2, .inl (fun j => gI g a j))) := by
  unfold gcell gc
  rw [show (g.1 a).1 = 40 from h]
  rfl
theorem gcell_41 {E : gE} {g : GS} {a : Nat} (h : (gK g a).1 = 41) : gcell E g a = some (.inl (eC E 1, (gK g a).2, .inl (fun j => gI g a j))) := by
  unfold gcell gc
  rw [show (g.1 a).1 = 41 from h]
  rfl
theorem gcell_43 {E : gE} {g : GS} {a : Nat} (h : (gK g a).1 = 43) : gcell E g a = some (.inl (eC E 2, (gK g a).2, .inr (.inr (.inr (.inr (fun j => gR g a j)))))) := by
  unfold gcell gc
  rw [show (g.1 a).1 = 43 from h]
  rfl
theorem gcell_45 {E : gE} {g : GS} {a : Nat} (h : (gK g a).1 = 45) : gcell E g a = some (.inl (eC E 3, (gK g a).2, .inr (.inr (.inr (.inr (fun j => gR g a j)))))) := by
  unfold gcell gc
  rw [show (g.1 a).1 = 45 from h]
  rfl
theorem gcell_46 {E : gE} {g : GS} {a : Nat} (h : (gK g a).1 = 46) : gcell E g a = some (.inl (eC E 4, (gK g a).2, .inr (.inr (.inr (.inr (fun j => gR g a j)))))) := by
  unfold gcell gc
  rw [show (g.1 a).1 = 46 from h]
  rfl
theorem gcell_47 {E : gE} {g : GS} {a : Nat} (h : (gK g a).1 = 47) : gcell E g a = some (.inl (eC E 5, (gK g a).2, .inr (.inr (.inr (.inr (fun j => gR g a j)))))) := by
  unfold gcell gc
  rw [show (g.1 a).1 = 47 from h]
  rfl
theorem gcell_48 {E : gE} {g : GS} {a : Nat} (h : (gK g a).1 = 48) : gcell E g a = some (.inl (eC E 6, (gK g a).2, .inr (.inl (fun j => gL g a j)))) := by
  unfold gcell gc
  rw [show (g.1 a).1 = 48 from h]
  rfl
theorem gcell_49 {E : gE} {g : GS} {a : Nat} (h : (gK g a).1 = 49) : gcell E g a = some (.inl (eC E 7, (gK g a).2, .inl (fun j => gI g a j))) := by
  unfold gcell gc
  rw [show (g.1 a).1 = 49 from h]
  rfl
def lenS : List Nat := [8, 178, 47, 7, 6, 5, 6, 6, 5, 6, 17, 22, 23, 5, 5, 6, 3, 37, 7, 4]
def bytS : List (List Int32) := [[40, 41, 60, 61, 43, 45, 42, 59], [114, 111, 111, 109, 32, 115, 116, 97, 105, 114, 115, 32, 110, 111, 105, 115, 101, 32, 98, 97, 115, 101, 32, 116, 101, 110, 97, 110, 116, 32, 114, 101, 115, 116, 32, 99, 97, 108, 109, 32, 99, 111, 105, 110, 115, 32, 105, 110, 32, 108, 111, 118, 101, 115, 32, 101, 114, 114, 97, 110, 100, 32, 111, 112, 101, 110, 115, 32, 116, 97, 107, 101, 115, 32, 97, 100, 100, 115, 32, 99, 111, 102, 102, 101, 101, 32, 108, 97, 115, 116, 115, 32, 101, 118, 101, 114, 121, 32, 100, 117, 101, 32, 119, 105, 115, 104, 32, 99, 108, 105, 109, 98, 32, 102, 114, 105, 103, 104, 116, 32, 100, 114, 105, 110, 107, 32, 109, 105, 110, 117, 116, 101, 115, 32, 110, 111, 111, 110, 32, 109, 111, 118, 101, 32, 112, 108, 97, 105, 110, 32, 109, 111, 110, 107, 32, 114, 117, 110, 110, 101, 114, 32, 115, 105, 99, 107, 32, 110, 111, 116, 32, 97, 110, 100, 32, 111, 114, 32], [114, 111, 111, 109, 32, 116, 101, 110, 97, 110, 116, 32, 108, 111, 118, 101, 115, 32, 101, 114, 114, 97, 110, 100, 32, 99, 111, 102, 102, 101, 101, 32, 101, 118, 101, 114, 121, 32, 100, 117, 101, 32, 119, 105, 115, 104, 32], [115, 116, 97, 105, 114, 115, 32], [110, 111, 105, 115, 101, 32], [98, 97, 115, 101, 32], [111, 112, 101, 110, 115, 32], [116, 97, 107, 101, 115, 32], [97, 100, 100, 115, 32], [108, 97, 115, 116, 115, 32], [98, 101, 97, 116, 115, 32, 102, 108, 111, 111, 114, 32, 107, 105, 110, 100, 32], [115, 116, 101, 112, 115, 32, 108, 111, 117, 100, 32, 102, 108, 111, 111, 114, 32, 107, 105, 110, 100, 32], [112, 108, 97, 105, 110, 32, 109, 111, 110, 107, 32, 114, 117, 110, 110, 101, 114, 32, 115, 105, 99, 107, 32], [114, 101, 115, 116, 32], [99, 97, 108, 109, 32], [99, 111, 105, 110, 115, 32], [105, 110, 32], [99, 108, 105, 109, 98, 32, 102, 114, 105, 103, 104, 116, 32, 100, 114, 105, 110, 107, 32, 109, 105, 110, 117, 116, 101, 115, 32, 110, 111, 111, 110, 32, 109, 111, 118, 101, 32], [97, 110, 100, 32, 111, 114, 32], [110, 111, 116, 32]]
def ixS : List Nat := [48, 83, 133, 171, 176, 180, 195, 197, 201, 204, 209, 215, 217, 235, 240, 245, 250, 272, 298, 314]
def txS : List String := ["()<=+-*;", "room stairs noise base tenant rest calm coins in loves errand opens takes adds coffee lasts every due wish climb fright drink minutes noon move plain monk runner sick not and or ", "room tenant loves errand coffee every due wish ", "stairs ", "noise ", "base ", "opens ", "takes ", "adds ", "lasts ", "beats floor kind ", "steps loud floor kind ", "plain monk runner sick ", "rest ", "calm ", "coins ", "in ", "climb fright drink minutes noon move ", "and or ", "not "]

/-- words of the tables that are carried apart -/
def isNest (w : Cond) : Bool := match w with
  | .fieldLinkNest .. => true
  | .methodLinkNest .. => true
  | .castable .. => true
  | .declares .. => true
  | .arrayOver (.array _) => true
  | _ => false
def gNw (U : State) : Prop := ∀ w ∈ lw_tbl, isNest w = true → va_Nw w U
theorem ao_spec {args : Array Value} {s : State} {t : FieldType} (h : (Cond.arrayOver (.array t)).before args s = true) : ∃ comp c k, s.vm.findClass (FieldType.array t).toString = some comp ∧ (s.vm.classes.findIdx? fun x => match x.kind with | .array component _ => component == comp | _ => false) = some c ∧ s.vm.classes[c]? = some k ∧ k.kind = .array comp (.array t) ∧ s.vm.findClass ("[" ++ (FieldType.array t).toString) = some c := by
  have h' : (Cond.arrayOver (.array t)).holds args s none s [] = true := h
  simp only [Cond.holds, Cond.value, beq_iff_eq] at h'
  cases hc : s.vm.findClass (FieldType.array t).toString with
  | none => simp [hc] at h'
  | some comp =>
    simp only [hc, Option.bind_some, Option.bind_eq_some_iff, Option.map_eq_some_iff] at h'
    obtain ⟨c, hi, k, hk, hb⟩ := h'
    have hp := (Array.findIdx?_eq_some_iff_getElem.mp hi).2.1
    rw [(Array.getElem?_eq_some_iff.mp hk).2] at hp
    cases hkd : k.kind with
    | array component ty =>
      rw [hkd] at hb hp
      simp only [beq_iff_eq] at hp
      simp only [Bool.and_eq_true, decide_eq_true_eq, beq_iff_eq] at hb
      exact ⟨comp, c, k, rfl, hi, hk, by rw [hkd, hp, hb.1], hb.2⟩
    | _ => rw [hkd] at hb; simp at hb
theorem ao_arr {args args' : Array Value} {t : FieldType} {s U : State} (hvm : s.vm.Alike U.vm) (h : (Cond.arrayOver (.array t)).before args s = true) : (Cond.arrayOver (.array t)).before args' U = true := by
  obtain ⟨comp, c, k, h1, h2, h3, h4, h5⟩ := ao_spec h
  obtain ⟨k', hk', he⟩ := hvm.2.2 _ _ h3
  have hi : (U.vm.classes.findIdx? fun (x : Class) => match x.kind with | .array component _ => component == comp | _ => false) = some c := by
    have e1 := va_idx_bare U.vm comp
    have e2 := va_idx_bare s.vm comp
    first | rw [← hvm.bare_eq] at e1 | rw [hvm.bare_eq] at e1
    exact (e1.symm.trans e2).trans h2
  have hkind : k'.kind = .array comp (.array t) := by rw [he]; exact h4
  have f1 : U.vm.findClass (FieldType.array t).toString = some comp := by rw [hvm.findClass]; exact h1
  have f2 : U.vm.findClass ("[" ++ (FieldType.array t).toString) = some c := by rw [hvm.findClass]; exact h5
  show (Cond.arrayOver (.array t)).holds args' U none U [] = true
  simp only [Cond.holds, Cond.value, beq_iff_eq]
  rw [f1, Option.bind_some]
  refine (congrArg (fun o : Option Nat => o.bind _) hi).trans ?_
  simp [hk', hkind, f2]
theorem ao_alike {t : FieldType} {s U : State} (hal : s.vm.Alike U.vm) (hn : isNest (.arrayOver t) = true) (h : va_Nw (.arrayOver t) s) : va_Nw (.arrayOver t) U := by
  cases t <;> first | (cases hn; done) | exact ao_arr hal h
theorem gNw.warm {s U : State} (hW : s.WarmedH U.vm) (h : gNw s) : gNw U := by
  intro w hw hn
  have h1 := h w hw hn
  cases w <;> first | (cases hn; done) | exact va_Nw.warmF hW h1 | exact va_Nw.warmM hW h1 | exact va_Nw.warmC hW h1 | exact va_Nw.warmD hW h1 | exact ao_alike hW.alike hn h1
theorem gNw.same {s U : State} (hv : s.vm = U.vm) (h : gNw s) : gNw U := by
  intro w hw hn
  have h1 := h w hw hn
  cases w <;> first | (cases hn; done) | exact va_Nw.same rfl hv h1 | exact ao_alike (by rw [hv]; exact Vm.Alike.refl _) hn h1
/-- the private method of the builder's own parent -/
def sbSel : Cond := .selects RJ14 yJ13_ensureCapacityInternal yJ13_ensureCapacityInternal
def gAO (U : State) : Prop := va_AO "java/lang/Object" U ∧ va_AO "PulseRent$State" U ∧ va_AO "PulseRent$Mark" U ∧ va_Nw sbSel U
/-- what is constant all through: texts, statics, words of the tables -/
def gX (E : gE) (A : Nat → Prop) (U : State) (H : Heap) : Prop :=
  (vk_S 20 lenS bytS (eK E) (eV E) A U H ∧ (∀ i, i < 20 → vk_R RX2 (ixS.getD i 0) (txS.getD i "") (eK E i) U)) ∧
  (va_Z "java/lang/String" "COMPACT_STRINGS" "Z" (.int 1) A U H ∧ va_Z "java/util/ArrayList" "EMPTY_ELEMENTDATA" "[Ljava/lang/Object;" (va_rf (eS E 0)) A U H ∧
   va_Z "java/lang/Throwable" "UNASSIGNED_STACK" "[Ljava/lang/StackTraceElement;" (va_rf (eS E 1)) A U H ∧ va_Z "java/lang/Throwable" "SUPPRESSED_SENTINEL" "Ljava/util/List;" (va_rf (eS E 2)) A U H ∧
   va_Z "jdk/internal/util/Preconditions" "SIOOBE_FORMATTER" "Ljava/util/function/BiFunction;" (va_rf (eS E 3)) A U H) ∧
  (vx_Zq Bundle.tN "UNASSIGNED_STACK" Bundle.steD A U H ∧ vx_Zq Bundle.tN "SUPPRESSED_SENTINEL" Bundle.listD A U H) ∧ gNw U ∧ gAO U ∧ (∃ mi : Nat, eS E 9 = some mi ∧ va_Mi "[Ljava/lang/Object;" mi U)
theorem gX.kept {E : gE} {A : Nat → Prop} {U : State} {H H1 : Heap} (h : gX E A U H) (hq : ∀ a : Nat, a < H.size → ¬ A a → H1[a]? = H[a]?) : gX E A U H1 := by
  obtain ⟨⟨a1, a2⟩, ⟨b1, b2, b3, b4, b5⟩, ⟨c1, c2⟩, d1, d2, d3⟩ := h
  exact ⟨⟨a1.kept hq, a2⟩, ⟨b1.kept hq, b2.kept hq, b3.kept hq, b4.kept hq, b5.kept hq⟩, ⟨c1.kept hq, c2.kept hq⟩, d1, d2, d3⟩
theorem gX.warm {E : gE} {A : Nat → Prop} {s U : State} {H : Heap} (hW : s.WarmedH U.vm) (h : gX E A s H) : gX E A U H := by
  obtain ⟨⟨a1, a2⟩, ⟨b1, b2, b3, b4, b5⟩, ⟨c1, c2⟩, d1, ⟨d2, d3, d4, d6⟩, mi, d7, d5⟩ := h
  have hv := hW.alike
  exact ⟨⟨a1.moved hv, fun i hi => (a2 i hi).warm hW⟩, ⟨b1.moved hv, b2.moved hv, b3.moved hv, b4.moved hv, b5.moved hv⟩, ⟨c1.moved hv, c2.moved hv⟩, d1.warm hW, ⟨d2.moved hv, d3.moved hv, d4.moved hv, word_at hW (Or.inl rfl) d6⟩, mi, d7, d5.moved hv⟩
theorem gX.calling {E : gE} {A : Nat → Prop} {U : State} {H : Heap} {g : JFrame} {mk : MethodId} {a : Array Value} (h : gX E A U H) : gX E A (U.calling g mk a) H := by
  obtain ⟨⟨a1, a2⟩, ⟨b1, b2, b3, b4, b5⟩, ⟨c1, c2⟩, d1, ⟨d2, d3, d4, d6⟩, mi, d7, d5⟩ := h
  have hv : U.vm.Alike (U.calling g mk a).vm := Vm.Alike.refl U.vm
  exact ⟨⟨a1.moved hv, fun i hi => (a2 i hi).same rfl⟩, ⟨b1.moved hv, b2.moved hv, b3.moved hv, b4.moved hv, b5.moved hv⟩, ⟨c1.moved hv, c2.moved hv⟩, gNw.same (s := U) (U := U.calling g mk a) rfl d1, ⟨d2.moved hv, d3.moved hv, d4.moved hv, va_Nw.same (u := U) (U := U.calling g mk a) rfl rfl d6⟩, mi, d7, d5.moved hv⟩
/-- the plain heap g is the heap H (what it knows of it) -/
def gB (E : gE) (A : Nat → Prop) (LC LS : Nat) (g : GS) (H : Heap) : Prop :=
  (gZ g = H.size ∧ gN g = tot H ∧ gZ g ≤ LC ∧ gN g ≤ LS ∧ gLC g = LC ∧ gLS g = LS ∧ (∀ k, k < 10 → gT g k = eS E k) ∧ ∀ i, i < 20 → gT g (10 + i) = some (eK E i)) ∧
  (∀ (a : Nat) (e : va_E), gcell E g a = some e → va_at (eD E) vwCl (a, e) H ∧ A a) ∧
  (∀ a, (gK g a).1 = 31 → ∃ i, i < 20 ∧ a = eK E i ∧ gR g a 0 = some (eV E i) ∧ gI g a 1 = 0 ∧ gI g a 2 = nI i) ∧
  (∀ a, (gK g a).1 = 42 → ∃ i, i < 20 ∧ a = eV E i ∧ (gK g a).2 = lenS.getD i 0 ∧ ∀ j, j < lenS.getD i 0 → gI g a j = (bytS.getD i []).getD j 0)
def gH (E : gE) (A : Nat → Prop) (LC LS : Nat) (s : State) (g : GS) (H : Heap) (locs : List Loc) : Prop := gB E A LC LS g H ∧ va_S A s.heap H locs
def gCtx (E : gE) (A : Nat → Prop) (s : State) : Prop := va_K (eD E) vwCl (gTy E) s ∧ (∀ q, s.heap.size ≤ q → A q) ∧ gX E A s s.heap

theorem gk_sI {g : GS} {a k : Nat} {v : Int32} (q : Nat) : gK (sI g a k v) q = gK g q := rfl
theorem gk_sR {g : GS} {a k : Nat} {v : Option Nat} (q : Nat) : gK (sR g a k v) q = gK g q := rfl
theorem gk_sL {g : GS} {a k : Nat} {v : Int64} (q : Nat) : gK (sL g a k v) q = gK g q := rfl
theorem gi_sI {g : GS} {a k : Nat} {v : Int32} (q j : Nat) : gI (sI g a k v) q j = if q = a ∧ j = k then v else gI g q j := by
  show va_up g.2.1 a (upd (g.2.1 a) k v) q j = _
  unfold va_up upd gI
  by_cases hq : q = a
  · subst hq; by_cases hj : j = k <;> simp [hj]
  · simp [hq]
theorem gr_sR {g : GS} {a k : Nat} {v : Option Nat} (q j : Nat) : gR (sR g a k v) q j = if q = a ∧ j = k then v else gR g q j := by
  show va_up g.2.2.1 a (va_up (g.2.2.1 a) k v) q j = _
  unfold va_up gR
  by_cases hq : q = a
  · subst hq; by_cases hj : j = k <;> simp [hj]
  · simp [hq]
/-- one cell changed -/
theorem gB.set {E : gE} {A : Nat → Prop} {LC LS : Nat} {g g1 : GS} {H H1 : Heap} {a : Nat} {e1 : va_E} (h : gB E A LC LS g H) (hA : A a) (hc : va_at (eD E) vwCl (a, e1) H1) (hg1 : gcell E g1 a = some e1) (ho : ∀ q : Nat, q ≠ a → H1[q]? = H[q]?) (hz : H1.size = H.size) (ht : tot H1 = tot H)
    (hk : g1.1 = g.1) (hI : ∀ q : Nat, q ≠ a → g1.2.1 q = g.2.1 q) (hR : ∀ q : Nat, q ≠ a → g1.2.2.1 q = g.2.2.1 q) (hL : ∀ q : Nat, q ≠ a → g1.2.2.2.1 q = g.2.2.2.1 q) (hr : g1.2.2.2.2 = g.2.2.2.2) (h31 : (gK g a).1 ≠ 31) (h42 : (gK g a).1 ≠ 42) : gB E A LC LS g1 H1 := by
  obtain ⟨⟨b1, b2, b3, b4, b5, b6, b10, b11⟩, b7, b8, b9⟩ := h
  have eT : ∀ k, gT g1 k = gT g k := fun k => congrFun (congrArg (fun x => x.2.2.2.2) hr) k
  have eZ : gZ g1 = gZ g := congrArg (fun x => x.1) hr
  have eN : gN g1 = gN g := congrArg (fun x => x.2.1) hr
  have eC : gLC g1 = gLC g := congrArg (fun x => x.2.2.1) hr
  have eS : gLS g1 = gLS g := congrArg (fun x => x.2.2.2.1) hr
  have eK1 : ∀ q, gK g1 q = gK g q := fun q => congrFun hk q
  refine ⟨⟨by rw [eZ, hz]; exact b1, by rw [eN, ht]; exact b2, by rw [eZ]; exact b3, by rw [eN]; exact b4, by rw [eC]; exact b5, by rw [eS]; exact b6, fun k hk => by rw [eT]; exact b10 k hk, fun i hi => by rw [eT]; exact b11 i hi⟩, ?_, ?_, ?_⟩
  · intro q x hx
    by_cases hq : q = a
    · subst hq
      rw [hg1] at hx
      cases hx
      exact ⟨hc, hA⟩
    · have e2 : gcell E g1 q = gcell E g q := by
        show gc E (g1.1 q) (g1.2.1 q) (g1.2.2.1 q) (g1.2.2.2.1 q) = gc E (g.1 q) (g.2.1 q) (g.2.2.1 q) (g.2.2.2.1 q)
        rw [hk, hI q hq, hR q hq, hL q hq]
      rw [e2] at hx
      obtain ⟨y1, y2⟩ := b7 q x hx
      exact ⟨y1.kept (ho q hq), y2⟩
  · intro q hq
    rw [eK1] at hq
    have hne : q ≠ a := fun z => h31 (by rw [← z]; exact hq)
    obtain ⟨i, y1, y2, y3, y4, y5⟩ := b8 q hq
    exact ⟨i, y1, y2, by show g1.2.2.1 q _ = _; rw [hR q hne]; exact y3, by show g1.2.1 q _ = _; rw [hI q hne]; exact y4, by show g1.2.1 q _ = _; rw [hI q hne]; exact y5⟩
  · intro q hq
    rw [eK1] at hq
    have hne : q ≠ a := fun z => h42 (by rw [← z]; exact hq)
    obtain ⟨i, y1, y2, y3, y4⟩ := b9 q hq
    exact ⟨i, y1, y2, by rw [eK1]; exact y3, fun j hj => by show g1.2.1 q _ = _; rw [hI q hne]; exact y4 j hj⟩
theorem gB.lt {E : gE} {A : Nat → Prop} {LC LS : Nat} {g : GS} {H : Heap} (h : gB E A LC LS g H) {a : Nat} {e : va_E} (hc : gcell E g a = some e) : a < H.size := (h.2.1 a e hc).1.lt
theorem gB.sI {E : gE} {A : Nat → Prop} {LC LS : Nat} {g : GS} {H H1 : Heap} {a k : Nat} {v : Int32} {e0 e1 : va_E} (h : gB E A LC LS g H) (h0 : gcell E g a = some e0) (hg1 : gcell E (sI g a k v) a = some e1) (hc : va_at (eD E) vwCl (a, e1) H1) (hz : H1.size = H.size) (ht : tot H1 = tot H) (ho : ∀ q : Nat, q ≠ a → H1[q]? = H[q]?) (h31 : (gK g a).1 ≠ 31) (h42 : (gK g a).1 ≠ 42) : gB E A LC LS (sI g a k v) H1 :=
  h.set (h.2.1 a _ h0).2 hc hg1 ho hz ht rfl (fun q hq => va_up_ne _ _ hq) (fun _ _ => rfl) (fun _ _ => rfl) rfl h31 h42
theorem gB.sR {E : gE} {A : Nat → Prop} {LC LS : Nat} {g : GS} {H H1 : Heap} {a k : Nat} {v : Option Nat} {e0 e1 : va_E} (h : gB E A LC LS g H) (h0 : gcell E g a = some e0) (hg1 : gcell E (sR g a k v) a = some e1) (hc : va_at (eD E) vwCl (a, e1) H1) (hz : H1.size = H.size) (ht : tot H1 = tot H) (ho : ∀ q : Nat, q ≠ a → H1[q]? = H[q]?) (h31 : (gK g a).1 ≠ 31) (h42 : (gK g a).1 ≠ 42) : gB E A LC LS (sR g a k v) H1 :=
  h.set (h.2.1 a _ h0).2 hc hg1 ho hz ht rfl (fun _ _ => rfl) (fun q hq => va_up_ne _ _ hq) (fun _ _ => rfl) rfl h31 h42
theorem gB.sL {E : gE} {A : Nat → Prop} {LC LS : Nat} {g : GS} {H H1 : Heap} {a k : Nat} {v : Int64} {e0 e1 : va_E} (h : gB E A LC LS g H) (h0 : gcell E g a = some e0) (hg1 : gcell E (sL g a k v) a = some e1) (hc : va_at (eD E) vwCl (a, e1) H1) (hz : H1.size = H.size) (ht : tot H1 = tot H) (ho : ∀ q : Nat, q ≠ a → H1[q]? = H[q]?) (h31 : (gK g a).1 ≠ 31) (h42 : (gK g a).1 ≠ 42) : gB E A LC LS (sL g a k v) H1 :=
  h.set (h.2.1 a _ h0).2 hc hg1 ho hz ht rfl (fun _ _ => rfl) (fun _ _ => rfl) (fun q hq => va_up_ne _ _ hq) rfl h31 h42
theorem nw_at {g : GS} {t n ns : Nat} : gK (nw g t n ns) (gZ g) = (t, n) ∧ (nw g t n ns).2.1 (gZ g) = (fun _ => 0) ∧ (nw g t n ns).2.2.1 (gZ g) = (fun _ => none) ∧ (nw g t n ns).2.2.2.1 (gZ g) = (fun _ => 0) :=
  ⟨va_up_self _ _ _, va_up_self _ _ _, va_up_self _ _ _, va_up_self _ _ _⟩
/-- one cell more -/
theorem gB.new {E : gE} {A : Nat → Prop} {LC LS : Nat} {g : GS} {H H1 : Heap} {t n ns : Nat} {e1 : va_E} (h : gB E A LC LS g H) (hA : A H.size) (hg1 : gcell E (nw g t n ns) (gZ g) = some e1) (hc : va_at (eD E) vwCl (H.size, e1) H1) (hz : H1.size = H.size + 1) (ht : tot H1 = tot H + ns) (ho : ∀ q : Nat, q < H.size → H1[q]? = H[q]?) (hl : gZ g + 1 ≤ gLC g ∧ gN g + ns ≤ gLS g) (h31 : t ≠ 31) (h42 : t ≠ 42) : gB E A LC LS (nw g t n ns) H1 := by
  obtain ⟨⟨b1, b2, b3, b4, b5, b6, b10, b11⟩, b7, b8, b9⟩ := h
  rw [b5] at hl
  rw [b6] at hl
  have ne : ∀ q, q ≠ gZ g → gK (nw g t n ns) q = gK g q := fun q hq => va_up_ne _ _ hq
  refine ⟨⟨by show gZ g + 1 = _; rw [hz, b1], by show gN g + ns = _; rw [ht, b2], hl.1, hl.2, b5, b6, b10, b11⟩, ?_, ?_, ?_⟩
  · intro q x hx
    by_cases hq : q = gZ g
    · subst hq
      rw [hg1] at hx
      cases hx
      rw [b1]
      exact ⟨hc, hA⟩
    · have e2 : gcell E (nw g t n ns) q = gcell E g q := by
        show gc E (va_up g.1 (gZ g) (t, n) q) (va_up g.2.1 (gZ g) _ q) (va_up g.2.2.1 (gZ g) _ q) (va_up g.2.2.2.1 (gZ g) _ q) = gc E (g.1 q) (g.2.1 q) (g.2.2.1 q) (g.2.2.2.1 q)
        rw [va_up_ne _ _ hq, va_up_ne _ _ hq, va_up_ne _ _ hq, va_up_ne _ _ hq]
      rw [e2] at hx
      obtain ⟨y1, y2⟩ := b7 q x hx
      exact ⟨y1.kept (ho q y1.lt), y2⟩
  · intro q hq
    have hne : q ≠ gZ g := fun z => by rw [z, nw_at.1] at hq; exact h31 hq
    rw [ne q hne] at hq
    obtain ⟨i, y1, y2, y3, y4, y5⟩ := b8 q hq
    exact ⟨i, y1, y2, by show va_up g.2.2.1 (gZ g) _ q _ = _; rw [va_up_ne _ _ hne]; exact y3, by show va_up g.2.1 (gZ g) _ q _ = _; rw [va_up_ne _ _ hne]; exact y4, by show va_up g.2.1 (gZ g) _ q _ = _; rw [va_up_ne _ _ hne]; exact y5⟩
  · intro q hq
    have hne : q ≠ gZ g := fun z => by rw [z, nw_at.1] at hq; exact h42 hq
    rw [ne q hne] at hq
    obtain ⟨i, y1, y2, y3, y4⟩ := b9 q hq
    exact ⟨i, y1, y2, by rw [ne q hne]; exact y3, fun j hj => by show va_up g.2.1 (gZ g) _ q _ = _; rw [va_up_ne _ _ hne]; exact y4 j hj⟩
