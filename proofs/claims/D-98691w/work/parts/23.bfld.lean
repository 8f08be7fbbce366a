/-! B: rows of fields and arrays (printed by gen/bkit.py) -/
set_option maxRecDepth 100000
theorem gcc_1 {E : gE} {kd : Nat × Nat} {I : Nat → Int32} {R : Nat → Option Nat} {L : Nat → Int64} (h : kd.1 = 1) : gc E kd I R L = some (.inr (0, [va_rf (R 0), va_rf (R 1), va_rf (R 2), va_rf (R 3), va_rf (R 4), va_rf (R 5), va_rf (R 6), .int (I 7), va_rf (R 8), .int (I 9), va_rf (R 10), va_rf (R 11), .int (I 12), va_rf (R 13), va_rf (R 14), va_rf (R 15), va_rf (R 16), va_rf (R 17), .int (I 18), va_rf (R 19), va_rf (R 20), .int (I 21), .int (I 22), .long (L 23), va_rf (R 24)])) := by
  unfold gc
  rw [h]
  rfl
theorem gcc_2 {E : gE} {kd : Nat × Nat} {I : Nat → Int32} {R : Nat → Option Nat} {L : Nat → Int64} (h : kd.1 = 2) : gc E kd I R L = some (.inr (1, [va_rf (R 0), .int (I 1), .int (I 2), .int (I 3), .int (I 4), .int (I 5), .int (I 6), va_rf (R 7), va_rf (R 8)])) := by
  unfold gc
  rw [h]
  rfl
theorem gcc_3 {E : gE} {kd : Nat × Nat} {I : Nat → Int32} {R : Nat → Option Nat} {L : Nat → Int64} (h : kd.1 = 3) : gc E kd I R L = some (.inr (2, [va_rf (R 0), va_rf (R 1), va_rf (R 2), .int (I 3), .int (I 4), .int (I 5), va_rf (R 6), va_rf (R 7)])) := by
  unfold gc
  rw [h]
  rfl
theorem gcc_4 {E : gE} {kd : Nat × Nat} {I : Nat → Int32} {R : Nat → Option Nat} {L : Nat → Int64} (h : kd.1 = 4) : gc E kd I R L = some (.inr (3, [va_rf (R 0), va_rf (R 1), va_rf (R 2), va_rf (R 3), va_rf (R 4), va_rf (R 5), .int (I 6), .int (I 7)])) := by
  unfold gc
  rw [h]
  rfl
theorem gcc_5 {E : gE} {kd : Nat × Nat} {I : Nat → Int32} {R : Nat → Option Nat} {L : Nat → Int64} (h : kd.1 = 5) : gc E kd I R L = some (.inr (4, [.int (I 0), va_rf (R 1), .int (I 2), .int (I 3), va_rf (R 4), va_rf (R 5), va_rf (R 6), .int (I 7), .int (I 8), va_rf (R 9), va_rf (R 10), va_rf (R 11), va_rf (R 12), .int (I 13), va_rf (R 14), va_rf (R 15), va_rf (R 16), va_rf (R 17), .int (I 18), .int (I 19), .int (I 20), .int (I 21), va_rf (R 22), va_rf (R 23), va_rf (R 24), va_rf (R 25), .int (I 26), va_rf (R 27), .int (I 28), va_rf (R 29), va_rf (R 30), .int (I 31), va_rf (R 32), va_rf (R 33), va_rf (R 34), va_rf (R 35), va_rf (R 36), .int (I 37), .int (I 38), .long (L 39)])) := by
  unfold gc
  rw [h]
  rfl
theorem gcc_6 {E : gE} {kd : Nat × Nat} {I : Nat → Int32} {R : Nat → Option Nat} {L : Nat → Int64} (h : kd.1 = 6) : gc E kd I R L = some (.inr (5, [va_rf (R 0), va_rf (R 1), va_rf (R 2), va_rf (R 3), va_rf (R 4), .int (I 5), .int (I 6)])) := by
  unfold gc
  rw [h]
  rfl
theorem gcc_7 {E : gE} {kd : Nat × Nat} {I : Nat → Int32} {R : Nat → Option Nat} {L : Nat → Int64} (h : kd.1 = 7) : gc E kd I R L = some (.inr (6, [va_rf (R 0), .int (I 1), .int (I 2), .int (I 3)])) := by
  unfold gc
  rw [h]
  rfl
theorem gcc_8 {E : gE} {kd : Nat × Nat} {I : Nat → Int32} {R : Nat → Option Nat} {L : Nat → Int64} (h : kd.1 = 8) : gc E kd I R L = some (.inr (7, [va_rf (R 0), .int (I 1), .int (I 2), .int (I 3), .int (I 4), .int (I 5)])) := by
  unfold gc
  rw [h]
  rfl
theorem gcc_9 {E : gE} {kd : Nat × Nat} {I : Nat → Int32} {R : Nat → Option Nat} {L : Nat → Int64} (h : kd.1 = 9) : gc E kd I R L = some (.inr (8, [va_rf (R 0), .int (I 1), .int (I 2), .int (I 3), .int (I 4), .int (I 5)])) := by
  unfold gc
  rw [h]
  rfl
theorem gcc_10 {E : gE} {kd : Nat × Nat} {I : Nat → Int32} {R : Nat → Option Nat} {L : Nat → Int64} (h : kd.1 = 10) : gc E kd I R L = some (.inr (9, [va_rf (R 0), .int (I 1), .int (I 2), .int (I 3), .int (I 4), .int (I 5)])) := by
  unfold gc
  rw [h]
  rfl
theorem gcc_11 {E : gE} {kd : Nat × Nat} {I : Nat → Int32} {R : Nat → Option Nat} {L : Nat → Int64} (h : kd.1 = 11) : gc E kd I R L = some (.inr (10, [va_rf (R 0), .int (I 1), .int (I 2), .int (I 3), .int (I 4), .int (I 5)])) := by
  unfold gc
  rw [h]
  rfl
theorem gcc_12 {E : gE} {kd : Nat × Nat} {I : Nat → Int32} {R : Nat → Option Nat} {L : Nat → Int64} (h : kd.1 = 12) : gc E kd I R L = some (.inr (11, [va_rf (R 0), .int (I 1), .int (I 2), .int (I 3)])) := by
  unfold gc
  rw [h]
  rfl
theorem gcc_13 {E : gE} {kd : Nat × Nat} {I : Nat → Int32} {R : Nat → Option Nat} {L : Nat → Int64} (h : kd.1 = 13) : gc E kd I R L = some (.inr (12, [.int (I 0)])) := by
  unfold gc
  rw [h]
  rfl
theorem gcc_14 {E : gE} {kd : Nat × Nat} {I : Nat → Int32} {R : Nat → Option Nat} {L : Nat → Int64} (h : kd.1 = 14) : gc E kd I R L = some (.inr (13, [.int (I 0)])) := by
  unfold gc
  rw [h]
  rfl
theorem gcc_15 {E : gE} {kd : Nat × Nat} {I : Nat → Int32} {R : Nat → Option Nat} {L : Nat → Int64} (h : kd.1 = 15) : gc E kd I R L = some (.inr (14, [va_rf (R 0)])) := by
  unfold gc
  rw [h]
  rfl
theorem gcc_16 {E : gE} {kd : Nat × Nat} {I : Nat → Int32} {R : Nat → Option Nat} {L : Nat → Int64} (h : kd.1 = 16) : gc E kd I R L = some (.inr (15, [.int (I 0), va_rf (R 1), va_rf (R 2)])) := by
  unfold gc
  rw [h]
  rfl
theorem gcc_17 {E : gE} {kd : Nat × Nat} {I : Nat → Int32} {R : Nat → Option Nat} {L : Nat → Int64} (h : kd.1 = 17) : gc E kd I R L = some (.inr (16, [.int (I 0)])) := by
  unfold gc
  rw [h]
  rfl
theorem gcc_18 {E : gE} {kd : Nat × Nat} {I : Nat → Int32} {R : Nat → Option Nat} {L : Nat → Int64} (h : kd.1 = 18) : gc E kd I R L = some (.inr (17, [.int (I 0)])) := by
  unfold gc
  rw [h]
  rfl
theorem gcc_19 {E : gE} {kd : Nat × Nat} {I : Nat → Int32} {R : Nat → Option Nat} {L : Nat → Int64} (h : kd.1 = 19) : gc E kd I R L = some (.inr (18, [.int (I 0), .int (I 1)])) := by
  unfold gc
  rw [h]
  rfl
theorem gcc_20 {E : gE} {kd : Nat × Nat} {I : Nat → Int32} {R : Nat → Option Nat} {L : Nat → Int64} (h : kd.1 = 20) : gc E kd I R L = some (.inr (19, [.int (I 0)])) := by
  unfold gc
  rw [h]
  rfl
theorem gcc_21 {E : gE} {kd : Nat × Nat} {I : Nat → Int32} {R : Nat → Option Nat} {L : Nat → Int64} (h : kd.1 = 21) : gc E kd I R L = some (.inr (20, [.int (I 0), .int (I 1)])) := by
  unfold gc
  rw [h]
  rfl
theorem gcc_22 {E : gE} {kd : Nat × Nat} {I : Nat → Int32} {R : Nat → Option Nat} {L : Nat → Int64} (h : kd.1 = 22) : gc E kd I R L = some (.inr (27, [])) := by
  unfold gc
  rw [h]
  rfl
theorem gcc_23 {E : gE} {kd : Nat × Nat} {I : Nat → Int32} {R : Nat → Option Nat} {L : Nat → Int64} (h : kd.1 = 23) : gc E kd I R L = some (.inr (22, [.int (I 0), va_rf (R 1), .int (I 2)])) := by
  unfold gc
  rw [h]
  rfl
theorem gcc_25 {E : gE} {kd : Nat × Nat} {I : Nat → Int32} {R : Nat → Option Nat} {L : Nat → Int64} (h : kd.1 = 25) : gc E kd I R L = some (.inr (24, [va_rf (R 0), va_rf (R 1), va_rf (R 2), va_rf (R 3), va_rf (R 4)])) := by
  unfold gc
  rw [h]
  rfl
theorem gcc_26 {E : gE} {kd : Nat × Nat} {I : Nat → Int32} {R : Nat → Option Nat} {L : Nat → Int64} (h : kd.1 = 26) : gc E kd I R L = some (.inr (25, [va_rf (R 0), .int (I 1), .int (I 2), .int (I 3)])) := by
  unfold gc
  rw [h]
  rfl
theorem gcc_27 {E : gE} {kd : Nat × Nat} {I : Nat → Int32} {R : Nat → Option Nat} {L : Nat → Int64} (h : kd.1 = 27) : gc E kd I R L = some (.inr (26, [va_rf (R 0), va_rf (R 1), va_rf (R 2), va_rf (R 3), va_rf (R 4), .int (I 5)])) := by
  unfold gc
  rw [h]
  rfl
theorem gcc_28 {E : gE} {kd : Nat × Nat} {I : Nat → Int32} {R : Nat → Option Nat} {L : Nat → Int64} (h : kd.1 = 28) : gc E kd I R L = some (.inr (21, [va_rf (R 0), va_rf (R 1), va_rf (R 2), .int (I 3)])) := by
  unfold gc
  rw [h]
  rfl
theorem gcc_30 {E : gE} {kd : Nat × Nat} {I : Nat → Int32} {R : Nat → Option Nat} {L : Nat → Int64} (h : kd.1 = 30) : gc E kd I R L = some (.inr (23, [va_rf (R 0), .int (I 1), .int (I 2), .int (I 3)])) := by
  unfold gc
  rw [h]
  rfl
theorem gcc_40 {E : gE} {kd : Nat × Nat} {I : Nat → Int32} {R : Nat → Option Nat} {L : Nat → Int64} (h : kd.1 = 40) : gc E kd I R L = some (.inl (eC E 0, kd.2, .inl I)) := by
  unfold gc
  rw [h]
  rfl
theorem gcc_41 {E : gE} {kd : Nat × Nat} {I : Nat → Int32} {R : Nat → Option Nat} {L : Nat → Int64} (h : kd.1 = 41) : gc E kd I R L = some (.inl (eC E 1, kd.2, .inl I)) := by
  unfold gc
  rw [h]
  rfl
theorem gcc_43 {E : gE} {kd : Nat × Nat} {I : Nat → Int32} {R : Nat → Option Nat} {L : Nat → Int64} (h : kd.1 = 43) : gc E kd I R L = some (.inl (eC E 2, kd.2, .inr (.inr (.inr (.inr R))))) := by
  unfold gc
  rw [h]
  rfl
theorem gcc_45 {E : gE} {kd : Nat × Nat} {I : Nat → Int32} {R : Nat → Option Nat} {L : Nat → Int64} (h : kd.1 = 45) : gc E kd I R L = some (.inl (eC E 3, kd.2, .inr (.inr (.inr (.inr R))))) := by
  unfold gc
  rw [h]
  rfl
theorem gcc_46 {E : gE} {kd : Nat × Nat} {I : Nat → Int32} {R : Nat → Option Nat} {L : Nat → Int64} (h : kd.1 = 46) : gc E kd I R L = some (.inl (eC E 4, kd.2, .inr (.inr (.inr (.inr R))))) := by
  unfold gc
  rw [h]
  rfl
theorem gcc_47 {E : gE} {kd : Nat × Nat} {I : Nat → Int32} {R : Nat → Option Nat} {L : Nat → Int64} (h : kd.1 = 47) : gc E kd I R L = some (.inl (eC E 5, kd.2, .inr (.inr (.inr (.inr R))))) := by
  unfold gc
  rw [h]
  rfl
theorem gcc_48 {E : gE} {kd : Nat × Nat} {I : Nat → Int32} {R : Nat → Option Nat} {L : Nat → Int64} (h : kd.1 = 48) : gc E kd I R L = some (.inl (eC E 6, kd.2, .inr (.inl L))) := by
  unfold gc
  rw [h]
  rfl
theorem gcc_49 {E : gE} {kd : Nat × Nat} {I : Nat → Int32} {R : Nat → Option Nat} {L : Nat → Int64} (h : kd.1 = 49) : gc E kd I R L = some (.inl (eC E 7, kd.2, .inl I)) := by
  unfold gc
  rw [h]
  rfl
theorem gce_sI {E : gE} {g : GS} {a k : Nat} {v : Int32} : gcell E (sI g a k v) a = gc E (g.1 a) (upd (g.2.1 a) k v) (g.2.2.1 a) (g.2.2.2.1 a) := by
  show gc E (g.1 a) (va_up g.2.1 a (upd (g.2.1 a) k v) a) (g.2.2.1 a) (g.2.2.2.1 a) = _
  rw [va_up_self]
theorem gce_sR {E : gE} {g : GS} {a k : Nat} {v : Option Nat} : gcell E (sR g a k v) a = gc E (g.1 a) (g.2.1 a) (va_up (g.2.2.1 a) k v) (g.2.2.2.1 a) := by
  show gc E (g.1 a) (g.2.1 a) (va_up g.2.2.1 a (va_up (g.2.2.1 a) k v) a) (g.2.2.2.1 a) = _
  rw [va_up_self]
theorem gce_sL {E : gE} {g : GS} {a k : Nat} {v : Int64} : gcell E (sL g a k v) a = gc E (g.1 a) (g.2.1 a) (g.2.2.1 a) (vp_updL (g.2.2.2.1 a) k v) := by
  show gc E (g.1 a) (g.2.1 a) (g.2.2.1 a) (va_up g.2.2.2.1 a (vp_updL (g.2.2.2.1 a) k v) a) = _
  rw [va_up_self]
theorem gce_nw {E : gE} {g : GS} {t n ns : Nat} : gcell E (nw g t n ns) (gZ g) = gc E (t, n) (fun _ => 0) (fun _ => none) (fun _ => 0) := by
  show gc E (va_up g.1 (gZ g) (t, n) (gZ g)) (va_up g.2.1 (gZ g) _ (gZ g)) (va_up g.2.2.1 (gZ g) _ (gZ g)) (va_up g.2.2.2.1 (gZ g) _ (gZ g)) = _
  rw [va_up_self, va_up_self, va_up_self, va_up_self]
theorem rf_fit {ty : FieldType} (ho : ty.isReference = true) (o : Option Nat) : narrow ty (va_rf o) = va_rf o ∧ fits ty (va_rf o) = true := by
  cases o <;> cases ty <;> first | (cases ho; done) | exact ⟨rfl, rfl⟩
def zc {α : Type} (v : Int32) (k : Option α) : Option α := if (v.toUInt32 % 65536).toInt32 = v then k else none
def bq {β : Type} (o : Option Nat) (n : β) (k : Nat → β) : β := match o with
  | none => n
  | some x => k x
section BK3
variable {p : Program} {l : Launch} {e : Env} {R : Room} {s : State} {m : MethodId} {args : Array Value} {below : List Frame} {meth : Method} {c : Code} {H : Heap} {locs : List Loc} {cells slots : Nat} {Q : State → Prop}
variable {cc : ByteArray} {nL pc : Nat} {ls : Array Slot} {rest : List Value} {A : Nat → Prop} {E : gE} {LC LS : Nat} {g : GS} {a : Nat} {β : Type} {r : β}
theorem ggX1_21 {F : Nat → Option β} (S : CallFix p m c cc nL s args lw_all RX1) (X : gCtx E A s) (hw : gH E A LC LS s g H locs) (hd : decode cc pc = .ok (.getfield 21, 3)) (h : bd1 (oRn g a 1 1 0) F = some r) (kk : ∀ v, F v = some r → W p l e R s m args below meth c H locs cells slots Q (F0 m (pc + 3) ls (.ref v :: rest))) : W p l e R s m args below meth c H locs cells slots Q (F0 m pc ls (.ref a :: rest)) := by
  obtain ⟨v, h1, h2⟩ := bd1_some h
  obtain ⟨⟨c1, c2⟩, h3⟩ := oif h1
  have ht : (gK g a).1 = 1 := by omega
  exact va_get (D := eD E) (ci := 0) (C := RX1) (T := TX1) (N := 25) S.1 S.2.1 S.2.2.2.2 in_X1 S.2.2.2.1 X.1 (va_one (hw.1.2.1 _ _ (gcell_1 ht)).1) 0 rfl rfl 0 (by decide) (S.2.2.2.2 _ q368) (fun _ h9 => h9) (by show some (va_rf (gR g a 0)) = some (.ref v); rw [h3]; rfl) hd (kk _ h2)
theorem ggX1_21q {F : Option Nat → Option β} (S : CallFix p m c cc nL s args lw_all RX1) (X : gCtx E A s) (hw : gH E A LC LS s g H locs) (hd : decode cc pc = .ok (.getfield 21, 3)) (h : bd1 (oR g a 1 1 0) F = some r) (kk : ∀ v, F v = some r → W p l e R s m args below meth c H locs cells slots Q (F0 m (pc + 3) ls (va_rf v :: rest))) : W p l e R s m args below meth c H locs cells slots Q (F0 m pc ls (.ref a :: rest)) := by
  obtain ⟨v, h1, h2⟩ := bd1_some h
  obtain ⟨⟨c1, c2⟩, h3⟩ := oif h1
  have ht : (gK g a).1 = 1 := by omega
  cases h3
  exact va_get (D := eD E) (ci := 0) (C := RX1) (T := TX1) (N := 25) S.1 S.2.1 S.2.2.2.2 in_X1 S.2.2.2.1 X.1 (va_one (hw.1.2.1 _ _ (gcell_1 ht)).1) 0 rfl rfl 0 (by decide) (S.2.2.2.2 _ q368) (fun _ h9 => h9) rfl hd (kk _ h2)
theorem gpX1_21 {v : Option Nat} {F : GS → Option β} (S : CallFix p m c cc nL s args lw_all RX1) (X : gCtx E A s) (hw : gH E A LC LS s g H locs) (hin2 : meth.name = "<init>") (hd : decode cc pc = .ok (.putfield 21, 3)) (h : bd1 (pR g a 1 1 0 v) F = some r) (kk : ∀ (g1 : GS) (H : Heap) (locs : List Loc), F g1 = some r → gH E A LC LS s g1 H locs → W p l e R s m args below meth c H locs (H.size - s.heap.size) (tot H - tot s.heap) Q (F0 m (pc + 3) ls rest)) : W p l e R s m args below meth c H locs cells slots Q (F0 m pc ls (va_rf v :: .ref a :: rest)) := by
  obtain ⟨g1, h1, h2⟩ := bd1_some h
  obtain ⟨⟨c1, c2⟩, h3⟩ := oif h1
  cases h3
  have ht : (gK g a).1 = 1 := by omega
  have hc := gcell_1 (E := E) ht
  refine gb_putF (D := eD E) (ci := 0) (C := RX1) (T := TX1) (N := 25) (ty := tyX1 0) S.1 S.2.1 S.2.2.2.2 in_X1 tyX1 tyX1_ok nmX1 S.2.2.2.1 X.1 (hw.1.2.1 _ _ hc).1 rfl 0 (by decide) (S.2.2.2.2 _ q368) (fun _ h9 => h9) rfl hin2 rfl (tyX1_ok 0 (by decide)) (rf_fit rfl v).1 (rf_fit rfl v).2 (Nat.le_of_ble_eq_true rfl) hd (fun H1 k1 e1 z1 t1 o1 => ?_)
  exact W.canon (kk _ H1 _ h2 ⟨gB.sR hw.1 hc (gce_sR.trans (gcc_1 ht)) e1 z1 t1 o1 (by omega) (by omega), hw.2.put z1 o1 (hw.1.2.1 _ _ hc).2⟩)
theorem ggX1_28 {F : Nat → Option β} (S : CallFix p m c cc nL s args lw_all RX1) (X : gCtx E A s) (hw : gH E A LC LS s g H locs) (hd : decode cc pc = .ok (.getfield 28, 3)) (h : bd1 (oRn g a 1 1 1) F = some r) (kk : ∀ v, F v = some r → W p l e R s m args below meth c H locs cells slots Q (F0 m (pc + 3) ls (.ref v :: rest))) : W p l e R s m args below meth c H locs cells slots Q (F0 m pc ls (.ref a :: rest)) := by
  obtain ⟨v, h1, h2⟩ := bd1_some h
  obtain ⟨⟨c1, c2⟩, h3⟩ := oif h1
  have ht : (gK g a).1 = 1 := by omega
  exact va_get (D := eD E) (ci := 0) (C := RX1) (T := TX1) (N := 25) S.1 S.2.1 S.2.2.2.2 in_X1 S.2.2.2.1 X.1 (va_one (hw.1.2.1 _ _ (gcell_1 ht)).1) 0 rfl rfl 1 (by decide) (S.2.2.2.2 _ q369) (fun _ h9 => h9) (by show some (va_rf (gR g a 1)) = some (.ref v); rw [h3]; rfl) hd (kk _ h2)
theorem ggX1_28q {F : Option Nat → Option β} (S : CallFix p m c cc nL s args lw_all RX1) (X : gCtx E A s) (hw : gH E A LC LS s g H locs) (hd : decode cc pc = .ok (.getfield 28, 3)) (h : bd1 (oR g a 1 1 1) F = some r) (kk : ∀ v, F v = some r → W p l e R s m args below meth c H locs cells slots Q (F0 m (pc + 3) ls (va_rf v :: rest))) : W p l e R s m args below meth c H locs cells slots Q (F0 m pc ls (.ref a :: rest)) := by
  obtain ⟨v, h1, h2⟩ := bd1_some h
  obtain ⟨⟨c1, c2⟩, h3⟩ := oif h1
  have ht : (gK g a).1 = 1 := by omega
  cases h3
  exact va_get (D := eD E) (ci := 0) (C := RX1) (T := TX1) (N := 25) S.1 S.2.1 S.2.2.2.2 in_X1 S.2.2.2.1 X.1 (va_one (hw.1.2.1 _ _ (gcell_1 ht)).1) 0 rfl rfl 1 (by decide) (S.2.2.2.2 _ q369) (fun _ h9 => h9) rfl hd (kk _ h2)
theorem gpX1_28 {v : Option Nat} {F : GS → Option β} (S : CallFix p m c cc nL s args lw_all RX1) (X : gCtx E A s) (hw : gH E A LC LS s g H locs) (hin2 : meth.name = "<init>") (hd : decode cc pc = .ok (.putfield 28, 3)) (h : bd1 (pR g a 1 1 1 v) F = some r) (kk : ∀ (g1 : GS) (H : Heap) (locs : List Loc), F g1 = some r → gH E A LC LS s g1 H locs → W p l e R s m args below meth c H locs (H.size - s.heap.size) (tot H - tot s.heap) Q (F0 m (pc + 3) ls rest)) : W p l e R s m args below meth c H locs cells slots Q (F0 m pc ls (va_rf v :: .ref a :: rest)) := by
  obtain ⟨g1, h1, h2⟩ := bd1_some h
  obtain ⟨⟨c1, c2⟩, h3⟩ := oif h1
  cases h3
  have ht : (gK g a).1 = 1 := by omega
  have hc := gcell_1 (E := E) ht
  refine gb_putF (D := eD E) (ci := 0) (C := RX1) (T := TX1) (N := 25) (ty := tyX1 1) S.1 S.2.1 S.2.2.2.2 in_X1 tyX1 tyX1_ok nmX1 S.2.2.2.1 X.1 (hw.1.2.1 _ _ hc).1 rfl 1 (by decide) (S.2.2.2.2 _ q369) (fun _ h9 => h9) rfl hin2 rfl (tyX1_ok 1 (by decide)) (rf_fit rfl v).1 (rf_fit rfl v).2 (Nat.le_of_ble_eq_true rfl) hd (fun H1 k1 e1 z1 t1 o1 => ?_)
  exact W.canon (kk _ H1 _ h2 ⟨gB.sR hw.1 hc (gce_sR.trans (gcc_1 ht)) e1 z1 t1 o1 (by omega) (by omega), hw.2.put z1 o1 (hw.1.2.1 _ _ hc).2⟩)
theorem ggX1_35 {F : Nat → Option β} (S : CallFix p m c cc nL s args lw_all RX1) (X : gCtx E A s) (hw : gH E A LC LS s g H locs) (hd : decode cc pc = .ok (.getfield 35, 3)) (h : bd1 (oRn g a 1 1 2) F = some r) (kk : ∀ v, F v = some r → W p l e R s m args below meth c H locs cells slots Q (F0 m (pc + 3) ls (.ref v :: rest))) : W p l e R s m args below meth c H locs cells slots Q (F0 m pc ls (.ref a :: rest)) := by
  obtain ⟨v, h1, h2⟩ := bd1_some h
  obtain ⟨⟨c1, c2⟩, h3⟩ := oif h1
  have ht : (gK g a).1 = 1 := by omega
  exact va_get (D := eD E) (ci := 0) (C := RX1) (T := TX1) (N := 25) S.1 S.2.1 S.2.2.2.2 in_X1 S.2.2.2.1 X.1 (va_one (hw.1.2.1 _ _ (gcell_1 ht)).1) 0 rfl rfl 2 (by decide) (S.2.2.2.2 _ q371) (fun _ h9 => h9) (by show some (va_rf (gR g a 2)) = some (.ref v); rw [h3]; rfl) hd (kk _ h2)
theorem ggX1_35q {F : Option Nat → Option β} (S : CallFix p m c cc nL s args lw_all RX1) (X : gCtx E A s) (hw : gH E A LC LS s g H locs) (hd : decode cc pc = .ok (.getfield 35, 3)) (h : bd1 (oR g a 1 1 2) F = some r) (kk : ∀ v, F v = some r → W p l e R s m args below meth c H locs cells slots Q (F0 m (pc + 3) ls (va_rf v :: rest))) : W p l e R s m args below meth c H locs cells slots Q (F0 m pc ls (.ref a :: rest)) := by
  obtain ⟨v, h1, h2⟩ := bd1_some h
  obtain ⟨⟨c1, c2⟩, h3⟩ := oif h1
  have ht : (gK g a).1 = 1 := by omega
  cases h3
  exact va_get (D := eD E) (ci := 0) (C := RX1) (T := TX1) (N := 25) S.1 S.2.1 S.2.2.2.2 in_X1 S.2.2.2.1 X.1 (va_one (hw.1.2.1 _ _ (gcell_1 ht)).1) 0 rfl rfl 2 (by decide) (S.2.2.2.2 _ q371) (fun _ h9 => h9) rfl hd (kk _ h2)
theorem gpX1_35 {v : Option Nat} {F : GS → Option β} (S : CallFix p m c cc nL s args lw_all RX1) (X : gCtx E A s) (hw : gH E A LC LS s g H locs) (hd : decode cc pc = .ok (.putfield 35, 3)) (h : bd1 (pR g a 1 1 2 v) F = some r) (kk : ∀ (g1 : GS) (H : Heap) (locs : List Loc), F g1 = some r → gH E A LC LS s g1 H locs → W p l e R s m args below meth c H locs (H.size - s.heap.size) (tot H - tot s.heap) Q (F0 m (pc + 3) ls rest)) : W p l e R s m args below meth c H locs cells slots Q (F0 m pc ls (va_rf v :: .ref a :: rest)) := by
  obtain ⟨g1, h1, h2⟩ := bd1_some h
  obtain ⟨⟨c1, c2⟩, h3⟩ := oif h1
  cases h3
  have ht : (gK g a).1 = 1 := by omega
  have hc := gcell_1 (E := E) ht
  refine gb_put (D := eD E) (ci := 0) (C := RX1) (T := TX1) (N := 25) (ty := tyX1 2) S.1 S.2.1 S.2.2.2.2 in_X1 tyX1 tyX1_ok nmX1 S.2.2.2.1 X.1 (hw.1.2.1 _ _ hc).1 rfl 2 (by decide) (S.2.2.2.2 _ q371) (fun _ h9 => h9) rfl (tyX1_ok 2 (by decide)) (rf_fit rfl v).1 (rf_fit rfl v).2 (Nat.le_of_ble_eq_true rfl) hd (fun H1 k1 e1 z1 t1 o1 => ?_)
  exact W.canon (kk _ H1 _ h2 ⟨gB.sR hw.1 hc (gce_sR.trans (gcc_1 ht)) e1 z1 t1 o1 (by omega) (by omega), hw.2.put z1 o1 (hw.1.2.1 _ _ hc).2⟩)
theorem ggX1_44 {F : Nat → Option β} (S : CallFix p m c cc nL s args lw_all RX1) (X : gCtx E A s) (hw : gH E A LC LS s g H locs) (hd : decode cc pc = .ok (.getfield 44, 3)) (h : bd1 (oRn g a 1 1 3) F = some r) (kk : ∀ v, F v = some r → W p l e R s m args below meth c H locs cells slots Q (F0 m (pc + 3) ls (.ref v :: rest))) : W p l e R s m args below meth c H locs cells slots Q (F0 m pc ls (.ref a :: rest)) := by
  obtain ⟨v, h1, h2⟩ := bd1_some h
  obtain ⟨⟨c1, c2⟩, h3⟩ := oif h1
  have ht : (gK g a).1 = 1 := by omega
  exact va_get (D := eD E) (ci := 0) (C := RX1) (T := TX1) (N := 25) S.1 S.2.1 S.2.2.2.2 in_X1 S.2.2.2.1 X.1 (va_one (hw.1.2.1 _ _ (gcell_1 ht)).1) 0 rfl rfl 3 (by decide) (S.2.2.2.2 _ q372) (fun _ h9 => h9) (by show some (va_rf (gR g a 3)) = some (.ref v); rw [h3]; rfl) hd (kk _ h2)
theorem ggX1_44q {F : Option Nat → Option β} (S : CallFix p m c cc nL s args lw_all RX1) (X : gCtx E A s) (hw : gH E A LC LS s g H locs) (hd : decode cc pc = .ok (.getfield 44, 3)) (h : bd1 (oR g a 1 1 3) F = some r) (kk : ∀ v, F v = some r → W p l e R s m args below meth c H locs cells slots Q (F0 m (pc + 3) ls (va_rf v :: rest))) : W p l e R s m args below meth c H locs cells slots Q (F0 m pc ls (.ref a :: rest)) := by
  obtain ⟨v, h1, h2⟩ := bd1_some h
  obtain ⟨⟨c1, c2⟩, h3⟩ := oif h1
  have ht : (gK g a).1 = 1 := by omega
  cases h3
  exact va_get (D := eD E) (ci := 0) (C := RX1) (T := TX1) (N := 25) S.1 S.2.1 S.2.2.2.2 in_X1 S.2.2.2.1 X.1 (va_one (hw.1.2.1 _ _ (gcell_1 ht)).1) 0 rfl rfl 3 (by decide) (S.2.2.2.2 _ q372) (fun _ h9 => h9) rfl hd (kk _ h2)
theorem gpX1_44 {v : Option Nat} {F : GS → Option β} (S : CallFix p m c cc nL s args lw_all RX1) (X : gCtx E A s) (hw : gH E A LC LS s g H locs) (hd : decode cc pc = .ok (.putfield 44, 3)) (h : bd1 (pR g a 1 1 3 v) F = some r) (kk : ∀ (g1 : GS) (H : Heap) (locs : List Loc), F g1 = some r → gH E A LC LS s g1 H locs → W p l e R s m args below meth c H locs (H.size - s.heap.size) (tot H - tot s.heap) Q (F0 m (pc + 3) ls rest)) : W p l e R s m args below meth c H locs cells slots Q (F0 m pc ls (va_rf v :: .ref a :: rest)) := by
  obtain ⟨g1, h1, h2⟩ := bd1_some h
  obtain ⟨⟨c1, c2⟩, h3⟩ := oif h1
  cases h3
  have ht : (gK g a).1 = 1 := by omega
  have hc := gcell_1 (E := E) ht
  refine gb_put (D := eD E) (ci := 0) (C := RX1) (T := TX1) (N := 25) (ty := tyX1 3) S.1 S.2.1 S.2.2.2.2 in_X1 tyX1 tyX1_ok nmX1 S.2.2.2.1 X.1 (hw.1.2.1 _ _ hc).1 rfl 3 (by decide) (S.2.2.2.2 _ q372) (fun _ h9 => h9) rfl (tyX1_ok 3 (by decide)) (rf_fit rfl v).1 (rf_fit rfl v).2 (Nat.le_of_ble_eq_true rfl) hd (fun H1 k1 e1 z1 t1 o1 => ?_)
  exact W.canon (kk _ H1 _ h2 ⟨gB.sR hw.1 hc (gce_sR.trans (gcc_1 ht)) e1 z1 t1 o1 (by omega) (by omega), hw.2.put z1 o1 (hw.1.2.1 _ _ hc).2⟩)
theorem ggX1_51 {F : Nat → Option β} (S : CallFix p m c cc nL s args lw_all RX1) (X : gCtx E A s) (hw : gH E A LC LS s g H locs) (hd : decode cc pc = .ok (.getfield 51, 3)) (h : bd1 (oRn g a 1 1 4) F = some r) (kk : ∀ v, F v = some r → W p l e R s m args below meth c H locs cells slots Q (F0 m (pc + 3) ls (.ref v :: rest))) : W p l e R s m args below meth c H locs cells slots Q (F0 m pc ls (.ref a :: rest)) := by
  obtain ⟨v, h1, h2⟩ := bd1_some h
  obtain ⟨⟨c1, c2⟩, h3⟩ := oif h1
  have ht : (gK g a).1 = 1 := by omega
  exact va_get (D := eD E) (ci := 0) (C := RX1) (T := TX1) (N := 25) S.1 S.2.1 S.2.2.2.2 in_X1 S.2.2.2.1 X.1 (va_one (hw.1.2.1 _ _ (gcell_1 ht)).1) 0 rfl rfl 4 (by decide) (S.2.2.2.2 _ q373) (fun _ h9 => h9) (by show some (va_rf (gR g a 4)) = some (.ref v); rw [h3]; rfl) hd (kk _ h2)
theorem ggX1_51q {F : Option Nat → Option β} (S : CallFix p m c cc nL s args lw_all RX1) (X : gCtx E A s) (hw : gH E A LC LS s g H locs) (hd : decode cc pc = .ok (.getfield 51, 3)) (h : bd1 (oR g a 1 1 4) F = some r) (kk : ∀ v, F v = some r → W p l e R s m args below meth c H locs cells slots Q (F0 m (pc + 3) ls (va_rf v :: rest))) : W p l e R s m args below meth c H locs cells slots Q (F0 m pc ls (.ref a :: rest)) := by
  obtain ⟨v, h1, h2⟩ := bd1_some h
  obtain ⟨⟨c1, c2⟩, h3⟩ := oif h1
  have ht : (gK g a).1 = 1 := by omega
  cases h3
  exact va_get (D := eD E) (ci := 0) (C := RX1) (T := TX1) (N := 25) S.1 S.2.1 S.2.2.2.2 in_X1 S.2.2.2.1 X.1 (va_one (hw.1.2.1 _ _ (gcell_1 ht)).1) 0 rfl rfl 4 (by decide) (S.2.2.2.2 _ q373) (fun _ h9 => h9) rfl hd (kk _ h2)
theorem gpX1_51 {v : Option Nat} {F : GS → Option β} (S : CallFix p m c cc nL s args lw_all RX1) (X : gCtx E A s) (hw : gH E A LC LS s g H locs) (hin2 : meth.name = "<init>") (hd : decode cc pc = .ok (.putfield 51, 3)) (h : bd1 (pR g a 1 1 4 v) F = some r) (kk : ∀ (g1 : GS) (H : Heap) (locs : List Loc), F g1 = some r → gH E A LC LS s g1 H locs → W p l e R s m args below meth c H locs (H.size - s.heap.size) (tot H - tot s.heap) Q (F0 m (pc + 3) ls rest)) : W p l e R s m args below meth c H locs cells slots Q (F0 m pc ls (va_rf v :: .ref a :: rest)) := by
  obtain ⟨g1, h1, h2⟩ := bd1_some h
  obtain ⟨⟨c1, c2⟩, h3⟩ := oif h1
  cases h3
  have ht : (gK g a).1 = 1 := by omega
  have hc := gcell_1 (E := E) ht
  refine gb_putF (D := eD E) (ci := 0) (C := RX1) (T := TX1) (N := 25) (ty := tyX1 4) S.1 S.2.1 S.2.2.2.2 in_X1 tyX1 tyX1_ok nmX1 S.2.2.2.1 X.1 (hw.1.2.1 _ _ hc).1 rfl 4 (by decide) (S.2.2.2.2 _ q373) (fun _ h9 => h9) rfl hin2 rfl (tyX1_ok 4 (by decide)) (rf_fit rfl v).1 (rf_fit rfl v).2 (Nat.le_of_ble_eq_true rfl) hd (fun H1 k1 e1 z1 t1 o1 => ?_)
  exact W.canon (kk _ H1 _ h2 ⟨gB.sR hw.1 hc (gce_sR.trans (gcc_1 ht)) e1 z1 t1 o1 (by omega) (by omega), hw.2.put z1 o1 (hw.1.2.1 _ _ hc).2⟩)
theorem ggX1_55 {F : Nat → Option β} (S : CallFix p m c cc nL s args lw_all RX1) (X : gCtx E A s) (hw : gH E A LC LS s g H locs) (hd : decode cc pc = .ok (.getfield 55, 3)) (h : bd1 (oRn g a 1 1 5) F = some r) (kk : ∀ v, F v = some r → W p l e R s m args below meth c H locs cells slots Q (F0 m (pc + 3) ls (.ref v :: rest))) : W p l e R s m args below meth c H locs cells slots Q (F0 m pc ls (.ref a :: rest)) := by
  obtain ⟨v, h1, h2⟩ := bd1_some h
  obtain ⟨⟨c1, c2⟩, h3⟩ := oif h1
  have ht : (gK g a).1 = 1 := by omega
  exact va_get (D := eD E) (ci := 0) (C := RX1) (T := TX1) (N := 25) S.1 S.2.1 S.2.2.2.2 in_X1 S.2.2.2.1 X.1 (va_one (hw.1.2.1 _ _ (gcell_1 ht)).1) 0 rfl rfl 5 (by decide) (S.2.2.2.2 _ q374) (fun _ h9 => h9) (by show some (va_rf (gR g a 5)) = some (.ref v); rw [h3]; rfl) hd (kk _ h2)
theorem ggX1_55q {F : Option Nat → Option β} (S : CallFix p m c cc nL s args lw_all RX1) (X : gCtx E A s) (hw : gH E A LC LS s g H locs) (hd : decode cc pc = .ok (.getfield 55, 3)) (h : bd1 (oR g a 1 1 5) F = some r) (kk : ∀ v, F v = some r → W p l e R s m args below meth c H locs cells slots Q (F0 m (pc + 3) ls (va_rf v :: rest))) : W p l e R s m args below meth c H locs cells slots Q (F0 m pc ls (.ref a :: rest)) := by
  obtain ⟨v, h1, h2⟩ := bd1_some h
  obtain ⟨⟨c1, c2⟩, h3⟩ := oif h1
  have ht : (gK g a).1 = 1 := by omega
  cases h3
  exact va_get (D := eD E) (ci := 0) (C := RX1) (T := TX1) (N := 25) S.1 S.2.1 S.2.2.2.2 in_X1 S.2.2.2.1 X.1 (va_one (hw.1.2.1 _ _ (gcell_1 ht)).1) 0 rfl rfl 5 (by decide) (S.2.2.2.2 _ q374) (fun _ h9 => h9) rfl hd (kk _ h2)
theorem gpX1_55 {v : Option Nat} {F : GS → Option β} (S : CallFix p m c cc nL s args lw_all RX1) (X : gCtx E A s) (hw : gH E A LC LS s g H locs) (hin2 : meth.name = "<init>") (hd : decode cc pc = .ok (.putfield 55, 3)) (h : bd1 (pR g a 1 1 5 v) F = some r) (kk : ∀ (g1 : GS) (H : Heap) (locs : List Loc), F g1 = some r → gH E A LC LS s g1 H locs → W p l e R s m args below meth c H locs (H.size - s.heap.size) (tot H - tot s.heap) Q (F0 m (pc + 3) ls rest)) : W p l e R s m args below meth c H locs cells slots Q (F0 m pc ls (va_rf v :: .ref a :: rest)) := by
  obtain ⟨g1, h1, h2⟩ := bd1_some h
  obtain ⟨⟨c1, c2⟩, h3⟩ := oif h1
  cases h3
  have ht : (gK g a).1 = 1 := by omega
  have hc := gcell_1 (E := E) ht
  refine gb_putF (D := eD E) (ci := 0) (C := RX1) (T := TX1) (N := 25) (ty := tyX1 5) S.1 S.2.1 S.2.2.2.2 in_X1 tyX1 tyX1_ok nmX1 S.2.2.2.1 X.1 (hw.1.2.1 _ _ hc).1 rfl 5 (by decide) (S.2.2.2.2 _ q374) (fun _ h9 => h9) rfl hin2 rfl (tyX1_ok 5 (by decide)) (rf_fit rfl v).1 (rf_fit rfl v).2 (Nat.le_of_ble_eq_true rfl) hd (fun H1 k1 e1 z1 t1 o1 => ?_)
  exact W.canon (kk _ H1 _ h2 ⟨gB.sR hw.1 hc (gce_sR.trans (gcc_1 ht)) e1 z1 t1 o1 (by omega) (by omega), hw.2.put z1 o1 (hw.1.2.1 _ _ hc).2⟩)
theorem ggX1_58 {F : Nat → Option β} (S : CallFix p m c cc nL s args lw_all RX1) (X : gCtx E A s) (hw : gH E A LC LS s g H locs) (hd : decode cc pc = .ok (.getfield 58, 3)) (h : bd1 (oRn g a 1 1 6) F = some r) (kk : ∀ v, F v = some r → W p l e R s m args below meth c H locs cells slots Q (F0 m (pc + 3) ls (.ref v :: rest))) : W p l e R s m args below meth c H locs cells slots Q (F0 m pc ls (.ref a :: rest)) := by
  obtain ⟨v, h1, h2⟩ := bd1_some h
  obtain ⟨⟨c1, c2⟩, h3⟩ := oif h1
  have ht : (gK g a).1 = 1 := by omega
  exact va_get (D := eD E) (ci := 0) (C := RX1) (T := TX1) (N := 25) S.1 S.2.1 S.2.2.2.2 in_X1 S.2.2.2.1 X.1 (va_one (hw.1.2.1 _ _ (gcell_1 ht)).1) 0 rfl rfl 6 (by decide) (S.2.2.2.2 _ q375) (fun _ h9 => h9) (by show some (va_rf (gR g a 6)) = some (.ref v); rw [h3]; rfl) hd (kk _ h2)
theorem ggX1_58q {F : Option Nat → Option β} (S : CallFix p m c cc nL s args lw_all RX1) (X : gCtx E A s) (hw : gH E A LC LS s g H locs) (hd : decode cc pc = .ok (.getfield 58, 3)) (h : bd1 (oR g a 1 1 6) F = some r) (kk : ∀ v, F v = some r → W p l e R s m args below meth c H locs cells slots Q (F0 m (pc + 3) ls (va_rf v :: rest))) : W p l e R s m args below meth c H locs cells slots Q (F0 m pc ls (.ref a :: rest)) := by
  obtain ⟨v, h1, h2⟩ := bd1_some h
  obtain ⟨⟨c1, c2⟩, h3⟩ := oif h1
  have ht : (gK g a).1 = 1 := by omega
  cases h3
  exact va_get (D := eD E) (ci := 0) (C := RX1) (T := TX1) (N := 25) S.1 S.2.1 S.2.2.2.2 in_X1 S.2.2.2.1 X.1 (va_one (hw.1.2.1 _ _ (gcell_1 ht)).1) 0 rfl rfl 6 (by decide) (S.2.2.2.2 _ q375) (fun _ h9 => h9) rfl hd (kk _ h2)
theorem gpX1_58 {v : Option Nat} {F : GS → Option β} (S : CallFix p m c cc nL s args lw_all RX1) (X : gCtx E A s) (hw : gH E A LC LS s g H locs) (hin2 : meth.name = "<init>") (hd : decode cc pc = .ok (.putfield 58, 3)) (h : bd1 (pR g a 1 1 6 v) F = some r) (kk : ∀ (g1 : GS) (H : Heap) (locs : List Loc), F g1 = some r → gH E A LC LS s g1 H locs → W p l e R s m args below meth c H locs (H.size - s.heap.size) (tot H - tot s.heap) Q (F0 m (pc + 3) ls rest)) : W p l e R s m args below meth c H locs cells slots Q (F0 m pc ls (va_rf v :: .ref a :: rest)) := by
  obtain ⟨g1, h1, h2⟩ := bd1_some h
  obtain ⟨⟨c1, c2⟩, h3⟩ := oif h1
  cases h3
  have ht : (gK g a).1 = 1 := by omega
  have hc := gcell_1 (E := E) ht
  refine gb_putF (D := eD E) (ci := 0) (C := RX1) (T := TX1) (N := 25) (ty := tyX1 6) S.1 S.2.1 S.2.2.2.2 in_X1 tyX1 tyX1_ok nmX1 S.2.2.2.1 X.1 (hw.1.2.1 _ _ hc).1 rfl 6 (by decide) (S.2.2.2.2 _ q375) (fun _ h9 => h9) rfl hin2 rfl (tyX1_ok 6 (by decide)) (rf_fit rfl v).1 (rf_fit rfl v).2 (Nat.le_of_ble_eq_true rfl) hd (fun H1 k1 e1 z1 t1 o1 => ?_)
  exact W.canon (kk _ H1 _ h2 ⟨gB.sR hw.1 hc (gce_sR.trans (gcc_1 ht)) e1 z1 t1 o1 (by omega) (by omega), hw.2.put z1 o1 (hw.1.2.1 _ _ hc).2⟩)
theorem ggX1_62 {F : Nat → Option β} (S : CallFix p m c cc nL s args lw_all RX1) (X : gCtx E A s) (hw : gH E A LC LS s g H locs) (hd : decode cc pc = .ok (.getfield 62, 3)) (h : bd1 (oRn g a 1 1 8) F = some r) (kk : ∀ v, F v = some r → W p l e R s m args below meth c H locs cells slots Q (F0 m (pc + 3) ls (.ref v :: rest))) : W p l e R s m args below meth c H locs cells slots Q (F0 m pc ls (.ref a :: rest)) := by
  obtain ⟨v, h1, h2⟩ := bd1_some h
  obtain ⟨⟨c1, c2⟩, h3⟩ := oif h1
  have ht : (gK g a).1 = 1 := by omega
  exact va_get (D := eD E) (ci := 0) (C := RX1) (T := TX1) (N := 25) S.1 S.2.1 S.2.2.2.2 in_X1 S.2.2.2.1 X.1 (va_one (hw.1.2.1 _ _ (gcell_1 ht)).1) 0 rfl rfl 8 (by decide) (S.2.2.2.2 _ q377) (fun _ h9 => h9) (by show some (va_rf (gR g a 8)) = some (.ref v); rw [h3]; rfl) hd (kk _ h2)
theorem ggX1_62q {F : Option Nat → Option β} (S : CallFix p m c cc nL s args lw_all RX1) (X : gCtx E A s) (hw : gH E A LC LS s g H locs) (hd : decode cc pc = .ok (.getfield 62, 3)) (h : bd1 (oR g a 1 1 8) F = some r) (kk : ∀ v, F v = some r → W p l e R s m args below meth c H locs cells slots Q (F0 m (pc + 3) ls (va_rf v :: rest))) : W p l e R s m args below meth c H locs cells slots Q (F0 m pc ls (.ref a :: rest)) := by
  obtain ⟨v, h1, h2⟩ := bd1_some h
  obtain ⟨⟨c1, c2⟩, h3⟩ := oif h1
  have ht : (gK g a).1 = 1 := by omega
  cases h3
  exact va_get (D := eD E) (ci := 0) (C := RX1) (T := TX1) (N := 25) S.1 S.2.1 S.2.2.2.2 in_X1 S.2.2.2.1 X.1 (va_one (hw.1.2.1 _ _ (gcell_1 ht)).1) 0 rfl rfl 8 (by decide) (S.2.2.2.2 _ q377) (fun _ h9 => h9) rfl hd (kk _ h2)
theorem gpX1_62 {v : Option Nat} {F : GS → Option β} (S : CallFix p m c cc nL s args lw_all RX1) (X : gCtx E A s) (hw : gH E A LC LS s g H locs) (hin2 : meth.name = "<init>") (hd : decode cc pc = .ok (.putfield 62, 3)) (h : bd1 (pR g a 1 1 8 v) F = some r) (kk : ∀ (g1 : GS) (H : Heap) (locs : List Loc), F g1 = some r → gH E A LC LS s g1 H locs → W p l e R s m args below meth c H locs (H.size - s.heap.size) (tot H - tot s.heap) Q (F0 m (pc + 3) ls rest)) : W p l e R s m args below meth c H locs cells slots Q (F0 m pc ls (va_rf v :: .ref a :: rest)) := by
  obtain ⟨g1, h1, h2⟩ := bd1_some h
  obtain ⟨⟨c1, c2⟩, h3⟩ := oif h1
  cases h3
  have ht : (gK g a).1 = 1 := by omega
  have hc := gcell_1 (E := E) ht
  refine gb_putF (D := eD E) (ci := 0) (C := RX1) (T := TX1) (N := 25) (ty := tyX1 8) S.1 S.2.1 S.2.2.2.2 in_X1 tyX1 tyX1_ok nmX1 S.2.2.2.1 X.1 (hw.1.2.1 _ _ hc).1 rfl 8 (by decide) (S.2.2.2.2 _ q377) (fun _ h9 => h9) rfl hin2 rfl (tyX1_ok 8 (by decide)) (rf_fit rfl v).1 (rf_fit rfl v).2 (Nat.le_of_ble_eq_true rfl) hd (fun H1 k1 e1 z1 t1 o1 => ?_)
  exact W.canon (kk _ H1 _ h2 ⟨gB.sR hw.1 hc (gce_sR.trans (gcc_1 ht)) e1 z1 t1 o1 (by omega) (by omega), hw.2.put z1 o1 (hw.1.2.1 _ _ hc).2⟩)
theorem ggX1_66 {F : Nat → Option β} (S : CallFix p m c cc nL s args lw_all RX1) (X : gCtx E A s) (hw : gH E A LC LS s g H locs) (hd : decode cc pc = .ok (.getfield 66, 3)) (h : bd1 (oRn g a 1 1 10) F = some r) (kk : ∀ v, F v = some r → W p l e R s m args below meth c H locs cells slots Q (F0 m (pc + 3) ls (.ref v :: rest))) : W p l e R s m args below meth c H locs cells slots Q (F0 m pc ls (.ref a :: rest)) := by
  obtain ⟨v, h1, h2⟩ := bd1_some h
  obtain ⟨⟨c1, c2⟩, h3⟩ := oif h1
  have ht : (gK g a).1 = 1 := by omega
  exact va_get (D := eD E) (ci := 0) (C := RX1) (T := TX1) (N := 25) S.1 S.2.1 S.2.2.2.2 in_X1 S.2.2.2.1 X.1 (va_one (hw.1.2.1 _ _ (gcell_1 ht)).1) 0 rfl rfl 10 (by decide) (S.2.2.2.2 _ q379) (fun _ h9 => h9) (by show some (va_rf (gR g a 10)) = some (.ref v); rw [h3]; rfl) hd (kk _ h2)
theorem ggX1_66q {F : Option Nat → Option β} (S : CallFix p m c cc nL s args lw_all RX1) (X : gCtx E A s) (hw : gH E A LC LS s g H locs) (hd : decode cc pc = .ok (.getfield 66, 3)) (h : bd1 (oR g a 1 1 10) F = some r) (kk : ∀ v, F v = some r → W p l e R s m args below meth c H locs cells slots Q (F0 m (pc + 3) ls (va_rf v :: rest))) : W p l e R s m args below meth c H locs cells slots Q (F0 m pc ls (.ref a :: rest)) := by
  obtain ⟨v, h1, h2⟩ := bd1_some h
  obtain ⟨⟨c1, c2⟩, h3⟩ := oif h1
  have ht : (gK g a).1 = 1 := by omega
  cases h3
  exact va_get (D := eD E) (ci := 0) (C := RX1) (T := TX1) (N := 25) S.1 S.2.1 S.2.2.2.2 in_X1 S.2.2.2.1 X.1 (va_one (hw.1.2.1 _ _ (gcell_1 ht)).1) 0 rfl rfl 10 (by decide) (S.2.2.2.2 _ q379) (fun _ h9 => h9) rfl hd (kk _ h2)
theorem gpX1_66 {v : Option Nat} {F : GS → Option β} (S : CallFix p m c cc nL s args lw_all RX1) (X : gCtx E A s) (hw : gH E A LC LS s g H locs) (hin2 : meth.name = "<init>") (hd : decode cc pc = .ok (.putfield 66, 3)) (h : bd1 (pR g a 1 1 10 v) F = some r) (kk : ∀ (g1 : GS) (H : Heap) (locs : List Loc), F g1 = some r → gH E A LC LS s g1 H locs → W p l e R s m args below meth c H locs (H.size - s.heap.size) (tot H - tot s.heap) Q (F0 m (pc + 3) ls rest)) : W p l e R s m args below meth c H locs cells slots Q (F0 m pc ls (va_rf v :: .ref a :: rest)) := by
  obtain ⟨g1, h1, h2⟩ := bd1_some h
  obtain ⟨⟨c1, c2⟩, h3⟩ := oif h1
  cases h3
  have ht : (gK g a).1 = 1 := by omega
  have hc := gcell_1 (E := E) ht
  refine gb_putF (D := eD E) (ci := 0) (C := RX1) (T := TX1) (N := 25) (ty := tyX1 10) S.1 S.2.1 S.2.2.2.2 in_X1 tyX1 tyX1_ok nmX1 S.2.2.2.1 X.1 (hw.1.2.1 _ _ hc).1 rfl 10 (by decide) (S.2.2.2.2 _ q379) (fun _ h9 => h9) rfl hin2 rfl (tyX1_ok 10 (by decide)) (rf_fit rfl v).1 (rf_fit rfl v).2 (Nat.le_of_ble_eq_true rfl) hd (fun H1 k1 e1 z1 t1 o1 => ?_)
  exact W.canon (kk _ H1 _ h2 ⟨gB.sR hw.1 hc (gce_sR.trans (gcc_1 ht)) e1 z1 t1 o1 (by omega) (by omega), hw.2.put z1 o1 (hw.1.2.1 _ _ hc).2⟩)
theorem ggX1_69 {F : Nat → Option β} (S : CallFix p m c cc nL s args lw_all RX1) (X : gCtx E A s) (hw : gH E A LC LS s g H locs) (hd : decode cc pc = .ok (.getfield 69, 3)) (h : bd1 (oRn g a 1 1 11) F = some r) (kk : ∀ v, F v = some r → W p l e R s m args below meth c H locs cells slots Q (F0 m (pc + 3) ls (.ref v :: rest))) : W p l e R s m args below meth c H locs cells slots Q (F0 m pc ls (.ref a :: rest)) := by
  obtain ⟨v, h1, h2⟩ := bd1_some h
  obtain ⟨⟨c1, c2⟩, h3⟩ := oif h1
  have ht : (gK g a).1 = 1 := by omega
  exact va_get (D := eD E) (ci := 0) (C := RX1) (T := TX1) (N := 25) S.1 S.2.1 S.2.2.2.2 in_X1 S.2.2.2.1 X.1 (va_one (hw.1.2.1 _ _ (gcell_1 ht)).1) 0 rfl rfl 11 (by decide) (S.2.2.2.2 _ q380) (fun _ h9 => h9) (by show some (va_rf (gR g a 11)) = some (.ref v); rw [h3]; rfl) hd (kk _ h2)
theorem ggX1_69q {F : Option Nat → Option β} (S : CallFix p m c cc nL s args lw_all RX1) (X : gCtx E A s) (hw : gH E A LC LS s g H locs) (hd : decode cc pc = .ok (.getfield 69, 3)) (h : bd1 (oR g a 1 1 11) F = some r) (kk : ∀ v, F v = some r → W p l e R s m args below meth c H locs cells slots Q (F0 m (pc + 3) ls (va_rf v :: rest))) : W p l e R s m args below meth c H locs cells slots Q (F0 m pc ls (.ref a :: rest)) := by
  obtain ⟨v, h1, h2⟩ := bd1_some h
  obtain ⟨⟨c1, c2⟩, h3⟩ := oif h1
  have ht : (gK g a).1 = 1 := by omega
  cases h3
  exact va_get (D := eD E) (ci := 0) (C := RX1) (T := TX1) (N := 25) S.1 S.2.1 S.2.2.2.2 in_X1 S.2.2.2.1 X.1 (va_one (hw.1.2.1 _ _ (gcell_1 ht)).1) 0 rfl rfl 11 (by decide) (S.2.2.2.2 _ q380) (fun _ h9 => h9) rfl hd (kk _ h2)
theorem gpX1_69 {v : Option Nat} {F : GS → Option β} (S : CallFix p m c cc nL s args lw_all RX1) (X : gCtx E A s) (hw : gH E A LC LS s g H locs) (hin2 : meth.name = "<init>") (hd : decode cc pc = .ok (.putfield 69, 3)) (h : bd1 (pR g a 1 1 11 v) F = some r) (kk : ∀ (g1 : GS) (H : Heap) (locs : List Loc), F g1 = some r → gH E A LC LS s g1 H locs → W p l e R s m args below meth c H locs (H.size - s.heap.size) (tot H - tot s.heap) Q (F0 m (pc + 3) ls rest)) : W p l e R s m args below meth c H locs cells slots Q (F0 m pc ls (va_rf v :: .ref a :: rest)) := by
  obtain ⟨g1, h1, h2⟩ := bd1_some h
  obtain ⟨⟨c1, c2⟩, h3⟩ := oif h1
  cases h3
  have ht : (gK g a).1 = 1 := by omega
  have hc := gcell_1 (E := E) ht
  refine gb_putF (D := eD E) (ci := 0) (C := RX1) (T := TX1) (N := 25) (ty := tyX1 11) S.1 S.2.1 S.2.2.2.2 in_X1 tyX1 tyX1_ok nmX1 S.2.2.2.1 X.1 (hw.1.2.1 _ _ hc).1 rfl 11 (by decide) (S.2.2.2.2 _ q380) (fun _ h9 => h9) rfl hin2 rfl (tyX1_ok 11 (by decide)) (rf_fit rfl v).1 (rf_fit rfl v).2 (Nat.le_of_ble_eq_true rfl) hd (fun H1 k1 e1 z1 t1 o1 => ?_)
  exact W.canon (kk _ H1 _ h2 ⟨gB.sR hw.1 hc (gce_sR.trans (gcc_1 ht)) e1 z1 t1 o1 (by omega) (by omega), hw.2.put z1 o1 (hw.1.2.1 _ _ hc).2⟩)
theorem ggX1_72 {F : Nat → Option β} (S : CallFix p m c cc nL s args lw_all RX1) (X : gCtx E A s) (hw : gH E A LC LS s g H locs) (hd : decode cc pc = .ok (.getfield 72, 3)) (h : bd1 (oRn g a 1 1 13) F = some r) (kk : ∀ v, F v = some r → W p l e R s m args below meth c H locs cells slots Q (F0 m (pc + 3) ls (.ref v :: rest))) : W p l e R s m args below meth c H locs cells slots Q (F0 m pc ls (.ref a :: rest)) := by
  obtain ⟨v, h1, h2⟩ := bd1_some h
  obtain ⟨⟨c1, c2⟩, h3⟩ := oif h1
  have ht : (gK g a).1 = 1 := by omega
  exact va_get (D := eD E) (ci := 0) (C := RX1) (T := TX1) (N := 25) S.1 S.2.1 S.2.2.2.2 in_X1 S.2.2.2.1 X.1 (va_one (hw.1.2.1 _ _ (gcell_1 ht)).1) 0 rfl rfl 13 (by decide) (S.2.2.2.2 _ q382) (fun _ h9 => h9) (by show some (va_rf (gR g a 13)) = some (.ref v); rw [h3]; rfl) hd (kk _ h2)
theorem ggX1_72q {F : Option Nat → Option β} (S : CallFix p m c cc nL s args lw_all RX1) (X : gCtx E A s) (hw : gH E A LC LS s g H locs) (hd : decode cc pc = .ok (.getfield 72, 3)) (h : bd1 (oR g a 1 1 13) F = some r) (kk : ∀ v, F v = some r → W p l e R s m args below meth c H locs cells slots Q (F0 m (pc + 3) ls (va_rf v :: rest))) : W p l e R s m args below meth c H locs cells slots Q (F0 m pc ls (.ref a :: rest)) := by
  obtain ⟨v, h1, h2⟩ := bd1_some h
  obtain ⟨⟨c1, c2⟩, h3⟩ := oif h1
  have ht : (gK g a).1 = 1 := by omega
  cases h3
  exact va_get (D := eD E) (ci := 0) (C := RX1) (T := TX1) (N := 25) S.1 S.2.1 S.2.2.2.2 in_X1 S.2.2.2.1 X.1 (va_one (hw.1.2.1 _ _ (gcell_1 ht)).1) 0 rfl rfl 13 (by decide) (S.2.2.2.2 _ q382) (fun _ h9 => h9) rfl hd (kk _ h2)
theorem gpX1_72 {v : Option Nat} {F : GS → Option β} (S : CallFix p m c cc nL s args lw_all RX1) (X : gCtx E A s) (hw : gH E A LC LS s g H locs) (hin2 : meth.name = "<init>") (hd : decode cc pc = .ok (.putfield 72, 3)) (h : bd1 (pR g a 1 1 13 v) F = some r) (kk : ∀ (g1 : GS) (H : Heap) (locs : List Loc), F g1 = some r → gH E A LC LS s g1 H locs → W p l e R s m args below meth c H locs (H.size - s.heap.size) (tot H - tot s.heap) Q (F0 m (pc + 3) ls rest)) : W p l e R s m args below meth c H locs cells slots Q (F0 m pc ls (va_rf v :: .ref a :: rest)) := by
  obtain ⟨g1, h1, h2⟩ := bd1_some h
  obtain ⟨⟨c1, c2⟩, h3⟩ := oif h1
  cases h3
  have ht : (gK g a).1 = 1 := by omega
  have hc := gcell_1 (E := E) ht
  refine gb_putF (D := eD E) (ci := 0) (C := RX1) (T := TX1) (N := 25) (ty := tyX1 13) S.1 S.2.1 S.2.2.2.2 in_X1 tyX1 tyX1_ok nmX1 S.2.2.2.1 X.1 (hw.1.2.1 _ _ hc).1 rfl 13 (by decide) (S.2.2.2.2 _ q382) (fun _ h9 => h9) rfl hin2 rfl (tyX1_ok 13 (by decide)) (rf_fit rfl v).1 (rf_fit rfl v).2 (Nat.le_of_ble_eq_true rfl) hd (fun H1 k1 e1 z1 t1 o1 => ?_)
  exact W.canon (kk _ H1 _ h2 ⟨gB.sR hw.1 hc (gce_sR.trans (gcc_1 ht)) e1 z1 t1 o1 (by omega) (by omega), hw.2.put z1 o1 (hw.1.2.1 _ _ hc).2⟩)
theorem ggX1_75 {F : Nat → Option β} (S : CallFix p m c cc nL s args lw_all RX1) (X : gCtx E A s) (hw : gH E A LC LS s g H locs) (hd : decode cc pc = .ok (.getfield 75, 3)) (h : bd1 (oRn g a 1 1 14) F = some r) (kk : ∀ v, F v = some r → W p l e R s m args below meth c H locs cells slots Q (F0 m (pc + 3) ls (.ref v :: rest))) : W p l e R s m args below meth c H locs cells slots Q (F0 m pc ls (.ref a :: rest)) := by
  obtain ⟨v, h1, h2⟩ := bd1_some h
  obtain ⟨⟨c1, c2⟩, h3⟩ := oif h1
  have ht : (gK g a).1 = 1 := by omega
  exact va_get (D := eD E) (ci := 0) (C := RX1) (T := TX1) (N := 25) S.1 S.2.1 S.2.2.2.2 in_X1 S.2.2.2.1 X.1 (va_one (hw.1.2.1 _ _ (gcell_1 ht)).1) 0 rfl rfl 14 (by decide) (S.2.2.2.2 _ q383) (fun _ h9 => h9) (by show some (va_rf (gR g a 14)) = some (.ref v); rw [h3]; rfl) hd (kk _ h2)
theorem ggX1_75q {F : Option Nat → Option β} (S : CallFix p m c cc nL s args lw_all RX1) (X : gCtx E A s) (hw : gH E A LC LS s g H locs) (hd : decode cc pc = .ok (.getfield 75, 3)) (h : bd1 (oR g a 1 1 14) F = some r) (kk : ∀ v, F v = some r → W p l e R s m args below meth c H locs cells slots Q (F0 m (pc + 3) ls (va_rf v :: rest))) : W p l e R s m args below meth c H locs cells slots Q (F0 m pc ls (.ref a :: rest)) := by
  obtain ⟨v, h1, h2⟩ := bd1_some h
  obtain ⟨⟨c1, c2⟩, h3⟩ := oif h1
  have ht : (gK g a).1 = 1 := by omega
  cases h3
  exact va_get (D := eD E) (ci := 0) (C := RX1) (T := TX1) (N := 25) S.1 S.2.1 S.2.2.2.2 in_X1 S.2.2.2.1 X.1 (va_one (hw.1.2.1 _ _ (gcell_1 ht)).1) 0 rfl rfl 14 (by decide) (S.2.2.2.2 _ q383) (fun _ h9 => h9) rfl hd (kk _ h2)
theorem gpX1_75 {v : Option Nat} {F : GS → Option β} (S : CallFix p m c cc nL s args lw_all RX1) (X : gCtx E A s) (hw : gH E A LC LS s g H locs) (hin2 : meth.name = "<init>") (hd : decode cc pc = .ok (.putfield 75, 3)) (h : bd1 (pR g a 1 1 14 v) F = some r) (kk : ∀ (g1 : GS) (H : Heap) (locs : List Loc), F g1 = some r → gH E A LC LS s g1 H locs → W p l e R s m args below meth c H locs (H.size - s.heap.size) (tot H - tot s.heap) Q (F0 m (pc + 3) ls rest)) : W p l e R s m args below meth c H locs cells slots Q (F0 m pc ls (va_rf v :: .ref a :: rest)) := by
  obtain ⟨g1, h1, h2⟩ := bd1_some h
  obtain ⟨⟨c1, c2⟩, h3⟩ := oif h1
  cases h3
  have ht : (gK g a).1 = 1 := by omega
  have hc := gcell_1 (E := E) ht
  refine gb_putF (D := eD E) (ci := 0) (C := RX1) (T := TX1) (N := 25) (ty := tyX1 14) S.1 S.2.1 S.2.2.2.2 in_X1 tyX1 tyX1_ok nmX1 S.2.2.2.1 X.1 (hw.1.2.1 _ _ hc).1 rfl 14 (by decide) (S.2.2.2.2 _ q383) (fun _ h9 => h9) rfl hin2 rfl (tyX1_ok 14 (by decide)) (rf_fit rfl v).1 (rf_fit rfl v).2 (Nat.le_of_ble_eq_true rfl) hd (fun H1 k1 e1 z1 t1 o1 => ?_)
  exact W.canon (kk _ H1 _ h2 ⟨gB.sR hw.1 hc (gce_sR.trans (gcc_1 ht)) e1 z1 t1 o1 (by omega) (by omega), hw.2.put z1 o1 (hw.1.2.1 _ _ hc).2⟩)
theorem ggX1_78 {F : Nat → Option β} (S : CallFix p m c cc nL s args lw_all RX1) (X : gCtx E A s) (hw : gH E A LC LS s g H locs) (hd : decode cc pc = .ok (.getfield 78, 3)) (h : bd1 (oRn g a 1 1 15) F = some r) (kk : ∀ v, F v = some r → W p l e R s m args below meth c H locs cells slots Q (F0 m (pc + 3) ls (.ref v :: rest))) : W p l e R s m args below meth c H locs cells slots Q (F0 m pc ls (.ref a :: rest)) := by
  obtain ⟨v, h1, h2⟩ := bd1_some h
  obtain ⟨⟨c1, c2⟩, h3⟩ := oif h1
  have ht : (gK g a).1 = 1 := by omega
  exact va_get (D := eD E) (ci := 0) (C := RX1) (T := TX1) (N := 25) S.1 S.2.1 S.2.2.2.2 in_X1 S.2.2.2.1 X.1 (va_one (hw.1.2.1 _ _ (gcell_1 ht)).1) 0 rfl rfl 15 (by decide) (S.2.2.2.2 _ q384) (fun _ h9 => h9) (by show some (va_rf (gR g a 15)) = some (.ref v); rw [h3]; rfl) hd (kk _ h2)
theorem ggX1_78q {F : Option Nat → Option β} (S : CallFix p m c cc nL s args lw_all RX1) (X : gCtx E A s) (hw : gH E A LC LS s g H locs) (hd : decode cc pc = .ok (.getfield 78, 3)) (h : bd1 (oR g a 1 1 15) F = some r) (kk : ∀ v, F v = some r → W p l e R s m args below meth c H locs cells slots Q (F0 m (pc + 3) ls (va_rf v :: rest))) : W p l e R s m args below meth c H locs cells slots Q (F0 m pc ls (.ref a :: rest)) := by
  obtain ⟨v, h1, h2⟩ := bd1_some h
  obtain ⟨⟨c1, c2⟩, h3⟩ := oif h1
  have ht : (gK g a).1 = 1 := by omega
  cases h3
  exact va_get (D := eD E) (ci := 0) (C := RX1) (T := TX1) (N := 25) S.1 S.2.1 S.2.2.2.2 in_X1 S.2.2.2.1 X.1 (va_one (hw.1.2.1 _ _ (gcell_1 ht)).1) 0 rfl rfl 15 (by decide) (S.2.2.2.2 _ q384) (fun _ h9 => h9) rfl hd (kk _ h2)
theorem gpX1_78 {v : Option Nat} {F : GS → Option β} (S : CallFix p m c cc nL s args lw_all RX1) (X : gCtx E A s) (hw : gH E A LC LS s g H locs) (hin2 : meth.name = "<init>") (hd : decode cc pc = .ok (.putfield 78, 3)) (h : bd1 (pR g a 1 1 15 v) F = some r) (kk : ∀ (g1 : GS) (H : Heap) (locs : List Loc), F g1 = some r → gH E A LC LS s g1 H locs → W p l e R s m args below meth c H locs (H.size - s.heap.size) (tot H - tot s.heap) Q (F0 m (pc + 3) ls rest)) : W p l e R s m args below meth c H locs cells slots Q (F0 m pc ls (va_rf v :: .ref a :: rest)) := by
  obtain ⟨g1, h1, h2⟩ := bd1_some h
  obtain ⟨⟨c1, c2⟩, h3⟩ := oif h1
  cases h3
  have ht : (gK g a).1 = 1 := by omega
  have hc := gcell_1 (E := E) ht
  refine gb_putF (D := eD E) (ci := 0) (C := RX1) (T := TX1) (N := 25) (ty := tyX1 15) S.1 S.2.1 S.2.2.2.2 in_X1 tyX1 tyX1_ok nmX1 S.2.2.2.1 X.1 (hw.1.2.1 _ _ hc).1 rfl 15 (by decide) (S.2.2.2.2 _ q384) (fun _ h9 => h9) rfl hin2 rfl (tyX1_ok 15 (by decide)) (rf_fit rfl v).1 (rf_fit rfl v).2 (Nat.le_of_ble_eq_true rfl) hd (fun H1 k1 e1 z1 t1 o1 => ?_)
  exact W.canon (kk _ H1 _ h2 ⟨gB.sR hw.1 hc (gce_sR.trans (gcc_1 ht)) e1 z1 t1 o1 (by omega) (by omega), hw.2.put z1 o1 (hw.1.2.1 _ _ hc).2⟩)
theorem ggX1_81 {F : Nat → Option β} (S : CallFix p m c cc nL s args lw_all RX1) (X : gCtx E A s) (hw : gH E A LC LS s g H locs) (hd : decode cc pc = .ok (.getfield 81, 3)) (h : bd1 (oRn g a 1 1 16) F = some r) (kk : ∀ v, F v = some r → W p l e R s m args below meth c H locs cells slots Q (F0 m (pc + 3) ls (.ref v :: rest))) : W p l e R s m args below meth c H locs cells slots Q (F0 m pc ls (.ref a :: rest)) := by
  obtain ⟨v, h1, h2⟩ := bd1_some h
  obtain ⟨⟨c1, c2⟩, h3⟩ := oif h1
  have ht : (gK g a).1 = 1 := by omega
  exact va_get (D := eD E) (ci := 0) (C := RX1) (T := TX1) (N := 25) S.1 S.2.1 S.2.2.2.2 in_X1 S.2.2.2.1 X.1 (va_one (hw.1.2.1 _ _ (gcell_1 ht)).1) 0 rfl rfl 16 (by decide) (S.2.2.2.2 _ q385) (fun _ h9 => h9) (by show some (va_rf (gR g a 16)) = some (.ref v); rw [h3]; rfl) hd (kk _ h2)
theorem ggX1_81q {F : Option Nat → Option β} (S : CallFix p m c cc nL s args lw_all RX1) (X : gCtx E A s) (hw : gH E A LC LS s g H locs) (hd : decode cc pc = .ok (.getfield 81, 3)) (h : bd1 (oR g a 1 1 16) F = some r) (kk : ∀ v, F v = some r → W p l e R s m args below meth c H locs cells slots Q (F0 m (pc + 3) ls (va_rf v :: rest))) : W p l e R s m args below meth c H locs cells slots Q (F0 m pc ls (.ref a :: rest)) := by
  obtain ⟨v, h1, h2⟩ := bd1_some h
  obtain ⟨⟨c1, c2⟩, h3⟩ := oif h1
  have ht : (gK g a).1 = 1 := by omega
  cases h3
  exact va_get (D := eD E) (ci := 0) (C := RX1) (T := TX1) (N := 25) S.1 S.2.1 S.2.2.2.2 in_X1 S.2.2.2.1 X.1 (va_one (hw.1.2.1 _ _ (gcell_1 ht)).1) 0 rfl rfl 16 (by decide) (S.2.2.2.2 _ q385) (fun _ h9 => h9) rfl hd (kk _ h2)
theorem gpX1_81 {v : Option Nat} {F : GS → Option β} (S : CallFix p m c cc nL s args lw_all RX1) (X : gCtx E A s) (hw : gH E A LC LS s g H locs) (hin2 : meth.name = "<init>") (hd : decode cc pc = .ok (.putfield 81, 3)) (h : bd1 (pR g a 1 1 16 v) F = some r) (kk : ∀ (g1 : GS) (H : Heap) (locs : List Loc), F g1 = some r → gH E A LC LS s g1 H locs → W p l e R s m args below meth c H locs (H.size - s.heap.size) (tot H - tot s.heap) Q (F0 m (pc + 3) ls rest)) : W p l e R s m args below meth c H locs cells slots Q (F0 m pc ls (va_rf v :: .ref a :: rest)) := by
  obtain ⟨g1, h1, h2⟩ := bd1_some h
  obtain ⟨⟨c1, c2⟩, h3⟩ := oif h1
  cases h3
  have ht : (gK g a).1 = 1 := by omega
  have hc := gcell_1 (E := E) ht
  refine gb_putF (D := eD E) (ci := 0) (C := RX1) (T := TX1) (N := 25) (ty := tyX1 16) S.1 S.2.1 S.2.2.2.2 in_X1 tyX1 tyX1_ok nmX1 S.2.2.2.1 X.1 (hw.1.2.1 _ _ hc).1 rfl 16 (by decide) (S.2.2.2.2 _ q385) (fun _ h9 => h9) rfl hin2 rfl (tyX1_ok 16 (by decide)) (rf_fit rfl v).1 (rf_fit rfl v).2 (Nat.le_of_ble_eq_true rfl) hd (fun H1 k1 e1 z1 t1 o1 => ?_)
  exact W.canon (kk _ H1 _ h2 ⟨gB.sR hw.1 hc (gce_sR.trans (gcc_1 ht)) e1 z1 t1 o1 (by omega) (by omega), hw.2.put z1 o1 (hw.1.2.1 _ _ hc).2⟩)
theorem ggX1_84 {F : Nat → Option β} (S : CallFix p m c cc nL s args lw_all RX1) (X : gCtx E A s) (hw : gH E A LC LS s g H locs) (hd : decode cc pc = .ok (.getfield 84, 3)) (h : bd1 (oRn g a 1 1 17) F = some r) (kk : ∀ v, F v = some r → W p l e R s m args below meth c H locs cells slots Q (F0 m (pc + 3) ls (.ref v :: rest))) : W p l e R s m args below meth c H locs cells slots Q (F0 m pc ls (.ref a :: rest)) := by
  obtain ⟨v, h1, h2⟩ := bd1_some h
  obtain ⟨⟨c1, c2⟩, h3⟩ := oif h1
  have ht : (gK g a).1 = 1 := by omega
  exact va_get (D := eD E) (ci := 0) (C := RX1) (T := TX1) (N := 25) S.1 S.2.1 S.2.2.2.2 in_X1 S.2.2.2.1 X.1 (va_one (hw.1.2.1 _ _ (gcell_1 ht)).1) 0 rfl rfl 17 (by decide) (S.2.2.2.2 _ q386) (fun _ h9 => h9) (by show some (va_rf (gR g a 17)) = some (.ref v); rw [h3]; rfl) hd (kk _ h2)
theorem ggX1_84q {F : Option Nat → Option β} (S : CallFix p m c cc nL s args lw_all RX1) (X : gCtx E A s) (hw : gH E A LC LS s g H locs) (hd : decode cc pc = .ok (.getfield 84, 3)) (h : bd1 (oR g a 1 1 17) F = some r) (kk : ∀ v, F v = some r → W p l e R s m args below meth c H locs cells slots Q (F0 m (pc + 3) ls (va_rf v :: rest))) : W p l e R s m args below meth c H locs cells slots Q (F0 m pc ls (.ref a :: rest)) := by
  obtain ⟨v, h1, h2⟩ := bd1_some h
  obtain ⟨⟨c1, c2⟩, h3⟩ := oif h1
  have ht : (gK g a).1 = 1 := by omega
  cases h3
  exact va_get (D := eD E) (ci := 0) (C := RX1) (T := TX1) (N := 25) S.1 S.2.1 S.2.2.2.2 in_X1 S.2.2.2.1 X.1 (va_one (hw.1.2.1 _ _ (gcell_1 ht)).1) 0 rfl rfl 17 (by decide) (S.2.2.2.2 _ q386) (fun _ h9 => h9) rfl hd (kk _ h2)
theorem gpX1_84 {v : Option Nat} {F : GS → Option β} (S : CallFix p m c cc nL s args lw_all RX1) (X : gCtx E A s) (hw : gH E A LC LS s g H locs) (hin2 : meth.name = "<init>") (hd : decode cc pc = .ok (.putfield 84, 3)) (h : bd1 (pR g a 1 1 17 v) F = some r) (kk : ∀ (g1 : GS) (H : Heap) (locs : List Loc), F g1 = some r → gH E A LC LS s g1 H locs → W p l e R s m args below meth c H locs (H.size - s.heap.size) (tot H - tot s.heap) Q (F0 m (pc + 3) ls rest)) : W p l e R s m args below meth c H locs cells slots Q (F0 m pc ls (va_rf v :: .ref a :: rest)) := by
  obtain ⟨g1, h1, h2⟩ := bd1_some h
  obtain ⟨⟨c1, c2⟩, h3⟩ := oif h1
  cases h3
  have ht : (gK g a).1 = 1 := by omega
  have hc := gcell_1 (E := E) ht
  refine gb_putF (D := eD E) (ci := 0) (C := RX1) (T := TX1) (N := 25) (ty := tyX1 17) S.1 S.2.1 S.2.2.2.2 in_X1 tyX1 tyX1_ok nmX1 S.2.2.2.1 X.1 (hw.1.2.1 _ _ hc).1 rfl 17 (by decide) (S.2.2.2.2 _ q386) (fun _ h9 => h9) rfl hin2 rfl (tyX1_ok 17 (by decide)) (rf_fit rfl v).1 (rf_fit rfl v).2 (Nat.le_of_ble_eq_true rfl) hd (fun H1 k1 e1 z1 t1 o1 => ?_)
  exact W.canon (kk _ H1 _ h2 ⟨gB.sR hw.1 hc (gce_sR.trans (gcc_1 ht)) e1 z1 t1 o1 (by omega) (by omega), hw.2.put z1 o1 (hw.1.2.1 _ _ hc).2⟩)
theorem ggX1_87 {F : Nat → Option β} (S : CallFix p m c cc nL s args lw_all RX1) (X : gCtx E A s) (hw : gH E A LC LS s g H locs) (hd : decode cc pc = .ok (.getfield 87, 3)) (h : bd1 (oRn g a 1 1 19) F = some r) (kk : ∀ v, F v = some r → W p l e R s m args below meth c H locs cells slots Q (F0 m (pc + 3) ls (.ref v :: rest))) : W p l e R s m args below meth c H locs cells slots Q (F0 m pc ls (.ref a :: rest)) := by
  obtain ⟨v, h1, h2⟩ := bd1_some h
  obtain ⟨⟨c1, c2⟩, h3⟩ := oif h1
  have ht : (gK g a).1 = 1 := by omega
  exact va_get (D := eD E) (ci := 0) (C := RX1) (T := TX1) (N := 25) S.1 S.2.1 S.2.2.2.2 in_X1 S.2.2.2.1 X.1 (va_one (hw.1.2.1 _ _ (gcell_1 ht)).1) 0 rfl rfl 19 (by decide) (S.2.2.2.2 _ q388) (fun _ h9 => h9) (by show some (va_rf (gR g a 19)) = some (.ref v); rw [h3]; rfl) hd (kk _ h2)
theorem ggX1_87q {F : Option Nat → Option β} (S : CallFix p m c cc nL s args lw_all RX1) (X : gCtx E A s) (hw : gH E A LC LS s g H locs) (hd : decode cc pc = .ok (.getfield 87, 3)) (h : bd1 (oR g a 1 1 19) F = some r) (kk : ∀ v, F v = some r → W p l e R s m args below meth c H locs cells slots Q (F0 m (pc + 3) ls (va_rf v :: rest))) : W p l e R s m args below meth c H locs cells slots Q (F0 m pc ls (.ref a :: rest)) := by
  obtain ⟨v, h1, h2⟩ := bd1_some h
  obtain ⟨⟨c1, c2⟩, h3⟩ := oif h1
  have ht : (gK g a).1 = 1 := by omega
  cases h3
  exact va_get (D := eD E) (ci := 0) (C := RX1) (T := TX1) (N := 25) S.1 S.2.1 S.2.2.2.2 in_X1 S.2.2.2.1 X.1 (va_one (hw.1.2.1 _ _ (gcell_1 ht)).1) 0 rfl rfl 19 (by decide) (S.2.2.2.2 _ q388) (fun _ h9 => h9) rfl hd (kk _ h2)
theorem gpX1_87 {v : Option Nat} {F : GS → Option β} (S : CallFix p m c cc nL s args lw_all RX1) (X : gCtx E A s) (hw : gH E A LC LS s g H locs) (hin2 : meth.name = "<init>") (hd : decode cc pc = .ok (.putfield 87, 3)) (h : bd1 (pR g a 1 1 19 v) F = some r) (kk : ∀ (g1 : GS) (H : Heap) (locs : List Loc), F g1 = some r → gH E A LC LS s g1 H locs → W p l e R s m args below meth c H locs (H.size - s.heap.size) (tot H - tot s.heap) Q (F0 m (pc + 3) ls rest)) : W p l e R s m args below meth c H locs cells slots Q (F0 m pc ls (va_rf v :: .ref a :: rest)) := by
  obtain ⟨g1, h1, h2⟩ := bd1_some h
  obtain ⟨⟨c1, c2⟩, h3⟩ := oif h1
  cases h3
  have ht : (gK g a).1 = 1 := by omega
  have hc := gcell_1 (E := E) ht
  refine gb_putF (D := eD E) (ci := 0) (C := RX1) (T := TX1) (N := 25) (ty := tyX1 19) S.1 S.2.1 S.2.2.2.2 in_X1 tyX1 tyX1_ok nmX1 S.2.2.2.1 X.1 (hw.1.2.1 _ _ hc).1 rfl 19 (by decide) (S.2.2.2.2 _ q388) (fun _ h9 => h9) rfl hin2 rfl (tyX1_ok 19 (by decide)) (rf_fit rfl v).1 (rf_fit rfl v).2 (Nat.le_of_ble_eq_true rfl) hd (fun H1 k1 e1 z1 t1 o1 => ?_)
  exact W.canon (kk _ H1 _ h2 ⟨gB.sR hw.1 hc (gce_sR.trans (gcc_1 ht)) e1 z1 t1 o1 (by omega) (by omega), hw.2.put z1 o1 (hw.1.2.1 _ _ hc).2⟩)
theorem ggX1_92 {F : Nat → Option β} (S : CallFix p m c cc nL s args lw_all RX1) (X : gCtx E A s) (hw : gH E A LC LS s g H locs) (hd : decode cc pc = .ok (.getfield 92, 3)) (h : bd1 (oRn g a 1 1 20) F = some r) (kk : ∀ v, F v = some r → W p l e R s m args below meth c H locs cells slots Q (F0 m (pc + 3) ls (.ref v :: rest))) : W p l e R s m args below meth c H locs cells slots Q (F0 m pc ls (.ref a :: rest)) := by
  obtain ⟨v, h1, h2⟩ := bd1_some h
  obtain ⟨⟨c1, c2⟩, h3⟩ := oif h1
  have ht : (gK g a).1 = 1 := by omega
  exact va_get (D := eD E) (ci := 0) (C := RX1) (T := TX1) (N := 25) S.1 S.2.1 S.2.2.2.2 in_X1 S.2.2.2.1 X.1 (va_one (hw.1.2.1 _ _ (gcell_1 ht)).1) 0 rfl rfl 20 (by decide) (S.2.2.2.2 _ q389) (fun _ h9 => h9) (by show some (va_rf (gR g a 20)) = some (.ref v); rw [h3]; rfl) hd (kk _ h2)
theorem ggX1_92q {F : Option Nat → Option β} (S : CallFix p m c cc nL s args lw_all RX1) (X : gCtx E A s) (hw : gH E A LC LS s g H locs) (hd : decode cc pc = .ok (.getfield 92, 3)) (h : bd1 (oR g a 1 1 20) F = some r) (kk : ∀ v, F v = some r → W p l e R s m args below meth c H locs cells slots Q (F0 m (pc + 3) ls (va_rf v :: rest))) : W p l e R s m args below meth c H locs cells slots Q (F0 m pc ls (.ref a :: rest)) := by
  obtain ⟨v, h1, h2⟩ := bd1_some h
  obtain ⟨⟨c1, c2⟩, h3⟩ := oif h1
  have ht : (gK g a).1 = 1 := by omega
  cases h3
  exact va_get (D := eD E) (ci := 0) (C := RX1) (T := TX1) (N := 25) S.1 S.2.1 S.2.2.2.2 in_X1 S.2.2.2.1 X.1 (va_one (hw.1.2.1 _ _ (gcell_1 ht)).1) 0 rfl rfl 20 (by decide) (S.2.2.2.2 _ q389) (fun _ h9 => h9) rfl hd (kk _ h2)
theorem gpX1_92 {v : Option Nat} {F : GS → Option β} (S : CallFix p m c cc nL s args lw_all RX1) (X : gCtx E A s) (hw : gH E A LC LS s g H locs) (hin2 : meth.name = "<init>") (hd : decode cc pc = .ok (.putfield 92, 3)) (h : bd1 (pR g a 1 1 20 v) F = some r) (kk : ∀ (g1 : GS) (H : Heap) (locs : List Loc), F g1 = some r → gH E A LC LS s g1 H locs → W p l e R s m args below meth c H locs (H.size - s.heap.size) (tot H - tot s.heap) Q (F0 m (pc + 3) ls rest)) : W p l e R s m args below meth c H locs cells slots Q (F0 m pc ls (va_rf v :: .ref a :: rest)) := by
  obtain ⟨g1, h1, h2⟩ := bd1_some h
  obtain ⟨⟨c1, c2⟩, h3⟩ := oif h1
  cases h3
  have ht : (gK g a).1 = 1 := by omega
  have hc := gcell_1 (E := E) ht
  refine gb_putF (D := eD E) (ci := 0) (C := RX1) (T := TX1) (N := 25) (ty := tyX1 20) S.1 S.2.1 S.2.2.2.2 in_X1 tyX1 tyX1_ok nmX1 S.2.2.2.1 X.1 (hw.1.2.1 _ _ hc).1 rfl 20 (by decide) (S.2.2.2.2 _ q389) (fun _ h9 => h9) rfl hin2 rfl (tyX1_ok 20 (by decide)) (rf_fit rfl v).1 (rf_fit rfl v).2 (Nat.le_of_ble_eq_true rfl) hd (fun H1 k1 e1 z1 t1 o1 => ?_)
  exact W.canon (kk _ H1 _ h2 ⟨gB.sR hw.1 hc (gce_sR.trans (gcc_1 ht)) e1 z1 t1 o1 (by omega) (by omega), hw.2.put z1 o1 (hw.1.2.1 _ _ hc).2⟩)
theorem ggX1_97 {F : Nat → Option β} (S : CallFix p m c cc nL s args lw_all RX1) (X : gCtx E A s) (hw : gH E A LC LS s g H locs) (hd : decode cc pc = .ok (.getfield 97, 3)) (h : bd1 (oRn g a 1 1 24) F = some r) (kk : ∀ v, F v = some r → W p l e R s m args below meth c H locs cells slots Q (F0 m (pc + 3) ls (.ref v :: rest))) : W p l e R s m args below meth c H locs cells slots Q (F0 m pc ls (.ref a :: rest)) := by
  obtain ⟨v, h1, h2⟩ := bd1_some h
  obtain ⟨⟨c1, c2⟩, h3⟩ := oif h1
  have ht : (gK g a).1 = 1 := by omega
  exact va_get (D := eD E) (ci := 0) (C := RX1) (T := TX1) (N := 25) S.1 S.2.1 S.2.2.2.2 in_X1 S.2.2.2.1 X.1 (va_one (hw.1.2.1 _ _ (gcell_1 ht)).1) 0 rfl rfl 24 (by decide) (S.2.2.2.2 _ q393) (fun _ h9 => h9) (by show some (va_rf (gR g a 24)) = some (.ref v); rw [h3]; rfl) hd (kk _ h2)
theorem ggX1_97q {F : Option Nat → Option β} (S : CallFix p m c cc nL s args lw_all RX1) (X : gCtx E A s) (hw : gH E A LC LS s g H locs) (hd : decode cc pc = .ok (.getfield 97, 3)) (h : bd1 (oR g a 1 1 24) F = some r) (kk : ∀ v, F v = some r → W p l e R s m args below meth c H locs cells slots Q (F0 m (pc + 3) ls (va_rf v :: rest))) : W p l e R s m args below meth c H locs cells slots Q (F0 m pc ls (.ref a :: rest)) := by
  obtain ⟨v, h1, h2⟩ := bd1_some h
  obtain ⟨⟨c1, c2⟩, h3⟩ := oif h1
  have ht : (gK g a).1 = 1 := by omega
  cases h3
  exact va_get (D := eD E) (ci := 0) (C := RX1) (T := TX1) (N := 25) S.1 S.2.1 S.2.2.2.2 in_X1 S.2.2.2.1 X.1 (va_one (hw.1.2.1 _ _ (gcell_1 ht)).1) 0 rfl rfl 24 (by decide) (S.2.2.2.2 _ q393) (fun _ h9 => h9) rfl hd (kk _ h2)
theorem gpX1_97 {v : Option Nat} {F : GS → Option β} (S : CallFix p m c cc nL s args lw_all RX1) (X : gCtx E A s) (hw : gH E A LC LS s g H locs) (hin2 : meth.name = "<init>") (hd : decode cc pc = .ok (.putfield 97, 3)) (h : bd1 (pR g a 1 1 24 v) F = some r) (kk : ∀ (g1 : GS) (H : Heap) (locs : List Loc), F g1 = some r → gH E A LC LS s g1 H locs → W p l e R s m args below meth c H locs (H.size - s.heap.size) (tot H - tot s.heap) Q (F0 m (pc + 3) ls rest)) : W p l e R s m args below meth c H locs cells slots Q (F0 m pc ls (va_rf v :: .ref a :: rest)) := by
  obtain ⟨g1, h1, h2⟩ := bd1_some h
  obtain ⟨⟨c1, c2⟩, h3⟩ := oif h1
  cases h3
  have ht : (gK g a).1 = 1 := by omega
  have hc := gcell_1 (E := E) ht
  refine gb_putF (D := eD E) (ci := 0) (C := RX1) (T := TX1) (N := 25) (ty := tyX1 24) S.1 S.2.1 S.2.2.2.2 in_X1 tyX1 tyX1_ok nmX1 S.2.2.2.1 X.1 (hw.1.2.1 _ _ hc).1 rfl 24 (by decide) (S.2.2.2.2 _ q393) (fun _ h9 => h9) rfl hin2 rfl (tyX1_ok 24 (by decide)) (rf_fit rfl v).1 (rf_fit rfl v).2 (Nat.le_of_ble_eq_true rfl) hd (fun H1 k1 e1 z1 t1 o1 => ?_)
  exact W.canon (kk _ H1 _ h2 ⟨gB.sR hw.1 hc (gce_sR.trans (gcc_1 ht)) e1 z1 t1 o1 (by omega) (by omega), hw.2.put z1 o1 (hw.1.2.1 _ _ hc).2⟩)
theorem ggX1_105 {F : Int32 → Option β} (S : CallFix p m c cc nL s args lw_all RX1) (X : gCtx E A s) (hw : gH E A LC LS s g H locs) (hd : decode cc pc = .ok (.getfield 105, 3)) (h : bd1 (oI g a 1 1 7) F = some r) (kk : ∀ v, F v = some r → W p l e R s m args below meth c H locs cells slots Q (F0 m (pc + 3) ls (.int v :: rest))) : W p l e R s m args below meth c H locs cells slots Q (F0 m pc ls (.ref a :: rest)) := by
  obtain ⟨v, h1, h2⟩ := bd1_some h
  obtain ⟨⟨c1, c2⟩, h3⟩ := oif h1
  have ht : (gK g a).1 = 1 := by omega
  cases h3
  exact va_get (D := eD E) (ci := 0) (C := RX1) (T := TX1) (N := 25) S.1 S.2.1 S.2.2.2.2 in_X1 S.2.2.2.1 X.1 (va_one (hw.1.2.1 _ _ (gcell_1 ht)).1) 0 rfl rfl 7 (by decide) (S.2.2.2.2 _ q376) (fun _ h9 => h9) rfl hd (kk _ h2)
theorem gpX1_105 {v : Int32} {F : GS → Option β} (S : CallFix p m c cc nL s args lw_all RX1) (X : gCtx E A s) (hw : gH E A LC LS s g H locs) (hd : decode cc pc = .ok (.putfield 105, 3)) (h : bd1 (pI g a 1 1 7 v) F = some r) (kk : ∀ (g1 : GS) (H : Heap) (locs : List Loc), F g1 = some r → gH E A LC LS s g1 H locs → W p l e R s m args below meth c H locs (H.size - s.heap.size) (tot H - tot s.heap) Q (F0 m (pc + 3) ls rest)) : W p l e R s m args below meth c H locs cells slots Q (F0 m pc ls (.int v :: .ref a :: rest)) := by
  obtain ⟨g1, h1, h2⟩ := bd1_some h
  obtain ⟨⟨c1, c2⟩, h3⟩ := oif h1
  cases h3
  have ht : (gK g a).1 = 1 := by omega
  have hc := gcell_1 (E := E) ht
  refine gb_put (D := eD E) (ci := 0) (C := RX1) (T := TX1) (N := 25) (ty := tyX1 7) S.1 S.2.1 S.2.2.2.2 in_X1 tyX1 tyX1_ok nmX1 S.2.2.2.1 X.1 (hw.1.2.1 _ _ hc).1 rfl 7 (by decide) (S.2.2.2.2 _ q376) (fun _ h9 => h9) rfl (tyX1_ok 7 (by decide)) rfl rfl (Nat.le_of_ble_eq_true rfl) hd (fun H1 k1 e1 z1 t1 o1 => ?_)
  exact W.canon (kk _ H1 _ h2 ⟨gB.sI hw.1 hc (gce_sI.trans (gcc_1 ht)) e1 z1 t1 o1 (by omega) (by omega), hw.2.put z1 o1 (hw.1.2.1 _ _ hc).2⟩)
theorem ggX1_120 {F : Int32 → Option β} (S : CallFix p m c cc nL s args lw_all RX1) (X : gCtx E A s) (hw : gH E A LC LS s g H locs) (hd : decode cc pc = .ok (.getfield 120, 3)) (h : bd1 (oI g a 6 6 6) F = some r) (kk : ∀ v, F v = some r → W p l e R s m args below meth c H locs cells slots Q (F0 m (pc + 3) ls (.int v :: rest))) : W p l e R s m args below meth c H locs cells slots Q (F0 m pc ls (.ref a :: rest)) := by
  obtain ⟨v, h1, h2⟩ := bd1_some h
  obtain ⟨⟨c1, c2⟩, h3⟩ := oif h1
  have ht : (gK g a).1 = 6 := by omega
  cases h3
  exact va_getN (D := eD E) (ci := 5) (C := RX6) (T := TX6) (N := 7) S.1 S.2.1 S.2.2.2.2 in_X6 S.2.2.2.1 X.1 (va_one (hw.1.2.1 _ _ (gcell_6 ht)).1) 0 rfl rfl 6 (by decide) (va_Nw.use rfl (X.2.2.2.2.2.1 _ q651 rfl)) (fun _ h9 => h9) rfl hd (kk _ h2)
theorem ggX1_123 {F : Int32 → Option β} (S : CallFix p m c cc nL s args lw_all RX1) (X : gCtx E A s) (hw : gH E A LC LS s g H locs) (hd : decode cc pc = .ok (.getfield 123, 3)) (h : bd1 (oI g a 1 1 18) F = some r) (kk : ∀ v, F v = some r → W p l e R s m args below meth c H locs cells slots Q (F0 m (pc + 3) ls (.int v :: rest))) : W p l e R s m args below meth c H locs cells slots Q (F0 m pc ls (.ref a :: rest)) := by
  obtain ⟨v, h1, h2⟩ := bd1_some h
  obtain ⟨⟨c1, c2⟩, h3⟩ := oif h1
  have ht : (gK g a).1 = 1 := by omega
  cases h3
  exact va_get (D := eD E) (ci := 0) (C := RX1) (T := TX1) (N := 25) S.1 S.2.1 S.2.2.2.2 in_X1 S.2.2.2.1 X.1 (va_one (hw.1.2.1 _ _ (gcell_1 ht)).1) 0 rfl rfl 18 (by decide) (S.2.2.2.2 _ q387) (fun _ h9 => h9) rfl hd (kk _ h2)
theorem gpX1_123 {v : Int32} {F : GS → Option β} (S : CallFix p m c cc nL s args lw_all RX1) (X : gCtx E A s) (hw : gH E A LC LS s g H locs) (hd : decode cc pc = .ok (.putfield 123, 3)) (h : bd1 (pI g a 1 1 18 v) F = some r) (kk : ∀ (g1 : GS) (H : Heap) (locs : List Loc), F g1 = some r → gH E A LC LS s g1 H locs → W p l e R s m args below meth c H locs (H.size - s.heap.size) (tot H - tot s.heap) Q (F0 m (pc + 3) ls rest)) : W p l e R s m args below meth c H locs cells slots Q (F0 m pc ls (.int v :: .ref a :: rest)) := by
  obtain ⟨g1, h1, h2⟩ := bd1_some h
  obtain ⟨⟨c1, c2⟩, h3⟩ := oif h1
  cases h3
  have ht : (gK g a).1 = 1 := by omega
  have hc := gcell_1 (E := E) ht
  refine gb_put (D := eD E) (ci := 0) (C := RX1) (T := TX1) (N := 25) (ty := tyX1 18) S.1 S.2.1 S.2.2.2.2 in_X1 tyX1 tyX1_ok nmX1 S.2.2.2.1 X.1 (hw.1.2.1 _ _ hc).1 rfl 18 (by decide) (S.2.2.2.2 _ q387) (fun _ h9 => h9) rfl (tyX1_ok 18 (by decide)) rfl rfl (Nat.le_of_ble_eq_true rfl) hd (fun H1 k1 e1 z1 t1 o1 => ?_)
  exact W.canon (kk _ H1 _ h2 ⟨gB.sI hw.1 hc (gce_sI.trans (gcc_1 ht)) e1 z1 t1 o1 (by omega) (by omega), hw.2.put z1 o1 (hw.1.2.1 _ _ hc).2⟩)
theorem ggX1_126 {F : Int32 → Option β} (S : CallFix p m c cc nL s args lw_all RX1) (X : gCtx E A s) (hw : gH E A LC LS s g H locs) (hd : decode cc pc = .ok (.getfield 126, 3)) (h : bd1 (oI g a 1 1 9) F = some r) (kk : ∀ v, F v = some r → W p l e R s m args below meth c H locs cells slots Q (F0 m (pc + 3) ls (.int v :: rest))) : W p l e R s m args below meth c H locs cells slots Q (F0 m pc ls (.ref a :: rest)) := by
  obtain ⟨v, h1, h2⟩ := bd1_some h
  obtain ⟨⟨c1, c2⟩, h3⟩ := oif h1
  have ht : (gK g a).1 = 1 := by omega
  cases h3
  exact va_get (D := eD E) (ci := 0) (C := RX1) (T := TX1) (N := 25) S.1 S.2.1 S.2.2.2.2 in_X1 S.2.2.2.1 X.1 (va_one (hw.1.2.1 _ _ (gcell_1 ht)).1) 0 rfl rfl 9 (by decide) (S.2.2.2.2 _ q378) (fun _ h9 => h9) rfl hd (kk _ h2)
theorem gpX1_126 {v : Int32} {F : GS → Option β} (S : CallFix p m c cc nL s args lw_all RX1) (X : gCtx E A s) (hw : gH E A LC LS s g H locs) (hd : decode cc pc = .ok (.putfield 126, 3)) (h : bd1 (pI g a 1 1 9 v) F = some r) (kk : ∀ (g1 : GS) (H : Heap) (locs : List Loc), F g1 = some r → gH E A LC LS s g1 H locs → W p l e R s m args below meth c H locs (H.size - s.heap.size) (tot H - tot s.heap) Q (F0 m (pc + 3) ls rest)) : W p l e R s m args below meth c H locs cells slots Q (F0 m pc ls (.int v :: .ref a :: rest)) := by
  obtain ⟨g1, h1, h2⟩ := bd1_some h
  obtain ⟨⟨c1, c2⟩, h3⟩ := oif h1
  cases h3
  have ht : (gK g a).1 = 1 := by omega
  have hc := gcell_1 (E := E) ht
  refine gb_put (D := eD E) (ci := 0) (C := RX1) (T := TX1) (N := 25) (ty := tyX1 9) S.1 S.2.1 S.2.2.2.2 in_X1 tyX1 tyX1_ok nmX1 S.2.2.2.1 X.1 (hw.1.2.1 _ _ hc).1 rfl 9 (by decide) (S.2.2.2.2 _ q378) (fun _ h9 => h9) rfl (tyX1_ok 9 (by decide)) rfl rfl (Nat.le_of_ble_eq_true rfl) hd (fun H1 k1 e1 z1 t1 o1 => ?_)
  exact W.canon (kk _ H1 _ h2 ⟨gB.sI hw.1 hc (gce_sI.trans (gcc_1 ht)) e1 z1 t1 o1 (by omega) (by omega), hw.2.put z1 o1 (hw.1.2.1 _ _ hc).2⟩)
theorem ggX1_133 {F : Nat → Option β} (S : CallFix p m c cc nL s args lw_all RX1) (X : gCtx E A s) (hw : gH E A LC LS s g H locs) (hd : decode cc pc = .ok (.getfield 133, 3)) (h : bd1 (oRn g a 3 3 0) F = some r) (kk : ∀ v, F v = some r → W p l e R s m args below meth c H locs cells slots Q (F0 m (pc + 3) ls (.ref v :: rest))) : W p l e R s m args below meth c H locs cells slots Q (F0 m pc ls (.ref a :: rest)) := by
  obtain ⟨v, h1, h2⟩ := bd1_some h
  obtain ⟨⟨c1, c2⟩, h3⟩ := oif h1
  have ht : (gK g a).1 = 3 := by omega
  exact va_getN (D := eD E) (ci := 2) (C := RX3) (T := TX3) (N := 8) S.1 S.2.1 S.2.2.2.2 in_X3 S.2.2.2.1 X.1 (va_one (hw.1.2.1 _ _ (gcell_3 ht)).1) 0 rfl rfl 0 (by decide) (va_Nw.use rfl (X.2.2.2.2.2.1 _ q258 rfl)) (fun _ h9 => h9) (by show some (va_rf (gR g a 0)) = some (.ref v); rw [h3]; rfl) hd (kk _ h2)
theorem ggX1_133q {F : Option Nat → Option β} (S : CallFix p m c cc nL s args lw_all RX1) (X : gCtx E A s) (hw : gH E A LC LS s g H locs) (hd : decode cc pc = .ok (.getfield 133, 3)) (h : bd1 (oR g a 3 3 0) F = some r) (kk : ∀ v, F v = some r → W p l e R s m args below meth c H locs cells slots Q (F0 m (pc + 3) ls (va_rf v :: rest))) : W p l e R s m args below meth c H locs cells slots Q (F0 m pc ls (.ref a :: rest)) := by
  obtain ⟨v, h1, h2⟩ := bd1_some h
  obtain ⟨⟨c1, c2⟩, h3⟩ := oif h1
  have ht : (gK g a).1 = 3 := by omega
  cases h3
  exact va_getN (D := eD E) (ci := 2) (C := RX3) (T := TX3) (N := 8) S.1 S.2.1 S.2.2.2.2 in_X3 S.2.2.2.1 X.1 (va_one (hw.1.2.1 _ _ (gcell_3 ht)).1) 0 rfl rfl 0 (by decide) (va_Nw.use rfl (X.2.2.2.2.2.1 _ q258 rfl)) (fun _ h9 => h9) rfl hd (kk _ h2)
theorem ggX1_146 {F : Nat → Option β} (S : CallFix p m c cc nL s args lw_all RX1) (X : gCtx E A s) (hw : gH E A LC LS s g H locs) (hd : decode cc pc = .ok (.getfield 146, 3)) (h : bd1 (oRn g a 3 3 1) F = some r) (kk : ∀ v, F v = some r → W p l e R s m args below meth c H locs cells slots Q (F0 m (pc + 3) ls (.ref v :: rest))) : W p l e R s m args below meth c H locs cells slots Q (F0 m pc ls (.ref a :: rest)) := by
  obtain ⟨v, h1, h2⟩ := bd1_some h
  obtain ⟨⟨c1, c2⟩, h3⟩ := oif h1
  have ht : (gK g a).1 = 3 := by omega
  exact va_getN (D := eD E) (ci := 2) (C := RX3) (T := TX3) (N := 8) S.1 S.2.1 S.2.2.2.2 in_X3 S.2.2.2.1 X.1 (va_one (hw.1.2.1 _ _ (gcell_3 ht)).1) 0 rfl rfl 1 (by decide) (va_Nw.use rfl (X.2.2.2.2.2.1 _ q262 rfl)) (fun _ h9 => h9) (by show some (va_rf (gR g a 1)) = some (.ref v); rw [h3]; rfl) hd (kk _ h2)
theorem ggX1_146q {F : Option Nat → Option β} (S : CallFix p m c cc nL s args lw_all RX1) (X : gCtx E A s) (hw : gH E A LC LS s g H locs) (hd : decode cc pc = .ok (.getfield 146, 3)) (h : bd1 (oR g a 3 3 1) F = some r) (kk : ∀ v, F v = some r → W p l e R s m args below meth c H locs cells slots Q (F0 m (pc + 3) ls (va_rf v :: rest))) : W p l e R s m args below meth c H locs cells slots Q (F0 m pc ls (.ref a :: rest)) := by
  obtain ⟨v, h1, h2⟩ := bd1_some h
  obtain ⟨⟨c1, c2⟩, h3⟩ := oif h1
  have ht : (gK g a).1 = 3 := by omega
  cases h3
  exact va_getN (D := eD E) (ci := 2) (C := RX3) (T := TX3) (N := 8) S.1 S.2.1 S.2.2.2.2 in_X3 S.2.2.2.1 X.1 (va_one (hw.1.2.1 _ _ (gcell_3 ht)).1) 0 rfl rfl 1 (by decide) (va_Nw.use rfl (X.2.2.2.2.2.1 _ q262 rfl)) (fun _ h9 => h9) rfl hd (kk _ h2)
theorem ggX1_173 {F : Nat → Option β} (S : CallFix p m c cc nL s args lw_all RX1) (X : gCtx E A s) (hw : gH E A LC LS s g H locs) (hd : decode cc pc = .ok (.getfield 173, 3)) (h : bd1 (oRn g a 4 4 1) F = some r) (kk : ∀ v, F v = some r → W p l e R s m args below meth c H locs cells slots Q (F0 m (pc + 3) ls (.ref v :: rest))) : W p l e R s m args below meth c H locs cells slots Q (F0 m pc ls (.ref a :: rest)) := by
  obtain ⟨v, h1, h2⟩ := bd1_some h
  obtain ⟨⟨c1, c2⟩, h3⟩ := oif h1
  have ht : (gK g a).1 = 4 := by omega
  exact va_getN (D := eD E) (ci := 3) (C := RX4) (T := TX4) (N := 8) S.1 S.2.1 S.2.2.2.2 in_X4 S.2.2.2.1 X.1 (va_one (hw.1.2.1 _ _ (gcell_4 ht)).1) 0 rfl rfl 1 (by decide) (va_Nw.use rfl (X.2.2.2.2.2.1 _ q308 rfl)) (fun _ h9 => h9) (by show some (va_rf (gR g a 1)) = some (.ref v); rw [h3]; rfl) hd (kk _ h2)
theorem ggX1_173q {F : Option Nat → Option β} (S : CallFix p m c cc nL s args lw_all RX1) (X : gCtx E A s) (hw : gH E A LC LS s g H locs) (hd : decode cc pc = .ok (.getfield 173, 3)) (h : bd1 (oR g a 4 4 1) F = some r) (kk : ∀ v, F v = some r → W p l e R s m args below meth c H locs cells slots Q (F0 m (pc + 3) ls (va_rf v :: rest))) : W p l e R s m args below meth c H locs cells slots Q (F0 m pc ls (.ref a :: rest)) := by
  obtain ⟨v, h1, h2⟩ := bd1_some h
  obtain ⟨⟨c1, c2⟩, h3⟩ := oif h1
  have ht : (gK g a).1 = 4 := by omega
  cases h3
  exact va_getN (D := eD E) (ci := 3) (C := RX4) (T := TX4) (N := 8) S.1 S.2.1 S.2.2.2.2 in_X4 S.2.2.2.1 X.1 (va_one (hw.1.2.1 _ _ (gcell_4 ht)).1) 0 rfl rfl 1 (by decide) (va_Nw.use rfl (X.2.2.2.2.2.1 _ q308 rfl)) (fun _ h9 => h9) rfl hd (kk _ h2)
theorem ggX1_176 {F : Nat → Option β} (S : CallFix p m c cc nL s args lw_all RX1) (X : gCtx E A s) (hw : gH E A LC LS s g H locs) (hd : decode cc pc = .ok (.getfield 176, 3)) (h : bd1 (oRn g a 4 4 0) F = some r) (kk : ∀ v, F v = some r → W p l e R s m args below meth c H locs cells slots Q (F0 m (pc + 3) ls (.ref v :: rest))) : W p l e R s m args below meth c H locs cells slots Q (F0 m pc ls (.ref a :: rest)) := by
  obtain ⟨v, h1, h2⟩ := bd1_some h
  obtain ⟨⟨c1, c2⟩, h3⟩ := oif h1
  have ht : (gK g a).1 = 4 := by omega
  exact va_getN (D := eD E) (ci := 3) (C := RX4) (T := TX4) (N := 8) S.1 S.2.1 S.2.2.2.2 in_X4 S.2.2.2.1 X.1 (va_one (hw.1.2.1 _ _ (gcell_4 ht)).1) 0 rfl rfl 0 (by decide) (va_Nw.use rfl (X.2.2.2.2.2.1 _ q306 rfl)) (fun _ h9 => h9) (by show some (va_rf (gR g a 0)) = some (.ref v); rw [h3]; rfl) hd (kk _ h2)
theorem ggX1_176q {F : Option Nat → Option β} (S : CallFix p m c cc nL s args lw_all RX1) (X : gCtx E A s) (hw : gH E A LC LS s g H locs) (hd : decode cc pc = .ok (.getfield 176, 3)) (h : bd1 (oR g a 4 4 0) F = some r) (kk : ∀ v, F v = some r → W p l e R s m args below meth c H locs cells slots Q (F0 m (pc + 3) ls (va_rf v :: rest))) : W p l e R s m args below meth c H locs cells slots Q (F0 m pc ls (.ref a :: rest)) := by
  obtain ⟨v, h1, h2⟩ := bd1_some h
  obtain ⟨⟨c1, c2⟩, h3⟩ := oif h1
  have ht : (gK g a).1 = 4 := by omega
  cases h3
  exact va_getN (D := eD E) (ci := 3) (C := RX4) (T := TX4) (N := 8) S.1 S.2.1 S.2.2.2.2 in_X4 S.2.2.2.1 X.1 (va_one (hw.1.2.1 _ _ (gcell_4 ht)).1) 0 rfl rfl 0 (by decide) (va_Nw.use rfl (X.2.2.2.2.2.1 _ q306 rfl)) (fun _ h9 => h9) rfl hd (kk _ h2)
theorem ggX1_182 {F : Int32 → Option β} (S : CallFix p m c cc nL s args lw_all RX1) (X : gCtx E A s) (hw : gH E A LC LS s g H locs) (hd : decode cc pc = .ok (.getfield 182, 3)) (h : bd1 (oI g a 7 7 2) F = some r) (kk : ∀ v, F v = some r → W p l e R s m args below meth c H locs cells slots Q (F0 m (pc + 3) ls (.int v :: rest))) : W p l e R s m args below meth c H locs cells slots Q (F0 m pc ls (.ref a :: rest)) := by
  obtain ⟨v, h1, h2⟩ := bd1_some h
  obtain ⟨⟨c1, c2⟩, h3⟩ := oif h1
  have ht : (gK g a).1 = 7 := by omega
  cases h3
  exact va_getN (D := eD E) (ci := 6) (C := RX7) (T := TX7) (N := 4) S.1 S.2.1 S.2.2.2.2 in_X7 S.2.2.2.1 X.1 (va_one (hw.1.2.1 _ _ (gcell_7 ht)).1) 0 rfl rfl 2 (by decide) (va_Nw.use rfl (X.2.2.2.2.2.1 _ q893 rfl)) (fun _ h9 => h9) rfl hd (kk _ h2)
theorem ggX1_185 {F : Nat → Option β} (S : CallFix p m c cc nL s args lw_all RX1) (X : gCtx E A s) (hw : gH E A LC LS s g H locs) (hd : decode cc pc = .ok (.getfield 185, 3)) (h : bd1 (oRn g a 4 4 2) F = some r) (kk : ∀ v, F v = some r → W p l e R s m args below meth c H locs cells slots Q (F0 m (pc + 3) ls (.ref v :: rest))) : W p l e R s m args below meth c H locs cells slots Q (F0 m pc ls (.ref a :: rest)) := by
  obtain ⟨v, h1, h2⟩ := bd1_some h
  obtain ⟨⟨c1, c2⟩, h3⟩ := oif h1
  have ht : (gK g a).1 = 4 := by omega
  exact va_getN (D := eD E) (ci := 3) (C := RX4) (T := TX4) (N := 8) S.1 S.2.1 S.2.2.2.2 in_X4 S.2.2.2.1 X.1 (va_one (hw.1.2.1 _ _ (gcell_4 ht)).1) 0 rfl rfl 2 (by decide) (va_Nw.use rfl (X.2.2.2.2.2.1 _ q311 rfl)) (fun _ h9 => h9) (by show some (va_rf (gR g a 2)) = some (.ref v); rw [h3]; rfl) hd (kk _ h2)
theorem ggX1_185q {F : Option Nat → Option β} (S : CallFix p m c cc nL s args lw_all RX1) (X : gCtx E A s) (hw : gH E A LC LS s g H locs) (hd : decode cc pc = .ok (.getfield 185, 3)) (h : bd1 (oR g a 4 4 2) F = some r) (kk : ∀ v, F v = some r → W p l e R s m args below meth c H locs cells slots Q (F0 m (pc + 3) ls (va_rf v :: rest))) : W p l e R s m args below meth c H locs cells slots Q (F0 m pc ls (.ref a :: rest)) := by
  obtain ⟨v, h1, h2⟩ := bd1_some h
  obtain ⟨⟨c1, c2⟩, h3⟩ := oif h1
  have ht : (gK g a).1 = 4 := by omega
  cases h3
  exact va_getN (D := eD E) (ci := 3) (C := RX4) (T := TX4) (N := 8) S.1 S.2.1 S.2.2.2.2 in_X4 S.2.2.2.1 X.1 (va_one (hw.1.2.1 _ _ (gcell_4 ht)).1) 0 rfl rfl 2 (by decide) (va_Nw.use rfl (X.2.2.2.2.2.1 _ q311 rfl)) (fun _ h9 => h9) rfl hd (kk _ h2)
theorem ggX1_188 {F : Int32 → Option β} (S : CallFix p m c cc nL s args lw_all RX1) (X : gCtx E A s) (hw : gH E A LC LS s g H locs) (hd : decode cc pc = .ok (.getfield 188, 3)) (h : bd1 (oI g a 8 11 5) F = some r) (kk : ∀ v, F v = some r → W p l e R s m args below meth c H locs cells slots Q (F0 m (pc + 3) ls (.int v :: rest))) : W p l e R s m args below meth c H locs cells slots Q (F0 m pc ls (.ref a :: rest)) := by
  obtain ⟨v, h1, h2⟩ := bd1_some h
  obtain ⟨⟨c1, c2⟩, h3⟩ := oif h1
  rcases (by omega : (gK g a).1 = 8 ∨ (gK g a).1 = 9 ∨ (gK g a).1 = 10 ∨ (gK g a).1 = 11) with ht | ht | ht | ht
  · cases h3
    exact va_get (D := eD E) (ci := 7) (C := RX8) (T := TX8) (N := 6) S.1 S.2.1 S.2.2.2.2 in_X8 S.2.2.2.1 X.1 (va_one (hw.1.2.1 _ _ (gcell_8 ht)).1) 0 rfl rfl 5 (by decide) (S.2.2.2.2 _ q996) (fun _ h9 => h9) rfl hd (kk _ h2)
  · cases h3
    exact va_get (D := eD E) (ci := 8) (C := RX9) (T := TX9) (N := 6) S.1 S.2.1 S.2.2.2.2 in_X9 S.2.2.2.1 X.1 (va_one (hw.1.2.1 _ _ (gcell_9 ht)).1) 0 rfl rfl 5 (by decide) (S.2.2.2.2 _ q996) (fun _ h9 => h9) rfl hd (kk _ h2)
  · cases h3
    exact va_get (D := eD E) (ci := 9) (C := RX10) (T := TX10) (N := 6) S.1 S.2.1 S.2.2.2.2 in_X10 S.2.2.2.1 X.1 (va_one (hw.1.2.1 _ _ (gcell_10 ht)).1) 0 rfl rfl 5 (by decide) (S.2.2.2.2 _ q996) (fun _ h9 => h9) rfl hd (kk _ h2)
  · cases h3
    exact va_get (D := eD E) (ci := 10) (C := RX11) (T := TX11) (N := 6) S.1 S.2.1 S.2.2.2.2 in_X11 S.2.2.2.1 X.1 (va_one (hw.1.2.1 _ _ (gcell_11 ht)).1) 0 rfl rfl 5 (by decide) (S.2.2.2.2 _ q996) (fun _ h9 => h9) rfl hd (kk _ h2)
theorem ggX1_193 {F : Int32 → Option β} (S : CallFix p m c cc nL s args lw_all RX1) (X : gCtx E A s) (hw : gH E A LC LS s g H locs) (hd : decode cc pc = .ok (.getfield 193, 3)) (h : bd1 (oI g a 4 4 6) F = some r) (kk : ∀ v, F v = some r → W p l e R s m args below meth c H locs cells slots Q (F0 m (pc + 3) ls (.int v :: rest))) : W p l e R s m args below meth c H locs cells slots Q (F0 m pc ls (.ref a :: rest)) := by
  obtain ⟨v, h1, h2⟩ := bd1_some h
  obtain ⟨⟨c1, c2⟩, h3⟩ := oif h1
  have ht : (gK g a).1 = 4 := by omega
  cases h3
  exact va_getN (D := eD E) (ci := 3) (C := RX4) (T := TX4) (N := 8) S.1 S.2.1 S.2.2.2.2 in_X4 S.2.2.2.1 X.1 (va_one (hw.1.2.1 _ _ (gcell_4 ht)).1) 0 rfl rfl 6 (by decide) (va_Nw.use rfl (X.2.2.2.2.2.1 _ q319 rfl)) (fun _ h9 => h9) rfl hd (kk _ h2)
theorem gpX1_193 {v : Int32} {F : GS → Option β} (S : CallFix p m c cc nL s args lw_all RX1) (X : gCtx E A s) (hw : gH E A LC LS s g H locs) (hd : decode cc pc = .ok (.putfield 193, 3)) (h : bd1 (pI g a 4 4 6 v) F = some r) (kk : ∀ (g1 : GS) (H : Heap) (locs : List Loc), F g1 = some r → gH E A LC LS s g1 H locs → W p l e R s m args below meth c H locs (H.size - s.heap.size) (tot H - tot s.heap) Q (F0 m (pc + 3) ls rest)) : W p l e R s m args below meth c H locs cells slots Q (F0 m pc ls (.int v :: .ref a :: rest)) := by
  obtain ⟨g1, h1, h2⟩ := bd1_some h
  obtain ⟨⟨c1, c2⟩, h3⟩ := oif h1
  cases h3
  have ht : (gK g a).1 = 4 := by omega
  have hc := gcell_4 (E := E) ht
  refine gb_putN (D := eD E) (ci := 3) (C := RX4) (T := TX4) (N := 8) (ty := tyX4 6) S.1 S.2.1 S.2.2.2.2 in_X4 tyX4 tyX4_ok nmX4 S.2.2.2.1 X.1 (hw.1.2.1 _ _ hc).1 rfl 6 (by decide) (va_Nw.use rfl (X.2.2.2.2.2.1 _ q319 rfl)) (fun _ h9 => h9) rfl (tyX4_ok 6 (by decide)) rfl rfl (Nat.le_of_ble_eq_true rfl) hd (fun H1 k1 e1 z1 t1 o1 => ?_)
  exact W.canon (kk _ H1 _ h2 ⟨gB.sI hw.1 hc (gce_sI.trans (gcc_4 ht)) e1 z1 t1 o1 (by omega) (by omega), hw.2.put z1 o1 (hw.1.2.1 _ _ hc).2⟩)
theorem ggX1_199 {F : Nat → Option β} (S : CallFix p m c cc nL s args lw_all RX1) (X : gCtx E A s) (hw : gH E A LC LS s g H locs) (hd : decode cc pc = .ok (.getfield 199, 3)) (h : bd1 (oRn g a 4 4 4) F = some r) (kk : ∀ v, F v = some r → W p l e R s m args below meth c H locs cells slots Q (F0 m (pc + 3) ls (.ref v :: rest))) : W p l e R s m args below meth c H locs cells slots Q (F0 m pc ls (.ref a :: rest)) := by
  obtain ⟨v, h1, h2⟩ := bd1_some h
  obtain ⟨⟨c1, c2⟩, h3⟩ := oif h1
  have ht : (gK g a).1 = 4 := by omega
  exact va_getN (D := eD E) (ci := 3) (C := RX4) (T := TX4) (N := 8) S.1 S.2.1 S.2.2.2.2 in_X4 S.2.2.2.1 X.1 (va_one (hw.1.2.1 _ _ (gcell_4 ht)).1) 0 rfl rfl 4 (by decide) (va_Nw.use rfl (X.2.2.2.2.2.1 _ q315 rfl)) (fun _ h9 => h9) (by show some (va_rf (gR g a 4)) = some (.ref v); rw [h3]; rfl) hd (kk _ h2)
theorem ggX1_199q {F : Option Nat → Option β} (S : CallFix p m c cc nL s args lw_all RX1) (X : gCtx E A s) (hw : gH E A LC LS s g H locs) (hd : decode cc pc = .ok (.getfield 199, 3)) (h : bd1 (oR g a 4 4 4) F = some r) (kk : ∀ v, F v = some r → W p l e R s m args below meth c H locs cells slots Q (F0 m (pc + 3) ls (va_rf v :: rest))) : W p l e R s m args below meth c H locs cells slots Q (F0 m pc ls (.ref a :: rest)) := by
  obtain ⟨v, h1, h2⟩ := bd1_some h
  obtain ⟨⟨c1, c2⟩, h3⟩ := oif h1
  have ht : (gK g a).1 = 4 := by omega
  cases h3
  exact va_getN (D := eD E) (ci := 3) (C := RX4) (T := TX4) (N := 8) S.1 S.2.1 S.2.2.2.2 in_X4 S.2.2.2.1 X.1 (va_one (hw.1.2.1 _ _ (gcell_4 ht)).1) 0 rfl rfl 4 (by decide) (va_Nw.use rfl (X.2.2.2.2.2.1 _ q315 rfl)) (fun _ h9 => h9) rfl hd (kk _ h2)
theorem ggX1_217 {F : Nat → Option β} (S : CallFix p m c cc nL s args lw_all RX1) (X : gCtx E A s) (hw : gH E A LC LS s g H locs) (hd : decode cc pc = .ok (.getfield 217, 3)) (h : bd1 (oRn g a 3 3 6) F = some r) (kk : ∀ v, F v = some r → W p l e R s m args below meth c H locs cells slots Q (F0 m (pc + 3) ls (.ref v :: rest))) : W p l e R s m args below meth c H locs cells slots Q (F0 m pc ls (.ref a :: rest)) := by
  obtain ⟨v, h1, h2⟩ := bd1_some h
  obtain ⟨⟨c1, c2⟩, h3⟩ := oif h1
  have ht : (gK g a).1 = 3 := by omega
  exact va_getN (D := eD E) (ci := 2) (C := RX3) (T := TX3) (N := 8) S.1 S.2.1 S.2.2.2.2 in_X3 S.2.2.2.1 X.1 (va_one (hw.1.2.1 _ _ (gcell_3 ht)).1) 0 rfl rfl 6 (by decide) (va_Nw.use rfl (X.2.2.2.2.2.1 _ q276 rfl)) (fun _ h9 => h9) (by show some (va_rf (gR g a 6)) = some (.ref v); rw [h3]; rfl) hd (kk _ h2)
theorem ggX1_217q {F : Option Nat → Option β} (S : CallFix p m c cc nL s args lw_all RX1) (X : gCtx E A s) (hw : gH E A LC LS s g H locs) (hd : decode cc pc = .ok (.getfield 217, 3)) (h : bd1 (oR g a 3 3 6) F = some r) (kk : ∀ v, F v = some r → W p l e R s m args below meth c H locs cells slots Q (F0 m (pc + 3) ls (va_rf v :: rest))) : W p l e R s m args below meth c H locs cells slots Q (F0 m pc ls (.ref a :: rest)) := by
  obtain ⟨v, h1, h2⟩ := bd1_some h
  obtain ⟨⟨c1, c2⟩, h3⟩ := oif h1
  have ht : (gK g a).1 = 3 := by omega
  cases h3
  exact va_getN (D := eD E) (ci := 2) (C := RX3) (T := TX3) (N := 8) S.1 S.2.1 S.2.2.2.2 in_X3 S.2.2.2.1 X.1 (va_one (hw.1.2.1 _ _ (gcell_3 ht)).1) 0 rfl rfl 6 (by decide) (va_Nw.use rfl (X.2.2.2.2.2.1 _ q276 rfl)) (fun _ h9 => h9) rfl hd (kk _ h2)
theorem ggX1_231 {F : Int32 → Option β} (S : CallFix p m c cc nL s args lw_all RX1) (X : gCtx E A s) (hw : gH E A LC LS s g H locs) (hd : decode cc pc = .ok (.getfield 231, 3)) (h : bd1 (oI g a 7 7 3) F = some r) (kk : ∀ v, F v = some r → W p l e R s m args below meth c H locs cells slots Q (F0 m (pc + 3) ls (.int v :: rest))) : W p l e R s m args below meth c H locs cells slots Q (F0 m pc ls (.ref a :: rest)) := by
  obtain ⟨v, h1, h2⟩ := bd1_some h
  obtain ⟨⟨c1, c2⟩, h3⟩ := oif h1
  have ht : (gK g a).1 = 7 := by omega
  cases h3
  exact va_getN (D := eD E) (ci := 6) (C := RX7) (T := TX7) (N := 4) S.1 S.2.1 S.2.2.2.2 in_X7 S.2.2.2.1 X.1 (va_one (hw.1.2.1 _ _ (gcell_7 ht)).1) 0 rfl rfl 3 (by decide) (va_Nw.use rfl (X.2.2.2.2.2.1 _ q897 rfl)) (fun _ h9 => h9) rfl hd (kk _ h2)
theorem ggX1_243 {F : Nat → Option β} (S : CallFix p m c cc nL s args lw_all RX1) (X : gCtx E A s) (hw : gH E A LC LS s g H locs) (hd : decode cc pc = .ok (.getfield 243, 3)) (h : bd1 (oRn g a 4 4 5) F = some r) (kk : ∀ v, F v = some r → W p l e R s m args below meth c H locs cells slots Q (F0 m (pc + 3) ls (.ref v :: rest))) : W p l e R s m args below meth c H locs cells slots Q (F0 m pc ls (.ref a :: rest)) := by
  obtain ⟨v, h1, h2⟩ := bd1_some h
  obtain ⟨⟨c1, c2⟩, h3⟩ := oif h1
  have ht : (gK g a).1 = 4 := by omega
  exact va_getN (D := eD E) (ci := 3) (C := RX4) (T := TX4) (N := 8) S.1 S.2.1 S.2.2.2.2 in_X4 S.2.2.2.1 X.1 (va_one (hw.1.2.1 _ _ (gcell_4 ht)).1) 0 rfl rfl 5 (by decide) (va_Nw.use rfl (X.2.2.2.2.2.1 _ q317 rfl)) (fun _ h9 => h9) (by show some (va_rf (gR g a 5)) = some (.ref v); rw [h3]; rfl) hd (kk _ h2)
theorem ggX1_243q {F : Option Nat → Option β} (S : CallFix p m c cc nL s args lw_all RX1) (X : gCtx E A s) (hw : gH E A LC LS s g H locs) (hd : decode cc pc = .ok (.getfield 243, 3)) (h : bd1 (oR g a 4 4 5) F = some r) (kk : ∀ v, F v = some r → W p l e R s m args below meth c H locs cells slots Q (F0 m (pc + 3) ls (va_rf v :: rest))) : W p l e R s m args below meth c H locs cells slots Q (F0 m pc ls (.ref a :: rest)) := by
  obtain ⟨v, h1, h2⟩ := bd1_some h
  obtain ⟨⟨c1, c2⟩, h3⟩ := oif h1
  have ht : (gK g a).1 = 4 := by omega
  cases h3
  exact va_getN (D := eD E) (ci := 3) (C := RX4) (T := TX4) (N := 8) S.1 S.2.1 S.2.2.2.2 in_X4 S.2.2.2.1 X.1 (va_one (hw.1.2.1 _ _ (gcell_4 ht)).1) 0 rfl rfl 5 (by decide) (va_Nw.use rfl (X.2.2.2.2.2.1 _ q317 rfl)) (fun _ h9 => h9) rfl hd (kk _ h2)
theorem ggX1_249 {F : Int32 → Option β} (S : CallFix p m c cc nL s args lw_all RX1) (X : gCtx E A s) (hw : gH E A LC LS s g H locs) (hd : decode cc pc = .ok (.getfield 249, 3)) (h : bd1 (oI g a 4 4 7) F = some r) (kk : ∀ v, F v = some r → W p l e R s m args below meth c H locs cells slots Q (F0 m (pc + 3) ls (.int v :: rest))) : W p l e R s m args below meth c H locs cells slots Q (F0 m pc ls (.ref a :: rest)) := by
  obtain ⟨v, h1, h2⟩ := bd1_some h
  obtain ⟨⟨c1, c2⟩, h3⟩ := oif h1
  have ht : (gK g a).1 = 4 := by omega
  cases h3
  exact va_getN (D := eD E) (ci := 3) (C := RX4) (T := TX4) (N := 8) S.1 S.2.1 S.2.2.2.2 in_X4 S.2.2.2.1 X.1 (va_one (hw.1.2.1 _ _ (gcell_4 ht)).1) 0 rfl rfl 7 (by decide) (va_Nw.use rfl (X.2.2.2.2.2.1 _ q321 rfl)) (fun _ h9 => h9) rfl hd (kk _ h2)
theorem gpX1_249 {v : Int32} {F : GS → Option β} (S : CallFix p m c cc nL s args lw_all RX1) (X : gCtx E A s) (hw : gH E A LC LS s g H locs) (hd : decode cc pc = .ok (.putfield 249, 3)) (h : bd1 (pI g a 4 4 7 v) F = some r) (kk : ∀ (g1 : GS) (H : Heap) (locs : List Loc), F g1 = some r → gH E A LC LS s g1 H locs → W p l e R s m args below meth c H locs (H.size - s.heap.size) (tot H - tot s.heap) Q (F0 m (pc + 3) ls rest)) : W p l e R s m args below meth c H locs cells slots Q (F0 m pc ls (.int v :: .ref a :: rest)) := by
  obtain ⟨g1, h1, h2⟩ := bd1_some h
  obtain ⟨⟨c1, c2⟩, h3⟩ := oif h1
  cases h3
  have ht : (gK g a).1 = 4 := by omega
  have hc := gcell_4 (E := E) ht
  refine gb_putN (D := eD E) (ci := 3) (C := RX4) (T := TX4) (N := 8) (ty := tyX4 7) S.1 S.2.1 S.2.2.2.2 in_X4 tyX4 tyX4_ok nmX4 S.2.2.2.1 X.1 (hw.1.2.1 _ _ hc).1 rfl 7 (by decide) (va_Nw.use rfl (X.2.2.2.2.2.1 _ q321 rfl)) (fun _ h9 => h9) rfl (tyX4_ok 7 (by decide)) rfl rfl (Nat.le_of_ble_eq_true rfl) hd (fun H1 k1 e1 z1 t1 o1 => ?_)
  exact W.canon (kk _ H1 _ h2 ⟨gB.sI hw.1 hc (gce_sI.trans (gcc_4 ht)) e1 z1 t1 o1 (by omega) (by omega), hw.2.put z1 o1 (hw.1.2.1 _ _ hc).2⟩)
theorem ggX1_258 {F : Int32 → Option β} (S : CallFix p m c cc nL s args lw_all RX1) (X : gCtx E A s) (hw : gH E A LC LS s g H locs) (hd : decode cc pc = .ok (.getfield 258, 3)) (h : bd1 (oI g a 7 7 1) F = some r) (kk : ∀ v, F v = some r → W p l e R s m args below meth c H locs cells slots Q (F0 m (pc + 3) ls (.int v :: rest))) : W p l e R s m args below meth c H locs cells slots Q (F0 m pc ls (.ref a :: rest)) := by
  obtain ⟨v, h1, h2⟩ := bd1_some h
  obtain ⟨⟨c1, c2⟩, h3⟩ := oif h1
  have ht : (gK g a).1 = 7 := by omega
  cases h3
  exact va_getN (D := eD E) (ci := 6) (C := RX7) (T := TX7) (N := 4) S.1 S.2.1 S.2.2.2.2 in_X7 S.2.2.2.1 X.1 (va_one (hw.1.2.1 _ _ (gcell_7 ht)).1) 0 rfl rfl 1 (by decide) (va_Nw.use rfl (X.2.2.2.2.2.1 _ q889 rfl)) (fun _ h9 => h9) rfl hd (kk _ h2)
theorem ggX1_264 {F : Int32 → Option β} (S : CallFix p m c cc nL s args lw_all RX1) (X : gCtx E A s) (hw : gH E A LC LS s g H locs) (hd : decode cc pc = .ok (.getfield 264, 3)) (h : bd1 (oI g a 8 11 1) F = some r) (kk : ∀ v, F v = some r → W p l e R s m args below meth c H locs cells slots Q (F0 m (pc + 3) ls (.int v :: rest))) : W p l e R s m args below meth c H locs cells slots Q (F0 m pc ls (.ref a :: rest)) := by
  obtain ⟨v, h1, h2⟩ := bd1_some h
  obtain ⟨⟨c1, c2⟩, h3⟩ := oif h1
  rcases (by omega : (gK g a).1 = 8 ∨ (gK g a).1 = 9 ∨ (gK g a).1 = 10 ∨ (gK g a).1 = 11) with ht | ht | ht | ht
  · cases h3
    exact va_get (D := eD E) (ci := 7) (C := RX8) (T := TX8) (N := 6) S.1 S.2.1 S.2.2.2.2 in_X8 S.2.2.2.1 X.1 (va_one (hw.1.2.1 _ _ (gcell_8 ht)).1) 0 rfl rfl 1 (by decide) (S.2.2.2.2 _ q987) (fun _ h9 => h9) rfl hd (kk _ h2)
  · cases h3
    exact va_get (D := eD E) (ci := 8) (C := RX9) (T := TX9) (N := 6) S.1 S.2.1 S.2.2.2.2 in_X9 S.2.2.2.1 X.1 (va_one (hw.1.2.1 _ _ (gcell_9 ht)).1) 0 rfl rfl 1 (by decide) (S.2.2.2.2 _ q987) (fun _ h9 => h9) rfl hd (kk _ h2)
  · cases h3
    exact va_get (D := eD E) (ci := 9) (C := RX10) (T := TX10) (N := 6) S.1 S.2.1 S.2.2.2.2 in_X10 S.2.2.2.1 X.1 (va_one (hw.1.2.1 _ _ (gcell_10 ht)).1) 0 rfl rfl 1 (by decide) (S.2.2.2.2 _ q987) (fun _ h9 => h9) rfl hd (kk _ h2)
  · cases h3
    exact va_get (D := eD E) (ci := 10) (C := RX11) (T := TX11) (N := 6) S.1 S.2.1 S.2.2.2.2 in_X11 S.2.2.2.1 X.1 (va_one (hw.1.2.1 _ _ (gcell_11 ht)).1) 0 rfl rfl 1 (by decide) (S.2.2.2.2 _ q987) (fun _ h9 => h9) rfl hd (kk _ h2)
theorem ggX1_267 {F : Int32 → Option β} (S : CallFix p m c cc nL s args lw_all RX1) (X : gCtx E A s) (hw : gH E A LC LS s g H locs) (hd : decode cc pc = .ok (.getfield 267, 3)) (h : bd1 (oI g a 8 11 2) F = some r) (kk : ∀ v, F v = some r → W p l e R s m args below meth c H locs cells slots Q (F0 m (pc + 3) ls (.int v :: rest))) : W p l e R s m args below meth c H locs cells slots Q (F0 m pc ls (.ref a :: rest)) := by
  obtain ⟨v, h1, h2⟩ := bd1_some h
  obtain ⟨⟨c1, c2⟩, h3⟩ := oif h1
  rcases (by omega : (gK g a).1 = 8 ∨ (gK g a).1 = 9 ∨ (gK g a).1 = 10 ∨ (gK g a).1 = 11) with ht | ht | ht | ht
  · cases h3
    exact va_get (D := eD E) (ci := 7) (C := RX8) (T := TX8) (N := 6) S.1 S.2.1 S.2.2.2.2 in_X8 S.2.2.2.1 X.1 (va_one (hw.1.2.1 _ _ (gcell_8 ht)).1) 0 rfl rfl 2 (by decide) (S.2.2.2.2 _ q989) (fun _ h9 => h9) rfl hd (kk _ h2)
  · cases h3
    exact va_get (D := eD E) (ci := 8) (C := RX9) (T := TX9) (N := 6) S.1 S.2.1 S.2.2.2.2 in_X9 S.2.2.2.1 X.1 (va_one (hw.1.2.1 _ _ (gcell_9 ht)).1) 0 rfl rfl 2 (by decide) (S.2.2.2.2 _ q989) (fun _ h9 => h9) rfl hd (kk _ h2)
  · cases h3
    exact va_get (D := eD E) (ci := 9) (C := RX10) (T := TX10) (N := 6) S.1 S.2.1 S.2.2.2.2 in_X10 S.2.2.2.1 X.1 (va_one (hw.1.2.1 _ _ (gcell_10 ht)).1) 0 rfl rfl 2 (by decide) (S.2.2.2.2 _ q989) (fun _ h9 => h9) rfl hd (kk _ h2)
  · cases h3
    exact va_get (D := eD E) (ci := 10) (C := RX11) (T := TX11) (N := 6) S.1 S.2.1 S.2.2.2.2 in_X11 S.2.2.2.1 X.1 (va_one (hw.1.2.1 _ _ (gcell_11 ht)).1) 0 rfl rfl 2 (by decide) (S.2.2.2.2 _ q989) (fun _ h9 => h9) rfl hd (kk _ h2)
theorem ggX1_270 {F : Nat → Option β} (S : CallFix p m c cc nL s args lw_all RX1) (X : gCtx E A s) (hw : gH E A LC LS s g H locs) (hd : decode cc pc = .ok (.getfield 270, 3)) (h : bd1 (oRn g a 4 4 3) F = some r) (kk : ∀ v, F v = some r → W p l e R s m args below meth c H locs cells slots Q (F0 m (pc + 3) ls (.ref v :: rest))) : W p l e R s m args below meth c H locs cells slots Q (F0 m pc ls (.ref a :: rest)) := by
  obtain ⟨v, h1, h2⟩ := bd1_some h
  obtain ⟨⟨c1, c2⟩, h3⟩ := oif h1
  have ht : (gK g a).1 = 4 := by omega
  exact va_getN (D := eD E) (ci := 3) (C := RX4) (T := TX4) (N := 8) S.1 S.2.1 S.2.2.2.2 in_X4 S.2.2.2.1 X.1 (va_one (hw.1.2.1 _ _ (gcell_4 ht)).1) 0 rfl rfl 3 (by decide) (va_Nw.use rfl (X.2.2.2.2.2.1 _ q313 rfl)) (fun _ h9 => h9) (by show some (va_rf (gR g a 3)) = some (.ref v); rw [h3]; rfl) hd (kk _ h2)
theorem ggX1_270q {F : Option Nat → Option β} (S : CallFix p m c cc nL s args lw_all RX1) (X : gCtx E A s) (hw : gH E A LC LS s g H locs) (hd : decode cc pc = .ok (.getfield 270, 3)) (h : bd1 (oR g a 4 4 3) F = some r) (kk : ∀ v, F v = some r → W p l e R s m args below meth c H locs cells slots Q (F0 m (pc + 3) ls (va_rf v :: rest))) : W p l e R s m args below meth c H locs cells slots Q (F0 m pc ls (.ref a :: rest)) := by
  obtain ⟨v, h1, h2⟩ := bd1_some h
  obtain ⟨⟨c1, c2⟩, h3⟩ := oif h1
  have ht : (gK g a).1 = 4 := by omega
  cases h3
  exact va_getN (D := eD E) (ci := 3) (C := RX4) (T := TX4) (N := 8) S.1 S.2.1 S.2.2.2.2 in_X4 S.2.2.2.1 X.1 (va_one (hw.1.2.1 _ _ (gcell_4 ht)).1) 0 rfl rfl 3 (by decide) (va_Nw.use rfl (X.2.2.2.2.2.1 _ q313 rfl)) (fun _ h9 => h9) rfl hd (kk _ h2)
theorem ggX1_292 {F : Int32 → Option β} (S : CallFix p m c cc nL s args lw_all RX1) (X : gCtx E A s) (hw : gH E A LC LS s g H locs) (hd : decode cc pc = .ok (.getfield 292, 3)) (h : bd1 (oI g a 3 3 4) F = some r) (kk : ∀ v, F v = some r → W p l e R s m args below meth c H locs cells slots Q (F0 m (pc + 3) ls (.int v :: rest))) : W p l e R s m args below meth c H locs cells slots Q (F0 m pc ls (.ref a :: rest)) := by
  obtain ⟨v, h1, h2⟩ := bd1_some h
  obtain ⟨⟨c1, c2⟩, h3⟩ := oif h1
  have ht : (gK g a).1 = 3 := by omega
  cases h3
  exact va_getN (D := eD E) (ci := 2) (C := RX3) (T := TX3) (N := 8) S.1 S.2.1 S.2.2.2.2 in_X3 S.2.2.2.1 X.1 (va_one (hw.1.2.1 _ _ (gcell_3 ht)).1) 0 rfl rfl 4 (by decide) (va_Nw.use rfl (X.2.2.2.2.2.1 _ q272 rfl)) (fun _ h9 => h9) rfl hd (kk _ h2)
theorem ggX1_317 {F : Int32 → Option β} (S : CallFix p m c cc nL s args lw_all RX1) (X : gCtx E A s) (hw : gH E A LC LS s g H locs) (hd : decode cc pc = .ok (.getfield 317, 3)) (h : bd1 (oI g a 1 1 12) F = some r) (kk : ∀ v, F v = some r → W p l e R s m args below meth c H locs cells slots Q (F0 m (pc + 3) ls (.int v :: rest))) : W p l e R s m args below meth c H locs cells slots Q (F0 m pc ls (.ref a :: rest)) := by
  obtain ⟨v, h1, h2⟩ := bd1_some h
  obtain ⟨⟨c1, c2⟩, h3⟩ := oif h1
  have ht : (gK g a).1 = 1 := by omega
  cases h3
  exact va_get (D := eD E) (ci := 0) (C := RX1) (T := TX1) (N := 25) S.1 S.2.1 S.2.2.2.2 in_X1 S.2.2.2.1 X.1 (va_one (hw.1.2.1 _ _ (gcell_1 ht)).1) 0 rfl rfl 12 (by decide) (S.2.2.2.2 _ q381) (fun _ h9 => h9) rfl hd (kk _ h2)
theorem gpX1_317 {v : Int32} {F : GS → Option β} (S : CallFix p m c cc nL s args lw_all RX1) (X : gCtx E A s) (hw : gH E A LC LS s g H locs) (hd : decode cc pc = .ok (.putfield 317, 3)) (h : bd1 (pI g a 1 1 12 v) F = some r) (kk : ∀ (g1 : GS) (H : Heap) (locs : List Loc), F g1 = some r → gH E A LC LS s g1 H locs → W p l e R s m args below meth c H locs (H.size - s.heap.size) (tot H - tot s.heap) Q (F0 m (pc + 3) ls rest)) : W p l e R s m args below meth c H locs cells slots Q (F0 m pc ls (.int v :: .ref a :: rest)) := by
  obtain ⟨g1, h1, h2⟩ := bd1_some h
  obtain ⟨⟨c1, c2⟩, h3⟩ := oif h1
  cases h3
  have ht : (gK g a).1 = 1 := by omega
  have hc := gcell_1 (E := E) ht
  refine gb_put (D := eD E) (ci := 0) (C := RX1) (T := TX1) (N := 25) (ty := tyX1 12) S.1 S.2.1 S.2.2.2.2 in_X1 tyX1 tyX1_ok nmX1 S.2.2.2.1 X.1 (hw.1.2.1 _ _ hc).1 rfl 12 (by decide) (S.2.2.2.2 _ q381) (fun _ h9 => h9) rfl (tyX1_ok 12 (by decide)) rfl rfl (Nat.le_of_ble_eq_true rfl) hd (fun H1 k1 e1 z1 t1 o1 => ?_)
  exact W.canon (kk _ H1 _ h2 ⟨gB.sI hw.1 hc (gce_sI.trans (gcc_1 ht)) e1 z1 t1 o1 (by omega) (by omega), hw.2.put z1 o1 (hw.1.2.1 _ _ hc).2⟩)
theorem ggX1_320 {F : Nat → Option β} (S : CallFix p m c cc nL s args lw_all RX1) (X : gCtx E A s) (hw : gH E A LC LS s g H locs) (hd : decode cc pc = .ok (.getfield 320, 3)) (h : bd1 (oRn g a 3 3 2) F = some r) (kk : ∀ v, F v = some r → W p l e R s m args below meth c H locs cells slots Q (F0 m (pc + 3) ls (.ref v :: rest))) : W p l e R s m args below meth c H locs cells slots Q (F0 m pc ls (.ref a :: rest)) := by
  obtain ⟨v, h1, h2⟩ := bd1_some h
  obtain ⟨⟨c1, c2⟩, h3⟩ := oif h1
  have ht : (gK g a).1 = 3 := by omega
  exact va_getN (D := eD E) (ci := 2) (C := RX3) (T := TX3) (N := 8) S.1 S.2.1 S.2.2.2.2 in_X3 S.2.2.2.1 X.1 (va_one (hw.1.2.1 _ _ (gcell_3 ht)).1) 0 rfl rfl 2 (by decide) (va_Nw.use rfl (X.2.2.2.2.2.1 _ q266 rfl)) (fun _ h9 => h9) (by show some (va_rf (gR g a 2)) = some (.ref v); rw [h3]; rfl) hd (kk _ h2)
theorem ggX1_320q {F : Option Nat → Option β} (S : CallFix p m c cc nL s args lw_all RX1) (X : gCtx E A s) (hw : gH E A LC LS s g H locs) (hd : decode cc pc = .ok (.getfield 320, 3)) (h : bd1 (oR g a 3 3 2) F = some r) (kk : ∀ v, F v = some r → W p l e R s m args below meth c H locs cells slots Q (F0 m (pc + 3) ls (va_rf v :: rest))) : W p l e R s m args below meth c H locs cells slots Q (F0 m pc ls (.ref a :: rest)) := by
  obtain ⟨v, h1, h2⟩ := bd1_some h
  obtain ⟨⟨c1, c2⟩, h3⟩ := oif h1
  have ht : (gK g a).1 = 3 := by omega
  cases h3
  exact va_getN (D := eD E) (ci := 2) (C := RX3) (T := TX3) (N := 8) S.1 S.2.1 S.2.2.2.2 in_X3 S.2.2.2.1 X.1 (va_one (hw.1.2.1 _ _ (gcell_3 ht)).1) 0 rfl rfl 2 (by decide) (va_Nw.use rfl (X.2.2.2.2.2.1 _ q266 rfl)) (fun _ h9 => h9) rfl hd (kk _ h2)
theorem ggX1_329 {F : Int32 → Option β} (S : CallFix p m c cc nL s args lw_all RX1) (X : gCtx E A s) (hw : gH E A LC LS s g H locs) (hd : decode cc pc = .ok (.getfield 329, 3)) (h : bd1 (oI g a 12 12 1) F = some r) (kk : ∀ v, F v = some r → W p l e R s m args below meth c H locs cells slots Q (F0 m (pc + 3) ls (.int v :: rest))) : W p l e R s m args below meth c H locs cells slots Q (F0 m pc ls (.ref a :: rest)) := by
  obtain ⟨v, h1, h2⟩ := bd1_some h
  obtain ⟨⟨c1, c2⟩, h3⟩ := oif h1
  have ht : (gK g a).1 = 12 := by omega
  cases h3
  exact va_getN (D := eD E) (ci := 11) (C := RX12) (T := TX12) (N := 4) S.1 S.2.1 S.2.2.2.2 in_X12 S.2.2.2.1 X.1 (va_one (hw.1.2.1 _ _ (gcell_12 ht)).1) 0 rfl rfl 1 (by decide) (va_Nw.use rfl (X.2.2.2.2.2.1 _ q1086 rfl)) (fun _ h9 => h9) rfl hd (kk _ h2)
theorem ggX1_332 {F : Int32 → Option β} (S : CallFix p m c cc nL s args lw_all RX1) (X : gCtx E A s) (hw : gH E A LC LS s g H locs) (hd : decode cc pc = .ok (.getfield 332, 3)) (h : bd1 (oI g a 12 12 2) F = some r) (kk : ∀ v, F v = some r → W p l e R s m args below meth c H locs cells slots Q (F0 m (pc + 3) ls (.int v :: rest))) : W p l e R s m args below meth c H locs cells slots Q (F0 m pc ls (.ref a :: rest)) := by
  obtain ⟨v, h1, h2⟩ := bd1_some h
  obtain ⟨⟨c1, c2⟩, h3⟩ := oif h1
  have ht : (gK g a).1 = 12 := by omega
  cases h3
  exact va_getN (D := eD E) (ci := 11) (C := RX12) (T := TX12) (N := 4) S.1 S.2.1 S.2.2.2.2 in_X12 S.2.2.2.1 X.1 (va_one (hw.1.2.1 _ _ (gcell_12 ht)).1) 0 rfl rfl 2 (by decide) (va_Nw.use rfl (X.2.2.2.2.2.1 _ q1088 rfl)) (fun _ h9 => h9) rfl hd (kk _ h2)
theorem ggX1_335 {F : Int32 → Option β} (S : CallFix p m c cc nL s args lw_all RX1) (X : gCtx E A s) (hw : gH E A LC LS s g H locs) (hd : decode cc pc = .ok (.getfield 335, 3)) (h : bd1 (oI g a 12 12 3) F = some r) (kk : ∀ v, F v = some r → W p l e R s m args below meth c H locs cells slots Q (F0 m (pc + 3) ls (.int v :: rest))) : W p l e R s m args below meth c H locs cells slots Q (F0 m pc ls (.ref a :: rest)) := by
  obtain ⟨v, h1, h2⟩ := bd1_some h
  obtain ⟨⟨c1, c2⟩, h3⟩ := oif h1
  have ht : (gK g a).1 = 12 := by omega
  cases h3
  exact va_getN (D := eD E) (ci := 11) (C := RX12) (T := TX12) (N := 4) S.1 S.2.1 S.2.2.2.2 in_X12 S.2.2.2.1 X.1 (va_one (hw.1.2.1 _ _ (gcell_12 ht)).1) 0 rfl rfl 3 (by decide) (va_Nw.use rfl (X.2.2.2.2.2.1 _ q1090 rfl)) (fun _ h9 => h9) rfl hd (kk _ h2)
theorem ggX1_342 {F : Nat → Option β} (S : CallFix p m c cc nL s args lw_all RX1) (X : gCtx E A s) (hw : gH E A LC LS s g H locs) (hd : decode cc pc = .ok (.getfield 342, 3)) (h : bd1 (oRn g a 3 3 7) F = some r) (kk : ∀ v, F v = some r → W p l e R s m args below meth c H locs cells slots Q (F0 m (pc + 3) ls (.ref v :: rest))) : W p l e R s m args below meth c H locs cells slots Q (F0 m pc ls (.ref a :: rest)) := by
  obtain ⟨v, h1, h2⟩ := bd1_some h
  obtain ⟨⟨c1, c2⟩, h3⟩ := oif h1
  have ht : (gK g a).1 = 3 := by omega
  exact va_getN (D := eD E) (ci := 2) (C := RX3) (T := TX3) (N := 8) S.1 S.2.1 S.2.2.2.2 in_X3 S.2.2.2.1 X.1 (va_one (hw.1.2.1 _ _ (gcell_3 ht)).1) 0 rfl rfl 7 (by decide) (va_Nw.use rfl (X.2.2.2.2.2.1 _ q278 rfl)) (fun _ h9 => h9) (by show some (va_rf (gR g a 7)) = some (.ref v); rw [h3]; rfl) hd (kk _ h2)
theorem ggX1_342q {F : Option Nat → Option β} (S : CallFix p m c cc nL s args lw_all RX1) (X : gCtx E A s) (hw : gH E A LC LS s g H locs) (hd : decode cc pc = .ok (.getfield 342, 3)) (h : bd1 (oR g a 3 3 7) F = some r) (kk : ∀ v, F v = some r → W p l e R s m args below meth c H locs cells slots Q (F0 m (pc + 3) ls (va_rf v :: rest))) : W p l e R s m args below meth c H locs cells slots Q (F0 m pc ls (.ref a :: rest)) := by
  obtain ⟨v, h1, h2⟩ := bd1_some h
  obtain ⟨⟨c1, c2⟩, h3⟩ := oif h1
  have ht : (gK g a).1 = 3 := by omega
  cases h3
  exact va_getN (D := eD E) (ci := 2) (C := RX3) (T := TX3) (N := 8) S.1 S.2.1 S.2.2.2.2 in_X3 S.2.2.2.1 X.1 (va_one (hw.1.2.1 _ _ (gcell_3 ht)).1) 0 rfl rfl 7 (by decide) (va_Nw.use rfl (X.2.2.2.2.2.1 _ q278 rfl)) (fun _ h9 => h9) rfl hd (kk _ h2)
theorem ggX1_375 {F : Int32 → Option β} (S : CallFix p m c cc nL s args lw_all RX1) (X : gCtx E A s) (hw : gH E A LC LS s g H locs) (hd : decode cc pc = .ok (.getfield 375, 3)) (h : bd1 (oI g a 1 1 21) F = some r) (kk : ∀ v, F v = some r → W p l e R s m args below meth c H locs cells slots Q (F0 m (pc + 3) ls (.int v :: rest))) : W p l e R s m args below meth c H locs cells slots Q (F0 m pc ls (.ref a :: rest)) := by
  obtain ⟨v, h1, h2⟩ := bd1_some h
  obtain ⟨⟨c1, c2⟩, h3⟩ := oif h1
  have ht : (gK g a).1 = 1 := by omega
  cases h3
  exact va_get (D := eD E) (ci := 0) (C := RX1) (T := TX1) (N := 25) S.1 S.2.1 S.2.2.2.2 in_X1 S.2.2.2.1 X.1 (va_one (hw.1.2.1 _ _ (gcell_1 ht)).1) 0 rfl rfl 21 (by decide) (S.2.2.2.2 _ q390) (fun _ h9 => h9) rfl hd (kk _ h2)
theorem gpX1_375 {v : Int32} {F : GS → Option β} (S : CallFix p m c cc nL s args lw_all RX1) (X : gCtx E A s) (hw : gH E A LC LS s g H locs) (hd : decode cc pc = .ok (.putfield 375, 3)) (h : bd1 (pI g a 1 1 21 v) F = some r) (kk : ∀ (g1 : GS) (H : Heap) (locs : List Loc), F g1 = some r → gH E A LC LS s g1 H locs → W p l e R s m args below meth c H locs (H.size - s.heap.size) (tot H - tot s.heap) Q (F0 m (pc + 3) ls rest)) : W p l e R s m args below meth c H locs cells slots Q (F0 m pc ls (.int v :: .ref a :: rest)) := by
  obtain ⟨g1, h1, h2⟩ := bd1_some h
  obtain ⟨⟨c1, c2⟩, h3⟩ := oif h1
  cases h3
  have ht : (gK g a).1 = 1 := by omega
  have hc := gcell_1 (E := E) ht
  refine gb_put (D := eD E) (ci := 0) (C := RX1) (T := TX1) (N := 25) (ty := tyX1 21) S.1 S.2.1 S.2.2.2.2 in_X1 tyX1 tyX1_ok nmX1 S.2.2.2.1 X.1 (hw.1.2.1 _ _ hc).1 rfl 21 (by decide) (S.2.2.2.2 _ q390) (fun _ h9 => h9) rfl (tyX1_ok 21 (by decide)) rfl rfl (Nat.le_of_ble_eq_true rfl) hd (fun H1 k1 e1 z1 t1 o1 => ?_)
  exact W.canon (kk _ H1 _ h2 ⟨gB.sI hw.1 hc (gce_sI.trans (gcc_1 ht)) e1 z1 t1 o1 (by omega) (by omega), hw.2.put z1 o1 (hw.1.2.1 _ _ hc).2⟩)
theorem ggX1_378 {F : Int32 → Option β} (S : CallFix p m c cc nL s args lw_all RX1) (X : gCtx E A s) (hw : gH E A LC LS s g H locs) (hd : decode cc pc = .ok (.getfield 378, 3)) (h : bd1 (oI g a 1 1 22) F = some r) (kk : ∀ v, F v = some r → W p l e R s m args below meth c H locs cells slots Q (F0 m (pc + 3) ls (.int v :: rest))) : W p l e R s m args below meth c H locs cells slots Q (F0 m pc ls (.ref a :: rest)) := by
  obtain ⟨v, h1, h2⟩ := bd1_some h
  obtain ⟨⟨c1, c2⟩, h3⟩ := oif h1
  have ht : (gK g a).1 = 1 := by omega
  cases h3
  exact va_get (D := eD E) (ci := 0) (C := RX1) (T := TX1) (N := 25) S.1 S.2.1 S.2.2.2.2 in_X1 S.2.2.2.1 X.1 (va_one (hw.1.2.1 _ _ (gcell_1 ht)).1) 0 rfl rfl 22 (by decide) (S.2.2.2.2 _ q391) (fun _ h9 => h9) rfl hd (kk _ h2)
theorem gpX1_378 {v : Int32} {F : GS → Option β} (S : CallFix p m c cc nL s args lw_all RX1) (X : gCtx E A s) (hw : gH E A LC LS s g H locs) (hd : decode cc pc = .ok (.putfield 378, 3)) (h : bd1 (pI g a 1 1 22 v) F = some r) (kk : ∀ (g1 : GS) (H : Heap) (locs : List Loc), F g1 = some r → gH E A LC LS s g1 H locs → W p l e R s m args below meth c H locs (H.size - s.heap.size) (tot H - tot s.heap) Q (F0 m (pc + 3) ls rest)) : W p l e R s m args below meth c H locs cells slots Q (F0 m pc ls (.int v :: .ref a :: rest)) := by
  obtain ⟨g1, h1, h2⟩ := bd1_some h
  obtain ⟨⟨c1, c2⟩, h3⟩ := oif h1
  cases h3
  have ht : (gK g a).1 = 1 := by omega
  have hc := gcell_1 (E := E) ht
  refine gb_put (D := eD E) (ci := 0) (C := RX1) (T := TX1) (N := 25) (ty := tyX1 22) S.1 S.2.1 S.2.2.2.2 in_X1 tyX1 tyX1_ok nmX1 S.2.2.2.1 X.1 (hw.1.2.1 _ _ hc).1 rfl 22 (by decide) (S.2.2.2.2 _ q391) (fun _ h9 => h9) rfl (tyX1_ok 22 (by decide)) rfl rfl (Nat.le_of_ble_eq_true rfl) hd (fun H1 k1 e1 z1 t1 o1 => ?_)
  exact W.canon (kk _ H1 _ h2 ⟨gB.sI hw.1 hc (gce_sI.trans (gcc_1 ht)) e1 z1 t1 o1 (by omega) (by omega), hw.2.put z1 o1 (hw.1.2.1 _ _ hc).2⟩)
theorem ggX1_393 {F : Int64 → Option β} (S : CallFix p m c cc nL s args lw_all RX1) (X : gCtx E A s) (hw : gH E A LC LS s g H locs) (hd : decode cc pc = .ok (.getfield 393, 3)) (h : bd1 (oL g a 1 1 23) F = some r) (kk : ∀ v, F v = some r → W p l e R s m args below meth c H locs cells slots Q (F0 m (pc + 3) ls (.long v :: rest))) : W p l e R s m args below meth c H locs cells slots Q (F0 m pc ls (.ref a :: rest)) := by
  obtain ⟨v, h1, h2⟩ := bd1_some h
  obtain ⟨⟨c1, c2⟩, h3⟩ := oif h1
  have ht : (gK g a).1 = 1 := by omega
  cases h3
  exact va_get (D := eD E) (ci := 0) (C := RX1) (T := TX1) (N := 25) S.1 S.2.1 S.2.2.2.2 in_X1 S.2.2.2.1 X.1 (va_one (hw.1.2.1 _ _ (gcell_1 ht)).1) 0 rfl rfl 23 (by decide) (S.2.2.2.2 _ q392) (fun _ h9 => h9) rfl hd (kk _ h2)
theorem gpX1_393 {v : Int64} {F : GS → Option β} (S : CallFix p m c cc nL s args lw_all RX1) (X : gCtx E A s) (hw : gH E A LC LS s g H locs) (hd : decode cc pc = .ok (.putfield 393, 3)) (h : bd1 (pL g a 1 1 23 v) F = some r) (kk : ∀ (g1 : GS) (H : Heap) (locs : List Loc), F g1 = some r → gH E A LC LS s g1 H locs → W p l e R s m args below meth c H locs (H.size - s.heap.size) (tot H - tot s.heap) Q (F0 m (pc + 3) ls rest)) : W p l e R s m args below meth c H locs cells slots Q (F0 m pc ls (.long v :: .ref a :: rest)) := by
  obtain ⟨g1, h1, h2⟩ := bd1_some h
  obtain ⟨⟨c1, c2⟩, h3⟩ := oif h1
  cases h3
  have ht : (gK g a).1 = 1 := by omega
  have hc := gcell_1 (E := E) ht
  refine gb_put (D := eD E) (ci := 0) (C := RX1) (T := TX1) (N := 25) (ty := tyX1 23) S.1 S.2.1 S.2.2.2.2 in_X1 tyX1 tyX1_ok nmX1 S.2.2.2.1 X.1 (hw.1.2.1 _ _ hc).1 rfl 23 (by decide) (S.2.2.2.2 _ q392) (fun _ h9 => h9) rfl (tyX1_ok 23 (by decide)) rfl rfl (Nat.le_of_ble_eq_true rfl) hd (fun H1 k1 e1 z1 t1 o1 => ?_)
  exact W.canon (kk _ H1 _ h2 ⟨gB.sL hw.1 hc (gce_sL.trans (gcc_1 ht)) e1 z1 t1 o1 (by omega) (by omega), hw.2.put z1 o1 (hw.1.2.1 _ _ hc).2⟩)
theorem ggX1_412 {F : Nat → Option β} (S : CallFix p m c cc nL s args lw_all RX1) (X : gCtx E A s) (hw : gH E A LC LS s g H locs) (hd : decode cc pc = .ok (.getfield 412, 3)) (h : bd1 (oRn g a 28 28 0) F = some r) (kk : ∀ v, F v = some r → W p l e R s m args below meth c H locs cells slots Q (F0 m (pc + 3) ls (.ref v :: rest))) : W p l e R s m args below meth c H locs cells slots Q (F0 m pc ls (.ref a :: rest)) := by
  obtain ⟨v, h1, h2⟩ := bd1_some h
  obtain ⟨⟨c1, c2⟩, h3⟩ := oif h1
  have ht : (gK g a).1 = 28 := by omega
  exact va_getN (D := eD E) (ci := 21) (C := RX25) (T := TX25) (N := 4) S.1 S.2.1 S.2.2.2.2 in_X25 S.2.2.2.1 X.1 (va_one (hw.1.2.1 _ _ (gcell_28 ht)).1) 0 rfl rfl 0 (by decide) (va_Nw.use rfl (X.2.2.2.2.2.1 _ q1657 rfl)) (fun _ h9 => h9) (by show some (va_rf (gR g a 0)) = some (.ref v); rw [h3]; rfl) hd (kk _ h2)
theorem ggX1_412q {F : Option Nat → Option β} (S : CallFix p m c cc nL s args lw_all RX1) (X : gCtx E A s) (hw : gH E A LC LS s g H locs) (hd : decode cc pc = .ok (.getfield 412, 3)) (h : bd1 (oR g a 28 28 0) F = some r) (kk : ∀ v, F v = some r → W p l e R s m args below meth c H locs cells slots Q (F0 m (pc + 3) ls (va_rf v :: rest))) : W p l e R s m args below meth c H locs cells slots Q (F0 m pc ls (.ref a :: rest)) := by
  obtain ⟨v, h1, h2⟩ := bd1_some h
  obtain ⟨⟨c1, c2⟩, h3⟩ := oif h1
  have ht : (gK g a).1 = 28 := by omega
  cases h3
  exact va_getN (D := eD E) (ci := 21) (C := RX25) (T := TX25) (N := 4) S.1 S.2.1 S.2.2.2.2 in_X25 S.2.2.2.1 X.1 (va_one (hw.1.2.1 _ _ (gcell_28 ht)).1) 0 rfl rfl 0 (by decide) (va_Nw.use rfl (X.2.2.2.2.2.1 _ q1657 rfl)) (fun _ h9 => h9) rfl hd (kk _ h2)
theorem ggX1_413 {F : Nat → Option β} (S : CallFix p m c cc nL s args lw_all RX1) (X : gCtx E A s) (hw : gH E A LC LS s g H locs) (hd : decode cc pc = .ok (.getfield 413, 3)) (h : bd1 (oRn g a 28 28 1) F = some r) (kk : ∀ v, F v = some r → W p l e R s m args below meth c H locs cells slots Q (F0 m (pc + 3) ls (.ref v :: rest))) : W p l e R s m args below meth c H locs cells slots Q (F0 m pc ls (.ref a :: rest)) := by
  obtain ⟨v, h1, h2⟩ := bd1_some h
  obtain ⟨⟨c1, c2⟩, h3⟩ := oif h1
  have ht : (gK g a).1 = 28 := by omega
  exact va_getN (D := eD E) (ci := 21) (C := RX25) (T := TX25) (N := 4) S.1 S.2.1 S.2.2.2.2 in_X25 S.2.2.2.1 X.1 (va_one (hw.1.2.1 _ _ (gcell_28 ht)).1) 0 rfl rfl 1 (by decide) (va_Nw.use rfl (X.2.2.2.2.2.1 _ q1659 rfl)) (fun _ h9 => h9) (by show some (va_rf (gR g a 1)) = some (.ref v); rw [h3]; rfl) hd (kk _ h2)
theorem ggX1_413q {F : Option Nat → Option β} (S : CallFix p m c cc nL s args lw_all RX1) (X : gCtx E A s) (hw : gH E A LC LS s g H locs) (hd : decode cc pc = .ok (.getfield 413, 3)) (h : bd1 (oR g a 28 28 1) F = some r) (kk : ∀ v, F v = some r → W p l e R s m args below meth c H locs cells slots Q (F0 m (pc + 3) ls (va_rf v :: rest))) : W p l e R s m args below meth c H locs cells slots Q (F0 m pc ls (.ref a :: rest)) := by
  obtain ⟨v, h1, h2⟩ := bd1_some h
  obtain ⟨⟨c1, c2⟩, h3⟩ := oif h1
  have ht : (gK g a).1 = 28 := by omega
  cases h3
  exact va_getN (D := eD E) (ci := 21) (C := RX25) (T := TX25) (N := 4) S.1 S.2.1 S.2.2.2.2 in_X25 S.2.2.2.1 X.1 (va_one (hw.1.2.1 _ _ (gcell_28 ht)).1) 0 rfl rfl 1 (by decide) (va_Nw.use rfl (X.2.2.2.2.2.1 _ q1659 rfl)) (fun _ h9 => h9) rfl hd (kk _ h2)
theorem ggX1_415 {F : Nat → Option β} (S : CallFix p m c cc nL s args lw_all RX1) (X : gCtx E A s) (hw : gH E A LC LS s g H locs) (hd : decode cc pc = .ok (.getfield 415, 3)) (h : bd1 (oRn g a 28 28 2) F = some r) (kk : ∀ v, F v = some r → W p l e R s m args below meth c H locs cells slots Q (F0 m (pc + 3) ls (.ref v :: rest))) : W p l e R s m args below meth c H locs cells slots Q (F0 m pc ls (.ref a :: rest)) := by
  obtain ⟨v, h1, h2⟩ := bd1_some h
  obtain ⟨⟨c1, c2⟩, h3⟩ := oif h1
  have ht : (gK g a).1 = 28 := by omega
  exact va_getN (D := eD E) (ci := 21) (C := RX25) (T := TX25) (N := 4) S.1 S.2.1 S.2.2.2.2 in_X25 S.2.2.2.1 X.1 (va_one (hw.1.2.1 _ _ (gcell_28 ht)).1) 0 rfl rfl 2 (by decide) (va_Nw.use rfl (X.2.2.2.2.2.1 _ q1661 rfl)) (fun _ h9 => h9) (by show some (va_rf (gR g a 2)) = some (.ref v); rw [h3]; rfl) hd (kk _ h2)
theorem ggX1_415q {F : Option Nat → Option β} (S : CallFix p m c cc nL s args lw_all RX1) (X : gCtx E A s) (hw : gH E A LC LS s g H locs) (hd : decode cc pc = .ok (.getfield 415, 3)) (h : bd1 (oR g a 28 28 2) F = some r) (kk : ∀ v, F v = some r → W p l e R s m args below meth c H locs cells slots Q (F0 m (pc + 3) ls (va_rf v :: rest))) : W p l e R s m args below meth c H locs cells slots Q (F0 m pc ls (.ref a :: rest)) := by
  obtain ⟨v, h1, h2⟩ := bd1_some h
  obtain ⟨⟨c1, c2⟩, h3⟩ := oif h1
  have ht : (gK g a).1 = 28 := by omega
  cases h3
  exact va_getN (D := eD E) (ci := 21) (C := RX25) (T := TX25) (N := 4) S.1 S.2.1 S.2.2.2.2 in_X25 S.2.2.2.1 X.1 (va_one (hw.1.2.1 _ _ (gcell_28 ht)).1) 0 rfl rfl 2 (by decide) (va_Nw.use rfl (X.2.2.2.2.2.1 _ q1661 rfl)) (fun _ h9 => h9) rfl hd (kk _ h2)
theorem ggX1_418 {F : Int32 → Option β} (S : CallFix p m c cc nL s args lw_all RX1) (X : gCtx E A s) (hw : gH E A LC LS s g H locs) (hd : decode cc pc = .ok (.getfield 418, 3)) (h : bd1 (oI g a 28 28 3) F = some r) (kk : ∀ v, F v = some r → W p l e R s m args below meth c H locs cells slots Q (F0 m (pc + 3) ls (.int v :: rest))) : W p l e R s m args below meth c H locs cells slots Q (F0 m pc ls (.ref a :: rest)) := by
  obtain ⟨v, h1, h2⟩ := bd1_some h
  obtain ⟨⟨c1, c2⟩, h3⟩ := oif h1
  have ht : (gK g a).1 = 28 := by omega
  cases h3
  exact va_getN (D := eD E) (ci := 21) (C := RX25) (T := TX25) (N := 4) S.1 S.2.1 S.2.2.2.2 in_X25 S.2.2.2.1 X.1 (va_one (hw.1.2.1 _ _ (gcell_28 ht)).1) 0 rfl rfl 3 (by decide) (va_Nw.use rfl (X.2.2.2.2.2.1 _ q1662 rfl)) (fun _ h9 => h9) rfl hd (kk _ h2)
theorem gpX1_418 {v : Int32} {F : GS → Option β} (S : CallFix p m c cc nL s args lw_all RX1) (X : gCtx E A s) (hw : gH E A LC LS s g H locs) (hd : decode cc pc = .ok (.putfield 418, 3)) (h : bd1 (pI g a 28 28 3 v) F = some r) (kk : ∀ (g1 : GS) (H : Heap) (locs : List Loc), F g1 = some r → gH E A LC LS s g1 H locs → W p l e R s m args below meth c H locs (H.size - s.heap.size) (tot H - tot s.heap) Q (F0 m (pc + 3) ls rest)) : W p l e R s m args below meth c H locs cells slots Q (F0 m pc ls (.int v :: .ref a :: rest)) := by
  obtain ⟨g1, h1, h2⟩ := bd1_some h
  obtain ⟨⟨c1, c2⟩, h3⟩ := oif h1
  cases h3
  have ht : (gK g a).1 = 28 := by omega
  have hc := gcell_28 (E := E) ht
  refine gb_putN (D := eD E) (ci := 21) (C := RX25) (T := TX25) (N := 4) (ty := tyX25 3) S.1 S.2.1 S.2.2.2.2 in_X25 tyX25 tyX25_ok nmX25 S.2.2.2.1 X.1 (hw.1.2.1 _ _ hc).1 rfl 3 (by decide) (va_Nw.use rfl (X.2.2.2.2.2.1 _ q1662 rfl)) (fun _ h9 => h9) rfl (tyX25_ok 3 (by decide)) rfl rfl (Nat.le_of_ble_eq_true rfl) hd (fun H1 k1 e1 z1 t1 o1 => ?_)
  exact W.canon (kk _ H1 _ h2 ⟨gB.sI hw.1 hc (gce_sI.trans (gcc_28 ht)) e1 z1 t1 o1 (by omega) (by omega), hw.2.put z1 o1 (hw.1.2.1 _ _ hc).2⟩)
theorem ggX21_7 {F : Int32 → Option β} (S : CallFix p m c cc nL s args lw_all RX21) (X : gCtx E A s) (hw : gH E A LC LS s g H locs) (hd : decode cc pc = .ok (.getfield 7, 3)) (h : bd1 (oI g a 18 18 0) F = some r) (kk : ∀ v, F v = some r → W p l e R s m args below meth c H locs cells slots Q (F0 m (pc + 3) ls (.int v :: rest))) : W p l e R s m args below meth c H locs cells slots Q (F0 m pc ls (.ref a :: rest)) := by
  obtain ⟨v, h1, h2⟩ := bd1_some h
  obtain ⟨⟨c1, c2⟩, h3⟩ := oif h1
  have ht : (gK g a).1 = 18 := by omega
  cases h3
  exact va_get (D := eD E) (ci := 17) (C := RX21) (T := TX21) (N := 1) S.1 S.2.1 S.2.2.2.2 in_X21 S.2.2.2.1 X.1 (va_one (hw.1.2.1 _ _ (gcell_18 ht)).1) 0 rfl rfl 0 (by decide) (S.2.2.2.2 _ q1227) (fun _ h9 => h9) rfl hd (kk _ h2)
theorem gpX21_7 {v : Int32} {F : GS → Option β} (S : CallFix p m c cc nL s args lw_all RX21) (X : gCtx E A s) (hw : gH E A LC LS s g H locs) (hin2 : meth.name = "<init>") (hd : decode cc pc = .ok (.putfield 7, 3)) (h : bd1 (pI g a 18 18 0 v) F = some r) (kk : ∀ (g1 : GS) (H : Heap) (locs : List Loc), F g1 = some r → gH E A LC LS s g1 H locs → W p l e R s m args below meth c H locs (H.size - s.heap.size) (tot H - tot s.heap) Q (F0 m (pc + 3) ls rest)) : W p l e R s m args below meth c H locs cells slots Q (F0 m pc ls (.int v :: .ref a :: rest)) := by
  obtain ⟨g1, h1, h2⟩ := bd1_some h
  obtain ⟨⟨c1, c2⟩, h3⟩ := oif h1
  cases h3
  have ht : (gK g a).1 = 18 := by omega
  have hc := gcell_18 (E := E) ht
  refine gb_putF (D := eD E) (ci := 17) (C := RX21) (T := TX21) (N := 1) (ty := tyX21 0) S.1 S.2.1 S.2.2.2.2 in_X21 tyX21 tyX21_ok nmX21 S.2.2.2.1 X.1 (hw.1.2.1 _ _ hc).1 rfl 0 (by decide) (S.2.2.2.2 _ q1227) (fun _ h9 => h9) rfl hin2 rfl (tyX21_ok 0 (by decide)) rfl rfl (Nat.le_of_ble_eq_true rfl) hd (fun H1 k1 e1 z1 t1 o1 => ?_)
  exact W.canon (kk _ H1 _ h2 ⟨gB.sI hw.1 hc (gce_sI.trans (gcc_18 ht)) e1 z1 t1 o1 (by omega) (by omega), hw.2.put z1 o1 (hw.1.2.1 _ _ hc).2⟩)
theorem ggX23_7 {F : Int32 → Option β} (S : CallFix p m c cc nL s args lw_all RX23) (X : gCtx E A s) (hw : gH E A LC LS s g H locs) (hd : decode cc pc = .ok (.getfield 7, 3)) (h : bd1 (oI g a 20 20 0) F = some r) (kk : ∀ v, F v = some r → W p l e R s m args below meth c H locs cells slots Q (F0 m (pc + 3) ls (.int v :: rest))) : W p l e R s m args below meth c H locs cells slots Q (F0 m pc ls (.ref a :: rest)) := by
  obtain ⟨v, h1, h2⟩ := bd1_some h
  obtain ⟨⟨c1, c2⟩, h3⟩ := oif h1
  have ht : (gK g a).1 = 20 := by omega
  cases h3
  exact va_get (D := eD E) (ci := 19) (C := RX23) (T := TX23) (N := 1) S.1 S.2.1 S.2.2.2.2 in_X23 S.2.2.2.1 X.1 (va_one (hw.1.2.1 _ _ (gcell_20 ht)).1) 0 rfl rfl 0 (by decide) (S.2.2.2.2 _ q1250) (fun _ h9 => h9) rfl hd (kk _ h2)
theorem gpX23_7 {v : Int32} {F : GS → Option β} (S : CallFix p m c cc nL s args lw_all RX23) (X : gCtx E A s) (hw : gH E A LC LS s g H locs) (hin2 : meth.name = "<init>") (hd : decode cc pc = .ok (.putfield 7, 3)) (h : bd1 (pI g a 20 20 0 v) F = some r) (kk : ∀ (g1 : GS) (H : Heap) (locs : List Loc), F g1 = some r → gH E A LC LS s g1 H locs → W p l e R s m args below meth c H locs (H.size - s.heap.size) (tot H - tot s.heap) Q (F0 m (pc + 3) ls rest)) : W p l e R s m args below meth c H locs cells slots Q (F0 m pc ls (.int v :: .ref a :: rest)) := by
  obtain ⟨g1, h1, h2⟩ := bd1_some h
  obtain ⟨⟨c1, c2⟩, h3⟩ := oif h1
  cases h3
  have ht : (gK g a).1 = 20 := by omega
  have hc := gcell_20 (E := E) ht
  refine gb_putF (D := eD E) (ci := 19) (C := RX23) (T := TX23) (N := 1) (ty := tyX23 0) S.1 S.2.1 S.2.2.2.2 in_X23 tyX23 tyX23_ok nmX23 S.2.2.2.1 X.1 (hw.1.2.1 _ _ hc).1 rfl 0 (by decide) (S.2.2.2.2 _ q1250) (fun _ h9 => h9) rfl hin2 rfl (tyX23_ok 0 (by decide)) rfl rfl (Nat.le_of_ble_eq_true rfl) hd (fun H1 k1 e1 z1 t1 o1 => ?_)
  exact W.canon (kk _ H1 _ h2 ⟨gB.sI hw.1 hc (gce_sI.trans (gcc_20 ht)) e1 z1 t1 o1 (by omega) (by omega), hw.2.put z1 o1 (hw.1.2.1 _ _ hc).2⟩)
theorem ggX23_19 {F : Nat → Option β} (S : CallFix p m c cc nL s args lw_all RX23) (X : gCtx E A s) (hw : gH E A LC LS s g H locs) (hd : decode cc pc = .ok (.getfield 19, 3)) (h : bd1 (oRn g a 4 4 2) F = some r) (kk : ∀ v, F v = some r → W p l e R s m args below meth c H locs cells slots Q (F0 m (pc + 3) ls (.ref v :: rest))) : W p l e R s m args below meth c H locs cells slots Q (F0 m pc ls (.ref a :: rest)) := by
  obtain ⟨v, h1, h2⟩ := bd1_some h
  obtain ⟨⟨c1, c2⟩, h3⟩ := oif h1
  have ht : (gK g a).1 = 4 := by omega
  exact va_getN (D := eD E) (ci := 3) (C := RX4) (T := TX4) (N := 8) S.1 S.2.1 S.2.2.2.2 in_X4 S.2.2.2.1 X.1 (va_one (hw.1.2.1 _ _ (gcell_4 ht)).1) 0 rfl rfl 2 (by decide) (va_Nw.use rfl (X.2.2.2.2.2.1 _ q310 rfl)) (fun _ h9 => h9) (by show some (va_rf (gR g a 2)) = some (.ref v); rw [h3]; rfl) hd (kk _ h2)
theorem ggX23_19q {F : Option Nat → Option β} (S : CallFix p m c cc nL s args lw_all RX23) (X : gCtx E A s) (hw : gH E A LC LS s g H locs) (hd : decode cc pc = .ok (.getfield 19, 3)) (h : bd1 (oR g a 4 4 2) F = some r) (kk : ∀ v, F v = some r → W p l e R s m args below meth c H locs cells slots Q (F0 m (pc + 3) ls (va_rf v :: rest))) : W p l e R s m args below meth c H locs cells slots Q (F0 m pc ls (.ref a :: rest)) := by
  obtain ⟨v, h1, h2⟩ := bd1_some h
  obtain ⟨⟨c1, c2⟩, h3⟩ := oif h1
  have ht : (gK g a).1 = 4 := by omega
  cases h3
  exact va_getN (D := eD E) (ci := 3) (C := RX4) (T := TX4) (N := 8) S.1 S.2.1 S.2.2.2.2 in_X4 S.2.2.2.1 X.1 (va_one (hw.1.2.1 _ _ (gcell_4 ht)).1) 0 rfl rfl 2 (by decide) (va_Nw.use rfl (X.2.2.2.2.2.1 _ q310 rfl)) (fun _ h9 => h9) rfl hd (kk _ h2)
theorem ggX23_23 {F : Nat → Option β} (S : CallFix p m c cc nL s args lw_all RX23) (X : gCtx E A s) (hw : gH E A LC LS s g H locs) (hd : decode cc pc = .ok (.getfield 23, 3)) (h : bd1 (oRn g a 1 1 2) F = some r) (kk : ∀ v, F v = some r → W p l e R s m args below meth c H locs cells slots Q (F0 m (pc + 3) ls (.ref v :: rest))) : W p l e R s m args below meth c H locs cells slots Q (F0 m pc ls (.ref a :: rest)) := by
  obtain ⟨v, h1, h2⟩ := bd1_some h
  obtain ⟨⟨c1, c2⟩, h3⟩ := oif h1
  have ht : (gK g a).1 = 1 := by omega
  exact va_getN (D := eD E) (ci := 0) (C := RX1) (T := TX1) (N := 25) S.1 S.2.1 S.2.2.2.2 in_X1 S.2.2.2.1 X.1 (va_one (hw.1.2.1 _ _ (gcell_1 ht)).1) 0 rfl rfl 2 (by decide) (va_Nw.use rfl (X.2.2.2.2.2.1 _ q370 rfl)) (fun _ h9 => h9) (by show some (va_rf (gR g a 2)) = some (.ref v); rw [h3]; rfl) hd (kk _ h2)
theorem ggX23_23q {F : Option Nat → Option β} (S : CallFix p m c cc nL s args lw_all RX23) (X : gCtx E A s) (hw : gH E A LC LS s g H locs) (hd : decode cc pc = .ok (.getfield 23, 3)) (h : bd1 (oR g a 1 1 2) F = some r) (kk : ∀ v, F v = some r → W p l e R s m args below meth c H locs cells slots Q (F0 m (pc + 3) ls (va_rf v :: rest))) : W p l e R s m args below meth c H locs cells slots Q (F0 m pc ls (.ref a :: rest)) := by
  obtain ⟨v, h1, h2⟩ := bd1_some h
  obtain ⟨⟨c1, c2⟩, h3⟩ := oif h1
  have ht : (gK g a).1 = 1 := by omega
  cases h3
  exact va_getN (D := eD E) (ci := 0) (C := RX1) (T := TX1) (N := 25) S.1 S.2.1 S.2.2.2.2 in_X1 S.2.2.2.1 X.1 (va_one (hw.1.2.1 _ _ (gcell_1 ht)).1) 0 rfl rfl 2 (by decide) (va_Nw.use rfl (X.2.2.2.2.2.1 _ q370 rfl)) (fun _ h9 => h9) rfl hd (kk _ h2)
theorem ggX23_29 {F : Int32 → Option β} (S : CallFix p m c cc nL s args lw_all RX23) (X : gCtx E A s) (hw : gH E A LC LS s g H locs) (hd : decode cc pc = .ok (.getfield 29, 3)) (h : bd1 (oI g a 3 3 4) F = some r) (kk : ∀ v, F v = some r → W p l e R s m args below meth c H locs cells slots Q (F0 m (pc + 3) ls (.int v :: rest))) : W p l e R s m args below meth c H locs cells slots Q (F0 m pc ls (.ref a :: rest)) := by
  obtain ⟨v, h1, h2⟩ := bd1_some h
  obtain ⟨⟨c1, c2⟩, h3⟩ := oif h1
  have ht : (gK g a).1 = 3 := by omega
  cases h3
  exact va_getN (D := eD E) (ci := 2) (C := RX3) (T := TX3) (N := 8) S.1 S.2.1 S.2.2.2.2 in_X3 S.2.2.2.1 X.1 (va_one (hw.1.2.1 _ _ (gcell_3 ht)).1) 0 rfl rfl 4 (by decide) (va_Nw.use rfl (X.2.2.2.2.2.1 _ q270 rfl)) (fun _ h9 => h9) rfl hd (kk _ h2)
theorem gpX12_7 {v : Option Nat} {F : GS → Option β} (S : CallFix p m c cc nL s args lw_all RX12) (X : gCtx E A s) (hw : gH E A LC LS s g H locs) (hin2 : meth.name = "<init>") (hd : decode cc pc = .ok (.putfield 7, 3)) (h : bd1 (pR g a 12 12 0 v) F = some r) (kk : ∀ (g1 : GS) (H : Heap) (locs : List Loc), F g1 = some r → gH E A LC LS s g1 H locs → W p l e R s m args below meth c H locs (H.size - s.heap.size) (tot H - tot s.heap) Q (F0 m (pc + 3) ls rest)) : W p l e R s m args below meth c H locs cells slots Q (F0 m pc ls (va_rf v :: .ref a :: rest)) := by
  obtain ⟨g1, h1, h2⟩ := bd1_some h
  obtain ⟨⟨c1, c2⟩, h3⟩ := oif h1
  cases h3
  have ht : (gK g a).1 = 12 := by omega
  have hc := gcell_12 (E := E) ht
  refine gb_putF (D := eD E) (ci := 11) (C := RX12) (T := TX12) (N := 4) (ty := tyX12 0) S.1 S.2.1 S.2.2.2.2 in_X12 tyX12 tyX12_ok nmX12 S.2.2.2.1 X.1 (hw.1.2.1 _ _ hc).1 rfl 0 (by decide) (S.2.2.2.2 _ q1083) (fun _ h9 => h9) rfl hin2 rfl (tyX12_ok 0 (by decide)) (rf_fit rfl v).1 (rf_fit rfl v).2 (Nat.le_of_ble_eq_true rfl) hd (fun H1 k1 e1 z1 t1 o1 => ?_)
  exact W.canon (kk _ H1 _ h2 ⟨gB.sR hw.1 hc (gce_sR.trans (gcc_12 ht)) e1 z1 t1 o1 (by omega) (by omega), hw.2.put z1 o1 (hw.1.2.1 _ _ hc).2⟩)
theorem gpX12_13 {v : Int32} {F : GS → Option β} (S : CallFix p m c cc nL s args lw_all RX12) (X : gCtx E A s) (hw : gH E A LC LS s g H locs) (hin2 : meth.name = "<init>") (hd : decode cc pc = .ok (.putfield 13, 3)) (h : bd1 (pI g a 12 12 1 v) F = some r) (kk : ∀ (g1 : GS) (H : Heap) (locs : List Loc), F g1 = some r → gH E A LC LS s g1 H locs → W p l e R s m args below meth c H locs (H.size - s.heap.size) (tot H - tot s.heap) Q (F0 m (pc + 3) ls rest)) : W p l e R s m args below meth c H locs cells slots Q (F0 m pc ls (.int v :: .ref a :: rest)) := by
  obtain ⟨g1, h1, h2⟩ := bd1_some h
  obtain ⟨⟨c1, c2⟩, h3⟩ := oif h1
  cases h3
  have ht : (gK g a).1 = 12 := by omega
  have hc := gcell_12 (E := E) ht
  refine gb_putF (D := eD E) (ci := 11) (C := RX12) (T := TX12) (N := 4) (ty := tyX12 1) S.1 S.2.1 S.2.2.2.2 in_X12 tyX12 tyX12_ok nmX12 S.2.2.2.1 X.1 (hw.1.2.1 _ _ hc).1 rfl 1 (by decide) (S.2.2.2.2 _ q1085) (fun _ h9 => h9) rfl hin2 rfl (tyX12_ok 1 (by decide)) rfl rfl (Nat.le_of_ble_eq_true rfl) hd (fun H1 k1 e1 z1 t1 o1 => ?_)
  exact W.canon (kk _ H1 _ h2 ⟨gB.sI hw.1 hc (gce_sI.trans (gcc_12 ht)) e1 z1 t1 o1 (by omega) (by omega), hw.2.put z1 o1 (hw.1.2.1 _ _ hc).2⟩)
theorem gpX12_17 {v : Int32} {F : GS → Option β} (S : CallFix p m c cc nL s args lw_all RX12) (X : gCtx E A s) (hw : gH E A LC LS s g H locs) (hin2 : meth.name = "<init>") (hd : decode cc pc = .ok (.putfield 17, 3)) (h : bd1 (pI g a 12 12 2 v) F = some r) (kk : ∀ (g1 : GS) (H : Heap) (locs : List Loc), F g1 = some r → gH E A LC LS s g1 H locs → W p l e R s m args below meth c H locs (H.size - s.heap.size) (tot H - tot s.heap) Q (F0 m (pc + 3) ls rest)) : W p l e R s m args below meth c H locs cells slots Q (F0 m pc ls (.int v :: .ref a :: rest)) := by
  obtain ⟨g1, h1, h2⟩ := bd1_some h
  obtain ⟨⟨c1, c2⟩, h3⟩ := oif h1
  cases h3
  have ht : (gK g a).1 = 12 := by omega
  have hc := gcell_12 (E := E) ht
  refine gb_putF (D := eD E) (ci := 11) (C := RX12) (T := TX12) (N := 4) (ty := tyX12 2) S.1 S.2.1 S.2.2.2.2 in_X12 tyX12 tyX12_ok nmX12 S.2.2.2.1 X.1 (hw.1.2.1 _ _ hc).1 rfl 2 (by decide) (S.2.2.2.2 _ q1087) (fun _ h9 => h9) rfl hin2 rfl (tyX12_ok 2 (by decide)) rfl rfl (Nat.le_of_ble_eq_true rfl) hd (fun H1 k1 e1 z1 t1 o1 => ?_)
  exact W.canon (kk _ H1 _ h2 ⟨gB.sI hw.1 hc (gce_sI.trans (gcc_12 ht)) e1 z1 t1 o1 (by omega) (by omega), hw.2.put z1 o1 (hw.1.2.1 _ _ hc).2⟩)
theorem gpX12_20 {v : Int32} {F : GS → Option β} (S : CallFix p m c cc nL s args lw_all RX12) (X : gCtx E A s) (hw : gH E A LC LS s g H locs) (hin2 : meth.name = "<init>") (hd : decode cc pc = .ok (.putfield 20, 3)) (h : bd1 (pI g a 12 12 3 v) F = some r) (kk : ∀ (g1 : GS) (H : Heap) (locs : List Loc), F g1 = some r → gH E A LC LS s g1 H locs → W p l e R s m args below meth c H locs (H.size - s.heap.size) (tot H - tot s.heap) Q (F0 m (pc + 3) ls rest)) : W p l e R s m args below meth c H locs cells slots Q (F0 m pc ls (.int v :: .ref a :: rest)) := by
  obtain ⟨g1, h1, h2⟩ := bd1_some h
  obtain ⟨⟨c1, c2⟩, h3⟩ := oif h1
  cases h3
  have ht : (gK g a).1 = 12 := by omega
  have hc := gcell_12 (E := E) ht
  refine gb_putF (D := eD E) (ci := 11) (C := RX12) (T := TX12) (N := 4) (ty := tyX12 3) S.1 S.2.1 S.2.2.2.2 in_X12 tyX12 tyX12_ok nmX12 S.2.2.2.1 X.1 (hw.1.2.1 _ _ hc).1 rfl 3 (by decide) (S.2.2.2.2 _ q1089) (fun _ h9 => h9) rfl hin2 rfl (tyX12_ok 3 (by decide)) rfl rfl (Nat.le_of_ble_eq_true rfl) hd (fun H1 k1 e1 z1 t1 o1 => ?_)
  exact W.canon (kk _ H1 _ h2 ⟨gB.sI hw.1 hc (gce_sI.trans (gcc_12 ht)) e1 z1 t1 o1 (by omega) (by omega), hw.2.put z1 o1 (hw.1.2.1 _ _ hc).2⟩)
theorem ggX15_7 {F : Int32 → Option β} (S : CallFix p m c cc nL s args lw_all RX15) (X : gCtx E A s) (hw : gH E A LC LS s g H locs) (hd : decode cc pc = .ok (.getfield 7, 3)) (h : bd1 (oI g a 14 14 0) F = some r) (kk : ∀ v, F v = some r → W p l e R s m args below meth c H locs cells slots Q (F0 m (pc + 3) ls (.int v :: rest))) : W p l e R s m args below meth c H locs cells slots Q (F0 m pc ls (.ref a :: rest)) := by
  obtain ⟨v, h1, h2⟩ := bd1_some h
  obtain ⟨⟨c1, c2⟩, h3⟩ := oif h1
  have ht : (gK g a).1 = 14 := by omega
  cases h3
  exact va_get (D := eD E) (ci := 13) (C := RX15) (T := TX15) (N := 1) S.1 S.2.1 S.2.2.2.2 in_X15 S.2.2.2.1 X.1 (va_one (hw.1.2.1 _ _ (gcell_14 ht)).1) 0 rfl rfl 0 (by decide) (S.2.2.2.2 _ q1150) (fun _ h9 => h9) rfl hd (kk _ h2)
theorem gpX15_7 {v : Int32} {F : GS → Option β} (S : CallFix p m c cc nL s args lw_all RX15) (X : gCtx E A s) (hw : gH E A LC LS s g H locs) (hin2 : meth.name = "<init>") (hd : decode cc pc = .ok (.putfield 7, 3)) (h : bd1 (pI g a 14 14 0 v) F = some r) (kk : ∀ (g1 : GS) (H : Heap) (locs : List Loc), F g1 = some r → gH E A LC LS s g1 H locs → W p l e R s m args below meth c H locs (H.size - s.heap.size) (tot H - tot s.heap) Q (F0 m (pc + 3) ls rest)) : W p l e R s m args below meth c H locs cells slots Q (F0 m pc ls (.int v :: .ref a :: rest)) := by
  obtain ⟨g1, h1, h2⟩ := bd1_some h
  obtain ⟨⟨c1, c2⟩, h3⟩ := oif h1
  cases h3
  have ht : (gK g a).1 = 14 := by omega
  have hc := gcell_14 (E := E) ht
  refine gb_putF (D := eD E) (ci := 13) (C := RX15) (T := TX15) (N := 1) (ty := tyX15 0) S.1 S.2.1 S.2.2.2.2 in_X15 tyX15 tyX15_ok nmX15 S.2.2.2.1 X.1 (hw.1.2.1 _ _ hc).1 rfl 0 (by decide) (S.2.2.2.2 _ q1150) (fun _ h9 => h9) rfl hin2 rfl (tyX15_ok 0 (by decide)) rfl rfl (Nat.le_of_ble_eq_true rfl) hd (fun H1 k1 e1 z1 t1 o1 => ?_)
  exact W.canon (kk _ H1 _ h2 ⟨gB.sI hw.1 hc (gce_sI.trans (gcc_14 ht)) e1 z1 t1 o1 (by omega) (by omega), hw.2.put z1 o1 (hw.1.2.1 _ _ hc).2⟩)
theorem ggX22_7 {F : Int32 → Option β} (S : CallFix p m c cc nL s args lw_all RX22) (X : gCtx E A s) (hw : gH E A LC LS s g H locs) (hd : decode cc pc = .ok (.getfield 7, 3)) (h : bd1 (oI g a 19 19 0) F = some r) (kk : ∀ v, F v = some r → W p l e R s m args below meth c H locs cells slots Q (F0 m (pc + 3) ls (.int v :: rest))) : W p l e R s m args below meth c H locs cells slots Q (F0 m pc ls (.ref a :: rest)) := by
  obtain ⟨v, h1, h2⟩ := bd1_some h
  obtain ⟨⟨c1, c2⟩, h3⟩ := oif h1
  have ht : (gK g a).1 = 19 := by omega
  cases h3
  exact va_get (D := eD E) (ci := 18) (C := RX22) (T := TX22) (N := 2) S.1 S.2.1 S.2.2.2.2 in_X22 S.2.2.2.1 X.1 (va_one (hw.1.2.1 _ _ (gcell_19 ht)).1) 0 rfl rfl 0 (by decide) (S.2.2.2.2 _ q1237) (fun _ h9 => h9) rfl hd (kk _ h2)
theorem gpX22_7 {v : Int32} {F : GS → Option β} (S : CallFix p m c cc nL s args lw_all RX22) (X : gCtx E A s) (hw : gH E A LC LS s g H locs) (hin2 : meth.name = "<init>") (hd : decode cc pc = .ok (.putfield 7, 3)) (h : bd1 (pI g a 19 19 0 v) F = some r) (kk : ∀ (g1 : GS) (H : Heap) (locs : List Loc), F g1 = some r → gH E A LC LS s g1 H locs → W p l e R s m args below meth c H locs (H.size - s.heap.size) (tot H - tot s.heap) Q (F0 m (pc + 3) ls rest)) : W p l e R s m args below meth c H locs cells slots Q (F0 m pc ls (.int v :: .ref a :: rest)) := by
  obtain ⟨g1, h1, h2⟩ := bd1_some h
  obtain ⟨⟨c1, c2⟩, h3⟩ := oif h1
  cases h3
  have ht : (gK g a).1 = 19 := by omega
  have hc := gcell_19 (E := E) ht
  refine gb_putF (D := eD E) (ci := 18) (C := RX22) (T := TX22) (N := 2) (ty := tyX22 0) S.1 S.2.1 S.2.2.2.2 in_X22 tyX22 tyX22_ok nmX22 S.2.2.2.1 X.1 (hw.1.2.1 _ _ hc).1 rfl 0 (by decide) (S.2.2.2.2 _ q1237) (fun _ h9 => h9) rfl hin2 rfl (tyX22_ok 0 (by decide)) rfl rfl (Nat.le_of_ble_eq_true rfl) hd (fun H1 k1 e1 z1 t1 o1 => ?_)
  exact W.canon (kk _ H1 _ h2 ⟨gB.sI hw.1 hc (gce_sI.trans (gcc_19 ht)) e1 z1 t1 o1 (by omega) (by omega), hw.2.put z1 o1 (hw.1.2.1 _ _ hc).2⟩)
theorem ggX22_13 {F : Int32 → Option β} (S : CallFix p m c cc nL s args lw_all RX22) (X : gCtx E A s) (hw : gH E A LC LS s g H locs) (hd : decode cc pc = .ok (.getfield 13, 3)) (h : bd1 (oI g a 19 19 1) F = some r) (kk : ∀ v, F v = some r → W p l e R s m args below meth c H locs cells slots Q (F0 m (pc + 3) ls (.int v :: rest))) : W p l e R s m args below meth c H locs cells slots Q (F0 m pc ls (.ref a :: rest)) := by
  obtain ⟨v, h1, h2⟩ := bd1_some h
  obtain ⟨⟨c1, c2⟩, h3⟩ := oif h1
  have ht : (gK g a).1 = 19 := by omega
  cases h3
  exact va_get (D := eD E) (ci := 18) (C := RX22) (T := TX22) (N := 2) S.1 S.2.1 S.2.2.2.2 in_X22 S.2.2.2.1 X.1 (va_one (hw.1.2.1 _ _ (gcell_19 ht)).1) 0 rfl rfl 1 (by decide) (S.2.2.2.2 _ q1238) (fun _ h9 => h9) rfl hd (kk _ h2)
theorem gpX22_13 {v : Int32} {F : GS → Option β} (S : CallFix p m c cc nL s args lw_all RX22) (X : gCtx E A s) (hw : gH E A LC LS s g H locs) (hin2 : meth.name = "<init>") (hd : decode cc pc = .ok (.putfield 13, 3)) (h : bd1 (pI g a 19 19 1 v) F = some r) (kk : ∀ (g1 : GS) (H : Heap) (locs : List Loc), F g1 = some r → gH E A LC LS s g1 H locs → W p l e R s m args below meth c H locs (H.size - s.heap.size) (tot H - tot s.heap) Q (F0 m (pc + 3) ls rest)) : W p l e R s m args below meth c H locs cells slots Q (F0 m pc ls (.int v :: .ref a :: rest)) := by
  obtain ⟨g1, h1, h2⟩ := bd1_some h
  obtain ⟨⟨c1, c2⟩, h3⟩ := oif h1
  cases h3
  have ht : (gK g a).1 = 19 := by omega
  have hc := gcell_19 (E := E) ht
  refine gb_putF (D := eD E) (ci := 18) (C := RX22) (T := TX22) (N := 2) (ty := tyX22 1) S.1 S.2.1 S.2.2.2.2 in_X22 tyX22 tyX22_ok nmX22 S.2.2.2.1 X.1 (hw.1.2.1 _ _ hc).1 rfl 1 (by decide) (S.2.2.2.2 _ q1238) (fun _ h9 => h9) rfl hin2 rfl (tyX22_ok 1 (by decide)) rfl rfl (Nat.le_of_ble_eq_true rfl) hd (fun H1 k1 e1 z1 t1 o1 => ?_)
  exact W.canon (kk _ H1 _ h2 ⟨gB.sI hw.1 hc (gce_sI.trans (gcc_19 ht)) e1 z1 t1 o1 (by omega) (by omega), hw.2.put z1 o1 (hw.1.2.1 _ _ hc).2⟩)
theorem ggX14_7 {F : Int32 → Option β} (S : CallFix p m c cc nL s args lw_all RX14) (X : gCtx E A s) (hw : gH E A LC LS s g H locs) (hd : decode cc pc = .ok (.getfield 7, 3)) (h : bd1 (oI g a 13 13 0) F = some r) (kk : ∀ v, F v = some r → W p l e R s m args below meth c H locs cells slots Q (F0 m (pc + 3) ls (.int v :: rest))) : W p l e R s m args below meth c H locs cells slots Q (F0 m pc ls (.ref a :: rest)) := by
  obtain ⟨v, h1, h2⟩ := bd1_some h
  obtain ⟨⟨c1, c2⟩, h3⟩ := oif h1
  have ht : (gK g a).1 = 13 := by omega
  cases h3
  exact va_get (D := eD E) (ci := 12) (C := RX14) (T := TX14) (N := 1) S.1 S.2.1 S.2.2.2.2 in_X14 S.2.2.2.1 X.1 (va_one (hw.1.2.1 _ _ (gcell_13 ht)).1) 0 rfl rfl 0 (by decide) (S.2.2.2.2 _ q1140) (fun _ h9 => h9) rfl hd (kk _ h2)
theorem gpX14_7 {v : Int32} {F : GS → Option β} (S : CallFix p m c cc nL s args lw_all RX14) (X : gCtx E A s) (hw : gH E A LC LS s g H locs) (hin2 : meth.name = "<init>") (hd : decode cc pc = .ok (.putfield 7, 3)) (h : bd1 (pI g a 13 13 0 v) F = some r) (kk : ∀ (g1 : GS) (H : Heap) (locs : List Loc), F g1 = some r → gH E A LC LS s g1 H locs → W p l e R s m args below meth c H locs (H.size - s.heap.size) (tot H - tot s.heap) Q (F0 m (pc + 3) ls rest)) : W p l e R s m args below meth c H locs cells slots Q (F0 m pc ls (.int v :: .ref a :: rest)) := by
  obtain ⟨g1, h1, h2⟩ := bd1_some h
  obtain ⟨⟨c1, c2⟩, h3⟩ := oif h1
  cases h3
  have ht : (gK g a).1 = 13 := by omega
  have hc := gcell_13 (E := E) ht
  refine gb_putF (D := eD E) (ci := 12) (C := RX14) (T := TX14) (N := 1) (ty := tyX14 0) S.1 S.2.1 S.2.2.2.2 in_X14 tyX14 tyX14_ok nmX14 S.2.2.2.1 X.1 (hw.1.2.1 _ _ hc).1 rfl 0 (by decide) (S.2.2.2.2 _ q1140) (fun _ h9 => h9) rfl hin2 rfl (tyX14_ok 0 (by decide)) rfl rfl (Nat.le_of_ble_eq_true rfl) hd (fun H1 k1 e1 z1 t1 o1 => ?_)
  exact W.canon (kk _ H1 _ h2 ⟨gB.sI hw.1 hc (gce_sI.trans (gcc_13 ht)) e1 z1 t1 o1 (by omega) (by omega), hw.2.put z1 o1 (hw.1.2.1 _ _ hc).2⟩)
theorem ggX3_14 {F : Nat → Option β} (S : CallFix p m c cc nL s args lw_all RX3) (X : gCtx E A s) (hw : gH E A LC LS s g H locs) (hd : decode cc pc = .ok (.getfield 14, 3)) (h : bd1 (oRn g a 3 3 0) F = some r) (kk : ∀ v, F v = some r → W p l e R s m args below meth c H locs cells slots Q (F0 m (pc + 3) ls (.ref v :: rest))) : W p l e R s m args below meth c H locs cells slots Q (F0 m pc ls (.ref a :: rest)) := by
  obtain ⟨v, h1, h2⟩ := bd1_some h
  obtain ⟨⟨c1, c2⟩, h3⟩ := oif h1
  have ht : (gK g a).1 = 3 := by omega
  exact va_get (D := eD E) (ci := 2) (C := RX3) (T := TX3) (N := 8) S.1 S.2.1 S.2.2.2.2 in_X3 S.2.2.2.1 X.1 (va_one (hw.1.2.1 _ _ (gcell_3 ht)).1) 0 rfl rfl 0 (by decide) (S.2.2.2.2 _ q257) (fun _ h9 => h9) (by show some (va_rf (gR g a 0)) = some (.ref v); rw [h3]; rfl) hd (kk _ h2)
theorem ggX3_14q {F : Option Nat → Option β} (S : CallFix p m c cc nL s args lw_all RX3) (X : gCtx E A s) (hw : gH E A LC LS s g H locs) (hd : decode cc pc = .ok (.getfield 14, 3)) (h : bd1 (oR g a 3 3 0) F = some r) (kk : ∀ v, F v = some r → W p l e R s m args below meth c H locs cells slots Q (F0 m (pc + 3) ls (va_rf v :: rest))) : W p l e R s m args below meth c H locs cells slots Q (F0 m pc ls (.ref a :: rest)) := by
  obtain ⟨v, h1, h2⟩ := bd1_some h
  obtain ⟨⟨c1, c2⟩, h3⟩ := oif h1
  have ht : (gK g a).1 = 3 := by omega
  cases h3
  exact va_get (D := eD E) (ci := 2) (C := RX3) (T := TX3) (N := 8) S.1 S.2.1 S.2.2.2.2 in_X3 S.2.2.2.1 X.1 (va_one (hw.1.2.1 _ _ (gcell_3 ht)).1) 0 rfl rfl 0 (by decide) (S.2.2.2.2 _ q257) (fun _ h9 => h9) rfl hd (kk _ h2)
theorem gpX3_14 {v : Option Nat} {F : GS → Option β} (S : CallFix p m c cc nL s args lw_all RX3) (X : gCtx E A s) (hw : gH E A LC LS s g H locs) (hin2 : meth.name = "<init>") (hd : decode cc pc = .ok (.putfield 14, 3)) (h : bd1 (pR g a 3 3 0 v) F = some r) (kk : ∀ (g1 : GS) (H : Heap) (locs : List Loc), F g1 = some r → gH E A LC LS s g1 H locs → W p l e R s m args below meth c H locs (H.size - s.heap.size) (tot H - tot s.heap) Q (F0 m (pc + 3) ls rest)) : W p l e R s m args below meth c H locs cells slots Q (F0 m pc ls (va_rf v :: .ref a :: rest)) := by
  obtain ⟨g1, h1, h2⟩ := bd1_some h
  obtain ⟨⟨c1, c2⟩, h3⟩ := oif h1
  cases h3
  have ht : (gK g a).1 = 3 := by omega
  have hc := gcell_3 (E := E) ht
  refine gb_putF (D := eD E) (ci := 2) (C := RX3) (T := TX3) (N := 8) (ty := tyX3 0) S.1 S.2.1 S.2.2.2.2 in_X3 tyX3 tyX3_ok nmX3 S.2.2.2.1 X.1 (hw.1.2.1 _ _ hc).1 rfl 0 (by decide) (S.2.2.2.2 _ q257) (fun _ h9 => h9) rfl hin2 rfl (tyX3_ok 0 (by decide)) (rf_fit rfl v).1 (rf_fit rfl v).2 (Nat.le_of_ble_eq_true rfl) hd (fun H1 k1 e1 z1 t1 o1 => ?_)
  exact W.canon (kk _ H1 _ h2 ⟨gB.sR hw.1 hc (gce_sR.trans (gcc_3 ht)) e1 z1 t1 o1 (by omega) (by omega), hw.2.put z1 o1 (hw.1.2.1 _ _ hc).2⟩)
theorem ggX3_20 {F : Nat → Option β} (S : CallFix p m c cc nL s args lw_all RX3) (X : gCtx E A s) (hw : gH E A LC LS s g H locs) (hd : decode cc pc = .ok (.getfield 20, 3)) (h : bd1 (oRn g a 3 3 1) F = some r) (kk : ∀ v, F v = some r → W p l e R s m args below meth c H locs cells slots Q (F0 m (pc + 3) ls (.ref v :: rest))) : W p l e R s m args below meth c H locs cells slots Q (F0 m pc ls (.ref a :: rest)) := by
  obtain ⟨v, h1, h2⟩ := bd1_some h
  obtain ⟨⟨c1, c2⟩, h3⟩ := oif h1
  have ht : (gK g a).1 = 3 := by omega
  exact va_get (D := eD E) (ci := 2) (C := RX3) (T := TX3) (N := 8) S.1 S.2.1 S.2.2.2.2 in_X3 S.2.2.2.1 X.1 (va_one (hw.1.2.1 _ _ (gcell_3 ht)).1) 0 rfl rfl 1 (by decide) (S.2.2.2.2 _ q260) (fun _ h9 => h9) (by show some (va_rf (gR g a 1)) = some (.ref v); rw [h3]; rfl) hd (kk _ h2)
theorem ggX3_20q {F : Option Nat → Option β} (S : CallFix p m c cc nL s args lw_all RX3) (X : gCtx E A s) (hw : gH E A LC LS s g H locs) (hd : decode cc pc = .ok (.getfield 20, 3)) (h : bd1 (oR g a 3 3 1) F = some r) (kk : ∀ v, F v = some r → W p l e R s m args below meth c H locs cells slots Q (F0 m (pc + 3) ls (va_rf v :: rest))) : W p l e R s m args below meth c H locs cells slots Q (F0 m pc ls (.ref a :: rest)) := by
  obtain ⟨v, h1, h2⟩ := bd1_some h
  obtain ⟨⟨c1, c2⟩, h3⟩ := oif h1
  have ht : (gK g a).1 = 3 := by omega
  cases h3
  exact va_get (D := eD E) (ci := 2) (C := RX3) (T := TX3) (N := 8) S.1 S.2.1 S.2.2.2.2 in_X3 S.2.2.2.1 X.1 (va_one (hw.1.2.1 _ _ (gcell_3 ht)).1) 0 rfl rfl 1 (by decide) (S.2.2.2.2 _ q260) (fun _ h9 => h9) rfl hd (kk _ h2)
theorem gpX3_20 {v : Option Nat} {F : GS → Option β} (S : CallFix p m c cc nL s args lw_all RX3) (X : gCtx E A s) (hw : gH E A LC LS s g H locs) (hin2 : meth.name = "<init>") (hd : decode cc pc = .ok (.putfield 20, 3)) (h : bd1 (pR g a 3 3 1 v) F = some r) (kk : ∀ (g1 : GS) (H : Heap) (locs : List Loc), F g1 = some r → gH E A LC LS s g1 H locs → W p l e R s m args below meth c H locs (H.size - s.heap.size) (tot H - tot s.heap) Q (F0 m (pc + 3) ls rest)) : W p l e R s m args below meth c H locs cells slots Q (F0 m pc ls (va_rf v :: .ref a :: rest)) := by
  obtain ⟨g1, h1, h2⟩ := bd1_some h
  obtain ⟨⟨c1, c2⟩, h3⟩ := oif h1
  cases h3
  have ht : (gK g a).1 = 3 := by omega
  have hc := gcell_3 (E := E) ht
  refine gb_putF (D := eD E) (ci := 2) (C := RX3) (T := TX3) (N := 8) (ty := tyX3 1) S.1 S.2.1 S.2.2.2.2 in_X3 tyX3 tyX3_ok nmX3 S.2.2.2.1 X.1 (hw.1.2.1 _ _ hc).1 rfl 1 (by decide) (S.2.2.2.2 _ q260) (fun _ h9 => h9) rfl hin2 rfl (tyX3_ok 1 (by decide)) (rf_fit rfl v).1 (rf_fit rfl v).2 (Nat.le_of_ble_eq_true rfl) hd (fun H1 k1 e1 z1 t1 o1 => ?_)
  exact W.canon (kk _ H1 _ h2 ⟨gB.sR hw.1 hc (gce_sR.trans (gcc_3 ht)) e1 z1 t1 o1 (by omega) (by omega), hw.2.put z1 o1 (hw.1.2.1 _ _ hc).2⟩)
theorem ggX3_23 {F : Nat → Option β} (S : CallFix p m c cc nL s args lw_all RX3) (X : gCtx E A s) (hw : gH E A LC LS s g H locs) (hd : decode cc pc = .ok (.getfield 23, 3)) (h : bd1 (oRn g a 3 3 2) F = some r) (kk : ∀ v, F v = some r → W p l e R s m args below meth c H locs cells slots Q (F0 m (pc + 3) ls (.ref v :: rest))) : W p l e R s m args below meth c H locs cells slots Q (F0 m pc ls (.ref a :: rest)) := by
  obtain ⟨v, h1, h2⟩ := bd1_some h
  obtain ⟨⟨c1, c2⟩, h3⟩ := oif h1
  have ht : (gK g a).1 = 3 := by omega
  exact va_get (D := eD E) (ci := 2) (C := RX3) (T := TX3) (N := 8) S.1 S.2.1 S.2.2.2.2 in_X3 S.2.2.2.1 X.1 (va_one (hw.1.2.1 _ _ (gcell_3 ht)).1) 0 rfl rfl 2 (by decide) (S.2.2.2.2 _ q264) (fun _ h9 => h9) (by show some (va_rf (gR g a 2)) = some (.ref v); rw [h3]; rfl) hd (kk _ h2)
theorem ggX3_23q {F : Option Nat → Option β} (S : CallFix p m c cc nL s args lw_all RX3) (X : gCtx E A s) (hw : gH E A LC LS s g H locs) (hd : decode cc pc = .ok (.getfield 23, 3)) (h : bd1 (oR g a 3 3 2) F = some r) (kk : ∀ v, F v = some r → W p l e R s m args below meth c H locs cells slots Q (F0 m (pc + 3) ls (va_rf v :: rest))) : W p l e R s m args below meth c H locs cells slots Q (F0 m pc ls (.ref a :: rest)) := by
  obtain ⟨v, h1, h2⟩ := bd1_some h
  obtain ⟨⟨c1, c2⟩, h3⟩ := oif h1
  have ht : (gK g a).1 = 3 := by omega
  cases h3
  exact va_get (D := eD E) (ci := 2) (C := RX3) (T := TX3) (N := 8) S.1 S.2.1 S.2.2.2.2 in_X3 S.2.2.2.1 X.1 (va_one (hw.1.2.1 _ _ (gcell_3 ht)).1) 0 rfl rfl 2 (by decide) (S.2.2.2.2 _ q264) (fun _ h9 => h9) rfl hd (kk _ h2)
theorem gpX3_23 {v : Option Nat} {F : GS → Option β} (S : CallFix p m c cc nL s args lw_all RX3) (X : gCtx E A s) (hw : gH E A LC LS s g H locs) (hin2 : meth.name = "<init>") (hd : decode cc pc = .ok (.putfield 23, 3)) (h : bd1 (pR g a 3 3 2 v) F = some r) (kk : ∀ (g1 : GS) (H : Heap) (locs : List Loc), F g1 = some r → gH E A LC LS s g1 H locs → W p l e R s m args below meth c H locs (H.size - s.heap.size) (tot H - tot s.heap) Q (F0 m (pc + 3) ls rest)) : W p l e R s m args below meth c H locs cells slots Q (F0 m pc ls (va_rf v :: .ref a :: rest)) := by
  obtain ⟨g1, h1, h2⟩ := bd1_some h
  obtain ⟨⟨c1, c2⟩, h3⟩ := oif h1
  cases h3
  have ht : (gK g a).1 = 3 := by omega
  have hc := gcell_3 (E := E) ht
  refine gb_putF (D := eD E) (ci := 2) (C := RX3) (T := TX3) (N := 8) (ty := tyX3 2) S.1 S.2.1 S.2.2.2.2 in_X3 tyX3 tyX3_ok nmX3 S.2.2.2.1 X.1 (hw.1.2.1 _ _ hc).1 rfl 2 (by decide) (S.2.2.2.2 _ q264) (fun _ h9 => h9) rfl hin2 rfl (tyX3_ok 2 (by decide)) (rf_fit rfl v).1 (rf_fit rfl v).2 (Nat.le_of_ble_eq_true rfl) hd (fun H1 k1 e1 z1 t1 o1 => ?_)
  exact W.canon (kk _ H1 _ h2 ⟨gB.sR hw.1 hc (gce_sR.trans (gcc_3 ht)) e1 z1 t1 o1 (by omega) (by omega), hw.2.put z1 o1 (hw.1.2.1 _ _ hc).2⟩)
theorem ggX3_26 {F : Int32 → Option β} (S : CallFix p m c cc nL s args lw_all RX3) (X : gCtx E A s) (hw : gH E A LC LS s g H locs) (hd : decode cc pc = .ok (.getfield 26, 3)) (h : bd1 (oI g a 3 3 3) F = some r) (kk : ∀ v, F v = some r → W p l e R s m args below meth c H locs cells slots Q (F0 m (pc + 3) ls (.int v :: rest))) : W p l e R s m args below meth c H locs cells slots Q (F0 m pc ls (.ref a :: rest)) := by
  obtain ⟨v, h1, h2⟩ := bd1_some h
  obtain ⟨⟨c1, c2⟩, h3⟩ := oif h1
  have ht : (gK g a).1 = 3 := by omega
  cases h3
  exact va_get (D := eD E) (ci := 2) (C := RX3) (T := TX3) (N := 8) S.1 S.2.1 S.2.2.2.2 in_X3 S.2.2.2.1 X.1 (va_one (hw.1.2.1 _ _ (gcell_3 ht)).1) 0 rfl rfl 3 (by decide) (S.2.2.2.2 _ q267) (fun _ h9 => h9) rfl hd (kk _ h2)
theorem gpX3_26 {v : Int32} {F : GS → Option β} (S : CallFix p m c cc nL s args lw_all RX3) (X : gCtx E A s) (hw : gH E A LC LS s g H locs) (hd : decode cc pc = .ok (.putfield 26, 3)) (h : bd1 (pI g a 3 3 3 v) F = some r) (kk : ∀ (g1 : GS) (H : Heap) (locs : List Loc), F g1 = some r → gH E A LC LS s g1 H locs → W p l e R s m args below meth c H locs (H.size - s.heap.size) (tot H - tot s.heap) Q (F0 m (pc + 3) ls rest)) : W p l e R s m args below meth c H locs cells slots Q (F0 m pc ls (.int v :: .ref a :: rest)) := by
  obtain ⟨g1, h1, h2⟩ := bd1_some h
  obtain ⟨⟨c1, c2⟩, h3⟩ := oif h1
  cases h3
  have ht : (gK g a).1 = 3 := by omega
  have hc := gcell_3 (E := E) ht
  refine gb_put (D := eD E) (ci := 2) (C := RX3) (T := TX3) (N := 8) (ty := tyX3 3) S.1 S.2.1 S.2.2.2.2 in_X3 tyX3 tyX3_ok nmX3 S.2.2.2.1 X.1 (hw.1.2.1 _ _ hc).1 rfl 3 (by decide) (S.2.2.2.2 _ q267) (fun _ h9 => h9) rfl (tyX3_ok 3 (by decide)) rfl rfl (Nat.le_of_ble_eq_true rfl) hd (fun H1 k1 e1 z1 t1 o1 => ?_)
  exact W.canon (kk _ H1 _ h2 ⟨gB.sI hw.1 hc (gce_sI.trans (gcc_3 ht)) e1 z1 t1 o1 (by omega) (by omega), hw.2.put z1 o1 (hw.1.2.1 _ _ hc).2⟩)
theorem gpX3_30 {v : Int32} {F : GS → Option β} (S : CallFix p m c cc nL s args lw_all RX3) (X : gCtx E A s) (hw : gH E A LC LS s g H locs) (hd : decode cc pc = .ok (.putfield 30, 3)) (h : bd1 (pI g a 3 3 4 v) F = some r) (kk : ∀ (g1 : GS) (H : Heap) (locs : List Loc), F g1 = some r → gH E A LC LS s g1 H locs → W p l e R s m args below meth c H locs (H.size - s.heap.size) (tot H - tot s.heap) Q (F0 m (pc + 3) ls rest)) : W p l e R s m args below meth c H locs cells slots Q (F0 m pc ls (.int v :: .ref a :: rest)) := by
  obtain ⟨g1, h1, h2⟩ := bd1_some h
  obtain ⟨⟨c1, c2⟩, h3⟩ := oif h1
  cases h3
  have ht : (gK g a).1 = 3 := by omega
  have hc := gcell_3 (E := E) ht
  refine gb_put (D := eD E) (ci := 2) (C := RX3) (T := TX3) (N := 8) (ty := tyX3 4) S.1 S.2.1 S.2.2.2.2 in_X3 tyX3 tyX3_ok nmX3 S.2.2.2.1 X.1 (hw.1.2.1 _ _ hc).1 rfl 4 (by decide) (S.2.2.2.2 _ q269) (fun _ h9 => h9) rfl (tyX3_ok 4 (by decide)) rfl rfl (Nat.le_of_ble_eq_true rfl) hd (fun H1 k1 e1 z1 t1 o1 => ?_)
  exact W.canon (kk _ H1 _ h2 ⟨gB.sI hw.1 hc (gce_sI.trans (gcc_3 ht)) e1 z1 t1 o1 (by omega) (by omega), hw.2.put z1 o1 (hw.1.2.1 _ _ hc).2⟩)
theorem ggX3_33 {F : Int32 → Option β} (S : CallFix p m c cc nL s args lw_all RX3) (X : gCtx E A s) (hw : gH E A LC LS s g H locs) (hd : decode cc pc = .ok (.getfield 33, 3)) (h : bd1 (oI g a 3 3 5) F = some r) (kk : ∀ v, F v = some r → W p l e R s m args below meth c H locs cells slots Q (F0 m (pc + 3) ls (.int v :: rest))) : W p l e R s m args below meth c H locs cells slots Q (F0 m pc ls (.ref a :: rest)) := by
  obtain ⟨v, h1, h2⟩ := bd1_some h
  obtain ⟨⟨c1, c2⟩, h3⟩ := oif h1
  have ht : (gK g a).1 = 3 := by omega
  cases h3
  exact va_get (D := eD E) (ci := 2) (C := RX3) (T := TX3) (N := 8) S.1 S.2.1 S.2.2.2.2 in_X3 S.2.2.2.1 X.1 (va_one (hw.1.2.1 _ _ (gcell_3 ht)).1) 0 rfl rfl 5 (by decide) (S.2.2.2.2 _ q273) (fun _ h9 => h9) rfl hd (kk _ h2)
theorem gpX3_33 {v : Int32} {F : GS → Option β} (S : CallFix p m c cc nL s args lw_all RX3) (X : gCtx E A s) (hw : gH E A LC LS s g H locs) (hd : decode cc pc = .ok (.putfield 33, 3)) (h : bd1 (pI g a 3 3 5 v) F = some r) (kk : ∀ (g1 : GS) (H : Heap) (locs : List Loc), F g1 = some r → gH E A LC LS s g1 H locs → W p l e R s m args below meth c H locs (H.size - s.heap.size) (tot H - tot s.heap) Q (F0 m (pc + 3) ls rest)) : W p l e R s m args below meth c H locs cells slots Q (F0 m pc ls (.int v :: .ref a :: rest)) := by
  obtain ⟨g1, h1, h2⟩ := bd1_some h
  obtain ⟨⟨c1, c2⟩, h3⟩ := oif h1
  cases h3
  have ht : (gK g a).1 = 3 := by omega
  have hc := gcell_3 (E := E) ht
  refine gb_put (D := eD E) (ci := 2) (C := RX3) (T := TX3) (N := 8) (ty := tyX3 5) S.1 S.2.1 S.2.2.2.2 in_X3 tyX3 tyX3_ok nmX3 S.2.2.2.1 X.1 (hw.1.2.1 _ _ hc).1 rfl 5 (by decide) (S.2.2.2.2 _ q273) (fun _ h9 => h9) rfl (tyX3_ok 5 (by decide)) rfl rfl (Nat.le_of_ble_eq_true rfl) hd (fun H1 k1 e1 z1 t1 o1 => ?_)
  exact W.canon (kk _ H1 _ h2 ⟨gB.sI hw.1 hc (gce_sI.trans (gcc_3 ht)) e1 z1 t1 o1 (by omega) (by omega), hw.2.put z1 o1 (hw.1.2.1 _ _ hc).2⟩)
theorem ggX3_46 {F : Nat → Option β} (S : CallFix p m c cc nL s args lw_all RX3) (X : gCtx E A s) (hw : gH E A LC LS s g H locs) (hd : decode cc pc = .ok (.getfield 46, 3)) (h : bd1 (oRn g a 7 7 0) F = some r) (kk : ∀ v, F v = some r → W p l e R s m args below meth c H locs cells slots Q (F0 m (pc + 3) ls (.ref v :: rest))) : W p l e R s m args below meth c H locs cells slots Q (F0 m pc ls (.ref a :: rest)) := by
  obtain ⟨v, h1, h2⟩ := bd1_some h
  obtain ⟨⟨c1, c2⟩, h3⟩ := oif h1
  have ht : (gK g a).1 = 7 := by omega
  exact va_getN (D := eD E) (ci := 6) (C := RX7) (T := TX7) (N := 4) S.1 S.2.1 S.2.2.2.2 in_X7 S.2.2.2.1 X.1 (va_one (hw.1.2.1 _ _ (gcell_7 ht)).1) 0 rfl rfl 0 (by decide) (va_Nw.use rfl (X.2.2.2.2.2.1 _ q886 rfl)) (fun _ h9 => h9) (by show some (va_rf (gR g a 0)) = some (.ref v); rw [h3]; rfl) hd (kk _ h2)
theorem ggX3_46q {F : Option Nat → Option β} (S : CallFix p m c cc nL s args lw_all RX3) (X : gCtx E A s) (hw : gH E A LC LS s g H locs) (hd : decode cc pc = .ok (.getfield 46, 3)) (h : bd1 (oR g a 7 7 0) F = some r) (kk : ∀ v, F v = some r → W p l e R s m args below meth c H locs cells slots Q (F0 m (pc + 3) ls (va_rf v :: rest))) : W p l e R s m args below meth c H locs cells slots Q (F0 m pc ls (.ref a :: rest)) := by
  obtain ⟨v, h1, h2⟩ := bd1_some h
  obtain ⟨⟨c1, c2⟩, h3⟩ := oif h1
  have ht : (gK g a).1 = 7 := by omega
  cases h3
  exact va_getN (D := eD E) (ci := 6) (C := RX7) (T := TX7) (N := 4) S.1 S.2.1 S.2.2.2.2 in_X7 S.2.2.2.1 X.1 (va_one (hw.1.2.1 _ _ (gcell_7 ht)).1) 0 rfl rfl 0 (by decide) (va_Nw.use rfl (X.2.2.2.2.2.1 _ q886 rfl)) (fun _ h9 => h9) rfl hd (kk _ h2)
theorem ggX3_58 {F : Nat → Option β} (S : CallFix p m c cc nL s args lw_all RX3) (X : gCtx E A s) (hw : gH E A LC LS s g H locs) (hd : decode cc pc = .ok (.getfield 58, 3)) (h : bd1 (oRn g a 8 11 0) F = some r) (kk : ∀ v, F v = some r → W p l e R s m args below meth c H locs cells slots Q (F0 m (pc + 3) ls (.ref v :: rest))) : W p l e R s m args below meth c H locs cells slots Q (F0 m pc ls (.ref a :: rest)) := by
  obtain ⟨v, h1, h2⟩ := bd1_some h
  obtain ⟨⟨c1, c2⟩, h3⟩ := oif h1
  rcases (by omega : (gK g a).1 = 8 ∨ (gK g a).1 = 9 ∨ (gK g a).1 = 10 ∨ (gK g a).1 = 11) with ht | ht | ht | ht
  · exact va_get (D := eD E) (ci := 7) (C := RX8) (T := TX8) (N := 6) S.1 S.2.1 S.2.2.2.2 in_X8 S.2.2.2.1 X.1 (va_one (hw.1.2.1 _ _ (gcell_8 ht)).1) 0 rfl rfl 0 (by decide) (S.2.2.2.2 _ q982) (fun _ h9 => h9) (by show some (va_rf (gR g a 0)) = some (.ref v); rw [h3]; rfl) hd (kk _ h2)
  · exact va_get (D := eD E) (ci := 8) (C := RX9) (T := TX9) (N := 6) S.1 S.2.1 S.2.2.2.2 in_X9 S.2.2.2.1 X.1 (va_one (hw.1.2.1 _ _ (gcell_9 ht)).1) 0 rfl rfl 0 (by decide) (S.2.2.2.2 _ q982) (fun _ h9 => h9) (by show some (va_rf (gR g a 0)) = some (.ref v); rw [h3]; rfl) hd (kk _ h2)
  · exact va_get (D := eD E) (ci := 9) (C := RX10) (T := TX10) (N := 6) S.1 S.2.1 S.2.2.2.2 in_X10 S.2.2.2.1 X.1 (va_one (hw.1.2.1 _ _ (gcell_10 ht)).1) 0 rfl rfl 0 (by decide) (S.2.2.2.2 _ q982) (fun _ h9 => h9) (by show some (va_rf (gR g a 0)) = some (.ref v); rw [h3]; rfl) hd (kk _ h2)
  · exact va_get (D := eD E) (ci := 10) (C := RX11) (T := TX11) (N := 6) S.1 S.2.1 S.2.2.2.2 in_X11 S.2.2.2.1 X.1 (va_one (hw.1.2.1 _ _ (gcell_11 ht)).1) 0 rfl rfl 0 (by decide) (S.2.2.2.2 _ q982) (fun _ h9 => h9) (by show some (va_rf (gR g a 0)) = some (.ref v); rw [h3]; rfl) hd (kk _ h2)
theorem ggX3_58q {F : Option Nat → Option β} (S : CallFix p m c cc nL s args lw_all RX3) (X : gCtx E A s) (hw : gH E A LC LS s g H locs) (hd : decode cc pc = .ok (.getfield 58, 3)) (h : bd1 (oR g a 8 11 0) F = some r) (kk : ∀ v, F v = some r → W p l e R s m args below meth c H locs cells slots Q (F0 m (pc + 3) ls (va_rf v :: rest))) : W p l e R s m args below meth c H locs cells slots Q (F0 m pc ls (.ref a :: rest)) := by
  obtain ⟨v, h1, h2⟩ := bd1_some h
  obtain ⟨⟨c1, c2⟩, h3⟩ := oif h1
  rcases (by omega : (gK g a).1 = 8 ∨ (gK g a).1 = 9 ∨ (gK g a).1 = 10 ∨ (gK g a).1 = 11) with ht | ht | ht | ht
  · cases h3
    exact va_get (D := eD E) (ci := 7) (C := RX8) (T := TX8) (N := 6) S.1 S.2.1 S.2.2.2.2 in_X8 S.2.2.2.1 X.1 (va_one (hw.1.2.1 _ _ (gcell_8 ht)).1) 0 rfl rfl 0 (by decide) (S.2.2.2.2 _ q982) (fun _ h9 => h9) rfl hd (kk _ h2)
  · cases h3
    exact va_get (D := eD E) (ci := 8) (C := RX9) (T := TX9) (N := 6) S.1 S.2.1 S.2.2.2.2 in_X9 S.2.2.2.1 X.1 (va_one (hw.1.2.1 _ _ (gcell_9 ht)).1) 0 rfl rfl 0 (by decide) (S.2.2.2.2 _ q982) (fun _ h9 => h9) rfl hd (kk _ h2)
  · cases h3
    exact va_get (D := eD E) (ci := 9) (C := RX10) (T := TX10) (N := 6) S.1 S.2.1 S.2.2.2.2 in_X10 S.2.2.2.1 X.1 (va_one (hw.1.2.1 _ _ (gcell_10 ht)).1) 0 rfl rfl 0 (by decide) (S.2.2.2.2 _ q982) (fun _ h9 => h9) rfl hd (kk _ h2)
  · cases h3
    exact va_get (D := eD E) (ci := 10) (C := RX11) (T := TX11) (N := 6) S.1 S.2.1 S.2.2.2.2 in_X11 S.2.2.2.1 X.1 (va_one (hw.1.2.1 _ _ (gcell_11 ht)).1) 0 rfl rfl 0 (by decide) (S.2.2.2.2 _ q982) (fun _ h9 => h9) rfl hd (kk _ h2)
theorem ggX3_61 {F : Nat → Option β} (S : CallFix p m c cc nL s args lw_all RX3) (X : gCtx E A s) (hw : gH E A LC LS s g H locs) (hd : decode cc pc = .ok (.getfield 61, 3)) (h : bd1 (oRn g a 12 12 0) F = some r) (kk : ∀ v, F v = some r → W p l e R s m args below meth c H locs cells slots Q (F0 m (pc + 3) ls (.ref v :: rest))) : W p l e R s m args below meth c H locs cells slots Q (F0 m pc ls (.ref a :: rest)) := by
  obtain ⟨v, h1, h2⟩ := bd1_some h
  obtain ⟨⟨c1, c2⟩, h3⟩ := oif h1
  have ht : (gK g a).1 = 12 := by omega
  exact va_getN (D := eD E) (ci := 11) (C := RX12) (T := TX12) (N := 4) S.1 S.2.1 S.2.2.2.2 in_X12 S.2.2.2.1 X.1 (va_one (hw.1.2.1 _ _ (gcell_12 ht)).1) 0 rfl rfl 0 (by decide) (va_Nw.use rfl (X.2.2.2.2.2.1 _ q1084 rfl)) (fun _ h9 => h9) (by show some (va_rf (gR g a 0)) = some (.ref v); rw [h3]; rfl) hd (kk _ h2)
theorem ggX3_61q {F : Option Nat → Option β} (S : CallFix p m c cc nL s args lw_all RX3) (X : gCtx E A s) (hw : gH E A LC LS s g H locs) (hd : decode cc pc = .ok (.getfield 61, 3)) (h : bd1 (oR g a 12 12 0) F = some r) (kk : ∀ v, F v = some r → W p l e R s m args below meth c H locs cells slots Q (F0 m (pc + 3) ls (va_rf v :: rest))) : W p l e R s m args below meth c H locs cells slots Q (F0 m pc ls (.ref a :: rest)) := by
  obtain ⟨v, h1, h2⟩ := bd1_some h
  obtain ⟨⟨c1, c2⟩, h3⟩ := oif h1
  have ht : (gK g a).1 = 12 := by omega
  cases h3
  exact va_getN (D := eD E) (ci := 11) (C := RX12) (T := TX12) (N := 4) S.1 S.2.1 S.2.2.2.2 in_X12 S.2.2.2.1 X.1 (va_one (hw.1.2.1 _ _ (gcell_12 ht)).1) 0 rfl rfl 0 (by decide) (va_Nw.use rfl (X.2.2.2.2.2.1 _ q1084 rfl)) (fun _ h9 => h9) rfl hd (kk _ h2)
theorem ggX3_62 {F : Int32 → Option β} (S : CallFix p m c cc nL s args lw_all RX3) (X : gCtx E A s) (hw : gH E A LC LS s g H locs) (hd : decode cc pc = .ok (.getfield 62, 3)) (h : bd1 (oI g a 8 11 4) F = some r) (kk : ∀ v, F v = some r → W p l e R s m args below meth c H locs cells slots Q (F0 m (pc + 3) ls (.int v :: rest))) : W p l e R s m args below meth c H locs cells slots Q (F0 m pc ls (.ref a :: rest)) := by
  obtain ⟨v, h1, h2⟩ := bd1_some h
  obtain ⟨⟨c1, c2⟩, h3⟩ := oif h1
  rcases (by omega : (gK g a).1 = 8 ∨ (gK g a).1 = 9 ∨ (gK g a).1 = 10 ∨ (gK g a).1 = 11) with ht | ht | ht | ht
  · cases h3
    exact va_get (D := eD E) (ci := 7) (C := RX8) (T := TX8) (N := 6) S.1 S.2.1 S.2.2.2.2 in_X8 S.2.2.2.1 X.1 (va_one (hw.1.2.1 _ _ (gcell_8 ht)).1) 0 rfl rfl 4 (by decide) (S.2.2.2.2 _ q994) (fun _ h9 => h9) rfl hd (kk _ h2)
  · cases h3
    exact va_get (D := eD E) (ci := 8) (C := RX9) (T := TX9) (N := 6) S.1 S.2.1 S.2.2.2.2 in_X9 S.2.2.2.1 X.1 (va_one (hw.1.2.1 _ _ (gcell_9 ht)).1) 0 rfl rfl 4 (by decide) (S.2.2.2.2 _ q994) (fun _ h9 => h9) rfl hd (kk _ h2)
  · cases h3
    exact va_get (D := eD E) (ci := 9) (C := RX10) (T := TX10) (N := 6) S.1 S.2.1 S.2.2.2.2 in_X10 S.2.2.2.1 X.1 (va_one (hw.1.2.1 _ _ (gcell_10 ht)).1) 0 rfl rfl 4 (by decide) (S.2.2.2.2 _ q994) (fun _ h9 => h9) rfl hd (kk _ h2)
  · cases h3
    exact va_get (D := eD E) (ci := 10) (C := RX11) (T := TX11) (N := 6) S.1 S.2.1 S.2.2.2.2 in_X11 S.2.2.2.1 X.1 (va_one (hw.1.2.1 _ _ (gcell_11 ht)).1) 0 rfl rfl 4 (by decide) (S.2.2.2.2 _ q994) (fun _ h9 => h9) rfl hd (kk _ h2)
theorem gpX25_12 {v : Option Nat} {F : GS → Option β} (S : CallFix p m c cc nL s args lw_all RX25) (X : gCtx E A s) (hw : gH E A LC LS s g H locs) (hin2 : meth.name = "<init>") (hd : decode cc pc = .ok (.putfield 12, 3)) (h : bd1 (pR g a 28 28 0 v) F = some r) (kk : ∀ (g1 : GS) (H : Heap) (locs : List Loc), F g1 = some r → gH E A LC LS s g1 H locs → W p l e R s m args below meth c H locs (H.size - s.heap.size) (tot H - tot s.heap) Q (F0 m (pc + 3) ls rest)) : W p l e R s m args below meth c H locs cells slots Q (F0 m pc ls (va_rf v :: .ref a :: rest)) := by
  obtain ⟨g1, h1, h2⟩ := bd1_some h
  obtain ⟨⟨c1, c2⟩, h3⟩ := oif h1
  cases h3
  have ht : (gK g a).1 = 28 := by omega
  have hc := gcell_28 (E := E) ht
  refine gb_putF (D := eD E) (ci := 21) (C := RX25) (T := TX25) (N := 4) (ty := tyX25 0) S.1 S.2.1 S.2.2.2.2 in_X25 tyX25 tyX25_ok nmX25 S.2.2.2.1 X.1 (hw.1.2.1 _ _ hc).1 rfl 0 (by decide) (S.2.2.2.2 _ q1656) (fun _ h9 => h9) rfl hin2 rfl (tyX25_ok 0 (by decide)) (rf_fit rfl v).1 (rf_fit rfl v).2 (Nat.le_of_ble_eq_true rfl) hd (fun H1 k1 e1 z1 t1 o1 => ?_)
  exact W.canon (kk _ H1 _ h2 ⟨gB.sR hw.1 hc (gce_sR.trans (gcc_28 ht)) e1 z1 t1 o1 (by omega) (by omega), hw.2.put z1 o1 (hw.1.2.1 _ _ hc).2⟩)
theorem gpX25_18 {v : Option Nat} {F : GS → Option β} (S : CallFix p m c cc nL s args lw_all RX25) (X : gCtx E A s) (hw : gH E A LC LS s g H locs) (hin2 : meth.name = "<init>") (hd : decode cc pc = .ok (.putfield 18, 3)) (h : bd1 (pR g a 28 28 1 v) F = some r) (kk : ∀ (g1 : GS) (H : Heap) (locs : List Loc), F g1 = some r → gH E A LC LS s g1 H locs → W p l e R s m args below meth c H locs (H.size - s.heap.size) (tot H - tot s.heap) Q (F0 m (pc + 3) ls rest)) : W p l e R s m args below meth c H locs cells slots Q (F0 m pc ls (va_rf v :: .ref a :: rest)) := by
  obtain ⟨g1, h1, h2⟩ := bd1_some h
  obtain ⟨⟨c1, c2⟩, h3⟩ := oif h1
  cases h3
  have ht : (gK g a).1 = 28 := by omega
  have hc := gcell_28 (E := E) ht
  refine gb_putF (D := eD E) (ci := 21) (C := RX25) (T := TX25) (N := 4) (ty := tyX25 1) S.1 S.2.1 S.2.2.2.2 in_X25 tyX25 tyX25_ok nmX25 S.2.2.2.1 X.1 (hw.1.2.1 _ _ hc).1 rfl 1 (by decide) (S.2.2.2.2 _ q1658) (fun _ h9 => h9) rfl hin2 rfl (tyX25_ok 1 (by decide)) (rf_fit rfl v).1 (rf_fit rfl v).2 (Nat.le_of_ble_eq_true rfl) hd (fun H1 k1 e1 z1 t1 o1 => ?_)
  exact W.canon (kk _ H1 _ h2 ⟨gB.sR hw.1 hc (gce_sR.trans (gcc_28 ht)) e1 z1 t1 o1 (by omega) (by omega), hw.2.put z1 o1 (hw.1.2.1 _ _ hc).2⟩)
theorem gpX25_22 {v : Option Nat} {F : GS → Option β} (S : CallFix p m c cc nL s args lw_all RX25) (X : gCtx E A s) (hw : gH E A LC LS s g H locs) (hin2 : meth.name = "<init>") (hd : decode cc pc = .ok (.putfield 22, 3)) (h : bd1 (pR g a 28 28 2 v) F = some r) (kk : ∀ (g1 : GS) (H : Heap) (locs : List Loc), F g1 = some r → gH E A LC LS s g1 H locs → W p l e R s m args below meth c H locs (H.size - s.heap.size) (tot H - tot s.heap) Q (F0 m (pc + 3) ls rest)) : W p l e R s m args below meth c H locs cells slots Q (F0 m pc ls (va_rf v :: .ref a :: rest)) := by
  obtain ⟨g1, h1, h2⟩ := bd1_some h
  obtain ⟨⟨c1, c2⟩, h3⟩ := oif h1
  cases h3
  have ht : (gK g a).1 = 28 := by omega
  have hc := gcell_28 (E := E) ht
  refine gb_putF (D := eD E) (ci := 21) (C := RX25) (T := TX25) (N := 4) (ty := tyX25 2) S.1 S.2.1 S.2.2.2.2 in_X25 tyX25 tyX25_ok nmX25 S.2.2.2.1 X.1 (hw.1.2.1 _ _ hc).1 rfl 2 (by decide) (S.2.2.2.2 _ q1660) (fun _ h9 => h9) rfl hin2 rfl (tyX25_ok 2 (by decide)) (rf_fit rfl v).1 (rf_fit rfl v).2 (Nat.le_of_ble_eq_true rfl) hd (fun H1 k1 e1 z1 t1 o1 => ?_)
  exact W.canon (kk _ H1 _ h2 ⟨gB.sR hw.1 hc (gce_sR.trans (gcc_28 ht)) e1 z1 t1 o1 (by omega) (by omega), hw.2.put z1 o1 (hw.1.2.1 _ _ hc).2⟩)
theorem ggX24_7 {F : Int32 → Option β} (S : CallFix p m c cc nL s args lw_all RX24) (X : gCtx E A s) (hw : gH E A LC LS s g H locs) (hd : decode cc pc = .ok (.getfield 7, 3)) (h : bd1 (oI g a 21 21 0) F = some r) (kk : ∀ v, F v = some r → W p l e R s m args below meth c H locs cells slots Q (F0 m (pc + 3) ls (.int v :: rest))) : W p l e R s m args below meth c H locs cells slots Q (F0 m pc ls (.ref a :: rest)) := by
  obtain ⟨v, h1, h2⟩ := bd1_some h
  obtain ⟨⟨c1, c2⟩, h3⟩ := oif h1
  have ht : (gK g a).1 = 21 := by omega
  cases h3
  exact va_get (D := eD E) (ci := 20) (C := RX24) (T := TX24) (N := 2) S.1 S.2.1 S.2.2.2.2 in_X24 S.2.2.2.1 X.1 (va_one (hw.1.2.1 _ _ (gcell_21 ht)).1) 0 rfl rfl 0 (by decide) (S.2.2.2.2 _ q1260) (fun _ h9 => h9) rfl hd (kk _ h2)
theorem gpX24_7 {v : Int32} {F : GS → Option β} (S : CallFix p m c cc nL s args lw_all RX24) (X : gCtx E A s) (hw : gH E A LC LS s g H locs) (hin2 : meth.name = "<init>") (hd : decode cc pc = .ok (.putfield 7, 3)) (h : bd1 (pI g a 21 21 0 v) F = some r) (kk : ∀ (g1 : GS) (H : Heap) (locs : List Loc), F g1 = some r → gH E A LC LS s g1 H locs → W p l e R s m args below meth c H locs (H.size - s.heap.size) (tot H - tot s.heap) Q (F0 m (pc + 3) ls rest)) : W p l e R s m args below meth c H locs cells slots Q (F0 m pc ls (.int v :: .ref a :: rest)) := by
  obtain ⟨g1, h1, h2⟩ := bd1_some h
  obtain ⟨⟨c1, c2⟩, h3⟩ := oif h1
  cases h3
  have ht : (gK g a).1 = 21 := by omega
  have hc := gcell_21 (E := E) ht
  refine gb_putF (D := eD E) (ci := 20) (C := RX24) (T := TX24) (N := 2) (ty := tyX24 0) S.1 S.2.1 S.2.2.2.2 in_X24 tyX24 tyX24_ok nmX24 S.2.2.2.1 X.1 (hw.1.2.1 _ _ hc).1 rfl 0 (by decide) (S.2.2.2.2 _ q1260) (fun _ h9 => h9) rfl hin2 rfl (tyX24_ok 0 (by decide)) rfl rfl (Nat.le_of_ble_eq_true rfl) hd (fun H1 k1 e1 z1 t1 o1 => ?_)
  exact W.canon (kk _ H1 _ h2 ⟨gB.sI hw.1 hc (gce_sI.trans (gcc_21 ht)) e1 z1 t1 o1 (by omega) (by omega), hw.2.put z1 o1 (hw.1.2.1 _ _ hc).2⟩)
theorem ggX24_13 {F : Int32 → Option β} (S : CallFix p m c cc nL s args lw_all RX24) (X : gCtx E A s) (hw : gH E A LC LS s g H locs) (hd : decode cc pc = .ok (.getfield 13, 3)) (h : bd1 (oI g a 21 21 1) F = some r) (kk : ∀ v, F v = some r → W p l e R s m args below meth c H locs cells slots Q (F0 m (pc + 3) ls (.int v :: rest))) : W p l e R s m args below meth c H locs cells slots Q (F0 m pc ls (.ref a :: rest)) := by
  obtain ⟨v, h1, h2⟩ := bd1_some h
  obtain ⟨⟨c1, c2⟩, h3⟩ := oif h1
  have ht : (gK g a).1 = 21 := by omega
  cases h3
  exact va_get (D := eD E) (ci := 20) (C := RX24) (T := TX24) (N := 2) S.1 S.2.1 S.2.2.2.2 in_X24 S.2.2.2.1 X.1 (va_one (hw.1.2.1 _ _ (gcell_21 ht)).1) 0 rfl rfl 1 (by decide) (S.2.2.2.2 _ q1261) (fun _ h9 => h9) rfl hd (kk _ h2)
theorem gpX24_13 {v : Int32} {F : GS → Option β} (S : CallFix p m c cc nL s args lw_all RX24) (X : gCtx E A s) (hw : gH E A LC LS s g H locs) (hin2 : meth.name = "<init>") (hd : decode cc pc = .ok (.putfield 13, 3)) (h : bd1 (pI g a 21 21 1 v) F = some r) (kk : ∀ (g1 : GS) (H : Heap) (locs : List Loc), F g1 = some r → gH E A LC LS s g1 H locs → W p l e R s m args below meth c H locs (H.size - s.heap.size) (tot H - tot s.heap) Q (F0 m (pc + 3) ls rest)) : W p l e R s m args below meth c H locs cells slots Q (F0 m pc ls (.int v :: .ref a :: rest)) := by
  obtain ⟨g1, h1, h2⟩ := bd1_some h
  obtain ⟨⟨c1, c2⟩, h3⟩ := oif h1
  cases h3
  have ht : (gK g a).1 = 21 := by omega
  have hc := gcell_21 (E := E) ht
  refine gb_putF (D := eD E) (ci := 20) (C := RX24) (T := TX24) (N := 2) (ty := tyX24 1) S.1 S.2.1 S.2.2.2.2 in_X24 tyX24 tyX24_ok nmX24 S.2.2.2.1 X.1 (hw.1.2.1 _ _ hc).1 rfl 1 (by decide) (S.2.2.2.2 _ q1261) (fun _ h9 => h9) rfl hin2 rfl (tyX24_ok 1 (by decide)) rfl rfl (Nat.le_of_ble_eq_true rfl) hd (fun H1 k1 e1 z1 t1 o1 => ?_)
  exact W.canon (kk _ H1 _ h2 ⟨gB.sI hw.1 hc (gce_sI.trans (gcc_21 ht)) e1 z1 t1 o1 (by omega) (by omega), hw.2.put z1 o1 (hw.1.2.1 _ _ hc).2⟩)
theorem ggX24_22 {F : Nat → Option β} (S : CallFix p m c cc nL s args lw_all RX24) (X : gCtx E A s) (hw : gH E A LC LS s g H locs) (hd : decode cc pc = .ok (.getfield 22, 3)) (h : bd1 (oRn g a 4 4 0) F = some r) (kk : ∀ v, F v = some r → W p l e R s m args below meth c H locs cells slots Q (F0 m (pc + 3) ls (.ref v :: rest))) : W p l e R s m args below meth c H locs cells slots Q (F0 m pc ls (.ref a :: rest)) := by
  obtain ⟨v, h1, h2⟩ := bd1_some h
  obtain ⟨⟨c1, c2⟩, h3⟩ := oif h1
  have ht : (gK g a).1 = 4 := by omega
  exact va_getN (D := eD E) (ci := 3) (C := RX4) (T := TX4) (N := 8) S.1 S.2.1 S.2.2.2.2 in_X4 S.2.2.2.1 X.1 (va_one (hw.1.2.1 _ _ (gcell_4 ht)).1) 0 rfl rfl 0 (by decide) (va_Nw.use rfl (X.2.2.2.2.2.1 _ q305 rfl)) (fun _ h9 => h9) (by show some (va_rf (gR g a 0)) = some (.ref v); rw [h3]; rfl) hd (kk _ h2)
theorem ggX24_22q {F : Option Nat → Option β} (S : CallFix p m c cc nL s args lw_all RX24) (X : gCtx E A s) (hw : gH E A LC LS s g H locs) (hd : decode cc pc = .ok (.getfield 22, 3)) (h : bd1 (oR g a 4 4 0) F = some r) (kk : ∀ v, F v = some r → W p l e R s m args below meth c H locs cells slots Q (F0 m (pc + 3) ls (va_rf v :: rest))) : W p l e R s m args below meth c H locs cells slots Q (F0 m pc ls (.ref a :: rest)) := by
  obtain ⟨v, h1, h2⟩ := bd1_some h
  obtain ⟨⟨c1, c2⟩, h3⟩ := oif h1
  have ht : (gK g a).1 = 4 := by omega
  cases h3
  exact va_getN (D := eD E) (ci := 3) (C := RX4) (T := TX4) (N := 8) S.1 S.2.1 S.2.2.2.2 in_X4 S.2.2.2.1 X.1 (va_one (hw.1.2.1 _ _ (gcell_4 ht)).1) 0 rfl rfl 0 (by decide) (va_Nw.use rfl (X.2.2.2.2.2.1 _ q305 rfl)) (fun _ h9 => h9) rfl hd (kk _ h2)
theorem ggX16_7 {F : Nat → Option β} (S : CallFix p m c cc nL s args lw_all RX16) (X : gCtx E A s) (hw : gH E A LC LS s g H locs) (hd : decode cc pc = .ok (.getfield 7, 3)) (h : bd1 (oRn g a 15 15 0) F = some r) (kk : ∀ v, F v = some r → W p l e R s m args below meth c H locs cells slots Q (F0 m (pc + 3) ls (.ref v :: rest))) : W p l e R s m args below meth c H locs cells slots Q (F0 m pc ls (.ref a :: rest)) := by
  obtain ⟨v, h1, h2⟩ := bd1_some h
  obtain ⟨⟨c1, c2⟩, h3⟩ := oif h1
  have ht : (gK g a).1 = 15 := by omega
  exact va_get (D := eD E) (ci := 14) (C := RX16) (T := TX16) (N := 1) S.1 S.2.1 S.2.2.2.2 in_X16 S.2.2.2.1 X.1 (va_one (hw.1.2.1 _ _ (gcell_15 ht)).1) 0 rfl rfl 0 (by decide) (S.2.2.2.2 _ q1160) (fun _ h9 => h9) (by show some (va_rf (gR g a 0)) = some (.ref v); rw [h3]; rfl) hd (kk _ h2)
theorem ggX16_7q {F : Option Nat → Option β} (S : CallFix p m c cc nL s args lw_all RX16) (X : gCtx E A s) (hw : gH E A LC LS s g H locs) (hd : decode cc pc = .ok (.getfield 7, 3)) (h : bd1 (oR g a 15 15 0) F = some r) (kk : ∀ v, F v = some r → W p l e R s m args below meth c H locs cells slots Q (F0 m (pc + 3) ls (va_rf v :: rest))) : W p l e R s m args below meth c H locs cells slots Q (F0 m pc ls (.ref a :: rest)) := by
  obtain ⟨v, h1, h2⟩ := bd1_some h
  obtain ⟨⟨c1, c2⟩, h3⟩ := oif h1
  have ht : (gK g a).1 = 15 := by omega
  cases h3
  exact va_get (D := eD E) (ci := 14) (C := RX16) (T := TX16) (N := 1) S.1 S.2.1 S.2.2.2.2 in_X16 S.2.2.2.1 X.1 (va_one (hw.1.2.1 _ _ (gcell_15 ht)).1) 0 rfl rfl 0 (by decide) (S.2.2.2.2 _ q1160) (fun _ h9 => h9) rfl hd (kk _ h2)
theorem gpX16_7 {v : Option Nat} {F : GS → Option β} (S : CallFix p m c cc nL s args lw_all RX16) (X : gCtx E A s) (hw : gH E A LC LS s g H locs) (hin2 : meth.name = "<init>") (hd : decode cc pc = .ok (.putfield 7, 3)) (h : bd1 (pR g a 15 15 0 v) F = some r) (kk : ∀ (g1 : GS) (H : Heap) (locs : List Loc), F g1 = some r → gH E A LC LS s g1 H locs → W p l e R s m args below meth c H locs (H.size - s.heap.size) (tot H - tot s.heap) Q (F0 m (pc + 3) ls rest)) : W p l e R s m args below meth c H locs cells slots Q (F0 m pc ls (va_rf v :: .ref a :: rest)) := by
  obtain ⟨g1, h1, h2⟩ := bd1_some h
  obtain ⟨⟨c1, c2⟩, h3⟩ := oif h1
  cases h3
  have ht : (gK g a).1 = 15 := by omega
  have hc := gcell_15 (E := E) ht
  refine gb_putF (D := eD E) (ci := 14) (C := RX16) (T := TX16) (N := 1) (ty := tyX16 0) S.1 S.2.1 S.2.2.2.2 in_X16 tyX16 tyX16_ok nmX16 S.2.2.2.1 X.1 (hw.1.2.1 _ _ hc).1 rfl 0 (by decide) (S.2.2.2.2 _ q1160) (fun _ h9 => h9) rfl hin2 rfl (tyX16_ok 0 (by decide)) (rf_fit rfl v).1 (rf_fit rfl v).2 (Nat.le_of_ble_eq_true rfl) hd (fun H1 k1 e1 z1 t1 o1 => ?_)
  exact W.canon (kk _ H1 _ h2 ⟨gB.sR hw.1 hc (gce_sR.trans (gcc_15 ht)) e1 z1 t1 o1 (by omega) (by omega), hw.2.put z1 o1 (hw.1.2.1 _ _ hc).2⟩)
theorem ggX19_7 {F : Int32 → Option β} (S : CallFix p m c cc nL s args lw_all RX19) (X : gCtx E A s) (hw : gH E A LC LS s g H locs) (hd : decode cc pc = .ok (.getfield 7, 3)) (h : bd1 (oI g a 17 17 0) F = some r) (kk : ∀ v, F v = some r → W p l e R s m args below meth c H locs cells slots Q (F0 m (pc + 3) ls (.int v :: rest))) : W p l e R s m args below meth c H locs cells slots Q (F0 m pc ls (.ref a :: rest)) := by
  obtain ⟨v, h1, h2⟩ := bd1_some h
  obtain ⟨⟨c1, c2⟩, h3⟩ := oif h1
  have ht : (gK g a).1 = 17 := by omega
  cases h3
  exact va_get (D := eD E) (ci := 16) (C := RX19) (T := TX19) (N := 1) S.1 S.2.1 S.2.2.2.2 in_X19 S.2.2.2.1 X.1 (va_one (hw.1.2.1 _ _ (gcell_17 ht)).1) 0 rfl rfl 0 (by decide) (S.2.2.2.2 _ q1210) (fun _ h9 => h9) rfl hd (kk _ h2)
theorem gpX19_7 {v : Int32} {F : GS → Option β} (S : CallFix p m c cc nL s args lw_all RX19) (X : gCtx E A s) (hw : gH E A LC LS s g H locs) (hin2 : meth.name = "<init>") (hd : decode cc pc = .ok (.putfield 7, 3)) (h : bd1 (pI g a 17 17 0 v) F = some r) (kk : ∀ (g1 : GS) (H : Heap) (locs : List Loc), F g1 = some r → gH E A LC LS s g1 H locs → W p l e R s m args below meth c H locs (H.size - s.heap.size) (tot H - tot s.heap) Q (F0 m (pc + 3) ls rest)) : W p l e R s m args below meth c H locs cells slots Q (F0 m pc ls (.int v :: .ref a :: rest)) := by
  obtain ⟨g1, h1, h2⟩ := bd1_some h
  obtain ⟨⟨c1, c2⟩, h3⟩ := oif h1
  cases h3
  have ht : (gK g a).1 = 17 := by omega
  have hc := gcell_17 (E := E) ht
  refine gb_putF (D := eD E) (ci := 16) (C := RX19) (T := TX19) (N := 1) (ty := tyX19 0) S.1 S.2.1 S.2.2.2.2 in_X19 tyX19 tyX19_ok nmX19 S.2.2.2.1 X.1 (hw.1.2.1 _ _ hc).1 rfl 0 (by decide) (S.2.2.2.2 _ q1210) (fun _ h9 => h9) rfl hin2 rfl (tyX19_ok 0 (by decide)) rfl rfl (Nat.le_of_ble_eq_true rfl) hd (fun H1 k1 e1 z1 t1 o1 => ?_)
  exact W.canon (kk _ H1 _ h2 ⟨gB.sI hw.1 hc (gce_sI.trans (gcc_17 ht)) e1 z1 t1 o1 (by omega) (by omega), hw.2.put z1 o1 (hw.1.2.1 _ _ hc).2⟩)
theorem ggX2_9 {F : Nat → Option β} (S : CallFix p m c cc nL s args lw_all RX2) (X : gCtx E A s) (hw : gH E A LC LS s g H locs) (hd : decode cc pc = .ok (.getfield 9, 3)) (h : bd1 (oRn g a 2 2 0) F = some r) (kk : ∀ v, F v = some r → W p l e R s m args below meth c H locs cells slots Q (F0 m (pc + 3) ls (.ref v :: rest))) : W p l e R s m args below meth c H locs cells slots Q (F0 m pc ls (.ref a :: rest)) := by
  obtain ⟨v, h1, h2⟩ := bd1_some h
  obtain ⟨⟨c1, c2⟩, h3⟩ := oif h1
  have ht : (gK g a).1 = 2 := by omega
  exact va_get (D := eD E) (ci := 1) (C := RX2) (T := TX2) (N := 9) S.1 S.2.1 S.2.2.2.2 in_X2 S.2.2.2.1 X.1 (va_one (hw.1.2.1 _ _ (gcell_2 ht)).1) 0 rfl rfl 0 (by decide) (S.2.2.2.2 _ q194) (fun _ h9 => h9) (by show some (va_rf (gR g a 0)) = some (.ref v); rw [h3]; rfl) hd (kk _ h2)
theorem ggX2_9q {F : Option Nat → Option β} (S : CallFix p m c cc nL s args lw_all RX2) (X : gCtx E A s) (hw : gH E A LC LS s g H locs) (hd : decode cc pc = .ok (.getfield 9, 3)) (h : bd1 (oR g a 2 2 0) F = some r) (kk : ∀ v, F v = some r → W p l e R s m args below meth c H locs cells slots Q (F0 m (pc + 3) ls (va_rf v :: rest))) : W p l e R s m args below meth c H locs cells slots Q (F0 m pc ls (.ref a :: rest)) := by
  obtain ⟨v, h1, h2⟩ := bd1_some h
  obtain ⟨⟨c1, c2⟩, h3⟩ := oif h1
  have ht : (gK g a).1 = 2 := by omega
  cases h3
  exact va_get (D := eD E) (ci := 1) (C := RX2) (T := TX2) (N := 9) S.1 S.2.1 S.2.2.2.2 in_X2 S.2.2.2.1 X.1 (va_one (hw.1.2.1 _ _ (gcell_2 ht)).1) 0 rfl rfl 0 (by decide) (S.2.2.2.2 _ q194) (fun _ h9 => h9) rfl hd (kk _ h2)
theorem gpX2_9 {v : Option Nat} {F : GS → Option β} (S : CallFix p m c cc nL s args lw_all RX2) (X : gCtx E A s) (hw : gH E A LC LS s g H locs) (hd : decode cc pc = .ok (.putfield 9, 3)) (h : bd1 (pR g a 2 2 0 v) F = some r) (kk : ∀ (g1 : GS) (H : Heap) (locs : List Loc), F g1 = some r → gH E A LC LS s g1 H locs → W p l e R s m args below meth c H locs (H.size - s.heap.size) (tot H - tot s.heap) Q (F0 m (pc + 3) ls rest)) : W p l e R s m args below meth c H locs cells slots Q (F0 m pc ls (va_rf v :: .ref a :: rest)) := by
  obtain ⟨g1, h1, h2⟩ := bd1_some h
  obtain ⟨⟨c1, c2⟩, h3⟩ := oif h1
  cases h3
  have ht : (gK g a).1 = 2 := by omega
  have hc := gcell_2 (E := E) ht
  refine gb_put (D := eD E) (ci := 1) (C := RX2) (T := TX2) (N := 9) (ty := tyX2 0) S.1 S.2.1 S.2.2.2.2 in_X2 tyX2 tyX2_ok nmX2 S.2.2.2.1 X.1 (hw.1.2.1 _ _ hc).1 rfl 0 (by decide) (S.2.2.2.2 _ q194) (fun _ h9 => h9) rfl (tyX2_ok 0 (by decide)) (rf_fit rfl v).1 (rf_fit rfl v).2 (Nat.le_of_ble_eq_true rfl) hd (fun H1 k1 e1 z1 t1 o1 => ?_)
  exact W.canon (kk _ H1 _ h2 ⟨gB.sR hw.1 hc (gce_sR.trans (gcc_2 ht)) e1 z1 t1 o1 (by omega) (by omega), hw.2.put z1 o1 (hw.1.2.1 _ _ hc).2⟩)
theorem ggX2_15 {F : Int32 → Option β} (S : CallFix p m c cc nL s args lw_all RX2) (X : gCtx E A s) (hw : gH E A LC LS s g H locs) (hd : decode cc pc = .ok (.getfield 15, 3)) (h : bd1 (oI g a 2 2 1) F = some r) (kk : ∀ v, F v = some r → W p l e R s m args below meth c H locs cells slots Q (F0 m (pc + 3) ls (.int v :: rest))) : W p l e R s m args below meth c H locs cells slots Q (F0 m pc ls (.ref a :: rest)) := by
  obtain ⟨v, h1, h2⟩ := bd1_some h
  obtain ⟨⟨c1, c2⟩, h3⟩ := oif h1
  have ht : (gK g a).1 = 2 := by omega
  cases h3
  exact va_get (D := eD E) (ci := 1) (C := RX2) (T := TX2) (N := 9) S.1 S.2.1 S.2.2.2.2 in_X2 S.2.2.2.1 X.1 (va_one (hw.1.2.1 _ _ (gcell_2 ht)).1) 0 rfl rfl 1 (by decide) (S.2.2.2.2 _ q195) (fun _ h9 => h9) rfl hd (kk _ h2)
theorem gpX2_15 {v : Int32} {F : GS → Option β} (S : CallFix p m c cc nL s args lw_all RX2) (X : gCtx E A s) (hw : gH E A LC LS s g H locs) (hd : decode cc pc = .ok (.putfield 15, 3)) (h : bd1 (pI g a 2 2 1 v) F = some r) (kk : ∀ (g1 : GS) (H : Heap) (locs : List Loc), F g1 = some r → gH E A LC LS s g1 H locs → W p l e R s m args below meth c H locs (H.size - s.heap.size) (tot H - tot s.heap) Q (F0 m (pc + 3) ls rest)) : W p l e R s m args below meth c H locs cells slots Q (F0 m pc ls (.int v :: .ref a :: rest)) := by
  obtain ⟨g1, h1, h2⟩ := bd1_some h
  obtain ⟨⟨c1, c2⟩, h3⟩ := oif h1
  cases h3
  have ht : (gK g a).1 = 2 := by omega
  have hc := gcell_2 (E := E) ht
  refine gb_put (D := eD E) (ci := 1) (C := RX2) (T := TX2) (N := 9) (ty := tyX2 1) S.1 S.2.1 S.2.2.2.2 in_X2 tyX2 tyX2_ok nmX2 S.2.2.2.1 X.1 (hw.1.2.1 _ _ hc).1 rfl 1 (by decide) (S.2.2.2.2 _ q195) (fun _ h9 => h9) rfl (tyX2_ok 1 (by decide)) rfl rfl (Nat.le_of_ble_eq_true rfl) hd (fun H1 k1 e1 z1 t1 o1 => ?_)
  exact W.canon (kk _ H1 _ h2 ⟨gB.sI hw.1 hc (gce_sI.trans (gcc_2 ht)) e1 z1 t1 o1 (by omega) (by omega), hw.2.put z1 o1 (hw.1.2.1 _ _ hc).2⟩)
theorem ggX2_19 {F : Int32 → Option β} (S : CallFix p m c cc nL s args lw_all RX2) (X : gCtx E A s) (hw : gH E A LC LS s g H locs) (hd : decode cc pc = .ok (.getfield 19, 3)) (h : bd1 (oI g a 2 2 2) F = some r) (kk : ∀ v, F v = some r → W p l e R s m args below meth c H locs cells slots Q (F0 m (pc + 3) ls (.int v :: rest))) : W p l e R s m args below meth c H locs cells slots Q (F0 m pc ls (.ref a :: rest)) := by
  obtain ⟨v, h1, h2⟩ := bd1_some h
  obtain ⟨⟨c1, c2⟩, h3⟩ := oif h1
  have ht : (gK g a).1 = 2 := by omega
  cases h3
  exact va_get (D := eD E) (ci := 1) (C := RX2) (T := TX2) (N := 9) S.1 S.2.1 S.2.2.2.2 in_X2 S.2.2.2.1 X.1 (va_one (hw.1.2.1 _ _ (gcell_2 ht)).1) 0 rfl rfl 2 (by decide) (S.2.2.2.2 _ q196) (fun _ h9 => h9) rfl hd (kk _ h2)
theorem gpX2_19 {v : Int32} {F : GS → Option β} (S : CallFix p m c cc nL s args lw_all RX2) (X : gCtx E A s) (hw : gH E A LC LS s g H locs) (hd : decode cc pc = .ok (.putfield 19, 3)) (h : bd1 (pI g a 2 2 2 v) F = some r) (kk : ∀ (g1 : GS) (H : Heap) (locs : List Loc), F g1 = some r → gH E A LC LS s g1 H locs → W p l e R s m args below meth c H locs (H.size - s.heap.size) (tot H - tot s.heap) Q (F0 m (pc + 3) ls rest)) : W p l e R s m args below meth c H locs cells slots Q (F0 m pc ls (.int v :: .ref a :: rest)) := by
  obtain ⟨g1, h1, h2⟩ := bd1_some h
  obtain ⟨⟨c1, c2⟩, h3⟩ := oif h1
  cases h3
  have ht : (gK g a).1 = 2 := by omega
  have hc := gcell_2 (E := E) ht
  refine gb_put (D := eD E) (ci := 1) (C := RX2) (T := TX2) (N := 9) (ty := tyX2 2) S.1 S.2.1 S.2.2.2.2 in_X2 tyX2 tyX2_ok nmX2 S.2.2.2.1 X.1 (hw.1.2.1 _ _ hc).1 rfl 2 (by decide) (S.2.2.2.2 _ q196) (fun _ h9 => h9) rfl (tyX2_ok 2 (by decide)) rfl rfl (Nat.le_of_ble_eq_true rfl) hd (fun H1 k1 e1 z1 t1 o1 => ?_)
  exact W.canon (kk _ H1 _ h2 ⟨gB.sI hw.1 hc (gce_sI.trans (gcc_2 ht)) e1 z1 t1 o1 (by omega) (by omega), hw.2.put z1 o1 (hw.1.2.1 _ _ hc).2⟩)
theorem ggX2_22 {F : Int32 → Option β} (S : CallFix p m c cc nL s args lw_all RX2) (X : gCtx E A s) (hw : gH E A LC LS s g H locs) (hd : decode cc pc = .ok (.getfield 22, 3)) (h : bd1 (oI g a 2 2 6) F = some r) (kk : ∀ v, F v = some r → W p l e R s m args below meth c H locs cells slots Q (F0 m (pc + 3) ls (.int v :: rest))) : W p l e R s m args below meth c H locs cells slots Q (F0 m pc ls (.ref a :: rest)) := by
  obtain ⟨v, h1, h2⟩ := bd1_some h
  obtain ⟨⟨c1, c2⟩, h3⟩ := oif h1
  have ht : (gK g a).1 = 2 := by omega
  cases h3
  exact va_get (D := eD E) (ci := 1) (C := RX2) (T := TX2) (N := 9) S.1 S.2.1 S.2.2.2.2 in_X2 S.2.2.2.1 X.1 (va_one (hw.1.2.1 _ _ (gcell_2 ht)).1) 0 rfl rfl 6 (by decide) (S.2.2.2.2 _ q200) (fun _ h9 => h9) rfl hd (kk _ h2)
theorem gpX2_22 {v : Int32} {F : GS → Option β} (S : CallFix p m c cc nL s args lw_all RX2) (X : gCtx E A s) (hw : gH E A LC LS s g H locs) (hd : decode cc pc = .ok (.putfield 22, 3)) (h : bd1 (pI g a 2 2 6 v) F = some r) (kk : ∀ (g1 : GS) (H : Heap) (locs : List Loc), F g1 = some r → gH E A LC LS s g1 H locs → W p l e R s m args below meth c H locs (H.size - s.heap.size) (tot H - tot s.heap) Q (F0 m (pc + 3) ls rest)) : W p l e R s m args below meth c H locs cells slots Q (F0 m pc ls (.int v :: .ref a :: rest)) := by
  obtain ⟨g1, h1, h2⟩ := bd1_some h
  obtain ⟨⟨c1, c2⟩, h3⟩ := oif h1
  cases h3
  have ht : (gK g a).1 = 2 := by omega
  have hc := gcell_2 (E := E) ht
  refine gb_put (D := eD E) (ci := 1) (C := RX2) (T := TX2) (N := 9) (ty := tyX2 6) S.1 S.2.1 S.2.2.2.2 in_X2 tyX2 tyX2_ok nmX2 S.2.2.2.1 X.1 (hw.1.2.1 _ _ hc).1 rfl 6 (by decide) (S.2.2.2.2 _ q200) (fun _ h9 => h9) rfl (tyX2_ok 6 (by decide)) rfl rfl (Nat.le_of_ble_eq_true rfl) hd (fun H1 k1 e1 z1 t1 o1 => ?_)
  exact W.canon (kk _ H1 _ h2 ⟨gB.sI hw.1 hc (gce_sI.trans (gcc_2 ht)) e1 z1 t1 o1 (by omega) (by omega), hw.2.put z1 o1 (hw.1.2.1 _ _ hc).2⟩)
theorem ggX2_28 {F : Int32 → Option β} (S : CallFix p m c cc nL s args lw_all RX2) (X : gCtx E A s) (hw : gH E A LC LS s g H locs) (hd : decode cc pc = .ok (.getfield 28, 3)) (h : bd1 (oI g a 2 2 4) F = some r) (kk : ∀ v, F v = some r → W p l e R s m args below meth c H locs cells slots Q (F0 m (pc + 3) ls (.int v :: rest))) : W p l e R s m args below meth c H locs cells slots Q (F0 m pc ls (.ref a :: rest)) := by
  obtain ⟨v, h1, h2⟩ := bd1_some h
  obtain ⟨⟨c1, c2⟩, h3⟩ := oif h1
  have ht : (gK g a).1 = 2 := by omega
  cases h3
  exact va_get (D := eD E) (ci := 1) (C := RX2) (T := TX2) (N := 9) S.1 S.2.1 S.2.2.2.2 in_X2 S.2.2.2.1 X.1 (va_one (hw.1.2.1 _ _ (gcell_2 ht)).1) 0 rfl rfl 4 (by decide) (S.2.2.2.2 _ q198) (fun _ h9 => h9) rfl hd (kk _ h2)
theorem gpX2_28 {v : Int32} {F : GS → Option β} (S : CallFix p m c cc nL s args lw_all RX2) (X : gCtx E A s) (hw : gH E A LC LS s g H locs) (hd : decode cc pc = .ok (.putfield 28, 3)) (h : bd1 (pI g a 2 2 4 v) F = some r) (kk : ∀ (g1 : GS) (H : Heap) (locs : List Loc), F g1 = some r → gH E A LC LS s g1 H locs → W p l e R s m args below meth c H locs (H.size - s.heap.size) (tot H - tot s.heap) Q (F0 m (pc + 3) ls rest)) : W p l e R s m args below meth c H locs cells slots Q (F0 m pc ls (.int v :: .ref a :: rest)) := by
  obtain ⟨g1, h1, h2⟩ := bd1_some h
  obtain ⟨⟨c1, c2⟩, h3⟩ := oif h1
  cases h3
  have ht : (gK g a).1 = 2 := by omega
  have hc := gcell_2 (E := E) ht
  refine gb_put (D := eD E) (ci := 1) (C := RX2) (T := TX2) (N := 9) (ty := tyX2 4) S.1 S.2.1 S.2.2.2.2 in_X2 tyX2 tyX2_ok nmX2 S.2.2.2.1 X.1 (hw.1.2.1 _ _ hc).1 rfl 4 (by decide) (S.2.2.2.2 _ q198) (fun _ h9 => h9) rfl (tyX2_ok 4 (by decide)) rfl rfl (Nat.le_of_ble_eq_true rfl) hd (fun H1 k1 e1 z1 t1 o1 => ?_)
  exact W.canon (kk _ H1 _ h2 ⟨gB.sI hw.1 hc (gce_sI.trans (gcc_2 ht)) e1 z1 t1 o1 (by omega) (by omega), hw.2.put z1 o1 (hw.1.2.1 _ _ hc).2⟩)
theorem ggX2_31 {F : Int32 → Option β} (S : CallFix p m c cc nL s args lw_all RX2) (X : gCtx E A s) (hw : gH E A LC LS s g H locs) (hd : decode cc pc = .ok (.getfield 31, 3)) (h : bd1 (oI g a 2 2 3) F = some r) (kk : ∀ v, F v = some r → W p l e R s m args below meth c H locs cells slots Q (F0 m (pc + 3) ls (.int v :: rest))) : W p l e R s m args below meth c H locs cells slots Q (F0 m pc ls (.ref a :: rest)) := by
  obtain ⟨v, h1, h2⟩ := bd1_some h
  obtain ⟨⟨c1, c2⟩, h3⟩ := oif h1
  have ht : (gK g a).1 = 2 := by omega
  cases h3
  exact va_get (D := eD E) (ci := 1) (C := RX2) (T := TX2) (N := 9) S.1 S.2.1 S.2.2.2.2 in_X2 S.2.2.2.1 X.1 (va_one (hw.1.2.1 _ _ (gcell_2 ht)).1) 0 rfl rfl 3 (by decide) (S.2.2.2.2 _ q197) (fun _ h9 => h9) rfl hd (kk _ h2)
theorem gpX2_31 {v : Int32} {F : GS → Option β} (S : CallFix p m c cc nL s args lw_all RX2) (X : gCtx E A s) (hw : gH E A LC LS s g H locs) (hd : decode cc pc = .ok (.putfield 31, 3)) (h : bd1 (pI g a 2 2 3 v) F = some r) (kk : ∀ (g1 : GS) (H : Heap) (locs : List Loc), F g1 = some r → gH E A LC LS s g1 H locs → W p l e R s m args below meth c H locs (H.size - s.heap.size) (tot H - tot s.heap) Q (F0 m (pc + 3) ls rest)) : W p l e R s m args below meth c H locs cells slots Q (F0 m pc ls (.int v :: .ref a :: rest)) := by
  obtain ⟨g1, h1, h2⟩ := bd1_some h
  obtain ⟨⟨c1, c2⟩, h3⟩ := oif h1
  cases h3
  have ht : (gK g a).1 = 2 := by omega
  have hc := gcell_2 (E := E) ht
  refine gb_put (D := eD E) (ci := 1) (C := RX2) (T := TX2) (N := 9) (ty := tyX2 3) S.1 S.2.1 S.2.2.2.2 in_X2 tyX2 tyX2_ok nmX2 S.2.2.2.1 X.1 (hw.1.2.1 _ _ hc).1 rfl 3 (by decide) (S.2.2.2.2 _ q197) (fun _ h9 => h9) rfl (tyX2_ok 3 (by decide)) rfl rfl (Nat.le_of_ble_eq_true rfl) hd (fun H1 k1 e1 z1 t1 o1 => ?_)
  exact W.canon (kk _ H1 _ h2 ⟨gB.sI hw.1 hc (gce_sI.trans (gcc_2 ht)) e1 z1 t1 o1 (by omega) (by omega), hw.2.put z1 o1 (hw.1.2.1 _ _ hc).2⟩)
theorem ggX2_45 {F : Int32 → Option β} (S : CallFix p m c cc nL s args lw_all RX2) (X : gCtx E A s) (hw : gH E A LC LS s g H locs) (hd : decode cc pc = .ok (.getfield 45, 3)) (h : bd1 (oI g a 2 2 5) F = some r) (kk : ∀ v, F v = some r → W p l e R s m args below meth c H locs cells slots Q (F0 m (pc + 3) ls (.int v :: rest))) : W p l e R s m args below meth c H locs cells slots Q (F0 m pc ls (.ref a :: rest)) := by
  obtain ⟨v, h1, h2⟩ := bd1_some h
  obtain ⟨⟨c1, c2⟩, h3⟩ := oif h1
  have ht : (gK g a).1 = 2 := by omega
  cases h3
  exact va_get (D := eD E) (ci := 1) (C := RX2) (T := TX2) (N := 9) S.1 S.2.1 S.2.2.2.2 in_X2 S.2.2.2.1 X.1 (va_one (hw.1.2.1 _ _ (gcell_2 ht)).1) 0 rfl rfl 5 (by decide) (S.2.2.2.2 _ q199) (fun _ h9 => h9) rfl hd (kk _ h2)
theorem gpX2_45 {v : Int32} {F : GS → Option β} (S : CallFix p m c cc nL s args lw_all RX2) (X : gCtx E A s) (hw : gH E A LC LS s g H locs) (hd : decode cc pc = .ok (.putfield 45, 3)) (h : bd1 (pI g a 2 2 5 v) F = some r) (kk : ∀ (g1 : GS) (H : Heap) (locs : List Loc), F g1 = some r → gH E A LC LS s g1 H locs → W p l e R s m args below meth c H locs (H.size - s.heap.size) (tot H - tot s.heap) Q (F0 m (pc + 3) ls rest)) : W p l e R s m args below meth c H locs cells slots Q (F0 m pc ls (.int v :: .ref a :: rest)) := by
  obtain ⟨g1, h1, h2⟩ := bd1_some h
  obtain ⟨⟨c1, c2⟩, h3⟩ := oif h1
  cases h3
  have ht : (gK g a).1 = 2 := by omega
  have hc := gcell_2 (E := E) ht
  refine gb_put (D := eD E) (ci := 1) (C := RX2) (T := TX2) (N := 9) (ty := tyX2 5) S.1 S.2.1 S.2.2.2.2 in_X2 tyX2 tyX2_ok nmX2 S.2.2.2.1 X.1 (hw.1.2.1 _ _ hc).1 rfl 5 (by decide) (S.2.2.2.2 _ q199) (fun _ h9 => h9) rfl (tyX2_ok 5 (by decide)) rfl rfl (Nat.le_of_ble_eq_true rfl) hd (fun H1 k1 e1 z1 t1 o1 => ?_)
  exact W.canon (kk _ H1 _ h2 ⟨gB.sI hw.1 hc (gce_sI.trans (gcc_2 ht)) e1 z1 t1 o1 (by omega) (by omega), hw.2.put z1 o1 (hw.1.2.1 _ _ hc).2⟩)
theorem ggX2_101 {F : Nat → Option β} (S : CallFix p m c cc nL s args lw_all RX2) (X : gCtx E A s) (hw : gH E A LC LS s g H locs) (hd : decode cc pc = .ok (.getfield 101, 3)) (h : bd1 (oRn g a 2 2 7) F = some r) (kk : ∀ v, F v = some r → W p l e R s m args below meth c H locs cells slots Q (F0 m (pc + 3) ls (.ref v :: rest))) : W p l e R s m args below meth c H locs cells slots Q (F0 m pc ls (.ref a :: rest)) := by
  obtain ⟨v, h1, h2⟩ := bd1_some h
  obtain ⟨⟨c1, c2⟩, h3⟩ := oif h1
  have ht : (gK g a).1 = 2 := by omega
  exact va_get (D := eD E) (ci := 1) (C := RX2) (T := TX2) (N := 9) S.1 S.2.1 S.2.2.2.2 in_X2 S.2.2.2.1 X.1 (va_one (hw.1.2.1 _ _ (gcell_2 ht)).1) 0 rfl rfl 7 (by decide) (S.2.2.2.2 _ q201) (fun _ h9 => h9) (by show some (va_rf (gR g a 7)) = some (.ref v); rw [h3]; rfl) hd (kk _ h2)
theorem ggX2_101q {F : Option Nat → Option β} (S : CallFix p m c cc nL s args lw_all RX2) (X : gCtx E A s) (hw : gH E A LC LS s g H locs) (hd : decode cc pc = .ok (.getfield 101, 3)) (h : bd1 (oR g a 2 2 7) F = some r) (kk : ∀ v, F v = some r → W p l e R s m args below meth c H locs cells slots Q (F0 m (pc + 3) ls (va_rf v :: rest))) : W p l e R s m args below meth c H locs cells slots Q (F0 m pc ls (.ref a :: rest)) := by
  obtain ⟨v, h1, h2⟩ := bd1_some h
  obtain ⟨⟨c1, c2⟩, h3⟩ := oif h1
  have ht : (gK g a).1 = 2 := by omega
  cases h3
  exact va_get (D := eD E) (ci := 1) (C := RX2) (T := TX2) (N := 9) S.1 S.2.1 S.2.2.2.2 in_X2 S.2.2.2.1 X.1 (va_one (hw.1.2.1 _ _ (gcell_2 ht)).1) 0 rfl rfl 7 (by decide) (S.2.2.2.2 _ q201) (fun _ h9 => h9) rfl hd (kk _ h2)
theorem gpX2_101 {v : Option Nat} {F : GS → Option β} (S : CallFix p m c cc nL s args lw_all RX2) (X : gCtx E A s) (hw : gH E A LC LS s g H locs) (hd : decode cc pc = .ok (.putfield 101, 3)) (h : bd1 (pR g a 2 2 7 v) F = some r) (kk : ∀ (g1 : GS) (H : Heap) (locs : List Loc), F g1 = some r → gH E A LC LS s g1 H locs → W p l e R s m args below meth c H locs (H.size - s.heap.size) (tot H - tot s.heap) Q (F0 m (pc + 3) ls rest)) : W p l e R s m args below meth c H locs cells slots Q (F0 m pc ls (va_rf v :: .ref a :: rest)) := by
  obtain ⟨g1, h1, h2⟩ := bd1_some h
  obtain ⟨⟨c1, c2⟩, h3⟩ := oif h1
  cases h3
  have ht : (gK g a).1 = 2 := by omega
  have hc := gcell_2 (E := E) ht
  refine gb_put (D := eD E) (ci := 1) (C := RX2) (T := TX2) (N := 9) (ty := tyX2 7) S.1 S.2.1 S.2.2.2.2 in_X2 tyX2 tyX2_ok nmX2 S.2.2.2.1 X.1 (hw.1.2.1 _ _ hc).1 rfl 7 (by decide) (S.2.2.2.2 _ q201) (fun _ h9 => h9) rfl (tyX2_ok 7 (by decide)) (rf_fit rfl v).1 (rf_fit rfl v).2 (Nat.le_of_ble_eq_true rfl) hd (fun H1 k1 e1 z1 t1 o1 => ?_)
  exact W.canon (kk _ H1 _ h2 ⟨gB.sR hw.1 hc (gce_sR.trans (gcc_2 ht)) e1 z1 t1 o1 (by omega) (by omega), hw.2.put z1 o1 (hw.1.2.1 _ _ hc).2⟩)
theorem ggX2_124 {F : Nat → Option β} (S : CallFix p m c cc nL s args lw_all RX2) (X : gCtx E A s) (hw : gH E A LC LS s g H locs) (hd : decode cc pc = .ok (.getfield 124, 3)) (h : bd1 (oRn g a 2 2 8) F = some r) (kk : ∀ v, F v = some r → W p l e R s m args below meth c H locs cells slots Q (F0 m (pc + 3) ls (.ref v :: rest))) : W p l e R s m args below meth c H locs cells slots Q (F0 m pc ls (.ref a :: rest)) := by
  obtain ⟨v, h1, h2⟩ := bd1_some h
  obtain ⟨⟨c1, c2⟩, h3⟩ := oif h1
  have ht : (gK g a).1 = 2 := by omega
  exact va_get (D := eD E) (ci := 1) (C := RX2) (T := TX2) (N := 9) S.1 S.2.1 S.2.2.2.2 in_X2 S.2.2.2.1 X.1 (va_one (hw.1.2.1 _ _ (gcell_2 ht)).1) 0 rfl rfl 8 (by decide) (S.2.2.2.2 _ q202) (fun _ h9 => h9) (by show some (va_rf (gR g a 8)) = some (.ref v); rw [h3]; rfl) hd (kk _ h2)
theorem ggX2_124q {F : Option Nat → Option β} (S : CallFix p m c cc nL s args lw_all RX2) (X : gCtx E A s) (hw : gH E A LC LS s g H locs) (hd : decode cc pc = .ok (.getfield 124, 3)) (h : bd1 (oR g a 2 2 8) F = some r) (kk : ∀ v, F v = some r → W p l e R s m args below meth c H locs cells slots Q (F0 m (pc + 3) ls (va_rf v :: rest))) : W p l e R s m args below meth c H locs cells slots Q (F0 m pc ls (.ref a :: rest)) := by
  obtain ⟨v, h1, h2⟩ := bd1_some h
  obtain ⟨⟨c1, c2⟩, h3⟩ := oif h1
  have ht : (gK g a).1 = 2 := by omega
  cases h3
  exact va_get (D := eD E) (ci := 1) (C := RX2) (T := TX2) (N := 9) S.1 S.2.1 S.2.2.2.2 in_X2 S.2.2.2.1 X.1 (va_one (hw.1.2.1 _ _ (gcell_2 ht)).1) 0 rfl rfl 8 (by decide) (S.2.2.2.2 _ q202) (fun _ h9 => h9) rfl hd (kk _ h2)
theorem gpX2_124 {v : Option Nat} {F : GS → Option β} (S : CallFix p m c cc nL s args lw_all RX2) (X : gCtx E A s) (hw : gH E A LC LS s g H locs) (hd : decode cc pc = .ok (.putfield 124, 3)) (h : bd1 (pR g a 2 2 8 v) F = some r) (kk : ∀ (g1 : GS) (H : Heap) (locs : List Loc), F g1 = some r → gH E A LC LS s g1 H locs → W p l e R s m args below meth c H locs (H.size - s.heap.size) (tot H - tot s.heap) Q (F0 m (pc + 3) ls rest)) : W p l e R s m args below meth c H locs cells slots Q (F0 m pc ls (va_rf v :: .ref a :: rest)) := by
  obtain ⟨g1, h1, h2⟩ := bd1_some h
  obtain ⟨⟨c1, c2⟩, h3⟩ := oif h1
  cases h3
  have ht : (gK g a).1 = 2 := by omega
  have hc := gcell_2 (E := E) ht
  refine gb_put (D := eD E) (ci := 1) (C := RX2) (T := TX2) (N := 9) (ty := tyX2 8) S.1 S.2.1 S.2.2.2.2 in_X2 tyX2 tyX2_ok nmX2 S.2.2.2.1 X.1 (hw.1.2.1 _ _ hc).1 rfl 8 (by decide) (S.2.2.2.2 _ q202) (fun _ h9 => h9) rfl (tyX2_ok 8 (by decide)) (rf_fit rfl v).1 (rf_fit rfl v).2 (Nat.le_of_ble_eq_true rfl) hd (fun H1 k1 e1 z1 t1 o1 => ?_)
  exact W.canon (kk _ H1 _ h2 ⟨gB.sR hw.1 hc (gce_sR.trans (gcc_2 ht)) e1 z1 t1 o1 (by omega) (by omega), hw.2.put z1 o1 (hw.1.2.1 _ _ hc).2⟩)
theorem ggX2_135 {F : Int32 → Option β} (S : CallFix p m c cc nL s args lw_all RX2) (X : gCtx E A s) (hw : gH E A LC LS s g H locs) (hd : decode cc pc = .ok (.getfield 135, 3)) (h : bd1 (oI g a 3 3 3) F = some r) (kk : ∀ v, F v = some r → W p l e R s m args below meth c H locs cells slots Q (F0 m (pc + 3) ls (.int v :: rest))) : W p l e R s m args below meth c H locs cells slots Q (F0 m pc ls (.ref a :: rest)) := by
  obtain ⟨v, h1, h2⟩ := bd1_some h
  obtain ⟨⟨c1, c2⟩, h3⟩ := oif h1
  have ht : (gK g a).1 = 3 := by omega
  cases h3
  exact va_getN (D := eD E) (ci := 2) (C := RX3) (T := TX3) (N := 8) S.1 S.2.1 S.2.2.2.2 in_X3 S.2.2.2.1 X.1 (va_one (hw.1.2.1 _ _ (gcell_3 ht)).1) 0 rfl rfl 3 (by decide) (va_Nw.use rfl (X.2.2.2.2.2.1 _ q268 rfl)) (fun _ h9 => h9) rfl hd (kk _ h2)
theorem gpX2_135 {v : Int32} {F : GS → Option β} (S : CallFix p m c cc nL s args lw_all RX2) (X : gCtx E A s) (hw : gH E A LC LS s g H locs) (hd : decode cc pc = .ok (.putfield 135, 3)) (h : bd1 (pI g a 3 3 3 v) F = some r) (kk : ∀ (g1 : GS) (H : Heap) (locs : List Loc), F g1 = some r → gH E A LC LS s g1 H locs → W p l e R s m args below meth c H locs (H.size - s.heap.size) (tot H - tot s.heap) Q (F0 m (pc + 3) ls rest)) : W p l e R s m args below meth c H locs cells slots Q (F0 m pc ls (.int v :: .ref a :: rest)) := by
  obtain ⟨g1, h1, h2⟩ := bd1_some h
  obtain ⟨⟨c1, c2⟩, h3⟩ := oif h1
  cases h3
  have ht : (gK g a).1 = 3 := by omega
  have hc := gcell_3 (E := E) ht
  refine gb_putN (D := eD E) (ci := 2) (C := RX3) (T := TX3) (N := 8) (ty := tyX3 3) S.1 S.2.1 S.2.2.2.2 in_X3 tyX3 tyX3_ok nmX3 S.2.2.2.1 X.1 (hw.1.2.1 _ _ hc).1 rfl 3 (by decide) (va_Nw.use rfl (X.2.2.2.2.2.1 _ q268 rfl)) (fun _ h9 => h9) rfl (tyX3_ok 3 (by decide)) rfl rfl (Nat.le_of_ble_eq_true rfl) hd (fun H1 k1 e1 z1 t1 o1 => ?_)
  exact W.canon (kk _ H1 _ h2 ⟨gB.sI hw.1 hc (gce_sI.trans (gcc_3 ht)) e1 z1 t1 o1 (by omega) (by omega), hw.2.put z1 o1 (hw.1.2.1 _ _ hc).2⟩)
theorem ggX2_138 {F : Int32 → Option β} (S : CallFix p m c cc nL s args lw_all RX2) (X : gCtx E A s) (hw : gH E A LC LS s g H locs) (hd : decode cc pc = .ok (.getfield 138, 3)) (h : bd1 (oI g a 3 3 5) F = some r) (kk : ∀ v, F v = some r → W p l e R s m args below meth c H locs cells slots Q (F0 m (pc + 3) ls (.int v :: rest))) : W p l e R s m args below meth c H locs cells slots Q (F0 m pc ls (.ref a :: rest)) := by
  obtain ⟨v, h1, h2⟩ := bd1_some h
  obtain ⟨⟨c1, c2⟩, h3⟩ := oif h1
  have ht : (gK g a).1 = 3 := by omega
  cases h3
  exact va_getN (D := eD E) (ci := 2) (C := RX3) (T := TX3) (N := 8) S.1 S.2.1 S.2.2.2.2 in_X3 S.2.2.2.1 X.1 (va_one (hw.1.2.1 _ _ (gcell_3 ht)).1) 0 rfl rfl 5 (by decide) (va_Nw.use rfl (X.2.2.2.2.2.1 _ q274 rfl)) (fun _ h9 => h9) rfl hd (kk _ h2)
theorem gpX2_138 {v : Int32} {F : GS → Option β} (S : CallFix p m c cc nL s args lw_all RX2) (X : gCtx E A s) (hw : gH E A LC LS s g H locs) (hd : decode cc pc = .ok (.putfield 138, 3)) (h : bd1 (pI g a 3 3 5 v) F = some r) (kk : ∀ (g1 : GS) (H : Heap) (locs : List Loc), F g1 = some r → gH E A LC LS s g1 H locs → W p l e R s m args below meth c H locs (H.size - s.heap.size) (tot H - tot s.heap) Q (F0 m (pc + 3) ls rest)) : W p l e R s m args below meth c H locs cells slots Q (F0 m pc ls (.int v :: .ref a :: rest)) := by
  obtain ⟨g1, h1, h2⟩ := bd1_some h
  obtain ⟨⟨c1, c2⟩, h3⟩ := oif h1
  cases h3
  have ht : (gK g a).1 = 3 := by omega
  have hc := gcell_3 (E := E) ht
  refine gb_putN (D := eD E) (ci := 2) (C := RX3) (T := TX3) (N := 8) (ty := tyX3 5) S.1 S.2.1 S.2.2.2.2 in_X3 tyX3 tyX3_ok nmX3 S.2.2.2.1 X.1 (hw.1.2.1 _ _ hc).1 rfl 5 (by decide) (va_Nw.use rfl (X.2.2.2.2.2.1 _ q274 rfl)) (fun _ h9 => h9) rfl (tyX3_ok 5 (by decide)) rfl rfl (Nat.le_of_ble_eq_true rfl) hd (fun H1 k1 e1 z1 t1 o1 => ?_)
  exact W.canon (kk _ H1 _ h2 ⟨gB.sI hw.1 hc (gce_sI.trans (gcc_3 ht)) e1 z1 t1 o1 (by omega) (by omega), hw.2.put z1 o1 (hw.1.2.1 _ _ hc).2⟩)
theorem ggX2_141 {F : Nat → Option β} (S : CallFix p m c cc nL s args lw_all RX2) (X : gCtx E A s) (hw : gH E A LC LS s g H locs) (hd : decode cc pc = .ok (.getfield 141, 3)) (h : bd1 (oRn g a 3 3 6) F = some r) (kk : ∀ v, F v = some r → W p l e R s m args below meth c H locs cells slots Q (F0 m (pc + 3) ls (.ref v :: rest))) : W p l e R s m args below meth c H locs cells slots Q (F0 m pc ls (.ref a :: rest)) := by
  obtain ⟨v, h1, h2⟩ := bd1_some h
  obtain ⟨⟨c1, c2⟩, h3⟩ := oif h1
  have ht : (gK g a).1 = 3 := by omega
  exact va_getN (D := eD E) (ci := 2) (C := RX3) (T := TX3) (N := 8) S.1 S.2.1 S.2.2.2.2 in_X3 S.2.2.2.1 X.1 (va_one (hw.1.2.1 _ _ (gcell_3 ht)).1) 0 rfl rfl 6 (by decide) (va_Nw.use rfl (X.2.2.2.2.2.1 _ q275 rfl)) (fun _ h9 => h9) (by show some (va_rf (gR g a 6)) = some (.ref v); rw [h3]; rfl) hd (kk _ h2)
theorem ggX2_141q {F : Option Nat → Option β} (S : CallFix p m c cc nL s args lw_all RX2) (X : gCtx E A s) (hw : gH E A LC LS s g H locs) (hd : decode cc pc = .ok (.getfield 141, 3)) (h : bd1 (oR g a 3 3 6) F = some r) (kk : ∀ v, F v = some r → W p l e R s m args below meth c H locs cells slots Q (F0 m (pc + 3) ls (va_rf v :: rest))) : W p l e R s m args below meth c H locs cells slots Q (F0 m pc ls (.ref a :: rest)) := by
  obtain ⟨v, h1, h2⟩ := bd1_some h
  obtain ⟨⟨c1, c2⟩, h3⟩ := oif h1
  have ht : (gK g a).1 = 3 := by omega
  cases h3
  exact va_getN (D := eD E) (ci := 2) (C := RX3) (T := TX3) (N := 8) S.1 S.2.1 S.2.2.2.2 in_X3 S.2.2.2.1 X.1 (va_one (hw.1.2.1 _ _ (gcell_3 ht)).1) 0 rfl rfl 6 (by decide) (va_Nw.use rfl (X.2.2.2.2.2.1 _ q275 rfl)) (fun _ h9 => h9) rfl hd (kk _ h2)
theorem gpX2_141 {v : Option Nat} {F : GS → Option β} (S : CallFix p m c cc nL s args lw_all RX2) (X : gCtx E A s) (hw : gH E A LC LS s g H locs) (hd : decode cc pc = .ok (.putfield 141, 3)) (h : bd1 (pR g a 3 3 6 v) F = some r) (kk : ∀ (g1 : GS) (H : Heap) (locs : List Loc), F g1 = some r → gH E A LC LS s g1 H locs → W p l e R s m args below meth c H locs (H.size - s.heap.size) (tot H - tot s.heap) Q (F0 m (pc + 3) ls rest)) : W p l e R s m args below meth c H locs cells slots Q (F0 m pc ls (va_rf v :: .ref a :: rest)) := by
  obtain ⟨g1, h1, h2⟩ := bd1_some h
  obtain ⟨⟨c1, c2⟩, h3⟩ := oif h1
  cases h3
  have ht : (gK g a).1 = 3 := by omega
  have hc := gcell_3 (E := E) ht
  refine gb_putN (D := eD E) (ci := 2) (C := RX3) (T := TX3) (N := 8) (ty := tyX3 6) S.1 S.2.1 S.2.2.2.2 in_X3 tyX3 tyX3_ok nmX3 S.2.2.2.1 X.1 (hw.1.2.1 _ _ hc).1 rfl 6 (by decide) (va_Nw.use rfl (X.2.2.2.2.2.1 _ q275 rfl)) (fun _ h9 => h9) rfl (tyX3_ok 6 (by decide)) (rf_fit rfl v).1 (rf_fit rfl v).2 (Nat.le_of_ble_eq_true rfl) hd (fun H1 k1 e1 z1 t1 o1 => ?_)
  exact W.canon (kk _ H1 _ h2 ⟨gB.sR hw.1 hc (gce_sR.trans (gcc_3 ht)) e1 z1 t1 o1 (by omega) (by omega), hw.2.put z1 o1 (hw.1.2.1 _ _ hc).2⟩)
theorem ggX2_145 {F : Nat → Option β} (S : CallFix p m c cc nL s args lw_all RX2) (X : gCtx E A s) (hw : gH E A LC LS s g H locs) (hd : decode cc pc = .ok (.getfield 145, 3)) (h : bd1 (oRn g a 3 3 7) F = some r) (kk : ∀ v, F v = some r → W p l e R s m args below meth c H locs cells slots Q (F0 m (pc + 3) ls (.ref v :: rest))) : W p l e R s m args below meth c H locs cells slots Q (F0 m pc ls (.ref a :: rest)) := by
  obtain ⟨v, h1, h2⟩ := bd1_some h
  obtain ⟨⟨c1, c2⟩, h3⟩ := oif h1
  have ht : (gK g a).1 = 3 := by omega
  exact va_getN (D := eD E) (ci := 2) (C := RX3) (T := TX3) (N := 8) S.1 S.2.1 S.2.2.2.2 in_X3 S.2.2.2.1 X.1 (va_one (hw.1.2.1 _ _ (gcell_3 ht)).1) 0 rfl rfl 7 (by decide) (va_Nw.use rfl (X.2.2.2.2.2.1 _ q277 rfl)) (fun _ h9 => h9) (by show some (va_rf (gR g a 7)) = some (.ref v); rw [h3]; rfl) hd (kk _ h2)
theorem ggX2_145q {F : Option Nat → Option β} (S : CallFix p m c cc nL s args lw_all RX2) (X : gCtx E A s) (hw : gH E A LC LS s g H locs) (hd : decode cc pc = .ok (.getfield 145, 3)) (h : bd1 (oR g a 3 3 7) F = some r) (kk : ∀ v, F v = some r → W p l e R s m args below meth c H locs cells slots Q (F0 m (pc + 3) ls (va_rf v :: rest))) : W p l e R s m args below meth c H locs cells slots Q (F0 m pc ls (.ref a :: rest)) := by
  obtain ⟨v, h1, h2⟩ := bd1_some h
  obtain ⟨⟨c1, c2⟩, h3⟩ := oif h1
  have ht : (gK g a).1 = 3 := by omega
  cases h3
  exact va_getN (D := eD E) (ci := 2) (C := RX3) (T := TX3) (N := 8) S.1 S.2.1 S.2.2.2.2 in_X3 S.2.2.2.1 X.1 (va_one (hw.1.2.1 _ _ (gcell_3 ht)).1) 0 rfl rfl 7 (by decide) (va_Nw.use rfl (X.2.2.2.2.2.1 _ q277 rfl)) (fun _ h9 => h9) rfl hd (kk _ h2)
theorem gpX2_145 {v : Option Nat} {F : GS → Option β} (S : CallFix p m c cc nL s args lw_all RX2) (X : gCtx E A s) (hw : gH E A LC LS s g H locs) (hd : decode cc pc = .ok (.putfield 145, 3)) (h : bd1 (pR g a 3 3 7 v) F = some r) (kk : ∀ (g1 : GS) (H : Heap) (locs : List Loc), F g1 = some r → gH E A LC LS s g1 H locs → W p l e R s m args below meth c H locs (H.size - s.heap.size) (tot H - tot s.heap) Q (F0 m (pc + 3) ls rest)) : W p l e R s m args below meth c H locs cells slots Q (F0 m pc ls (va_rf v :: .ref a :: rest)) := by
  obtain ⟨g1, h1, h2⟩ := bd1_some h
  obtain ⟨⟨c1, c2⟩, h3⟩ := oif h1
  cases h3
  have ht : (gK g a).1 = 3 := by omega
  have hc := gcell_3 (E := E) ht
  refine gb_putN (D := eD E) (ci := 2) (C := RX3) (T := TX3) (N := 8) (ty := tyX3 7) S.1 S.2.1 S.2.2.2.2 in_X3 tyX3 tyX3_ok nmX3 S.2.2.2.1 X.1 (hw.1.2.1 _ _ hc).1 rfl 7 (by decide) (va_Nw.use rfl (X.2.2.2.2.2.1 _ q277 rfl)) (fun _ h9 => h9) rfl (tyX3_ok 7 (by decide)) (rf_fit rfl v).1 (rf_fit rfl v).2 (Nat.le_of_ble_eq_true rfl) hd (fun H1 k1 e1 z1 t1 o1 => ?_)
  exact W.canon (kk _ H1 _ h2 ⟨gB.sR hw.1 hc (gce_sR.trans (gcc_3 ht)) e1 z1 t1 o1 (by omega) (by omega), hw.2.put z1 o1 (hw.1.2.1 _ _ hc).2⟩)
theorem ggX2_148 {F : Nat → Option β} (S : CallFix p m c cc nL s args lw_all RX2) (X : gCtx E A s) (hw : gH E A LC LS s g H locs) (hd : decode cc pc = .ok (.getfield 148, 3)) (h : bd1 (oRn g a 3 3 0) F = some r) (kk : ∀ v, F v = some r → W p l e R s m args below meth c H locs cells slots Q (F0 m (pc + 3) ls (.ref v :: rest))) : W p l e R s m args below meth c H locs cells slots Q (F0 m pc ls (.ref a :: rest)) := by
  obtain ⟨v, h1, h2⟩ := bd1_some h
  obtain ⟨⟨c1, c2⟩, h3⟩ := oif h1
  have ht : (gK g a).1 = 3 := by omega
  exact va_getN (D := eD E) (ci := 2) (C := RX3) (T := TX3) (N := 8) S.1 S.2.1 S.2.2.2.2 in_X3 S.2.2.2.1 X.1 (va_one (hw.1.2.1 _ _ (gcell_3 ht)).1) 0 rfl rfl 0 (by decide) (va_Nw.use rfl (X.2.2.2.2.2.1 _ q259 rfl)) (fun _ h9 => h9) (by show some (va_rf (gR g a 0)) = some (.ref v); rw [h3]; rfl) hd (kk _ h2)
theorem ggX2_148q {F : Option Nat → Option β} (S : CallFix p m c cc nL s args lw_all RX2) (X : gCtx E A s) (hw : gH E A LC LS s g H locs) (hd : decode cc pc = .ok (.getfield 148, 3)) (h : bd1 (oR g a 3 3 0) F = some r) (kk : ∀ v, F v = some r → W p l e R s m args below meth c H locs cells slots Q (F0 m (pc + 3) ls (va_rf v :: rest))) : W p l e R s m args below meth c H locs cells slots Q (F0 m pc ls (.ref a :: rest)) := by
  obtain ⟨v, h1, h2⟩ := bd1_some h
  obtain ⟨⟨c1, c2⟩, h3⟩ := oif h1
  have ht : (gK g a).1 = 3 := by omega
  cases h3
  exact va_getN (D := eD E) (ci := 2) (C := RX3) (T := TX3) (N := 8) S.1 S.2.1 S.2.2.2.2 in_X3 S.2.2.2.1 X.1 (va_one (hw.1.2.1 _ _ (gcell_3 ht)).1) 0 rfl rfl 0 (by decide) (va_Nw.use rfl (X.2.2.2.2.2.1 _ q259 rfl)) (fun _ h9 => h9) rfl hd (kk _ h2)
theorem ggX2_156 {F : Nat → Option β} (S : CallFix p m c cc nL s args lw_all RX2) (X : gCtx E A s) (hw : gH E A LC LS s g H locs) (hd : decode cc pc = .ok (.getfield 156, 3)) (h : bd1 (oRn g a 3 3 1) F = some r) (kk : ∀ v, F v = some r → W p l e R s m args below meth c H locs cells slots Q (F0 m (pc + 3) ls (.ref v :: rest))) : W p l e R s m args below meth c H locs cells slots Q (F0 m pc ls (.ref a :: rest)) := by
  obtain ⟨v, h1, h2⟩ := bd1_some h
  obtain ⟨⟨c1, c2⟩, h3⟩ := oif h1
  have ht : (gK g a).1 = 3 := by omega
  exact va_getN (D := eD E) (ci := 2) (C := RX3) (T := TX3) (N := 8) S.1 S.2.1 S.2.2.2.2 in_X3 S.2.2.2.1 X.1 (va_one (hw.1.2.1 _ _ (gcell_3 ht)).1) 0 rfl rfl 1 (by decide) (va_Nw.use rfl (X.2.2.2.2.2.1 _ q263 rfl)) (fun _ h9 => h9) (by show some (va_rf (gR g a 1)) = some (.ref v); rw [h3]; rfl) hd (kk _ h2)
theorem ggX2_156q {F : Option Nat → Option β} (S : CallFix p m c cc nL s args lw_all RX2) (X : gCtx E A s) (hw : gH E A LC LS s g H locs) (hd : decode cc pc = .ok (.getfield 156, 3)) (h : bd1 (oR g a 3 3 1) F = some r) (kk : ∀ v, F v = some r → W p l e R s m args below meth c H locs cells slots Q (F0 m (pc + 3) ls (va_rf v :: rest))) : W p l e R s m args below meth c H locs cells slots Q (F0 m pc ls (.ref a :: rest)) := by
  obtain ⟨v, h1, h2⟩ := bd1_some h
  obtain ⟨⟨c1, c2⟩, h3⟩ := oif h1
  have ht : (gK g a).1 = 3 := by omega
  cases h3
  exact va_getN (D := eD E) (ci := 2) (C := RX3) (T := TX3) (N := 8) S.1 S.2.1 S.2.2.2.2 in_X3 S.2.2.2.1 X.1 (va_one (hw.1.2.1 _ _ (gcell_3 ht)).1) 0 rfl rfl 1 (by decide) (va_Nw.use rfl (X.2.2.2.2.2.1 _ q263 rfl)) (fun _ h9 => h9) rfl hd (kk _ h2)
theorem ggX2_159 {F : Nat → Option β} (S : CallFix p m c cc nL s args lw_all RX2) (X : gCtx E A s) (hw : gH E A LC LS s g H locs) (hd : decode cc pc = .ok (.getfield 159, 3)) (h : bd1 (oRn g a 3 3 2) F = some r) (kk : ∀ v, F v = some r → W p l e R s m args below meth c H locs cells slots Q (F0 m (pc + 3) ls (.ref v :: rest))) : W p l e R s m args below meth c H locs cells slots Q (F0 m pc ls (.ref a :: rest)) := by
  obtain ⟨v, h1, h2⟩ := bd1_some h
  obtain ⟨⟨c1, c2⟩, h3⟩ := oif h1
  have ht : (gK g a).1 = 3 := by omega
  exact va_getN (D := eD E) (ci := 2) (C := RX3) (T := TX3) (N := 8) S.1 S.2.1 S.2.2.2.2 in_X3 S.2.2.2.1 X.1 (va_one (hw.1.2.1 _ _ (gcell_3 ht)).1) 0 rfl rfl 2 (by decide) (va_Nw.use rfl (X.2.2.2.2.2.1 _ q265 rfl)) (fun _ h9 => h9) (by show some (va_rf (gR g a 2)) = some (.ref v); rw [h3]; rfl) hd (kk _ h2)
theorem ggX2_159q {F : Option Nat → Option β} (S : CallFix p m c cc nL s args lw_all RX2) (X : gCtx E A s) (hw : gH E A LC LS s g H locs) (hd : decode cc pc = .ok (.getfield 159, 3)) (h : bd1 (oR g a 3 3 2) F = some r) (kk : ∀ v, F v = some r → W p l e R s m args below meth c H locs cells slots Q (F0 m (pc + 3) ls (va_rf v :: rest))) : W p l e R s m args below meth c H locs cells slots Q (F0 m pc ls (.ref a :: rest)) := by
  obtain ⟨v, h1, h2⟩ := bd1_some h
  obtain ⟨⟨c1, c2⟩, h3⟩ := oif h1
  have ht : (gK g a).1 = 3 := by omega
  cases h3
  exact va_getN (D := eD E) (ci := 2) (C := RX3) (T := TX3) (N := 8) S.1 S.2.1 S.2.2.2.2 in_X3 S.2.2.2.1 X.1 (va_one (hw.1.2.1 _ _ (gcell_3 ht)).1) 0 rfl rfl 2 (by decide) (va_Nw.use rfl (X.2.2.2.2.2.1 _ q265 rfl)) (fun _ h9 => h9) rfl hd (kk _ h2)
theorem gpX2_206 {v : Int32} {F : GS → Option β} (S : CallFix p m c cc nL s args lw_all RX2) (X : gCtx E A s) (hw : gH E A LC LS s g H locs) (hd : decode cc pc = .ok (.putfield 206, 3)) (h : bd1 (pI g a 3 3 4 v) F = some r) (kk : ∀ (g1 : GS) (H : Heap) (locs : List Loc), F g1 = some r → gH E A LC LS s g1 H locs → W p l e R s m args below meth c H locs (H.size - s.heap.size) (tot H - tot s.heap) Q (F0 m (pc + 3) ls rest)) : W p l e R s m args below meth c H locs cells slots Q (F0 m pc ls (.int v :: .ref a :: rest)) := by
  obtain ⟨g1, h1, h2⟩ := bd1_some h
  obtain ⟨⟨c1, c2⟩, h3⟩ := oif h1
  cases h3
  have ht : (gK g a).1 = 3 := by omega
  have hc := gcell_3 (E := E) ht
  refine gb_putN (D := eD E) (ci := 2) (C := RX3) (T := TX3) (N := 8) (ty := tyX3 4) S.1 S.2.1 S.2.2.2.2 in_X3 tyX3 tyX3_ok nmX3 S.2.2.2.1 X.1 (hw.1.2.1 _ _ hc).1 rfl 4 (by decide) (va_Nw.use rfl (X.2.2.2.2.2.1 _ q271 rfl)) (fun _ h9 => h9) rfl (tyX3_ok 4 (by decide)) rfl rfl (Nat.le_of_ble_eq_true rfl) hd (fun H1 k1 e1 z1 t1 o1 => ?_)
  exact W.canon (kk _ H1 _ h2 ⟨gB.sI hw.1 hc (gce_sI.trans (gcc_3 ht)) e1 z1 t1 o1 (by omega) (by omega), hw.2.put z1 o1 (hw.1.2.1 _ _ hc).2⟩)
theorem gpX2_237 {v : Int32} {F : GS → Option β} (S : CallFix p m c cc nL s args lw_all RX2) (X : gCtx E A s) (hw : gH E A LC LS s g H locs) (hd : decode cc pc = .ok (.putfield 237, 3)) (h : bd1 (pI g a 8 11 1 v) F = some r) (kk : ∀ (g1 : GS) (H : Heap) (locs : List Loc), F g1 = some r → gH E A LC LS s g1 H locs → W p l e R s m args below meth c H locs (H.size - s.heap.size) (tot H - tot s.heap) Q (F0 m (pc + 3) ls rest)) : W p l e R s m args below meth c H locs cells slots Q (F0 m pc ls (.int v :: .ref a :: rest)) := by
  obtain ⟨g1, h1, h2⟩ := bd1_some h
  obtain ⟨⟨c1, c2⟩, h3⟩ := oif h1
  cases h3
  rcases (by omega : (gK g a).1 = 8 ∨ (gK g a).1 = 9 ∨ (gK g a).1 = 10 ∨ (gK g a).1 = 11) with ht | ht | ht | ht
  · have hc := gcell_8 (E := E) ht
    refine gb_put (D := eD E) (ci := 7) (C := RX8) (T := TX8) (N := 6) (ty := tyX8 1) S.1 S.2.1 S.2.2.2.2 in_X8 tyX8 tyX8_ok nmX8 S.2.2.2.1 X.1 (hw.1.2.1 _ _ hc).1 rfl 1 (by decide) (S.2.2.2.2 _ q986) (fun _ h9 => h9) rfl (tyX8_ok 1 (by decide)) rfl rfl (Nat.le_of_ble_eq_true rfl) hd (fun H1 k1 e1 z1 t1 o1 => ?_)
    exact W.canon (kk _ H1 _ h2 ⟨gB.sI hw.1 hc (gce_sI.trans (gcc_8 ht)) e1 z1 t1 o1 (by omega) (by omega), hw.2.put z1 o1 (hw.1.2.1 _ _ hc).2⟩)
  · have hc := gcell_9 (E := E) ht
    refine gb_put (D := eD E) (ci := 8) (C := RX9) (T := TX9) (N := 6) (ty := tyX9 1) S.1 S.2.1 S.2.2.2.2 in_X9 tyX9 tyX9_ok nmX9 S.2.2.2.1 X.1 (hw.1.2.1 _ _ hc).1 rfl 1 (by decide) (S.2.2.2.2 _ q986) (fun _ h9 => h9) rfl (tyX9_ok 1 (by decide)) rfl rfl (Nat.le_of_ble_eq_true rfl) hd (fun H1 k1 e1 z1 t1 o1 => ?_)
    exact W.canon (kk _ H1 _ h2 ⟨gB.sI hw.1 hc (gce_sI.trans (gcc_9 ht)) e1 z1 t1 o1 (by omega) (by omega), hw.2.put z1 o1 (hw.1.2.1 _ _ hc).2⟩)
  · have hc := gcell_10 (E := E) ht
    refine gb_put (D := eD E) (ci := 9) (C := RX10) (T := TX10) (N := 6) (ty := tyX10 1) S.1 S.2.1 S.2.2.2.2 in_X10 tyX10 tyX10_ok nmX10 S.2.2.2.1 X.1 (hw.1.2.1 _ _ hc).1 rfl 1 (by decide) (S.2.2.2.2 _ q986) (fun _ h9 => h9) rfl (tyX10_ok 1 (by decide)) rfl rfl (Nat.le_of_ble_eq_true rfl) hd (fun H1 k1 e1 z1 t1 o1 => ?_)
    exact W.canon (kk _ H1 _ h2 ⟨gB.sI hw.1 hc (gce_sI.trans (gcc_10 ht)) e1 z1 t1 o1 (by omega) (by omega), hw.2.put z1 o1 (hw.1.2.1 _ _ hc).2⟩)
  · have hc := gcell_11 (E := E) ht
    refine gb_put (D := eD E) (ci := 10) (C := RX11) (T := TX11) (N := 6) (ty := tyX11 1) S.1 S.2.1 S.2.2.2.2 in_X11 tyX11 tyX11_ok nmX11 S.2.2.2.1 X.1 (hw.1.2.1 _ _ hc).1 rfl 1 (by decide) (S.2.2.2.2 _ q986) (fun _ h9 => h9) rfl (tyX11_ok 1 (by decide)) rfl rfl (Nat.le_of_ble_eq_true rfl) hd (fun H1 k1 e1 z1 t1 o1 => ?_)
    exact W.canon (kk _ H1 _ h2 ⟨gB.sI hw.1 hc (gce_sI.trans (gcc_11 ht)) e1 z1 t1 o1 (by omega) (by omega), hw.2.put z1 o1 (hw.1.2.1 _ _ hc).2⟩)
theorem gpX2_242 {v : Int32} {F : GS → Option β} (S : CallFix p m c cc nL s args lw_all RX2) (X : gCtx E A s) (hw : gH E A LC LS s g H locs) (hd : decode cc pc = .ok (.putfield 242, 3)) (h : bd1 (pI g a 8 11 2 v) F = some r) (kk : ∀ (g1 : GS) (H : Heap) (locs : List Loc), F g1 = some r → gH E A LC LS s g1 H locs → W p l e R s m args below meth c H locs (H.size - s.heap.size) (tot H - tot s.heap) Q (F0 m (pc + 3) ls rest)) : W p l e R s m args below meth c H locs cells slots Q (F0 m pc ls (.int v :: .ref a :: rest)) := by
  obtain ⟨g1, h1, h2⟩ := bd1_some h
  obtain ⟨⟨c1, c2⟩, h3⟩ := oif h1
  cases h3
  rcases (by omega : (gK g a).1 = 8 ∨ (gK g a).1 = 9 ∨ (gK g a).1 = 10 ∨ (gK g a).1 = 11) with ht | ht | ht | ht
  · have hc := gcell_8 (E := E) ht
    refine gb_put (D := eD E) (ci := 7) (C := RX8) (T := TX8) (N := 6) (ty := tyX8 2) S.1 S.2.1 S.2.2.2.2 in_X8 tyX8 tyX8_ok nmX8 S.2.2.2.1 X.1 (hw.1.2.1 _ _ hc).1 rfl 2 (by decide) (S.2.2.2.2 _ q988) (fun _ h9 => h9) rfl (tyX8_ok 2 (by decide)) rfl rfl (Nat.le_of_ble_eq_true rfl) hd (fun H1 k1 e1 z1 t1 o1 => ?_)
    exact W.canon (kk _ H1 _ h2 ⟨gB.sI hw.1 hc (gce_sI.trans (gcc_8 ht)) e1 z1 t1 o1 (by omega) (by omega), hw.2.put z1 o1 (hw.1.2.1 _ _ hc).2⟩)
  · have hc := gcell_9 (E := E) ht
    refine gb_put (D := eD E) (ci := 8) (C := RX9) (T := TX9) (N := 6) (ty := tyX9 2) S.1 S.2.1 S.2.2.2.2 in_X9 tyX9 tyX9_ok nmX9 S.2.2.2.1 X.1 (hw.1.2.1 _ _ hc).1 rfl 2 (by decide) (S.2.2.2.2 _ q988) (fun _ h9 => h9) rfl (tyX9_ok 2 (by decide)) rfl rfl (Nat.le_of_ble_eq_true rfl) hd (fun H1 k1 e1 z1 t1 o1 => ?_)
    exact W.canon (kk _ H1 _ h2 ⟨gB.sI hw.1 hc (gce_sI.trans (gcc_9 ht)) e1 z1 t1 o1 (by omega) (by omega), hw.2.put z1 o1 (hw.1.2.1 _ _ hc).2⟩)
  · have hc := gcell_10 (E := E) ht
    refine gb_put (D := eD E) (ci := 9) (C := RX10) (T := TX10) (N := 6) (ty := tyX10 2) S.1 S.2.1 S.2.2.2.2 in_X10 tyX10 tyX10_ok nmX10 S.2.2.2.1 X.1 (hw.1.2.1 _ _ hc).1 rfl 2 (by decide) (S.2.2.2.2 _ q988) (fun _ h9 => h9) rfl (tyX10_ok 2 (by decide)) rfl rfl (Nat.le_of_ble_eq_true rfl) hd (fun H1 k1 e1 z1 t1 o1 => ?_)
    exact W.canon (kk _ H1 _ h2 ⟨gB.sI hw.1 hc (gce_sI.trans (gcc_10 ht)) e1 z1 t1 o1 (by omega) (by omega), hw.2.put z1 o1 (hw.1.2.1 _ _ hc).2⟩)
  · have hc := gcell_11 (E := E) ht
    refine gb_put (D := eD E) (ci := 10) (C := RX11) (T := TX11) (N := 6) (ty := tyX11 2) S.1 S.2.1 S.2.2.2.2 in_X11 tyX11 tyX11_ok nmX11 S.2.2.2.1 X.1 (hw.1.2.1 _ _ hc).1 rfl 2 (by decide) (S.2.2.2.2 _ q988) (fun _ h9 => h9) rfl (tyX11_ok 2 (by decide)) rfl rfl (Nat.le_of_ble_eq_true rfl) hd (fun H1 k1 e1 z1 t1 o1 => ?_)
    exact W.canon (kk _ H1 _ h2 ⟨gB.sI hw.1 hc (gce_sI.trans (gcc_11 ht)) e1 z1 t1 o1 (by omega) (by omega), hw.2.put z1 o1 (hw.1.2.1 _ _ hc).2⟩)
theorem gpX2_247 {v : Int32} {F : GS → Option β} (S : CallFix p m c cc nL s args lw_all RX2) (X : gCtx E A s) (hw : gH E A LC LS s g H locs) (hd : decode cc pc = .ok (.putfield 247, 3)) (h : bd1 (pI g a 8 11 3 v) F = some r) (kk : ∀ (g1 : GS) (H : Heap) (locs : List Loc), F g1 = some r → gH E A LC LS s g1 H locs → W p l e R s m args below meth c H locs (H.size - s.heap.size) (tot H - tot s.heap) Q (F0 m (pc + 3) ls rest)) : W p l e R s m args below meth c H locs cells slots Q (F0 m pc ls (.int v :: .ref a :: rest)) := by
  obtain ⟨g1, h1, h2⟩ := bd1_some h
  obtain ⟨⟨c1, c2⟩, h3⟩ := oif h1
  cases h3
  rcases (by omega : (gK g a).1 = 8 ∨ (gK g a).1 = 9 ∨ (gK g a).1 = 10 ∨ (gK g a).1 = 11) with ht | ht | ht | ht
  · have hc := gcell_8 (E := E) ht
    refine gb_put (D := eD E) (ci := 7) (C := RX8) (T := TX8) (N := 6) (ty := tyX8 3) S.1 S.2.1 S.2.2.2.2 in_X8 tyX8 tyX8_ok nmX8 S.2.2.2.1 X.1 (hw.1.2.1 _ _ hc).1 rfl 3 (by decide) (S.2.2.2.2 _ q991) (fun _ h9 => h9) rfl (tyX8_ok 3 (by decide)) rfl rfl (Nat.le_of_ble_eq_true rfl) hd (fun H1 k1 e1 z1 t1 o1 => ?_)
    exact W.canon (kk _ H1 _ h2 ⟨gB.sI hw.1 hc (gce_sI.trans (gcc_8 ht)) e1 z1 t1 o1 (by omega) (by omega), hw.2.put z1 o1 (hw.1.2.1 _ _ hc).2⟩)
  · have hc := gcell_9 (E := E) ht
    refine gb_put (D := eD E) (ci := 8) (C := RX9) (T := TX9) (N := 6) (ty := tyX9 3) S.1 S.2.1 S.2.2.2.2 in_X9 tyX9 tyX9_ok nmX9 S.2.2.2.1 X.1 (hw.1.2.1 _ _ hc).1 rfl 3 (by decide) (S.2.2.2.2 _ q991) (fun _ h9 => h9) rfl (tyX9_ok 3 (by decide)) rfl rfl (Nat.le_of_ble_eq_true rfl) hd (fun H1 k1 e1 z1 t1 o1 => ?_)
    exact W.canon (kk _ H1 _ h2 ⟨gB.sI hw.1 hc (gce_sI.trans (gcc_9 ht)) e1 z1 t1 o1 (by omega) (by omega), hw.2.put z1 o1 (hw.1.2.1 _ _ hc).2⟩)
  · have hc := gcell_10 (E := E) ht
    refine gb_put (D := eD E) (ci := 9) (C := RX10) (T := TX10) (N := 6) (ty := tyX10 3) S.1 S.2.1 S.2.2.2.2 in_X10 tyX10 tyX10_ok nmX10 S.2.2.2.1 X.1 (hw.1.2.1 _ _ hc).1 rfl 3 (by decide) (S.2.2.2.2 _ q991) (fun _ h9 => h9) rfl (tyX10_ok 3 (by decide)) rfl rfl (Nat.le_of_ble_eq_true rfl) hd (fun H1 k1 e1 z1 t1 o1 => ?_)
    exact W.canon (kk _ H1 _ h2 ⟨gB.sI hw.1 hc (gce_sI.trans (gcc_10 ht)) e1 z1 t1 o1 (by omega) (by omega), hw.2.put z1 o1 (hw.1.2.1 _ _ hc).2⟩)
  · have hc := gcell_11 (E := E) ht
    refine gb_put (D := eD E) (ci := 10) (C := RX11) (T := TX11) (N := 6) (ty := tyX11 3) S.1 S.2.1 S.2.2.2.2 in_X11 tyX11 tyX11_ok nmX11 S.2.2.2.1 X.1 (hw.1.2.1 _ _ hc).1 rfl 3 (by decide) (S.2.2.2.2 _ q991) (fun _ h9 => h9) rfl (tyX11_ok 3 (by decide)) rfl rfl (Nat.le_of_ble_eq_true rfl) hd (fun H1 k1 e1 z1 t1 o1 => ?_)
    exact W.canon (kk _ H1 _ h2 ⟨gB.sI hw.1 hc (gce_sI.trans (gcc_11 ht)) e1 z1 t1 o1 (by omega) (by omega), hw.2.put z1 o1 (hw.1.2.1 _ _ hc).2⟩)
theorem ggX2_254 {F : Int32 → Option β} (S : CallFix p m c cc nL s args lw_all RX2) (X : gCtx E A s) (hw : gH E A LC LS s g H locs) (hd : decode cc pc = .ok (.getfield 254, 3)) (h : bd1 (oI g a 8 11 4) F = some r) (kk : ∀ v, F v = some r → W p l e R s m args below meth c H locs cells slots Q (F0 m (pc + 3) ls (.int v :: rest))) : W p l e R s m args below meth c H locs cells slots Q (F0 m pc ls (.ref a :: rest)) := by
  obtain ⟨v, h1, h2⟩ := bd1_some h
  obtain ⟨⟨c1, c2⟩, h3⟩ := oif h1
  rcases (by omega : (gK g a).1 = 8 ∨ (gK g a).1 = 9 ∨ (gK g a).1 = 10 ∨ (gK g a).1 = 11) with ht | ht | ht | ht
  · cases h3
    exact va_get (D := eD E) (ci := 7) (C := RX8) (T := TX8) (N := 6) S.1 S.2.1 S.2.2.2.2 in_X8 S.2.2.2.1 X.1 (va_one (hw.1.2.1 _ _ (gcell_8 ht)).1) 0 rfl rfl 4 (by decide) (S.2.2.2.2 _ q995) (fun _ h9 => h9) rfl hd (kk _ h2)
  · cases h3
    exact va_get (D := eD E) (ci := 8) (C := RX9) (T := TX9) (N := 6) S.1 S.2.1 S.2.2.2.2 in_X9 S.2.2.2.1 X.1 (va_one (hw.1.2.1 _ _ (gcell_9 ht)).1) 0 rfl rfl 4 (by decide) (S.2.2.2.2 _ q995) (fun _ h9 => h9) rfl hd (kk _ h2)
  · cases h3
    exact va_get (D := eD E) (ci := 9) (C := RX10) (T := TX10) (N := 6) S.1 S.2.1 S.2.2.2.2 in_X10 S.2.2.2.1 X.1 (va_one (hw.1.2.1 _ _ (gcell_10 ht)).1) 0 rfl rfl 4 (by decide) (S.2.2.2.2 _ q995) (fun _ h9 => h9) rfl hd (kk _ h2)
  · cases h3
    exact va_get (D := eD E) (ci := 10) (C := RX11) (T := TX11) (N := 6) S.1 S.2.1 S.2.2.2.2 in_X11 S.2.2.2.1 X.1 (va_one (hw.1.2.1 _ _ (gcell_11 ht)).1) 0 rfl rfl 4 (by decide) (S.2.2.2.2 _ q995) (fun _ h9 => h9) rfl hd (kk _ h2)
theorem gpX2_254 {v : Int32} {F : GS → Option β} (S : CallFix p m c cc nL s args lw_all RX2) (X : gCtx E A s) (hw : gH E A LC LS s g H locs) (hd : decode cc pc = .ok (.putfield 254, 3)) (h : bd1 (pI g a 8 11 4 v) F = some r) (kk : ∀ (g1 : GS) (H : Heap) (locs : List Loc), F g1 = some r → gH E A LC LS s g1 H locs → W p l e R s m args below meth c H locs (H.size - s.heap.size) (tot H - tot s.heap) Q (F0 m (pc + 3) ls rest)) : W p l e R s m args below meth c H locs cells slots Q (F0 m pc ls (.int v :: .ref a :: rest)) := by
  obtain ⟨g1, h1, h2⟩ := bd1_some h
  obtain ⟨⟨c1, c2⟩, h3⟩ := oif h1
  cases h3
  rcases (by omega : (gK g a).1 = 8 ∨ (gK g a).1 = 9 ∨ (gK g a).1 = 10 ∨ (gK g a).1 = 11) with ht | ht | ht | ht
  · have hc := gcell_8 (E := E) ht
    refine gb_put (D := eD E) (ci := 7) (C := RX8) (T := TX8) (N := 6) (ty := tyX8 4) S.1 S.2.1 S.2.2.2.2 in_X8 tyX8 tyX8_ok nmX8 S.2.2.2.1 X.1 (hw.1.2.1 _ _ hc).1 rfl 4 (by decide) (S.2.2.2.2 _ q995) (fun _ h9 => h9) rfl (tyX8_ok 4 (by decide)) rfl rfl (Nat.le_of_ble_eq_true rfl) hd (fun H1 k1 e1 z1 t1 o1 => ?_)
    exact W.canon (kk _ H1 _ h2 ⟨gB.sI hw.1 hc (gce_sI.trans (gcc_8 ht)) e1 z1 t1 o1 (by omega) (by omega), hw.2.put z1 o1 (hw.1.2.1 _ _ hc).2⟩)
  · have hc := gcell_9 (E := E) ht
    refine gb_put (D := eD E) (ci := 8) (C := RX9) (T := TX9) (N := 6) (ty := tyX9 4) S.1 S.2.1 S.2.2.2.2 in_X9 tyX9 tyX9_ok nmX9 S.2.2.2.1 X.1 (hw.1.2.1 _ _ hc).1 rfl 4 (by decide) (S.2.2.2.2 _ q995) (fun _ h9 => h9) rfl (tyX9_ok 4 (by decide)) rfl rfl (Nat.le_of_ble_eq_true rfl) hd (fun H1 k1 e1 z1 t1 o1 => ?_)
    exact W.canon (kk _ H1 _ h2 ⟨gB.sI hw.1 hc (gce_sI.trans (gcc_9 ht)) e1 z1 t1 o1 (by omega) (by omega), hw.2.put z1 o1 (hw.1.2.1 _ _ hc).2⟩)
  · have hc := gcell_10 (E := E) ht
    refine gb_put (D := eD E) (ci := 9) (C := RX10) (T := TX10) (N := 6) (ty := tyX10 4) S.1 S.2.1 S.2.2.2.2 in_X10 tyX10 tyX10_ok nmX10 S.2.2.2.1 X.1 (hw.1.2.1 _ _ hc).1 rfl 4 (by decide) (S.2.2.2.2 _ q995) (fun _ h9 => h9) rfl (tyX10_ok 4 (by decide)) rfl rfl (Nat.le_of_ble_eq_true rfl) hd (fun H1 k1 e1 z1 t1 o1 => ?_)
    exact W.canon (kk _ H1 _ h2 ⟨gB.sI hw.1 hc (gce_sI.trans (gcc_10 ht)) e1 z1 t1 o1 (by omega) (by omega), hw.2.put z1 o1 (hw.1.2.1 _ _ hc).2⟩)
  · have hc := gcell_11 (E := E) ht
    refine gb_put (D := eD E) (ci := 10) (C := RX11) (T := TX11) (N := 6) (ty := tyX11 4) S.1 S.2.1 S.2.2.2.2 in_X11 tyX11 tyX11_ok nmX11 S.2.2.2.1 X.1 (hw.1.2.1 _ _ hc).1 rfl 4 (by decide) (S.2.2.2.2 _ q995) (fun _ h9 => h9) rfl (tyX11_ok 4 (by decide)) rfl rfl (Nat.le_of_ble_eq_true rfl) hd (fun H1 k1 e1 z1 t1 o1 => ?_)
    exact W.canon (kk _ H1 _ h2 ⟨gB.sI hw.1 hc (gce_sI.trans (gcc_11 ht)) e1 z1 t1 o1 (by omega) (by omega), hw.2.put z1 o1 (hw.1.2.1 _ _ hc).2⟩)
theorem ggX2_265 {F : Int32 → Option β} (S : CallFix p m c cc nL s args lw_all RX2) (X : gCtx E A s) (hw : gH E A LC LS s g H locs) (hd : decode cc pc = .ok (.getfield 265, 3)) (h : bd1 (oI g a 8 11 5) F = some r) (kk : ∀ v, F v = some r → W p l e R s m args below meth c H locs cells slots Q (F0 m (pc + 3) ls (.int v :: rest))) : W p l e R s m args below meth c H locs cells slots Q (F0 m pc ls (.ref a :: rest)) := by
  obtain ⟨v, h1, h2⟩ := bd1_some h
  obtain ⟨⟨c1, c2⟩, h3⟩ := oif h1
  rcases (by omega : (gK g a).1 = 8 ∨ (gK g a).1 = 9 ∨ (gK g a).1 = 10 ∨ (gK g a).1 = 11) with ht | ht | ht | ht
  · cases h3
    exact va_get (D := eD E) (ci := 7) (C := RX8) (T := TX8) (N := 6) S.1 S.2.1 S.2.2.2.2 in_X8 S.2.2.2.1 X.1 (va_one (hw.1.2.1 _ _ (gcell_8 ht)).1) 0 rfl rfl 5 (by decide) (S.2.2.2.2 _ q997) (fun _ h9 => h9) rfl hd (kk _ h2)
  · cases h3
    exact va_get (D := eD E) (ci := 8) (C := RX9) (T := TX9) (N := 6) S.1 S.2.1 S.2.2.2.2 in_X9 S.2.2.2.1 X.1 (va_one (hw.1.2.1 _ _ (gcell_9 ht)).1) 0 rfl rfl 5 (by decide) (S.2.2.2.2 _ q997) (fun _ h9 => h9) rfl hd (kk _ h2)
  · cases h3
    exact va_get (D := eD E) (ci := 9) (C := RX10) (T := TX10) (N := 6) S.1 S.2.1 S.2.2.2.2 in_X10 S.2.2.2.1 X.1 (va_one (hw.1.2.1 _ _ (gcell_10 ht)).1) 0 rfl rfl 5 (by decide) (S.2.2.2.2 _ q997) (fun _ h9 => h9) rfl hd (kk _ h2)
  · cases h3
    exact va_get (D := eD E) (ci := 10) (C := RX11) (T := TX11) (N := 6) S.1 S.2.1 S.2.2.2.2 in_X11 S.2.2.2.1 X.1 (va_one (hw.1.2.1 _ _ (gcell_11 ht)).1) 0 rfl rfl 5 (by decide) (S.2.2.2.2 _ q997) (fun _ h9 => h9) rfl hd (kk _ h2)
theorem gpX2_265 {v : Int32} {F : GS → Option β} (S : CallFix p m c cc nL s args lw_all RX2) (X : gCtx E A s) (hw : gH E A LC LS s g H locs) (hd : decode cc pc = .ok (.putfield 265, 3)) (h : bd1 (pI g a 8 11 5 v) F = some r) (kk : ∀ (g1 : GS) (H : Heap) (locs : List Loc), F g1 = some r → gH E A LC LS s g1 H locs → W p l e R s m args below meth c H locs (H.size - s.heap.size) (tot H - tot s.heap) Q (F0 m (pc + 3) ls rest)) : W p l e R s m args below meth c H locs cells slots Q (F0 m pc ls (.int v :: .ref a :: rest)) := by
  obtain ⟨g1, h1, h2⟩ := bd1_some h
  obtain ⟨⟨c1, c2⟩, h3⟩ := oif h1
  cases h3
  rcases (by omega : (gK g a).1 = 8 ∨ (gK g a).1 = 9 ∨ (gK g a).1 = 10 ∨ (gK g a).1 = 11) with ht | ht | ht | ht
  · have hc := gcell_8 (E := E) ht
    refine gb_put (D := eD E) (ci := 7) (C := RX8) (T := TX8) (N := 6) (ty := tyX8 5) S.1 S.2.1 S.2.2.2.2 in_X8 tyX8 tyX8_ok nmX8 S.2.2.2.1 X.1 (hw.1.2.1 _ _ hc).1 rfl 5 (by decide) (S.2.2.2.2 _ q997) (fun _ h9 => h9) rfl (tyX8_ok 5 (by decide)) rfl rfl (Nat.le_of_ble_eq_true rfl) hd (fun H1 k1 e1 z1 t1 o1 => ?_)
    exact W.canon (kk _ H1 _ h2 ⟨gB.sI hw.1 hc (gce_sI.trans (gcc_8 ht)) e1 z1 t1 o1 (by omega) (by omega), hw.2.put z1 o1 (hw.1.2.1 _ _ hc).2⟩)
  · have hc := gcell_9 (E := E) ht
    refine gb_put (D := eD E) (ci := 8) (C := RX9) (T := TX9) (N := 6) (ty := tyX9 5) S.1 S.2.1 S.2.2.2.2 in_X9 tyX9 tyX9_ok nmX9 S.2.2.2.1 X.1 (hw.1.2.1 _ _ hc).1 rfl 5 (by decide) (S.2.2.2.2 _ q997) (fun _ h9 => h9) rfl (tyX9_ok 5 (by decide)) rfl rfl (Nat.le_of_ble_eq_true rfl) hd (fun H1 k1 e1 z1 t1 o1 => ?_)
    exact W.canon (kk _ H1 _ h2 ⟨gB.sI hw.1 hc (gce_sI.trans (gcc_9 ht)) e1 z1 t1 o1 (by omega) (by omega), hw.2.put z1 o1 (hw.1.2.1 _ _ hc).2⟩)
  · have hc := gcell_10 (E := E) ht
    refine gb_put (D := eD E) (ci := 9) (C := RX10) (T := TX10) (N := 6) (ty := tyX10 5) S.1 S.2.1 S.2.2.2.2 in_X10 tyX10 tyX10_ok nmX10 S.2.2.2.1 X.1 (hw.1.2.1 _ _ hc).1 rfl 5 (by decide) (S.2.2.2.2 _ q997) (fun _ h9 => h9) rfl (tyX10_ok 5 (by decide)) rfl rfl (Nat.le_of_ble_eq_true rfl) hd (fun H1 k1 e1 z1 t1 o1 => ?_)
    exact W.canon (kk _ H1 _ h2 ⟨gB.sI hw.1 hc (gce_sI.trans (gcc_10 ht)) e1 z1 t1 o1 (by omega) (by omega), hw.2.put z1 o1 (hw.1.2.1 _ _ hc).2⟩)
  · have hc := gcell_11 (E := E) ht
    refine gb_put (D := eD E) (ci := 10) (C := RX11) (T := TX11) (N := 6) (ty := tyX11 5) S.1 S.2.1 S.2.2.2.2 in_X11 tyX11 tyX11_ok nmX11 S.2.2.2.1 X.1 (hw.1.2.1 _ _ hc).1 rfl 5 (by decide) (S.2.2.2.2 _ q997) (fun _ h9 => h9) rfl (tyX11_ok 5 (by decide)) rfl rfl (Nat.le_of_ble_eq_true rfl) hd (fun H1 k1 e1 z1 t1 o1 => ?_)
    exact W.canon (kk _ H1 _ h2 ⟨gB.sI hw.1 hc (gce_sI.trans (gcc_11 ht)) e1 z1 t1 o1 (by omega) (by omega), hw.2.put z1 o1 (hw.1.2.1 _ _ hc).2⟩)
theorem gpX7_7 {v : Option Nat} {F : GS → Option β} (S : CallFix p m c cc nL s args lw_all RX7) (X : gCtx E A s) (hw : gH E A LC LS s g H locs) (hin2 : meth.name = "<init>") (hd : decode cc pc = .ok (.putfield 7, 3)) (h : bd1 (pR g a 7 7 0 v) F = some r) (kk : ∀ (g1 : GS) (H : Heap) (locs : List Loc), F g1 = some r → gH E A LC LS s g1 H locs → W p l e R s m args below meth c H locs (H.size - s.heap.size) (tot H - tot s.heap) Q (F0 m (pc + 3) ls rest)) : W p l e R s m args below meth c H locs cells slots Q (F0 m pc ls (va_rf v :: .ref a :: rest)) := by
  obtain ⟨g1, h1, h2⟩ := bd1_some h
  obtain ⟨⟨c1, c2⟩, h3⟩ := oif h1
  cases h3
  have ht : (gK g a).1 = 7 := by omega
  have hc := gcell_7 (E := E) ht
  refine gb_putF (D := eD E) (ci := 6) (C := RX7) (T := TX7) (N := 4) (ty := tyX7 0) S.1 S.2.1 S.2.2.2.2 in_X7 tyX7 tyX7_ok nmX7 S.2.2.2.1 X.1 (hw.1.2.1 _ _ hc).1 rfl 0 (by decide) (S.2.2.2.2 _ q885) (fun _ h9 => h9) rfl hin2 rfl (tyX7_ok 0 (by decide)) (rf_fit rfl v).1 (rf_fit rfl v).2 (Nat.le_of_ble_eq_true rfl) hd (fun H1 k1 e1 z1 t1 o1 => ?_)
  exact W.canon (kk _ H1 _ h2 ⟨gB.sR hw.1 hc (gce_sR.trans (gcc_7 ht)) e1 z1 t1 o1 (by omega) (by omega), hw.2.put z1 o1 (hw.1.2.1 _ _ hc).2⟩)
theorem gpX7_13 {v : Int32} {F : GS → Option β} (S : CallFix p m c cc nL s args lw_all RX7) (X : gCtx E A s) (hw : gH E A LC LS s g H locs) (hin2 : meth.name = "<init>") (hd : decode cc pc = .ok (.putfield 13, 3)) (h : bd1 (pI g a 7 7 1 v) F = some r) (kk : ∀ (g1 : GS) (H : Heap) (locs : List Loc), F g1 = some r → gH E A LC LS s g1 H locs → W p l e R s m args below meth c H locs (H.size - s.heap.size) (tot H - tot s.heap) Q (F0 m (pc + 3) ls rest)) : W p l e R s m args below meth c H locs cells slots Q (F0 m pc ls (.int v :: .ref a :: rest)) := by
  obtain ⟨g1, h1, h2⟩ := bd1_some h
  obtain ⟨⟨c1, c2⟩, h3⟩ := oif h1
  cases h3
  have ht : (gK g a).1 = 7 := by omega
  have hc := gcell_7 (E := E) ht
  refine gb_putF (D := eD E) (ci := 6) (C := RX7) (T := TX7) (N := 4) (ty := tyX7 1) S.1 S.2.1 S.2.2.2.2 in_X7 tyX7 tyX7_ok nmX7 S.2.2.2.1 X.1 (hw.1.2.1 _ _ hc).1 rfl 1 (by decide) (S.2.2.2.2 _ q887) (fun _ h9 => h9) rfl hin2 rfl (tyX7_ok 1 (by decide)) rfl rfl (Nat.le_of_ble_eq_true rfl) hd (fun H1 k1 e1 z1 t1 o1 => ?_)
  exact W.canon (kk _ H1 _ h2 ⟨gB.sI hw.1 hc (gce_sI.trans (gcc_7 ht)) e1 z1 t1 o1 (by omega) (by omega), hw.2.put z1 o1 (hw.1.2.1 _ _ hc).2⟩)
theorem gpX7_17 {v : Int32} {F : GS → Option β} (S : CallFix p m c cc nL s args lw_all RX7) (X : gCtx E A s) (hw : gH E A LC LS s g H locs) (hin2 : meth.name = "<init>") (hd : decode cc pc = .ok (.putfield 17, 3)) (h : bd1 (pI g a 7 7 2 v) F = some r) (kk : ∀ (g1 : GS) (H : Heap) (locs : List Loc), F g1 = some r → gH E A LC LS s g1 H locs → W p l e R s m args below meth c H locs (H.size - s.heap.size) (tot H - tot s.heap) Q (F0 m (pc + 3) ls rest)) : W p l e R s m args below meth c H locs cells slots Q (F0 m pc ls (.int v :: .ref a :: rest)) := by
  obtain ⟨g1, h1, h2⟩ := bd1_some h
  obtain ⟨⟨c1, c2⟩, h3⟩ := oif h1
  cases h3
  have ht : (gK g a).1 = 7 := by omega
  have hc := gcell_7 (E := E) ht
  refine gb_putF (D := eD E) (ci := 6) (C := RX7) (T := TX7) (N := 4) (ty := tyX7 2) S.1 S.2.1 S.2.2.2.2 in_X7 tyX7 tyX7_ok nmX7 S.2.2.2.1 X.1 (hw.1.2.1 _ _ hc).1 rfl 2 (by decide) (S.2.2.2.2 _ q890) (fun _ h9 => h9) rfl hin2 rfl (tyX7_ok 2 (by decide)) rfl rfl (Nat.le_of_ble_eq_true rfl) hd (fun H1 k1 e1 z1 t1 o1 => ?_)
  exact W.canon (kk _ H1 _ h2 ⟨gB.sI hw.1 hc (gce_sI.trans (gcc_7 ht)) e1 z1 t1 o1 (by omega) (by omega), hw.2.put z1 o1 (hw.1.2.1 _ _ hc).2⟩)
theorem gpX7_20 {v : Int32} {F : GS → Option β} (S : CallFix p m c cc nL s args lw_all RX7) (X : gCtx E A s) (hw : gH E A LC LS s g H locs) (hin2 : meth.name = "<init>") (hd : decode cc pc = .ok (.putfield 20, 3)) (h : bd1 (pI g a 7 7 3 v) F = some r) (kk : ∀ (g1 : GS) (H : Heap) (locs : List Loc), F g1 = some r → gH E A LC LS s g1 H locs → W p l e R s m args below meth c H locs (H.size - s.heap.size) (tot H - tot s.heap) Q (F0 m (pc + 3) ls rest)) : W p l e R s m args below meth c H locs cells slots Q (F0 m pc ls (.int v :: .ref a :: rest)) := by
  obtain ⟨g1, h1, h2⟩ := bd1_some h
  obtain ⟨⟨c1, c2⟩, h3⟩ := oif h1
  cases h3
  have ht : (gK g a).1 = 7 := by omega
  have hc := gcell_7 (E := E) ht
  refine gb_putF (D := eD E) (ci := 6) (C := RX7) (T := TX7) (N := 4) (ty := tyX7 3) S.1 S.2.1 S.2.2.2.2 in_X7 tyX7 tyX7_ok nmX7 S.2.2.2.1 X.1 (hw.1.2.1 _ _ hc).1 rfl 3 (by decide) (S.2.2.2.2 _ q894) (fun _ h9 => h9) rfl hin2 rfl (tyX7_ok 3 (by decide)) rfl rfl (Nat.le_of_ble_eq_true rfl) hd (fun H1 k1 e1 z1 t1 o1 => ?_)
  exact W.canon (kk _ H1 _ h2 ⟨gB.sI hw.1 hc (gce_sI.trans (gcc_7 ht)) e1 z1 t1 o1 (by omega) (by omega), hw.2.put z1 o1 (hw.1.2.1 _ _ hc).2⟩)
theorem ggX10_7 {F : Int32 → Option β} (S : CallFix p m c cc nL s args lw_all RX10) (X : gCtx E A s) (hw : gH E A LC LS s g H locs) (hd : decode cc pc = .ok (.getfield 7, 3)) (h : bd1 (oI g a 7 7 2) F = some r) (kk : ∀ v, F v = some r → W p l e R s m args below meth c H locs cells slots Q (F0 m (pc + 3) ls (.int v :: rest))) : W p l e R s m args below meth c H locs cells slots Q (F0 m pc ls (.ref a :: rest)) := by
  obtain ⟨v, h1, h2⟩ := bd1_some h
  obtain ⟨⟨c1, c2⟩, h3⟩ := oif h1
  have ht : (gK g a).1 = 7 := by omega
  cases h3
  exact va_getN (D := eD E) (ci := 6) (C := RX7) (T := TX7) (N := 4) S.1 S.2.1 S.2.2.2.2 in_X7 S.2.2.2.1 X.1 (va_one (hw.1.2.1 _ _ (gcell_7 ht)).1) 0 rfl rfl 2 (by decide) (va_Nw.use rfl (X.2.2.2.2.2.1 _ q891 rfl)) (fun _ h9 => h9) rfl hd (kk _ h2)
theorem ggX10_13 {F : Int32 → Option β} (S : CallFix p m c cc nL s args lw_all RX10) (X : gCtx E A s) (hw : gH E A LC LS s g H locs) (hd : decode cc pc = .ok (.getfield 13, 3)) (h : bd1 (oI g a 7 7 3) F = some r) (kk : ∀ v, F v = some r → W p l e R s m args below meth c H locs cells slots Q (F0 m (pc + 3) ls (.int v :: rest))) : W p l e R s m args below meth c H locs cells slots Q (F0 m pc ls (.ref a :: rest)) := by
  obtain ⟨v, h1, h2⟩ := bd1_some h
  obtain ⟨⟨c1, c2⟩, h3⟩ := oif h1
  have ht : (gK g a).1 = 7 := by omega
  cases h3
  exact va_getN (D := eD E) (ci := 6) (C := RX7) (T := TX7) (N := 4) S.1 S.2.1 S.2.2.2.2 in_X7 S.2.2.2.1 X.1 (va_one (hw.1.2.1 _ _ (gcell_7 ht)).1) 0 rfl rfl 3 (by decide) (va_Nw.use rfl (X.2.2.2.2.2.1 _ q895 rfl)) (fun _ h9 => h9) rfl hd (kk _ h2)
theorem ggX11_9 {F : Int32 → Option β} (S : CallFix p m c cc nL s args lw_all RX11) (X : gCtx E A s) (hw : gH E A LC LS s g H locs) (hd : decode cc pc = .ok (.getfield 9, 3)) (h : bd1 (oI g a 11 11 1) F = some r) (kk : ∀ v, F v = some r → W p l e R s m args below meth c H locs cells slots Q (F0 m (pc + 3) ls (.int v :: rest))) : W p l e R s m args below meth c H locs cells slots Q (F0 m pc ls (.ref a :: rest)) := by
  obtain ⟨v, h1, h2⟩ := bd1_some h
  obtain ⟨⟨c1, c2⟩, h3⟩ := oif h1
  have ht : (gK g a).1 = 11 := by omega
  cases h3
  exact va_get (D := eD E) (ci := 10) (C := RX11) (T := TX11) (N := 6) S.1 S.2.1 S.2.2.2.2 in_X11 S.2.2.2.1 X.1 (va_one (hw.1.2.1 _ _ (gcell_11 ht)).1) 0 rfl rfl 1 (by decide) (S.2.2.2.2 _ q984) (fun x hx => u_same (S.2.2.2.2 _ q985) x hx) rfl hd (kk _ h2)
theorem ggX4_9 {F : Nat → Option β} (S : CallFix p m c cc nL s args lw_all RX4) (X : gCtx E A s) (hw : gH E A LC LS s g H locs) (hd : decode cc pc = .ok (.getfield 9, 3)) (h : bd1 (oRn g a 4 4 0) F = some r) (kk : ∀ v, F v = some r → W p l e R s m args below meth c H locs cells slots Q (F0 m (pc + 3) ls (.ref v :: rest))) : W p l e R s m args below meth c H locs cells slots Q (F0 m pc ls (.ref a :: rest)) := by
  obtain ⟨v, h1, h2⟩ := bd1_some h
  obtain ⟨⟨c1, c2⟩, h3⟩ := oif h1
  have ht : (gK g a).1 = 4 := by omega
  exact va_get (D := eD E) (ci := 3) (C := RX4) (T := TX4) (N := 8) S.1 S.2.1 S.2.2.2.2 in_X4 S.2.2.2.1 X.1 (va_one (hw.1.2.1 _ _ (gcell_4 ht)).1) 0 rfl rfl 0 (by decide) (S.2.2.2.2 _ q304) (fun _ h9 => h9) (by show some (va_rf (gR g a 0)) = some (.ref v); rw [h3]; rfl) hd (kk _ h2)
theorem ggX4_9q {F : Option Nat → Option β} (S : CallFix p m c cc nL s args lw_all RX4) (X : gCtx E A s) (hw : gH E A LC LS s g H locs) (hd : decode cc pc = .ok (.getfield 9, 3)) (h : bd1 (oR g a 4 4 0) F = some r) (kk : ∀ v, F v = some r → W p l e R s m args below meth c H locs cells slots Q (F0 m (pc + 3) ls (va_rf v :: rest))) : W p l e R s m args below meth c H locs cells slots Q (F0 m pc ls (.ref a :: rest)) := by
  obtain ⟨v, h1, h2⟩ := bd1_some h
  obtain ⟨⟨c1, c2⟩, h3⟩ := oif h1
  have ht : (gK g a).1 = 4 := by omega
  cases h3
  exact va_get (D := eD E) (ci := 3) (C := RX4) (T := TX4) (N := 8) S.1 S.2.1 S.2.2.2.2 in_X4 S.2.2.2.1 X.1 (va_one (hw.1.2.1 _ _ (gcell_4 ht)).1) 0 rfl rfl 0 (by decide) (S.2.2.2.2 _ q304) (fun _ h9 => h9) rfl hd (kk _ h2)
theorem gpX4_9 {v : Option Nat} {F : GS → Option β} (S : CallFix p m c cc nL s args lw_all RX4) (X : gCtx E A s) (hw : gH E A LC LS s g H locs) (hin2 : meth.name = "<init>") (hd : decode cc pc = .ok (.putfield 9, 3)) (h : bd1 (pR g a 4 4 0 v) F = some r) (kk : ∀ (g1 : GS) (H : Heap) (locs : List Loc), F g1 = some r → gH E A LC LS s g1 H locs → W p l e R s m args below meth c H locs (H.size - s.heap.size) (tot H - tot s.heap) Q (F0 m (pc + 3) ls rest)) : W p l e R s m args below meth c H locs cells slots Q (F0 m pc ls (va_rf v :: .ref a :: rest)) := by
  obtain ⟨g1, h1, h2⟩ := bd1_some h
  obtain ⟨⟨c1, c2⟩, h3⟩ := oif h1
  cases h3
  have ht : (gK g a).1 = 4 := by omega
  have hc := gcell_4 (E := E) ht
  refine gb_putF (D := eD E) (ci := 3) (C := RX4) (T := TX4) (N := 8) (ty := tyX4 0) S.1 S.2.1 S.2.2.2.2 in_X4 tyX4 tyX4_ok nmX4 S.2.2.2.1 X.1 (hw.1.2.1 _ _ hc).1 rfl 0 (by decide) (S.2.2.2.2 _ q304) (fun _ h9 => h9) rfl hin2 rfl (tyX4_ok 0 (by decide)) (rf_fit rfl v).1 (rf_fit rfl v).2 (Nat.le_of_ble_eq_true rfl) hd (fun H1 k1 e1 z1 t1 o1 => ?_)
  exact W.canon (kk _ H1 _ h2 ⟨gB.sR hw.1 hc (gce_sR.trans (gcc_4 ht)) e1 z1 t1 o1 (by omega) (by omega), hw.2.put z1 o1 (hw.1.2.1 _ _ hc).2⟩)
theorem ggX4_15 {F : Nat → Option β} (S : CallFix p m c cc nL s args lw_all RX4) (X : gCtx E A s) (hw : gH E A LC LS s g H locs) (hd : decode cc pc = .ok (.getfield 15, 3)) (h : bd1 (oRn g a 4 4 1) F = some r) (kk : ∀ v, F v = some r → W p l e R s m args below meth c H locs cells slots Q (F0 m (pc + 3) ls (.ref v :: rest))) : W p l e R s m args below meth c H locs cells slots Q (F0 m pc ls (.ref a :: rest)) := by
  obtain ⟨v, h1, h2⟩ := bd1_some h
  obtain ⟨⟨c1, c2⟩, h3⟩ := oif h1
  have ht : (gK g a).1 = 4 := by omega
  exact va_get (D := eD E) (ci := 3) (C := RX4) (T := TX4) (N := 8) S.1 S.2.1 S.2.2.2.2 in_X4 S.2.2.2.1 X.1 (va_one (hw.1.2.1 _ _ (gcell_4 ht)).1) 0 rfl rfl 1 (by decide) (S.2.2.2.2 _ q307) (fun _ h9 => h9) (by show some (va_rf (gR g a 1)) = some (.ref v); rw [h3]; rfl) hd (kk _ h2)
theorem ggX4_15q {F : Option Nat → Option β} (S : CallFix p m c cc nL s args lw_all RX4) (X : gCtx E A s) (hw : gH E A LC LS s g H locs) (hd : decode cc pc = .ok (.getfield 15, 3)) (h : bd1 (oR g a 4 4 1) F = some r) (kk : ∀ v, F v = some r → W p l e R s m args below meth c H locs cells slots Q (F0 m (pc + 3) ls (va_rf v :: rest))) : W p l e R s m args below meth c H locs cells slots Q (F0 m pc ls (.ref a :: rest)) := by
  obtain ⟨v, h1, h2⟩ := bd1_some h
  obtain ⟨⟨c1, c2⟩, h3⟩ := oif h1
  have ht : (gK g a).1 = 4 := by omega
  cases h3
  exact va_get (D := eD E) (ci := 3) (C := RX4) (T := TX4) (N := 8) S.1 S.2.1 S.2.2.2.2 in_X4 S.2.2.2.1 X.1 (va_one (hw.1.2.1 _ _ (gcell_4 ht)).1) 0 rfl rfl 1 (by decide) (S.2.2.2.2 _ q307) (fun _ h9 => h9) rfl hd (kk _ h2)
theorem gpX4_15 {v : Option Nat} {F : GS → Option β} (S : CallFix p m c cc nL s args lw_all RX4) (X : gCtx E A s) (hw : gH E A LC LS s g H locs) (hin2 : meth.name = "<init>") (hd : decode cc pc = .ok (.putfield 15, 3)) (h : bd1 (pR g a 4 4 1 v) F = some r) (kk : ∀ (g1 : GS) (H : Heap) (locs : List Loc), F g1 = some r → gH E A LC LS s g1 H locs → W p l e R s m args below meth c H locs (H.size - s.heap.size) (tot H - tot s.heap) Q (F0 m (pc + 3) ls rest)) : W p l e R s m args below meth c H locs cells slots Q (F0 m pc ls (va_rf v :: .ref a :: rest)) := by
  obtain ⟨g1, h1, h2⟩ := bd1_some h
  obtain ⟨⟨c1, c2⟩, h3⟩ := oif h1
  cases h3
  have ht : (gK g a).1 = 4 := by omega
  have hc := gcell_4 (E := E) ht
  refine gb_putF (D := eD E) (ci := 3) (C := RX4) (T := TX4) (N := 8) (ty := tyX4 1) S.1 S.2.1 S.2.2.2.2 in_X4 tyX4 tyX4_ok nmX4 S.2.2.2.1 X.1 (hw.1.2.1 _ _ hc).1 rfl 1 (by decide) (S.2.2.2.2 _ q307) (fun _ h9 => h9) rfl hin2 rfl (tyX4_ok 1 (by decide)) (rf_fit rfl v).1 (rf_fit rfl v).2 (Nat.le_of_ble_eq_true rfl) hd (fun H1 k1 e1 z1 t1 o1 => ?_)
  exact W.canon (kk _ H1 _ h2 ⟨gB.sR hw.1 hc (gce_sR.trans (gcc_4 ht)) e1 z1 t1 o1 (by omega) (by omega), hw.2.put z1 o1 (hw.1.2.1 _ _ hc).2⟩)
theorem ggX4_18 {F : Nat → Option β} (S : CallFix p m c cc nL s args lw_all RX4) (X : gCtx E A s) (hw : gH E A LC LS s g H locs) (hd : decode cc pc = .ok (.getfield 18, 3)) (h : bd1 (oRn g a 4 4 2) F = some r) (kk : ∀ v, F v = some r → W p l e R s m args below meth c H locs cells slots Q (F0 m (pc + 3) ls (.ref v :: rest))) : W p l e R s m args below meth c H locs cells slots Q (F0 m pc ls (.ref a :: rest)) := by
  obtain ⟨v, h1, h2⟩ := bd1_some h
  obtain ⟨⟨c1, c2⟩, h3⟩ := oif h1
  have ht : (gK g a).1 = 4 := by omega
  exact va_get (D := eD E) (ci := 3) (C := RX4) (T := TX4) (N := 8) S.1 S.2.1 S.2.2.2.2 in_X4 S.2.2.2.1 X.1 (va_one (hw.1.2.1 _ _ (gcell_4 ht)).1) 0 rfl rfl 2 (by decide) (S.2.2.2.2 _ q309) (fun _ h9 => h9) (by show some (va_rf (gR g a 2)) = some (.ref v); rw [h3]; rfl) hd (kk _ h2)
theorem ggX4_18q {F : Option Nat → Option β} (S : CallFix p m c cc nL s args lw_all RX4) (X : gCtx E A s) (hw : gH E A LC LS s g H locs) (hd : decode cc pc = .ok (.getfield 18, 3)) (h : bd1 (oR g a 4 4 2) F = some r) (kk : ∀ v, F v = some r → W p l e R s m args below meth c H locs cells slots Q (F0 m (pc + 3) ls (va_rf v :: rest))) : W p l e R s m args below meth c H locs cells slots Q (F0 m pc ls (.ref a :: rest)) := by
  obtain ⟨v, h1, h2⟩ := bd1_some h
  obtain ⟨⟨c1, c2⟩, h3⟩ := oif h1
  have ht : (gK g a).1 = 4 := by omega
  cases h3
  exact va_get (D := eD E) (ci := 3) (C := RX4) (T := TX4) (N := 8) S.1 S.2.1 S.2.2.2.2 in_X4 S.2.2.2.1 X.1 (va_one (hw.1.2.1 _ _ (gcell_4 ht)).1) 0 rfl rfl 2 (by decide) (S.2.2.2.2 _ q309) (fun _ h9 => h9) rfl hd (kk _ h2)
theorem gpX4_18 {v : Option Nat} {F : GS → Option β} (S : CallFix p m c cc nL s args lw_all RX4) (X : gCtx E A s) (hw : gH E A LC LS s g H locs) (hin2 : meth.name = "<init>") (hd : decode cc pc = .ok (.putfield 18, 3)) (h : bd1 (pR g a 4 4 2 v) F = some r) (kk : ∀ (g1 : GS) (H : Heap) (locs : List Loc), F g1 = some r → gH E A LC LS s g1 H locs → W p l e R s m args below meth c H locs (H.size - s.heap.size) (tot H - tot s.heap) Q (F0 m (pc + 3) ls rest)) : W p l e R s m args below meth c H locs cells slots Q (F0 m pc ls (va_rf v :: .ref a :: rest)) := by
  obtain ⟨g1, h1, h2⟩ := bd1_some h
  obtain ⟨⟨c1, c2⟩, h3⟩ := oif h1
  cases h3
  have ht : (gK g a).1 = 4 := by omega
  have hc := gcell_4 (E := E) ht
  refine gb_putF (D := eD E) (ci := 3) (C := RX4) (T := TX4) (N := 8) (ty := tyX4 2) S.1 S.2.1 S.2.2.2.2 in_X4 tyX4 tyX4_ok nmX4 S.2.2.2.1 X.1 (hw.1.2.1 _ _ hc).1 rfl 2 (by decide) (S.2.2.2.2 _ q309) (fun _ h9 => h9) rfl hin2 rfl (tyX4_ok 2 (by decide)) (rf_fit rfl v).1 (rf_fit rfl v).2 (Nat.le_of_ble_eq_true rfl) hd (fun H1 k1 e1 z1 t1 o1 => ?_)
  exact W.canon (kk _ H1 _ h2 ⟨gB.sR hw.1 hc (gce_sR.trans (gcc_4 ht)) e1 z1 t1 o1 (by omega) (by omega), hw.2.put z1 o1 (hw.1.2.1 _ _ hc).2⟩)
theorem ggX4_21 {F : Nat → Option β} (S : CallFix p m c cc nL s args lw_all RX4) (X : gCtx E A s) (hw : gH E A LC LS s g H locs) (hd : decode cc pc = .ok (.getfield 21, 3)) (h : bd1 (oRn g a 4 4 3) F = some r) (kk : ∀ v, F v = some r → W p l e R s m args below meth c H locs cells slots Q (F0 m (pc + 3) ls (.ref v :: rest))) : W p l e R s m args below meth c H locs cells slots Q (F0 m pc ls (.ref a :: rest)) := by
  obtain ⟨v, h1, h2⟩ := bd1_some h
  obtain ⟨⟨c1, c2⟩, h3⟩ := oif h1
  have ht : (gK g a).1 = 4 := by omega
  exact va_get (D := eD E) (ci := 3) (C := RX4) (T := TX4) (N := 8) S.1 S.2.1 S.2.2.2.2 in_X4 S.2.2.2.1 X.1 (va_one (hw.1.2.1 _ _ (gcell_4 ht)).1) 0 rfl rfl 3 (by decide) (S.2.2.2.2 _ q312) (fun _ h9 => h9) (by show some (va_rf (gR g a 3)) = some (.ref v); rw [h3]; rfl) hd (kk _ h2)
theorem ggX4_21q {F : Option Nat → Option β} (S : CallFix p m c cc nL s args lw_all RX4) (X : gCtx E A s) (hw : gH E A LC LS s g H locs) (hd : decode cc pc = .ok (.getfield 21, 3)) (h : bd1 (oR g a 4 4 3) F = some r) (kk : ∀ v, F v = some r → W p l e R s m args below meth c H locs cells slots Q (F0 m (pc + 3) ls (va_rf v :: rest))) : W p l e R s m args below meth c H locs cells slots Q (F0 m pc ls (.ref a :: rest)) := by
  obtain ⟨v, h1, h2⟩ := bd1_some h
  obtain ⟨⟨c1, c2⟩, h3⟩ := oif h1
  have ht : (gK g a).1 = 4 := by omega
  cases h3
  exact va_get (D := eD E) (ci := 3) (C := RX4) (T := TX4) (N := 8) S.1 S.2.1 S.2.2.2.2 in_X4 S.2.2.2.1 X.1 (va_one (hw.1.2.1 _ _ (gcell_4 ht)).1) 0 rfl rfl 3 (by decide) (S.2.2.2.2 _ q312) (fun _ h9 => h9) rfl hd (kk _ h2)
theorem gpX4_21 {v : Option Nat} {F : GS → Option β} (S : CallFix p m c cc nL s args lw_all RX4) (X : gCtx E A s) (hw : gH E A LC LS s g H locs) (hin2 : meth.name = "<init>") (hd : decode cc pc = .ok (.putfield 21, 3)) (h : bd1 (pR g a 4 4 3 v) F = some r) (kk : ∀ (g1 : GS) (H : Heap) (locs : List Loc), F g1 = some r → gH E A LC LS s g1 H locs → W p l e R s m args below meth c H locs (H.size - s.heap.size) (tot H - tot s.heap) Q (F0 m (pc + 3) ls rest)) : W p l e R s m args below meth c H locs cells slots Q (F0 m pc ls (va_rf v :: .ref a :: rest)) := by
  obtain ⟨g1, h1, h2⟩ := bd1_some h
  obtain ⟨⟨c1, c2⟩, h3⟩ := oif h1
  cases h3
  have ht : (gK g a).1 = 4 := by omega
  have hc := gcell_4 (E := E) ht
  refine gb_putF (D := eD E) (ci := 3) (C := RX4) (T := TX4) (N := 8) (ty := tyX4 3) S.1 S.2.1 S.2.2.2.2 in_X4 tyX4 tyX4_ok nmX4 S.2.2.2.1 X.1 (hw.1.2.1 _ _ hc).1 rfl 3 (by decide) (S.2.2.2.2 _ q312) (fun _ h9 => h9) rfl hin2 rfl (tyX4_ok 3 (by decide)) (rf_fit rfl v).1 (rf_fit rfl v).2 (Nat.le_of_ble_eq_true rfl) hd (fun H1 k1 e1 z1 t1 o1 => ?_)
  exact W.canon (kk _ H1 _ h2 ⟨gB.sR hw.1 hc (gce_sR.trans (gcc_4 ht)) e1 z1 t1 o1 (by omega) (by omega), hw.2.put z1 o1 (hw.1.2.1 _ _ hc).2⟩)
theorem ggX4_24 {F : Nat → Option β} (S : CallFix p m c cc nL s args lw_all RX4) (X : gCtx E A s) (hw : gH E A LC LS s g H locs) (hd : decode cc pc = .ok (.getfield 24, 3)) (h : bd1 (oRn g a 4 4 4) F = some r) (kk : ∀ v, F v = some r → W p l e R s m args below meth c H locs cells slots Q (F0 m (pc + 3) ls (.ref v :: rest))) : W p l e R s m args below meth c H locs cells slots Q (F0 m pc ls (.ref a :: rest)) := by
  obtain ⟨v, h1, h2⟩ := bd1_some h
  obtain ⟨⟨c1, c2⟩, h3⟩ := oif h1
  have ht : (gK g a).1 = 4 := by omega
  exact va_get (D := eD E) (ci := 3) (C := RX4) (T := TX4) (N := 8) S.1 S.2.1 S.2.2.2.2 in_X4 S.2.2.2.1 X.1 (va_one (hw.1.2.1 _ _ (gcell_4 ht)).1) 0 rfl rfl 4 (by decide) (S.2.2.2.2 _ q314) (fun _ h9 => h9) (by show some (va_rf (gR g a 4)) = some (.ref v); rw [h3]; rfl) hd (kk _ h2)
theorem ggX4_24q {F : Option Nat → Option β} (S : CallFix p m c cc nL s args lw_all RX4) (X : gCtx E A s) (hw : gH E A LC LS s g H locs) (hd : decode cc pc = .ok (.getfield 24, 3)) (h : bd1 (oR g a 4 4 4) F = some r) (kk : ∀ v, F v = some r → W p l e R s m args below meth c H locs cells slots Q (F0 m (pc + 3) ls (va_rf v :: rest))) : W p l e R s m args below meth c H locs cells slots Q (F0 m pc ls (.ref a :: rest)) := by
  obtain ⟨v, h1, h2⟩ := bd1_some h
  obtain ⟨⟨c1, c2⟩, h3⟩ := oif h1
  have ht : (gK g a).1 = 4 := by omega
  cases h3
  exact va_get (D := eD E) (ci := 3) (C := RX4) (T := TX4) (N := 8) S.1 S.2.1 S.2.2.2.2 in_X4 S.2.2.2.1 X.1 (va_one (hw.1.2.1 _ _ (gcell_4 ht)).1) 0 rfl rfl 4 (by decide) (S.2.2.2.2 _ q314) (fun _ h9 => h9) rfl hd (kk _ h2)
theorem gpX4_24 {v : Option Nat} {F : GS → Option β} (S : CallFix p m c cc nL s args lw_all RX4) (X : gCtx E A s) (hw : gH E A LC LS s g H locs) (hin2 : meth.name = "<init>") (hd : decode cc pc = .ok (.putfield 24, 3)) (h : bd1 (pR g a 4 4 4 v) F = some r) (kk : ∀ (g1 : GS) (H : Heap) (locs : List Loc), F g1 = some r → gH E A LC LS s g1 H locs → W p l e R s m args below meth c H locs (H.size - s.heap.size) (tot H - tot s.heap) Q (F0 m (pc + 3) ls rest)) : W p l e R s m args below meth c H locs cells slots Q (F0 m pc ls (va_rf v :: .ref a :: rest)) := by
  obtain ⟨g1, h1, h2⟩ := bd1_some h
  obtain ⟨⟨c1, c2⟩, h3⟩ := oif h1
  cases h3
  have ht : (gK g a).1 = 4 := by omega
  have hc := gcell_4 (E := E) ht
  refine gb_putF (D := eD E) (ci := 3) (C := RX4) (T := TX4) (N := 8) (ty := tyX4 4) S.1 S.2.1 S.2.2.2.2 in_X4 tyX4 tyX4_ok nmX4 S.2.2.2.1 X.1 (hw.1.2.1 _ _ hc).1 rfl 4 (by decide) (S.2.2.2.2 _ q314) (fun _ h9 => h9) rfl hin2 rfl (tyX4_ok 4 (by decide)) (rf_fit rfl v).1 (rf_fit rfl v).2 (Nat.le_of_ble_eq_true rfl) hd (fun H1 k1 e1 z1 t1 o1 => ?_)
  exact W.canon (kk _ H1 _ h2 ⟨gB.sR hw.1 hc (gce_sR.trans (gcc_4 ht)) e1 z1 t1 o1 (by omega) (by omega), hw.2.put z1 o1 (hw.1.2.1 _ _ hc).2⟩)
theorem ggX4_27 {F : Nat → Option β} (S : CallFix p m c cc nL s args lw_all RX4) (X : gCtx E A s) (hw : gH E A LC LS s g H locs) (hd : decode cc pc = .ok (.getfield 27, 3)) (h : bd1 (oRn g a 4 4 5) F = some r) (kk : ∀ v, F v = some r → W p l e R s m args below meth c H locs cells slots Q (F0 m (pc + 3) ls (.ref v :: rest))) : W p l e R s m args below meth c H locs cells slots Q (F0 m pc ls (.ref a :: rest)) := by
  obtain ⟨v, h1, h2⟩ := bd1_some h
  obtain ⟨⟨c1, c2⟩, h3⟩ := oif h1
  have ht : (gK g a).1 = 4 := by omega
  exact va_get (D := eD E) (ci := 3) (C := RX4) (T := TX4) (N := 8) S.1 S.2.1 S.2.2.2.2 in_X4 S.2.2.2.1 X.1 (va_one (hw.1.2.1 _ _ (gcell_4 ht)).1) 0 rfl rfl 5 (by decide) (S.2.2.2.2 _ q316) (fun _ h9 => h9) (by show some (va_rf (gR g a 5)) = some (.ref v); rw [h3]; rfl) hd (kk _ h2)
theorem ggX4_27q {F : Option Nat → Option β} (S : CallFix p m c cc nL s args lw_all RX4) (X : gCtx E A s) (hw : gH E A LC LS s g H locs) (hd : decode cc pc = .ok (.getfield 27, 3)) (h : bd1 (oR g a 4 4 5) F = some r) (kk : ∀ v, F v = some r → W p l e R s m args below meth c H locs cells slots Q (F0 m (pc + 3) ls (va_rf v :: rest))) : W p l e R s m args below meth c H locs cells slots Q (F0 m pc ls (.ref a :: rest)) := by
  obtain ⟨v, h1, h2⟩ := bd1_some h
  obtain ⟨⟨c1, c2⟩, h3⟩ := oif h1
  have ht : (gK g a).1 = 4 := by omega
  cases h3
  exact va_get (D := eD E) (ci := 3) (C := RX4) (T := TX4) (N := 8) S.1 S.2.1 S.2.2.2.2 in_X4 S.2.2.2.1 X.1 (va_one (hw.1.2.1 _ _ (gcell_4 ht)).1) 0 rfl rfl 5 (by decide) (S.2.2.2.2 _ q316) (fun _ h9 => h9) rfl hd (kk _ h2)
theorem gpX4_27 {v : Option Nat} {F : GS → Option β} (S : CallFix p m c cc nL s args lw_all RX4) (X : gCtx E A s) (hw : gH E A LC LS s g H locs) (hin2 : meth.name = "<init>") (hd : decode cc pc = .ok (.putfield 27, 3)) (h : bd1 (pR g a 4 4 5 v) F = some r) (kk : ∀ (g1 : GS) (H : Heap) (locs : List Loc), F g1 = some r → gH E A LC LS s g1 H locs → W p l e R s m args below meth c H locs (H.size - s.heap.size) (tot H - tot s.heap) Q (F0 m (pc + 3) ls rest)) : W p l e R s m args below meth c H locs cells slots Q (F0 m pc ls (va_rf v :: .ref a :: rest)) := by
  obtain ⟨g1, h1, h2⟩ := bd1_some h
  obtain ⟨⟨c1, c2⟩, h3⟩ := oif h1
  cases h3
  have ht : (gK g a).1 = 4 := by omega
  have hc := gcell_4 (E := E) ht
  refine gb_putF (D := eD E) (ci := 3) (C := RX4) (T := TX4) (N := 8) (ty := tyX4 5) S.1 S.2.1 S.2.2.2.2 in_X4 tyX4 tyX4_ok nmX4 S.2.2.2.1 X.1 (hw.1.2.1 _ _ hc).1 rfl 5 (by decide) (S.2.2.2.2 _ q316) (fun _ h9 => h9) rfl hin2 rfl (tyX4_ok 5 (by decide)) (rf_fit rfl v).1 (rf_fit rfl v).2 (Nat.le_of_ble_eq_true rfl) hd (fun H1 k1 e1 z1 t1 o1 => ?_)
  exact W.canon (kk _ H1 _ h2 ⟨gB.sR hw.1 hc (gce_sR.trans (gcc_4 ht)) e1 z1 t1 o1 (by omega) (by omega), hw.2.put z1 o1 (hw.1.2.1 _ _ hc).2⟩)
theorem ggX4_34 {F : Int32 → Option β} (S : CallFix p m c cc nL s args lw_all RX4) (X : gCtx E A s) (hw : gH E A LC LS s g H locs) (hd : decode cc pc = .ok (.getfield 34, 3)) (h : bd1 (oI g a 4 4 6) F = some r) (kk : ∀ v, F v = some r → W p l e R s m args below meth c H locs cells slots Q (F0 m (pc + 3) ls (.int v :: rest))) : W p l e R s m args below meth c H locs cells slots Q (F0 m pc ls (.ref a :: rest)) := by
  obtain ⟨v, h1, h2⟩ := bd1_some h
  obtain ⟨⟨c1, c2⟩, h3⟩ := oif h1
  have ht : (gK g a).1 = 4 := by omega
  cases h3
  exact va_get (D := eD E) (ci := 3) (C := RX4) (T := TX4) (N := 8) S.1 S.2.1 S.2.2.2.2 in_X4 S.2.2.2.1 X.1 (va_one (hw.1.2.1 _ _ (gcell_4 ht)).1) 0 rfl rfl 6 (by decide) (S.2.2.2.2 _ q318) (fun _ h9 => h9) rfl hd (kk _ h2)
theorem gpX4_34 {v : Int32} {F : GS → Option β} (S : CallFix p m c cc nL s args lw_all RX4) (X : gCtx E A s) (hw : gH E A LC LS s g H locs) (hd : decode cc pc = .ok (.putfield 34, 3)) (h : bd1 (pI g a 4 4 6 v) F = some r) (kk : ∀ (g1 : GS) (H : Heap) (locs : List Loc), F g1 = some r → gH E A LC LS s g1 H locs → W p l e R s m args below meth c H locs (H.size - s.heap.size) (tot H - tot s.heap) Q (F0 m (pc + 3) ls rest)) : W p l e R s m args below meth c H locs cells slots Q (F0 m pc ls (.int v :: .ref a :: rest)) := by
  obtain ⟨g1, h1, h2⟩ := bd1_some h
  obtain ⟨⟨c1, c2⟩, h3⟩ := oif h1
  cases h3
  have ht : (gK g a).1 = 4 := by omega
  have hc := gcell_4 (E := E) ht
  refine gb_put (D := eD E) (ci := 3) (C := RX4) (T := TX4) (N := 8) (ty := tyX4 6) S.1 S.2.1 S.2.2.2.2 in_X4 tyX4 tyX4_ok nmX4 S.2.2.2.1 X.1 (hw.1.2.1 _ _ hc).1 rfl 6 (by decide) (S.2.2.2.2 _ q318) (fun _ h9 => h9) rfl (tyX4_ok 6 (by decide)) rfl rfl (Nat.le_of_ble_eq_true rfl) hd (fun H1 k1 e1 z1 t1 o1 => ?_)
  exact W.canon (kk _ H1 _ h2 ⟨gB.sI hw.1 hc (gce_sI.trans (gcc_4 ht)) e1 z1 t1 o1 (by omega) (by omega), hw.2.put z1 o1 (hw.1.2.1 _ _ hc).2⟩)
theorem ggX4_38 {F : Int32 → Option β} (S : CallFix p m c cc nL s args lw_all RX4) (X : gCtx E A s) (hw : gH E A LC LS s g H locs) (hd : decode cc pc = .ok (.getfield 38, 3)) (h : bd1 (oI g a 4 4 7) F = some r) (kk : ∀ v, F v = some r → W p l e R s m args below meth c H locs cells slots Q (F0 m (pc + 3) ls (.int v :: rest))) : W p l e R s m args below meth c H locs cells slots Q (F0 m pc ls (.ref a :: rest)) := by
  obtain ⟨v, h1, h2⟩ := bd1_some h
  obtain ⟨⟨c1, c2⟩, h3⟩ := oif h1
  have ht : (gK g a).1 = 4 := by omega
  cases h3
  exact va_get (D := eD E) (ci := 3) (C := RX4) (T := TX4) (N := 8) S.1 S.2.1 S.2.2.2.2 in_X4 S.2.2.2.1 X.1 (va_one (hw.1.2.1 _ _ (gcell_4 ht)).1) 0 rfl rfl 7 (by decide) (S.2.2.2.2 _ q320) (fun _ h9 => h9) rfl hd (kk _ h2)
theorem gpX4_38 {v : Int32} {F : GS → Option β} (S : CallFix p m c cc nL s args lw_all RX4) (X : gCtx E A s) (hw : gH E A LC LS s g H locs) (hd : decode cc pc = .ok (.putfield 38, 3)) (h : bd1 (pI g a 4 4 7 v) F = some r) (kk : ∀ (g1 : GS) (H : Heap) (locs : List Loc), F g1 = some r → gH E A LC LS s g1 H locs → W p l e R s m args below meth c H locs (H.size - s.heap.size) (tot H - tot s.heap) Q (F0 m (pc + 3) ls rest)) : W p l e R s m args below meth c H locs cells slots Q (F0 m pc ls (.int v :: .ref a :: rest)) := by
  obtain ⟨g1, h1, h2⟩ := bd1_some h
  obtain ⟨⟨c1, c2⟩, h3⟩ := oif h1
  cases h3
  have ht : (gK g a).1 = 4 := by omega
  have hc := gcell_4 (E := E) ht
  refine gb_put (D := eD E) (ci := 3) (C := RX4) (T := TX4) (N := 8) (ty := tyX4 7) S.1 S.2.1 S.2.2.2.2 in_X4 tyX4 tyX4_ok nmX4 S.2.2.2.1 X.1 (hw.1.2.1 _ _ hc).1 rfl 7 (by decide) (S.2.2.2.2 _ q320) (fun _ h9 => h9) rfl (tyX4_ok 7 (by decide)) rfl rfl (Nat.le_of_ble_eq_true rfl) hd (fun H1 k1 e1 z1 t1 o1 => ?_)
  exact W.canon (kk _ H1 _ h2 ⟨gB.sI hw.1 hc (gce_sI.trans (gcc_4 ht)) e1 z1 t1 o1 (by omega) (by omega), hw.2.put z1 o1 (hw.1.2.1 _ _ hc).2⟩)
theorem ggX4_41 {F : Nat → Option β} (S : CallFix p m c cc nL s args lw_all RX4) (X : gCtx E A s) (hw : gH E A LC LS s g H locs) (hd : decode cc pc = .ok (.getfield 41, 3)) (h : bd1 (oRn g a 3 3 1) F = some r) (kk : ∀ v, F v = some r → W p l e R s m args below meth c H locs cells slots Q (F0 m (pc + 3) ls (.ref v :: rest))) : W p l e R s m args below meth c H locs cells slots Q (F0 m pc ls (.ref a :: rest)) := by
  obtain ⟨v, h1, h2⟩ := bd1_some h
  obtain ⟨⟨c1, c2⟩, h3⟩ := oif h1
  have ht : (gK g a).1 = 3 := by omega
  exact va_getN (D := eD E) (ci := 2) (C := RX3) (T := TX3) (N := 8) S.1 S.2.1 S.2.2.2.2 in_X3 S.2.2.2.1 X.1 (va_one (hw.1.2.1 _ _ (gcell_3 ht)).1) 0 rfl rfl 1 (by decide) (va_Nw.use rfl (X.2.2.2.2.2.1 _ q261 rfl)) (fun _ h9 => h9) (by show some (va_rf (gR g a 1)) = some (.ref v); rw [h3]; rfl) hd (kk _ h2)
theorem ggX4_41q {F : Option Nat → Option β} (S : CallFix p m c cc nL s args lw_all RX4) (X : gCtx E A s) (hw : gH E A LC LS s g H locs) (hd : decode cc pc = .ok (.getfield 41, 3)) (h : bd1 (oR g a 3 3 1) F = some r) (kk : ∀ v, F v = some r → W p l e R s m args below meth c H locs cells slots Q (F0 m (pc + 3) ls (va_rf v :: rest))) : W p l e R s m args below meth c H locs cells slots Q (F0 m pc ls (.ref a :: rest)) := by
  obtain ⟨v, h1, h2⟩ := bd1_some h
  obtain ⟨⟨c1, c2⟩, h3⟩ := oif h1
  have ht : (gK g a).1 = 3 := by omega
  cases h3
  exact va_getN (D := eD E) (ci := 2) (C := RX3) (T := TX3) (N := 8) S.1 S.2.1 S.2.2.2.2 in_X3 S.2.2.2.1 X.1 (va_one (hw.1.2.1 _ _ (gcell_3 ht)).1) 0 rfl rfl 1 (by decide) (va_Nw.use rfl (X.2.2.2.2.2.1 _ q261 rfl)) (fun _ h9 => h9) rfl hd (kk _ h2)
theorem ggX4_59 {F : Int32 → Option β} (S : CallFix p m c cc nL s args lw_all RX4) (X : gCtx E A s) (hw : gH E A LC LS s g H locs) (hd : decode cc pc = .ok (.getfield 59, 3)) (h : bd1 (oI g a 8 11 4) F = some r) (kk : ∀ v, F v = some r → W p l e R s m args below meth c H locs cells slots Q (F0 m (pc + 3) ls (.int v :: rest))) : W p l e R s m args below meth c H locs cells slots Q (F0 m pc ls (.ref a :: rest)) := by
  obtain ⟨v, h1, h2⟩ := bd1_some h
  obtain ⟨⟨c1, c2⟩, h3⟩ := oif h1
  rcases (by omega : (gK g a).1 = 8 ∨ (gK g a).1 = 9 ∨ (gK g a).1 = 10 ∨ (gK g a).1 = 11) with ht | ht | ht | ht
  · cases h3
    exact va_get (D := eD E) (ci := 7) (C := RX8) (T := TX8) (N := 6) S.1 S.2.1 S.2.2.2.2 in_X8 S.2.2.2.1 X.1 (va_one (hw.1.2.1 _ _ (gcell_8 ht)).1) 0 rfl rfl 4 (by decide) (S.2.2.2.2 _ q993) (fun _ h9 => h9) rfl hd (kk _ h2)
  · cases h3
    exact va_get (D := eD E) (ci := 8) (C := RX9) (T := TX9) (N := 6) S.1 S.2.1 S.2.2.2.2 in_X9 S.2.2.2.1 X.1 (va_one (hw.1.2.1 _ _ (gcell_9 ht)).1) 0 rfl rfl 4 (by decide) (S.2.2.2.2 _ q993) (fun _ h9 => h9) rfl hd (kk _ h2)
  · cases h3
    exact va_get (D := eD E) (ci := 9) (C := RX10) (T := TX10) (N := 6) S.1 S.2.1 S.2.2.2.2 in_X10 S.2.2.2.1 X.1 (va_one (hw.1.2.1 _ _ (gcell_10 ht)).1) 0 rfl rfl 4 (by decide) (S.2.2.2.2 _ q993) (fun _ h9 => h9) rfl hd (kk _ h2)
  · cases h3
    exact va_get (D := eD E) (ci := 10) (C := RX11) (T := TX11) (N := 6) S.1 S.2.1 S.2.2.2.2 in_X11 S.2.2.2.1 X.1 (va_one (hw.1.2.1 _ _ (gcell_11 ht)).1) 0 rfl rfl 4 (by decide) (S.2.2.2.2 _ q993) (fun _ h9 => h9) rfl hd (kk _ h2)
theorem ggX4_61 {F : Int32 → Option β} (S : CallFix p m c cc nL s args lw_all RX4) (X : gCtx E A s) (hw : gH E A LC LS s g H locs) (hd : decode cc pc = .ok (.getfield 61, 3)) (h : bd1 (oI g a 8 11 3) F = some r) (kk : ∀ v, F v = some r → W p l e R s m args below meth c H locs cells slots Q (F0 m (pc + 3) ls (.int v :: rest))) : W p l e R s m args below meth c H locs cells slots Q (F0 m pc ls (.ref a :: rest)) := by
  obtain ⟨v, h1, h2⟩ := bd1_some h
  obtain ⟨⟨c1, c2⟩, h3⟩ := oif h1
  rcases (by omega : (gK g a).1 = 8 ∨ (gK g a).1 = 9 ∨ (gK g a).1 = 10 ∨ (gK g a).1 = 11) with ht | ht | ht | ht
  · cases h3
    exact va_get (D := eD E) (ci := 7) (C := RX8) (T := TX8) (N := 6) S.1 S.2.1 S.2.2.2.2 in_X8 S.2.2.2.1 X.1 (va_one (hw.1.2.1 _ _ (gcell_8 ht)).1) 0 rfl rfl 3 (by decide) (S.2.2.2.2 _ q990) (fun _ h9 => h9) rfl hd (kk _ h2)
  · cases h3
    exact va_get (D := eD E) (ci := 8) (C := RX9) (T := TX9) (N := 6) S.1 S.2.1 S.2.2.2.2 in_X9 S.2.2.2.1 X.1 (va_one (hw.1.2.1 _ _ (gcell_9 ht)).1) 0 rfl rfl 3 (by decide) (S.2.2.2.2 _ q990) (fun _ h9 => h9) rfl hd (kk _ h2)
  · cases h3
    exact va_get (D := eD E) (ci := 9) (C := RX10) (T := TX10) (N := 6) S.1 S.2.1 S.2.2.2.2 in_X10 S.2.2.2.1 X.1 (va_one (hw.1.2.1 _ _ (gcell_10 ht)).1) 0 rfl rfl 3 (by decide) (S.2.2.2.2 _ q990) (fun _ h9 => h9) rfl hd (kk _ h2)
  · cases h3
    exact va_get (D := eD E) (ci := 10) (C := RX11) (T := TX11) (N := 6) S.1 S.2.1 S.2.2.2.2 in_X11 S.2.2.2.1 X.1 (va_one (hw.1.2.1 _ _ (gcell_11 ht)).1) 0 rfl rfl 3 (by decide) (S.2.2.2.2 _ q990) (fun _ h9 => h9) rfl hd (kk _ h2)
theorem gpX8_9 {v : Int32} {F : GS → Option β} (S : CallFix p m c cc nL s args lw_all RX8) (X : gCtx E A s) (hw : gH E A LC LS s g H locs) (hd : decode cc pc = .ok (.putfield 9, 3)) (h : bd1 (pI g a 8 11 4 v) F = some r) (kk : ∀ (g1 : GS) (H : Heap) (locs : List Loc), F g1 = some r → gH E A LC LS s g1 H locs → W p l e R s m args below meth c H locs (H.size - s.heap.size) (tot H - tot s.heap) Q (F0 m (pc + 3) ls rest)) : W p l e R s m args below meth c H locs cells slots Q (F0 m pc ls (.int v :: .ref a :: rest)) := by
  obtain ⟨g1, h1, h2⟩ := bd1_some h
  obtain ⟨⟨c1, c2⟩, h3⟩ := oif h1
  cases h3
  rcases (by omega : (gK g a).1 = 8 ∨ (gK g a).1 = 9 ∨ (gK g a).1 = 10 ∨ (gK g a).1 = 11) with ht | ht | ht | ht
  · have hc := gcell_8 (E := E) ht
    refine gb_put (D := eD E) (ci := 7) (C := RX8) (T := TX8) (N := 6) (ty := tyX8 4) S.1 S.2.1 S.2.2.2.2 in_X8 tyX8 tyX8_ok nmX8 S.2.2.2.1 X.1 (hw.1.2.1 _ _ hc).1 rfl 4 (by decide) (S.2.2.2.2 _ q992) (fun _ h9 => h9) rfl (tyX8_ok 4 (by decide)) rfl rfl (Nat.le_of_ble_eq_true rfl) hd (fun H1 k1 e1 z1 t1 o1 => ?_)
    exact W.canon (kk _ H1 _ h2 ⟨gB.sI hw.1 hc (gce_sI.trans (gcc_8 ht)) e1 z1 t1 o1 (by omega) (by omega), hw.2.put z1 o1 (hw.1.2.1 _ _ hc).2⟩)
  · have hc := gcell_9 (E := E) ht
    refine gb_put (D := eD E) (ci := 8) (C := RX9) (T := TX9) (N := 6) (ty := tyX9 4) S.1 S.2.1 S.2.2.2.2 in_X9 tyX9 tyX9_ok nmX9 S.2.2.2.1 X.1 (hw.1.2.1 _ _ hc).1 rfl 4 (by decide) (S.2.2.2.2 _ q992) (fun _ h9 => h9) rfl (tyX9_ok 4 (by decide)) rfl rfl (Nat.le_of_ble_eq_true rfl) hd (fun H1 k1 e1 z1 t1 o1 => ?_)
    exact W.canon (kk _ H1 _ h2 ⟨gB.sI hw.1 hc (gce_sI.trans (gcc_9 ht)) e1 z1 t1 o1 (by omega) (by omega), hw.2.put z1 o1 (hw.1.2.1 _ _ hc).2⟩)
  · have hc := gcell_10 (E := E) ht
    refine gb_put (D := eD E) (ci := 9) (C := RX10) (T := TX10) (N := 6) (ty := tyX10 4) S.1 S.2.1 S.2.2.2.2 in_X10 tyX10 tyX10_ok nmX10 S.2.2.2.1 X.1 (hw.1.2.1 _ _ hc).1 rfl 4 (by decide) (S.2.2.2.2 _ q992) (fun _ h9 => h9) rfl (tyX10_ok 4 (by decide)) rfl rfl (Nat.le_of_ble_eq_true rfl) hd (fun H1 k1 e1 z1 t1 o1 => ?_)
    exact W.canon (kk _ H1 _ h2 ⟨gB.sI hw.1 hc (gce_sI.trans (gcc_10 ht)) e1 z1 t1 o1 (by omega) (by omega), hw.2.put z1 o1 (hw.1.2.1 _ _ hc).2⟩)
  · have hc := gcell_11 (E := E) ht
    refine gb_put (D := eD E) (ci := 10) (C := RX11) (T := TX11) (N := 6) (ty := tyX11 4) S.1 S.2.1 S.2.2.2.2 in_X11 tyX11 tyX11_ok nmX11 S.2.2.2.1 X.1 (hw.1.2.1 _ _ hc).1 rfl 4 (by decide) (S.2.2.2.2 _ q992) (fun _ h9 => h9) rfl (tyX11_ok 4 (by decide)) rfl rfl (Nat.le_of_ble_eq_true rfl) hd (fun H1 k1 e1 z1 t1 o1 => ?_)
    exact W.canon (kk _ H1 _ h2 ⟨gB.sI hw.1 hc (gce_sI.trans (gcc_11 ht)) e1 z1 t1 o1 (by omega) (by omega), hw.2.put z1 o1 (hw.1.2.1 _ _ hc).2⟩)
theorem gpX8_15 {v : Option Nat} {F : GS → Option β} (S : CallFix p m c cc nL s args lw_all RX8) (X : gCtx E A s) (hw : gH E A LC LS s g H locs) (hin2 : meth.name = "<init>") (hd : decode cc pc = .ok (.putfield 15, 3)) (h : bd1 (pR g a 8 11 0 v) F = some r) (kk : ∀ (g1 : GS) (H : Heap) (locs : List Loc), F g1 = some r → gH E A LC LS s g1 H locs → W p l e R s m args below meth c H locs (H.size - s.heap.size) (tot H - tot s.heap) Q (F0 m (pc + 3) ls rest)) : W p l e R s m args below meth c H locs cells slots Q (F0 m pc ls (va_rf v :: .ref a :: rest)) := by
  obtain ⟨g1, h1, h2⟩ := bd1_some h
  obtain ⟨⟨c1, c2⟩, h3⟩ := oif h1
  cases h3
  rcases (by omega : (gK g a).1 = 8 ∨ (gK g a).1 = 9 ∨ (gK g a).1 = 10 ∨ (gK g a).1 = 11) with ht | ht | ht | ht
  · have hc := gcell_8 (E := E) ht
    refine gb_putF (D := eD E) (ci := 7) (C := RX8) (T := TX8) (N := 6) (ty := tyX8 0) S.1 S.2.1 S.2.2.2.2 in_X8 tyX8 tyX8_ok nmX8 S.2.2.2.1 X.1 (hw.1.2.1 _ _ hc).1 rfl 0 (by decide) (S.2.2.2.2 _ q981) (fun _ h9 => h9) rfl hin2 rfl (tyX8_ok 0 (by decide)) (rf_fit rfl v).1 (rf_fit rfl v).2 (Nat.le_of_ble_eq_true rfl) hd (fun H1 k1 e1 z1 t1 o1 => ?_)
    exact W.canon (kk _ H1 _ h2 ⟨gB.sR hw.1 hc (gce_sR.trans (gcc_8 ht)) e1 z1 t1 o1 (by omega) (by omega), hw.2.put z1 o1 (hw.1.2.1 _ _ hc).2⟩)
  · have hc := gcell_9 (E := E) ht
    refine gb_putF (D := eD E) (ci := 8) (C := RX9) (T := TX9) (N := 6) (ty := tyX9 0) S.1 S.2.1 S.2.2.2.2 in_X9 tyX9 tyX9_ok nmX9 S.2.2.2.1 X.1 (hw.1.2.1 _ _ hc).1 rfl 0 (by decide) (S.2.2.2.2 _ q981) (fun _ h9 => h9) rfl hin2 rfl (tyX9_ok 0 (by decide)) (rf_fit rfl v).1 (rf_fit rfl v).2 (Nat.le_of_ble_eq_true rfl) hd (fun H1 k1 e1 z1 t1 o1 => ?_)
    exact W.canon (kk _ H1 _ h2 ⟨gB.sR hw.1 hc (gce_sR.trans (gcc_9 ht)) e1 z1 t1 o1 (by omega) (by omega), hw.2.put z1 o1 (hw.1.2.1 _ _ hc).2⟩)
  · have hc := gcell_10 (E := E) ht
    refine gb_putF (D := eD E) (ci := 9) (C := RX10) (T := TX10) (N := 6) (ty := tyX10 0) S.1 S.2.1 S.2.2.2.2 in_X10 tyX10 tyX10_ok nmX10 S.2.2.2.1 X.1 (hw.1.2.1 _ _ hc).1 rfl 0 (by decide) (S.2.2.2.2 _ q981) (fun _ h9 => h9) rfl hin2 rfl (tyX10_ok 0 (by decide)) (rf_fit rfl v).1 (rf_fit rfl v).2 (Nat.le_of_ble_eq_true rfl) hd (fun H1 k1 e1 z1 t1 o1 => ?_)
    exact W.canon (kk _ H1 _ h2 ⟨gB.sR hw.1 hc (gce_sR.trans (gcc_10 ht)) e1 z1 t1 o1 (by omega) (by omega), hw.2.put z1 o1 (hw.1.2.1 _ _ hc).2⟩)
  · have hc := gcell_11 (E := E) ht
    refine gb_putF (D := eD E) (ci := 10) (C := RX11) (T := TX11) (N := 6) (ty := tyX11 0) S.1 S.2.1 S.2.2.2.2 in_X11 tyX11 tyX11_ok nmX11 S.2.2.2.1 X.1 (hw.1.2.1 _ _ hc).1 rfl 0 (by decide) (S.2.2.2.2 _ q981) (fun _ h9 => h9) rfl hin2 rfl (tyX11_ok 0 (by decide)) (rf_fit rfl v).1 (rf_fit rfl v).2 (Nat.le_of_ble_eq_true rfl) hd (fun H1 k1 e1 z1 t1 o1 => ?_)
    exact W.canon (kk _ H1 _ h2 ⟨gB.sR hw.1 hc (gce_sR.trans (gcc_11 ht)) e1 z1 t1 o1 (by omega) (by omega), hw.2.put z1 o1 (hw.1.2.1 _ _ hc).2⟩)
theorem ggX8_19 {F : Int32 → Option β} (S : CallFix p m c cc nL s args lw_all RX8) (X : gCtx E A s) (hw : gH E A LC LS s g H locs) (hd : decode cc pc = .ok (.getfield 19, 3)) (h : bd1 (oI g a 8 11 1) F = some r) (kk : ∀ v, F v = some r → W p l e R s m args below meth c H locs cells slots Q (F0 m (pc + 3) ls (.int v :: rest))) : W p l e R s m args below meth c H locs cells slots Q (F0 m pc ls (.ref a :: rest)) := by
  obtain ⟨v, h1, h2⟩ := bd1_some h
  obtain ⟨⟨c1, c2⟩, h3⟩ := oif h1
  rcases (by omega : (gK g a).1 = 8 ∨ (gK g a).1 = 9 ∨ (gK g a).1 = 10 ∨ (gK g a).1 = 11) with ht | ht | ht | ht
  · cases h3
    exact va_get (D := eD E) (ci := 7) (C := RX8) (T := TX8) (N := 6) S.1 S.2.1 S.2.2.2.2 in_X8 S.2.2.2.1 X.1 (va_one (hw.1.2.1 _ _ (gcell_8 ht)).1) 0 rfl rfl 1 (by decide) (S.2.2.2.2 _ q983) (fun _ h9 => h9) rfl hd (kk _ h2)
  · cases h3
    exact va_get (D := eD E) (ci := 8) (C := RX9) (T := TX9) (N := 6) S.1 S.2.1 S.2.2.2.2 in_X9 S.2.2.2.1 X.1 (va_one (hw.1.2.1 _ _ (gcell_9 ht)).1) 0 rfl rfl 1 (by decide) (S.2.2.2.2 _ q983) (fun _ h9 => h9) rfl hd (kk _ h2)
  · cases h3
    exact va_get (D := eD E) (ci := 9) (C := RX10) (T := TX10) (N := 6) S.1 S.2.1 S.2.2.2.2 in_X10 S.2.2.2.1 X.1 (va_one (hw.1.2.1 _ _ (gcell_10 ht)).1) 0 rfl rfl 1 (by decide) (S.2.2.2.2 _ q983) (fun _ h9 => h9) rfl hd (kk _ h2)
  · cases h3
    exact va_get (D := eD E) (ci := 10) (C := RX11) (T := TX11) (N := 6) S.1 S.2.1 S.2.2.2.2 in_X11 S.2.2.2.1 X.1 (va_one (hw.1.2.1 _ _ (gcell_11 ht)).1) 0 rfl rfl 1 (by decide) (S.2.2.2.2 _ q983) (fun _ h9 => h9) rfl hd (kk _ h2)
theorem ggX8_22 {F : Int32 → Option β} (S : CallFix p m c cc nL s args lw_all RX8) (X : gCtx E A s) (hw : gH E A LC LS s g H locs) (hd : decode cc pc = .ok (.getfield 22, 3)) (h : bd1 (oI g a 7 7 2) F = some r) (kk : ∀ v, F v = some r → W p l e R s m args below meth c H locs cells slots Q (F0 m (pc + 3) ls (.int v :: rest))) : W p l e R s m args below meth c H locs cells slots Q (F0 m pc ls (.ref a :: rest)) := by
  obtain ⟨v, h1, h2⟩ := bd1_some h
  obtain ⟨⟨c1, c2⟩, h3⟩ := oif h1
  have ht : (gK g a).1 = 7 := by omega
  cases h3
  exact va_getN (D := eD E) (ci := 6) (C := RX7) (T := TX7) (N := 4) S.1 S.2.1 S.2.2.2.2 in_X7 S.2.2.2.1 X.1 (va_one (hw.1.2.1 _ _ (gcell_7 ht)).1) 0 rfl rfl 2 (by decide) (va_Nw.use rfl (X.2.2.2.2.2.1 _ q892 rfl)) (fun _ h9 => h9) rfl hd (kk _ h2)
theorem ggX8_27 {F : Int32 → Option β} (S : CallFix p m c cc nL s args lw_all RX8) (X : gCtx E A s) (hw : gH E A LC LS s g H locs) (hd : decode cc pc = .ok (.getfield 27, 3)) (h : bd1 (oI g a 7 7 1) F = some r) (kk : ∀ v, F v = some r → W p l e R s m args below meth c H locs cells slots Q (F0 m (pc + 3) ls (.int v :: rest))) : W p l e R s m args below meth c H locs cells slots Q (F0 m pc ls (.ref a :: rest)) := by
  obtain ⟨v, h1, h2⟩ := bd1_some h
  obtain ⟨⟨c1, c2⟩, h3⟩ := oif h1
  have ht : (gK g a).1 = 7 := by omega
  cases h3
  exact va_getN (D := eD E) (ci := 6) (C := RX7) (T := TX7) (N := 4) S.1 S.2.1 S.2.2.2.2 in_X7 S.2.2.2.1 X.1 (va_one (hw.1.2.1 _ _ (gcell_7 ht)).1) 0 rfl rfl 1 (by decide) (va_Nw.use rfl (X.2.2.2.2.2.1 _ q888 rfl)) (fun _ h9 => h9) rfl hd (kk _ h2)
theorem ggX8_30 {F : Int32 → Option β} (S : CallFix p m c cc nL s args lw_all RX8) (X : gCtx E A s) (hw : gH E A LC LS s g H locs) (hd : decode cc pc = .ok (.getfield 30, 3)) (h : bd1 (oI g a 7 7 3) F = some r) (kk : ∀ v, F v = some r → W p l e R s m args below meth c H locs cells slots Q (F0 m (pc + 3) ls (.int v :: rest))) : W p l e R s m args below meth c H locs cells slots Q (F0 m pc ls (.ref a :: rest)) := by
  obtain ⟨v, h1, h2⟩ := bd1_some h
  obtain ⟨⟨c1, c2⟩, h3⟩ := oif h1
  have ht : (gK g a).1 = 7 := by omega
  cases h3
  exact va_getN (D := eD E) (ci := 6) (C := RX7) (T := TX7) (N := 4) S.1 S.2.1 S.2.2.2.2 in_X7 S.2.2.2.1 X.1 (va_one (hw.1.2.1 _ _ (gcell_7 ht)).1) 0 rfl rfl 3 (by decide) (va_Nw.use rfl (X.2.2.2.2.2.1 _ q896 rfl)) (fun _ h9 => h9) rfl hd (kk _ h2)
theorem ggX17_7 {F : Int32 → Option β} (S : CallFix p m c cc nL s args lw_all RX17) (X : gCtx E A s) (hw : gH E A LC LS s g H locs) (hd : decode cc pc = .ok (.getfield 7, 3)) (h : bd1 (oI g a 16 16 0) F = some r) (kk : ∀ v, F v = some r → W p l e R s m args below meth c H locs cells slots Q (F0 m (pc + 3) ls (.int v :: rest))) : W p l e R s m args below meth c H locs cells slots Q (F0 m pc ls (.ref a :: rest)) := by
  obtain ⟨v, h1, h2⟩ := bd1_some h
  obtain ⟨⟨c1, c2⟩, h3⟩ := oif h1
  have ht : (gK g a).1 = 16 := by omega
  cases h3
  exact va_get (D := eD E) (ci := 15) (C := RX17) (T := TX17) (N := 3) S.1 S.2.1 S.2.2.2.2 in_X17 S.2.2.2.1 X.1 (va_one (hw.1.2.1 _ _ (gcell_16 ht)).1) 0 rfl rfl 0 (by decide) (S.2.2.2.2 _ q1174) (fun _ h9 => h9) rfl hd (kk _ h2)
theorem gpX17_7 {v : Int32} {F : GS → Option β} (S : CallFix p m c cc nL s args lw_all RX17) (X : gCtx E A s) (hw : gH E A LC LS s g H locs) (hin2 : meth.name = "<init>") (hd : decode cc pc = .ok (.putfield 7, 3)) (h : bd1 (zc v (pI g a 16 16 0 v)) F = some r) (kk : ∀ (g1 : GS) (H : Heap) (locs : List Loc), F g1 = some r → gH E A LC LS s g1 H locs → W p l e R s m args below meth c H locs (H.size - s.heap.size) (tot H - tot s.heap) Q (F0 m (pc + 3) ls rest)) : W p l e R s m args below meth c H locs cells slots Q (F0 m pc ls (.int v :: .ref a :: rest)) := by
  obtain ⟨g1, h1, h2⟩ := bd1_some h
  obtain ⟨hz, h1⟩ := oif h1
  obtain ⟨⟨c1, c2⟩, h3⟩ := oif h1
  cases h3
  have ht : (gK g a).1 = 16 := by omega
  have hc := gcell_16 (E := E) ht
  refine gb_putF (D := eD E) (ci := 15) (C := RX17) (T := TX17) (N := 3) (ty := tyX17 0) S.1 S.2.1 S.2.2.2.2 in_X17 tyX17 tyX17_ok nmX17 S.2.2.2.1 X.1 (hw.1.2.1 _ _ hc).1 rfl 0 (by decide) (S.2.2.2.2 _ q1174) (fun _ h9 => h9) rfl hin2 rfl (tyX17_ok 0 (by decide)) (by rw [← hz]; exact pk_nc v) (by rw [← hz]; exact pk_fc v) (Nat.le_of_ble_eq_true rfl) hd (fun H1 k1 e1 z1 t1 o1 => ?_)
  exact W.canon (kk _ H1 _ h2 ⟨gB.sI hw.1 hc (gce_sI.trans (gcc_16 ht)) e1 z1 t1 o1 (by omega) (by omega), hw.2.put z1 o1 (hw.1.2.1 _ _ hc).2⟩)
theorem ggX17_13 {F : Nat → Option β} (S : CallFix p m c cc nL s args lw_all RX17) (X : gCtx E A s) (hw : gH E A LC LS s g H locs) (hd : decode cc pc = .ok (.getfield 13, 3)) (h : bd1 (oRn g a 16 16 1) F = some r) (kk : ∀ v, F v = some r → W p l e R s m args below meth c H locs cells slots Q (F0 m (pc + 3) ls (.ref v :: rest))) : W p l e R s m args below meth c H locs cells slots Q (F0 m pc ls (.ref a :: rest)) := by
  obtain ⟨v, h1, h2⟩ := bd1_some h
  obtain ⟨⟨c1, c2⟩, h3⟩ := oif h1
  have ht : (gK g a).1 = 16 := by omega
  exact va_get (D := eD E) (ci := 15) (C := RX17) (T := TX17) (N := 3) S.1 S.2.1 S.2.2.2.2 in_X17 S.2.2.2.1 X.1 (va_one (hw.1.2.1 _ _ (gcell_16 ht)).1) 0 rfl rfl 1 (by decide) (S.2.2.2.2 _ q1175) (fun _ h9 => h9) (by show some (va_rf (gR g a 1)) = some (.ref v); rw [h3]; rfl) hd (kk _ h2)
theorem ggX17_13q {F : Option Nat → Option β} (S : CallFix p m c cc nL s args lw_all RX17) (X : gCtx E A s) (hw : gH E A LC LS s g H locs) (hd : decode cc pc = .ok (.getfield 13, 3)) (h : bd1 (oR g a 16 16 1) F = some r) (kk : ∀ v, F v = some r → W p l e R s m args below meth c H locs cells slots Q (F0 m (pc + 3) ls (va_rf v :: rest))) : W p l e R s m args below meth c H locs cells slots Q (F0 m pc ls (.ref a :: rest)) := by
  obtain ⟨v, h1, h2⟩ := bd1_some h
  obtain ⟨⟨c1, c2⟩, h3⟩ := oif h1
  have ht : (gK g a).1 = 16 := by omega
  cases h3
  exact va_get (D := eD E) (ci := 15) (C := RX17) (T := TX17) (N := 3) S.1 S.2.1 S.2.2.2.2 in_X17 S.2.2.2.1 X.1 (va_one (hw.1.2.1 _ _ (gcell_16 ht)).1) 0 rfl rfl 1 (by decide) (S.2.2.2.2 _ q1175) (fun _ h9 => h9) rfl hd (kk _ h2)
theorem gpX17_13 {v : Option Nat} {F : GS → Option β} (S : CallFix p m c cc nL s args lw_all RX17) (X : gCtx E A s) (hw : gH E A LC LS s g H locs) (hin2 : meth.name = "<init>") (hd : decode cc pc = .ok (.putfield 13, 3)) (h : bd1 (pR g a 16 16 1 v) F = some r) (kk : ∀ (g1 : GS) (H : Heap) (locs : List Loc), F g1 = some r → gH E A LC LS s g1 H locs → W p l e R s m args below meth c H locs (H.size - s.heap.size) (tot H - tot s.heap) Q (F0 m (pc + 3) ls rest)) : W p l e R s m args below meth c H locs cells slots Q (F0 m pc ls (va_rf v :: .ref a :: rest)) := by
  obtain ⟨g1, h1, h2⟩ := bd1_some h
  obtain ⟨⟨c1, c2⟩, h3⟩ := oif h1
  cases h3
  have ht : (gK g a).1 = 16 := by omega
  have hc := gcell_16 (E := E) ht
  refine gb_putF (D := eD E) (ci := 15) (C := RX17) (T := TX17) (N := 3) (ty := tyX17 1) S.1 S.2.1 S.2.2.2.2 in_X17 tyX17 tyX17_ok nmX17 S.2.2.2.1 X.1 (hw.1.2.1 _ _ hc).1 rfl 1 (by decide) (S.2.2.2.2 _ q1175) (fun _ h9 => h9) rfl hin2 rfl (tyX17_ok 1 (by decide)) (rf_fit rfl v).1 (rf_fit rfl v).2 (Nat.le_of_ble_eq_true rfl) hd (fun H1 k1 e1 z1 t1 o1 => ?_)
  exact W.canon (kk _ H1 _ h2 ⟨gB.sR hw.1 hc (gce_sR.trans (gcc_16 ht)) e1 z1 t1 o1 (by omega) (by omega), hw.2.put z1 o1 (hw.1.2.1 _ _ hc).2⟩)
theorem ggX17_17 {F : Nat → Option β} (S : CallFix p m c cc nL s args lw_all RX17) (X : gCtx E A s) (hw : gH E A LC LS s g H locs) (hd : decode cc pc = .ok (.getfield 17, 3)) (h : bd1 (oRn g a 16 16 2) F = some r) (kk : ∀ v, F v = some r → W p l e R s m args below meth c H locs cells slots Q (F0 m (pc + 3) ls (.ref v :: rest))) : W p l e R s m args below meth c H locs cells slots Q (F0 m pc ls (.ref a :: rest)) := by
  obtain ⟨v, h1, h2⟩ := bd1_some h
  obtain ⟨⟨c1, c2⟩, h3⟩ := oif h1
  have ht : (gK g a).1 = 16 := by omega
  exact va_get (D := eD E) (ci := 15) (C := RX17) (T := TX17) (N := 3) S.1 S.2.1 S.2.2.2.2 in_X17 S.2.2.2.1 X.1 (va_one (hw.1.2.1 _ _ (gcell_16 ht)).1) 0 rfl rfl 2 (by decide) (S.2.2.2.2 _ q1176) (fun _ h9 => h9) (by show some (va_rf (gR g a 2)) = some (.ref v); rw [h3]; rfl) hd (kk _ h2)
theorem ggX17_17q {F : Option Nat → Option β} (S : CallFix p m c cc nL s args lw_all RX17) (X : gCtx E A s) (hw : gH E A LC LS s g H locs) (hd : decode cc pc = .ok (.getfield 17, 3)) (h : bd1 (oR g a 16 16 2) F = some r) (kk : ∀ v, F v = some r → W p l e R s m args below meth c H locs cells slots Q (F0 m (pc + 3) ls (va_rf v :: rest))) : W p l e R s m args below meth c H locs cells slots Q (F0 m pc ls (.ref a :: rest)) := by
  obtain ⟨v, h1, h2⟩ := bd1_some h
  obtain ⟨⟨c1, c2⟩, h3⟩ := oif h1
  have ht : (gK g a).1 = 16 := by omega
  cases h3
  exact va_get (D := eD E) (ci := 15) (C := RX17) (T := TX17) (N := 3) S.1 S.2.1 S.2.2.2.2 in_X17 S.2.2.2.1 X.1 (va_one (hw.1.2.1 _ _ (gcell_16 ht)).1) 0 rfl rfl 2 (by decide) (S.2.2.2.2 _ q1176) (fun _ h9 => h9) rfl hd (kk _ h2)
theorem gpX17_17 {v : Option Nat} {F : GS → Option β} (S : CallFix p m c cc nL s args lw_all RX17) (X : gCtx E A s) (hw : gH E A LC LS s g H locs) (hin2 : meth.name = "<init>") (hd : decode cc pc = .ok (.putfield 17, 3)) (h : bd1 (pR g a 16 16 2 v) F = some r) (kk : ∀ (g1 : GS) (H : Heap) (locs : List Loc), F g1 = some r → gH E A LC LS s g1 H locs → W p l e R s m args below meth c H locs (H.size - s.heap.size) (tot H - tot s.heap) Q (F0 m (pc + 3) ls rest)) : W p l e R s m args below meth c H locs cells slots Q (F0 m pc ls (va_rf v :: .ref a :: rest)) := by
  obtain ⟨g1, h1, h2⟩ := bd1_some h
  obtain ⟨⟨c1, c2⟩, h3⟩ := oif h1
  cases h3
  have ht : (gK g a).1 = 16 := by omega
  have hc := gcell_16 (E := E) ht
  refine gb_putF (D := eD E) (ci := 15) (C := RX17) (T := TX17) (N := 3) (ty := tyX17 2) S.1 S.2.1 S.2.2.2.2 in_X17 tyX17 tyX17_ok nmX17 S.2.2.2.1 X.1 (hw.1.2.1 _ _ hc).1 rfl 2 (by decide) (S.2.2.2.2 _ q1176) (fun _ h9 => h9) rfl hin2 rfl (tyX17_ok 2 (by decide)) (rf_fit rfl v).1 (rf_fit rfl v).2 (Nat.le_of_ble_eq_true rfl) hd (fun H1 k1 e1 z1 t1 o1 => ?_)
  exact W.canon (kk _ H1 _ h2 ⟨gB.sR hw.1 hc (gce_sR.trans (gcc_16 ht)) e1 z1 t1 o1 (by omega) (by omega), hw.2.put z1 o1 (hw.1.2.1 _ _ hc).2⟩)
theorem gpX6_7 {v : Int32} {F : GS → Option β} (S : CallFix p m c cc nL s args lw_all RX6) (X : gCtx E A s) (hw : gH E A LC LS s g H locs) (hin2 : meth.name = "<init>") (hd : decode cc pc = .ok (.putfield 7, 3)) (h : bd1 (pI g a 6 6 6 v) F = some r) (kk : ∀ (g1 : GS) (H : Heap) (locs : List Loc), F g1 = some r → gH E A LC LS s g1 H locs → W p l e R s m args below meth c H locs (H.size - s.heap.size) (tot H - tot s.heap) Q (F0 m (pc + 3) ls rest)) : W p l e R s m args below meth c H locs cells slots Q (F0 m pc ls (.int v :: .ref a :: rest)) := by
  obtain ⟨g1, h1, h2⟩ := bd1_some h
  obtain ⟨⟨c1, c2⟩, h3⟩ := oif h1
  cases h3
  have ht : (gK g a).1 = 6 := by omega
  have hc := gcell_6 (E := E) ht
  refine gb_putF (D := eD E) (ci := 5) (C := RX6) (T := TX6) (N := 7) (ty := tyX6 6) S.1 S.2.1 S.2.2.2.2 in_X6 tyX6 tyX6_ok nmX6 S.2.2.2.1 X.1 (hw.1.2.1 _ _ hc).1 rfl 6 (by decide) (S.2.2.2.2 _ q650) (fun _ h9 => h9) rfl hin2 rfl (tyX6_ok 6 (by decide)) rfl rfl (Nat.le_of_ble_eq_true rfl) hd (fun H1 k1 e1 z1 t1 o1 => ?_)
  exact W.canon (kk _ H1 _ h2 ⟨gB.sI hw.1 hc (gce_sI.trans (gcc_6 ht)) e1 z1 t1 o1 (by omega) (by omega), hw.2.put z1 o1 (hw.1.2.1 _ _ hc).2⟩)
theorem gpX5_14 {v : Option Nat} {F : GS → Option β} (S : CallFix p m c cc nL s args lw_all RX5) (X : gCtx E A s) (hw : gH E A LC LS s g H locs) (hin2 : meth.name = "<init>") (hd : decode cc pc = .ok (.putfield 14, 3)) (h : bd1 (pR g a 5 5 1 v) F = some r) (kk : ∀ (g1 : GS) (H : Heap) (locs : List Loc), F g1 = some r → gH E A LC LS s g1 H locs → W p l e R s m args below meth c H locs (H.size - s.heap.size) (tot H - tot s.heap) Q (F0 m (pc + 3) ls rest)) : W p l e R s m args below meth c H locs cells slots Q (F0 m pc ls (va_rf v :: .ref a :: rest)) := by
  obtain ⟨g1, h1, h2⟩ := bd1_some h
  obtain ⟨⟨c1, c2⟩, h3⟩ := oif h1
  cases h3
  have ht : (gK g a).1 = 5 := by omega
  have hc := gcell_5 (E := E) ht
  refine gb_putF (D := eD E) (ci := 4) (C := RX5) (T := TX5) (N := 40) (ty := tyX5 1) S.1 S.2.1 S.2.2.2.2 in_X5 tyX5 tyX5_ok nmX5 S.2.2.2.1 X.1 (hw.1.2.1 _ _ hc).1 rfl 1 (by decide) (S.2.2.2.2 _ q1795) (fun _ h9 => h9) rfl hin2 rfl (tyX5_ok 1 (by decide)) (rf_fit rfl v).1 (rf_fit rfl v).2 (Nat.le_of_ble_eq_true rfl) hd (fun H1 k1 e1 z1 t1 o1 => ?_)
  exact W.canon (kk _ H1 _ h2 ⟨gB.sR hw.1 hc (gce_sR.trans (gcc_5 ht)) e1 z1 t1 o1 (by omega) (by omega), hw.2.put z1 o1 (hw.1.2.1 _ _ hc).2⟩)
theorem gpX5_24 {v : Option Nat} {F : GS → Option β} (S : CallFix p m c cc nL s args lw_all RX5) (X : gCtx E A s) (hw : gH E A LC LS s g H locs) (hin2 : meth.name = "<init>") (hd : decode cc pc = .ok (.putfield 24, 3)) (h : bd1 (pR g a 5 5 4 v) F = some r) (kk : ∀ (g1 : GS) (H : Heap) (locs : List Loc), F g1 = some r → gH E A LC LS s g1 H locs → W p l e R s m args below meth c H locs (H.size - s.heap.size) (tot H - tot s.heap) Q (F0 m (pc + 3) ls rest)) : W p l e R s m args below meth c H locs cells slots Q (F0 m pc ls (va_rf v :: .ref a :: rest)) := by
  obtain ⟨g1, h1, h2⟩ := bd1_some h
  obtain ⟨⟨c1, c2⟩, h3⟩ := oif h1
  cases h3
  have ht : (gK g a).1 = 5 := by omega
  have hc := gcell_5 (E := E) ht
  refine gb_putF (D := eD E) (ci := 4) (C := RX5) (T := TX5) (N := 40) (ty := tyX5 4) S.1 S.2.1 S.2.2.2.2 in_X5 tyX5 tyX5_ok nmX5 S.2.2.2.1 X.1 (hw.1.2.1 _ _ hc).1 rfl 4 (by decide) (S.2.2.2.2 _ q1798) (fun _ h9 => h9) rfl hin2 rfl (tyX5_ok 4 (by decide)) (rf_fit rfl v).1 (rf_fit rfl v).2 (Nat.le_of_ble_eq_true rfl) hd (fun H1 k1 e1 z1 t1 o1 => ?_)
  exact W.canon (kk _ H1 _ h2 ⟨gB.sR hw.1 hc (gce_sR.trans (gcc_5 ht)) e1 z1 t1 o1 (by omega) (by omega), hw.2.put z1 o1 (hw.1.2.1 _ _ hc).2⟩)
theorem gpX5_27 {v : Option Nat} {F : GS → Option β} (S : CallFix p m c cc nL s args lw_all RX5) (X : gCtx E A s) (hw : gH E A LC LS s g H locs) (hin2 : meth.name = "<init>") (hd : decode cc pc = .ok (.putfield 27, 3)) (h : bd1 (pR g a 5 5 5 v) F = some r) (kk : ∀ (g1 : GS) (H : Heap) (locs : List Loc), F g1 = some r → gH E A LC LS s g1 H locs → W p l e R s m args below meth c H locs (H.size - s.heap.size) (tot H - tot s.heap) Q (F0 m (pc + 3) ls rest)) : W p l e R s m args below meth c H locs cells slots Q (F0 m pc ls (va_rf v :: .ref a :: rest)) := by
  obtain ⟨g1, h1, h2⟩ := bd1_some h
  obtain ⟨⟨c1, c2⟩, h3⟩ := oif h1
  cases h3
  have ht : (gK g a).1 = 5 := by omega
  have hc := gcell_5 (E := E) ht
  refine gb_putF (D := eD E) (ci := 4) (C := RX5) (T := TX5) (N := 40) (ty := tyX5 5) S.1 S.2.1 S.2.2.2.2 in_X5 tyX5 tyX5_ok nmX5 S.2.2.2.1 X.1 (hw.1.2.1 _ _ hc).1 rfl 5 (by decide) (S.2.2.2.2 _ q1799) (fun _ h9 => h9) rfl hin2 rfl (tyX5_ok 5 (by decide)) (rf_fit rfl v).1 (rf_fit rfl v).2 (Nat.le_of_ble_eq_true rfl) hd (fun H1 k1 e1 z1 t1 o1 => ?_)
  exact W.canon (kk _ H1 _ h2 ⟨gB.sR hw.1 hc (gce_sR.trans (gcc_5 ht)) e1 z1 t1 o1 (by omega) (by omega), hw.2.put z1 o1 (hw.1.2.1 _ _ hc).2⟩)
theorem gpX5_30 {v : Option Nat} {F : GS → Option β} (S : CallFix p m c cc nL s args lw_all RX5) (X : gCtx E A s) (hw : gH E A LC LS s g H locs) (hin2 : meth.name = "<init>") (hd : decode cc pc = .ok (.putfield 30, 3)) (h : bd1 (pR g a 5 5 6 v) F = some r) (kk : ∀ (g1 : GS) (H : Heap) (locs : List Loc), F g1 = some r → gH E A LC LS s g1 H locs → W p l e R s m args below meth c H locs (H.size - s.heap.size) (tot H - tot s.heap) Q (F0 m (pc + 3) ls rest)) : W p l e R s m args below meth c H locs cells slots Q (F0 m pc ls (va_rf v :: .ref a :: rest)) := by
  obtain ⟨g1, h1, h2⟩ := bd1_some h
  obtain ⟨⟨c1, c2⟩, h3⟩ := oif h1
  cases h3
  have ht : (gK g a).1 = 5 := by omega
  have hc := gcell_5 (E := E) ht
  refine gb_putF (D := eD E) (ci := 4) (C := RX5) (T := TX5) (N := 40) (ty := tyX5 6) S.1 S.2.1 S.2.2.2.2 in_X5 tyX5 tyX5_ok nmX5 S.2.2.2.1 X.1 (hw.1.2.1 _ _ hc).1 rfl 6 (by decide) (S.2.2.2.2 _ q1800) (fun _ h9 => h9) rfl hin2 rfl (tyX5_ok 6 (by decide)) (rf_fit rfl v).1 (rf_fit rfl v).2 (Nat.le_of_ble_eq_true rfl) hd (fun H1 k1 e1 z1 t1 o1 => ?_)
  exact W.canon (kk _ H1 _ h2 ⟨gB.sR hw.1 hc (gce_sR.trans (gcc_5 ht)) e1 z1 t1 o1 (by omega) (by omega), hw.2.put z1 o1 (hw.1.2.1 _ _ hc).2⟩)
theorem gpX5_108 {v : Option Nat} {F : GS → Option β} (S : CallFix p m c cc nL s args lw_all RX5) (X : gCtx E A s) (hw : gH E A LC LS s g H locs) (hin2 : meth.name = "<init>") (hd : decode cc pc = .ok (.putfield 108, 3)) (h : bd1 (pR g a 5 5 9 v) F = some r) (kk : ∀ (g1 : GS) (H : Heap) (locs : List Loc), F g1 = some r → gH E A LC LS s g1 H locs → W p l e R s m args below meth c H locs (H.size - s.heap.size) (tot H - tot s.heap) Q (F0 m (pc + 3) ls rest)) : W p l e R s m args below meth c H locs cells slots Q (F0 m pc ls (va_rf v :: .ref a :: rest)) := by
  obtain ⟨g1, h1, h2⟩ := bd1_some h
  obtain ⟨⟨c1, c2⟩, h3⟩ := oif h1
  cases h3
  have ht : (gK g a).1 = 5 := by omega
  have hc := gcell_5 (E := E) ht
  refine gb_putF (D := eD E) (ci := 4) (C := RX5) (T := TX5) (N := 40) (ty := tyX5 9) S.1 S.2.1 S.2.2.2.2 in_X5 tyX5 tyX5_ok nmX5 S.2.2.2.1 X.1 (hw.1.2.1 _ _ hc).1 rfl 9 (by decide) (S.2.2.2.2 _ q1803) (fun _ h9 => h9) rfl hin2 rfl (tyX5_ok 9 (by decide)) (rf_fit rfl v).1 (rf_fit rfl v).2 (Nat.le_of_ble_eq_true rfl) hd (fun H1 k1 e1 z1 t1 o1 => ?_)
  exact W.canon (kk _ H1 _ h2 ⟨gB.sR hw.1 hc (gce_sR.trans (gcc_5 ht)) e1 z1 t1 o1 (by omega) (by omega), hw.2.put z1 o1 (hw.1.2.1 _ _ hc).2⟩)
theorem gpX5_111 {v : Option Nat} {F : GS → Option β} (S : CallFix p m c cc nL s args lw_all RX5) (X : gCtx E A s) (hw : gH E A LC LS s g H locs) (hin2 : meth.name = "<init>") (hd : decode cc pc = .ok (.putfield 111, 3)) (h : bd1 (pR g a 5 5 10 v) F = some r) (kk : ∀ (g1 : GS) (H : Heap) (locs : List Loc), F g1 = some r → gH E A LC LS s g1 H locs → W p l e R s m args below meth c H locs (H.size - s.heap.size) (tot H - tot s.heap) Q (F0 m (pc + 3) ls rest)) : W p l e R s m args below meth c H locs cells slots Q (F0 m pc ls (va_rf v :: .ref a :: rest)) := by
  obtain ⟨g1, h1, h2⟩ := bd1_some h
  obtain ⟨⟨c1, c2⟩, h3⟩ := oif h1
  cases h3
  have ht : (gK g a).1 = 5 := by omega
  have hc := gcell_5 (E := E) ht
  refine gb_putF (D := eD E) (ci := 4) (C := RX5) (T := TX5) (N := 40) (ty := tyX5 10) S.1 S.2.1 S.2.2.2.2 in_X5 tyX5 tyX5_ok nmX5 S.2.2.2.1 X.1 (hw.1.2.1 _ _ hc).1 rfl 10 (by decide) (S.2.2.2.2 _ q1804) (fun _ h9 => h9) rfl hin2 rfl (tyX5_ok 10 (by decide)) (rf_fit rfl v).1 (rf_fit rfl v).2 (Nat.le_of_ble_eq_true rfl) hd (fun H1 k1 e1 z1 t1 o1 => ?_)
  exact W.canon (kk _ H1 _ h2 ⟨gB.sR hw.1 hc (gce_sR.trans (gcc_5 ht)) e1 z1 t1 o1 (by omega) (by omega), hw.2.put z1 o1 (hw.1.2.1 _ _ hc).2⟩)
theorem gpX5_114 {v : Option Nat} {F : GS → Option β} (S : CallFix p m c cc nL s args lw_all RX5) (X : gCtx E A s) (hw : gH E A LC LS s g H locs) (hin2 : meth.name = "<init>") (hd : decode cc pc = .ok (.putfield 114, 3)) (h : bd1 (pR g a 5 5 11 v) F = some r) (kk : ∀ (g1 : GS) (H : Heap) (locs : List Loc), F g1 = some r → gH E A LC LS s g1 H locs → W p l e R s m args below meth c H locs (H.size - s.heap.size) (tot H - tot s.heap) Q (F0 m (pc + 3) ls rest)) : W p l e R s m args below meth c H locs cells slots Q (F0 m pc ls (va_rf v :: .ref a :: rest)) := by
  obtain ⟨g1, h1, h2⟩ := bd1_some h
  obtain ⟨⟨c1, c2⟩, h3⟩ := oif h1
  cases h3
  have ht : (gK g a).1 = 5 := by omega
  have hc := gcell_5 (E := E) ht
  refine gb_putF (D := eD E) (ci := 4) (C := RX5) (T := TX5) (N := 40) (ty := tyX5 11) S.1 S.2.1 S.2.2.2.2 in_X5 tyX5 tyX5_ok nmX5 S.2.2.2.1 X.1 (hw.1.2.1 _ _ hc).1 rfl 11 (by decide) (S.2.2.2.2 _ q1805) (fun _ h9 => h9) rfl hin2 rfl (tyX5_ok 11 (by decide)) (rf_fit rfl v).1 (rf_fit rfl v).2 (Nat.le_of_ble_eq_true rfl) hd (fun H1 k1 e1 z1 t1 o1 => ?_)
  exact W.canon (kk _ H1 _ h2 ⟨gB.sR hw.1 hc (gce_sR.trans (gcc_5 ht)) e1 z1 t1 o1 (by omega) (by omega), hw.2.put z1 o1 (hw.1.2.1 _ _ hc).2⟩)
theorem gpX5_117 {v : Option Nat} {F : GS → Option β} (S : CallFix p m c cc nL s args lw_all RX5) (X : gCtx E A s) (hw : gH E A LC LS s g H locs) (hin2 : meth.name = "<init>") (hd : decode cc pc = .ok (.putfield 117, 3)) (h : bd1 (pR g a 5 5 12 v) F = some r) (kk : ∀ (g1 : GS) (H : Heap) (locs : List Loc), F g1 = some r → gH E A LC LS s g1 H locs → W p l e R s m args below meth c H locs (H.size - s.heap.size) (tot H - tot s.heap) Q (F0 m (pc + 3) ls rest)) : W p l e R s m args below meth c H locs cells slots Q (F0 m pc ls (va_rf v :: .ref a :: rest)) := by
  obtain ⟨g1, h1, h2⟩ := bd1_some h
  obtain ⟨⟨c1, c2⟩, h3⟩ := oif h1
  cases h3
  have ht : (gK g a).1 = 5 := by omega
  have hc := gcell_5 (E := E) ht
  refine gb_putF (D := eD E) (ci := 4) (C := RX5) (T := TX5) (N := 40) (ty := tyX5 12) S.1 S.2.1 S.2.2.2.2 in_X5 tyX5 tyX5_ok nmX5 S.2.2.2.1 X.1 (hw.1.2.1 _ _ hc).1 rfl 12 (by decide) (S.2.2.2.2 _ q1806) (fun _ h9 => h9) rfl hin2 rfl (tyX5_ok 12 (by decide)) (rf_fit rfl v).1 (rf_fit rfl v).2 (Nat.le_of_ble_eq_true rfl) hd (fun H1 k1 e1 z1 t1 o1 => ?_)
  exact W.canon (kk _ H1 _ h2 ⟨gB.sR hw.1 hc (gce_sR.trans (gcc_5 ht)) e1 z1 t1 o1 (by omega) (by omega), hw.2.put z1 o1 (hw.1.2.1 _ _ hc).2⟩)
theorem gpX5_120 {v : Option Nat} {F : GS → Option β} (S : CallFix p m c cc nL s args lw_all RX5) (X : gCtx E A s) (hw : gH E A LC LS s g H locs) (hin2 : meth.name = "<init>") (hd : decode cc pc = .ok (.putfield 120, 3)) (h : bd1 (pR g a 5 5 14 v) F = some r) (kk : ∀ (g1 : GS) (H : Heap) (locs : List Loc), F g1 = some r → gH E A LC LS s g1 H locs → W p l e R s m args below meth c H locs (H.size - s.heap.size) (tot H - tot s.heap) Q (F0 m (pc + 3) ls rest)) : W p l e R s m args below meth c H locs cells slots Q (F0 m pc ls (va_rf v :: .ref a :: rest)) := by
  obtain ⟨g1, h1, h2⟩ := bd1_some h
  obtain ⟨⟨c1, c2⟩, h3⟩ := oif h1
  cases h3
  have ht : (gK g a).1 = 5 := by omega
  have hc := gcell_5 (E := E) ht
  refine gb_putF (D := eD E) (ci := 4) (C := RX5) (T := TX5) (N := 40) (ty := tyX5 14) S.1 S.2.1 S.2.2.2.2 in_X5 tyX5 tyX5_ok nmX5 S.2.2.2.1 X.1 (hw.1.2.1 _ _ hc).1 rfl 14 (by decide) (S.2.2.2.2 _ q1808) (fun _ h9 => h9) rfl hin2 rfl (tyX5_ok 14 (by decide)) (rf_fit rfl v).1 (rf_fit rfl v).2 (Nat.le_of_ble_eq_true rfl) hd (fun H1 k1 e1 z1 t1 o1 => ?_)
  exact W.canon (kk _ H1 _ h2 ⟨gB.sR hw.1 hc (gce_sR.trans (gcc_5 ht)) e1 z1 t1 o1 (by omega) (by omega), hw.2.put z1 o1 (hw.1.2.1 _ _ hc).2⟩)
theorem gpX5_123 {v : Option Nat} {F : GS → Option β} (S : CallFix p m c cc nL s args lw_all RX5) (X : gCtx E A s) (hw : gH E A LC LS s g H locs) (hin2 : meth.name = "<init>") (hd : decode cc pc = .ok (.putfield 123, 3)) (h : bd1 (pR g a 5 5 15 v) F = some r) (kk : ∀ (g1 : GS) (H : Heap) (locs : List Loc), F g1 = some r → gH E A LC LS s g1 H locs → W p l e R s m args below meth c H locs (H.size - s.heap.size) (tot H - tot s.heap) Q (F0 m (pc + 3) ls rest)) : W p l e R s m args below meth c H locs cells slots Q (F0 m pc ls (va_rf v :: .ref a :: rest)) := by
  obtain ⟨g1, h1, h2⟩ := bd1_some h
  obtain ⟨⟨c1, c2⟩, h3⟩ := oif h1
  cases h3
  have ht : (gK g a).1 = 5 := by omega
  have hc := gcell_5 (E := E) ht
  refine gb_putF (D := eD E) (ci := 4) (C := RX5) (T := TX5) (N := 40) (ty := tyX5 15) S.1 S.2.1 S.2.2.2.2 in_X5 tyX5 tyX5_ok nmX5 S.2.2.2.1 X.1 (hw.1.2.1 _ _ hc).1 rfl 15 (by decide) (S.2.2.2.2 _ q1809) (fun _ h9 => h9) rfl hin2 rfl (tyX5_ok 15 (by decide)) (rf_fit rfl v).1 (rf_fit rfl v).2 (Nat.le_of_ble_eq_true rfl) hd (fun H1 k1 e1 z1 t1 o1 => ?_)
  exact W.canon (kk _ H1 _ h2 ⟨gB.sR hw.1 hc (gce_sR.trans (gcc_5 ht)) e1 z1 t1 o1 (by omega) (by omega), hw.2.put z1 o1 (hw.1.2.1 _ _ hc).2⟩)
theorem gpX5_126 {v : Option Nat} {F : GS → Option β} (S : CallFix p m c cc nL s args lw_all RX5) (X : gCtx E A s) (hw : gH E A LC LS s g H locs) (hin2 : meth.name = "<init>") (hd : decode cc pc = .ok (.putfield 126, 3)) (h : bd1 (pR g a 5 5 16 v) F = some r) (kk : ∀ (g1 : GS) (H : Heap) (locs : List Loc), F g1 = some r → gH E A LC LS s g1 H locs → W p l e R s m args below meth c H locs (H.size - s.heap.size) (tot H - tot s.heap) Q (F0 m (pc + 3) ls rest)) : W p l e R s m args below meth c H locs cells slots Q (F0 m pc ls (va_rf v :: .ref a :: rest)) := by
  obtain ⟨g1, h1, h2⟩ := bd1_some h
  obtain ⟨⟨c1, c2⟩, h3⟩ := oif h1
  cases h3
  have ht : (gK g a).1 = 5 := by omega
  have hc := gcell_5 (E := E) ht
  refine gb_putF (D := eD E) (ci := 4) (C := RX5) (T := TX5) (N := 40) (ty := tyX5 16) S.1 S.2.1 S.2.2.2.2 in_X5 tyX5 tyX5_ok nmX5 S.2.2.2.1 X.1 (hw.1.2.1 _ _ hc).1 rfl 16 (by decide) (S.2.2.2.2 _ q1810) (fun _ h9 => h9) rfl hin2 rfl (tyX5_ok 16 (by decide)) (rf_fit rfl v).1 (rf_fit rfl v).2 (Nat.le_of_ble_eq_true rfl) hd (fun H1 k1 e1 z1 t1 o1 => ?_)
  exact W.canon (kk _ H1 _ h2 ⟨gB.sR hw.1 hc (gce_sR.trans (gcc_5 ht)) e1 z1 t1 o1 (by omega) (by omega), hw.2.put z1 o1 (hw.1.2.1 _ _ hc).2⟩)
theorem gpX5_129 {v : Option Nat} {F : GS → Option β} (S : CallFix p m c cc nL s args lw_all RX5) (X : gCtx E A s) (hw : gH E A LC LS s g H locs) (hin2 : meth.name = "<init>") (hd : decode cc pc = .ok (.putfield 129, 3)) (h : bd1 (pR g a 5 5 17 v) F = some r) (kk : ∀ (g1 : GS) (H : Heap) (locs : List Loc), F g1 = some r → gH E A LC LS s g1 H locs → W p l e R s m args below meth c H locs (H.size - s.heap.size) (tot H - tot s.heap) Q (F0 m (pc + 3) ls rest)) : W p l e R s m args below meth c H locs cells slots Q (F0 m pc ls (va_rf v :: .ref a :: rest)) := by
  obtain ⟨g1, h1, h2⟩ := bd1_some h
  obtain ⟨⟨c1, c2⟩, h3⟩ := oif h1
  cases h3
  have ht : (gK g a).1 = 5 := by omega
  have hc := gcell_5 (E := E) ht
  refine gb_putF (D := eD E) (ci := 4) (C := RX5) (T := TX5) (N := 40) (ty := tyX5 17) S.1 S.2.1 S.2.2.2.2 in_X5 tyX5 tyX5_ok nmX5 S.2.2.2.1 X.1 (hw.1.2.1 _ _ hc).1 rfl 17 (by decide) (S.2.2.2.2 _ q1811) (fun _ h9 => h9) rfl hin2 rfl (tyX5_ok 17 (by decide)) (rf_fit rfl v).1 (rf_fit rfl v).2 (Nat.le_of_ble_eq_true rfl) hd (fun H1 k1 e1 z1 t1 o1 => ?_)
  exact W.canon (kk _ H1 _ h2 ⟨gB.sR hw.1 hc (gce_sR.trans (gcc_5 ht)) e1 z1 t1 o1 (by omega) (by omega), hw.2.put z1 o1 (hw.1.2.1 _ _ hc).2⟩)
theorem gpX5_132 {v : Option Nat} {F : GS → Option β} (S : CallFix p m c cc nL s args lw_all RX5) (X : gCtx E A s) (hw : gH E A LC LS s g H locs) (hin2 : meth.name = "<init>") (hd : decode cc pc = .ok (.putfield 132, 3)) (h : bd1 (pR g a 5 5 22 v) F = some r) (kk : ∀ (g1 : GS) (H : Heap) (locs : List Loc), F g1 = some r → gH E A LC LS s g1 H locs → W p l e R s m args below meth c H locs (H.size - s.heap.size) (tot H - tot s.heap) Q (F0 m (pc + 3) ls rest)) : W p l e R s m args below meth c H locs cells slots Q (F0 m pc ls (va_rf v :: .ref a :: rest)) := by
  obtain ⟨g1, h1, h2⟩ := bd1_some h
  obtain ⟨⟨c1, c2⟩, h3⟩ := oif h1
  cases h3
  have ht : (gK g a).1 = 5 := by omega
  have hc := gcell_5 (E := E) ht
  refine gb_putF (D := eD E) (ci := 4) (C := RX5) (T := TX5) (N := 40) (ty := tyX5 22) S.1 S.2.1 S.2.2.2.2 in_X5 tyX5 tyX5_ok nmX5 S.2.2.2.1 X.1 (hw.1.2.1 _ _ hc).1 rfl 22 (by decide) (S.2.2.2.2 _ q1816) (fun _ h9 => h9) rfl hin2 rfl (tyX5_ok 22 (by decide)) (rf_fit rfl v).1 (rf_fit rfl v).2 (Nat.le_of_ble_eq_true rfl) hd (fun H1 k1 e1 z1 t1 o1 => ?_)
  exact W.canon (kk _ H1 _ h2 ⟨gB.sR hw.1 hc (gce_sR.trans (gcc_5 ht)) e1 z1 t1 o1 (by omega) (by omega), hw.2.put z1 o1 (hw.1.2.1 _ _ hc).2⟩)
theorem gpX5_135 {v : Option Nat} {F : GS → Option β} (S : CallFix p m c cc nL s args lw_all RX5) (X : gCtx E A s) (hw : gH E A LC LS s g H locs) (hin2 : meth.name = "<init>") (hd : decode cc pc = .ok (.putfield 135, 3)) (h : bd1 (pR g a 5 5 23 v) F = some r) (kk : ∀ (g1 : GS) (H : Heap) (locs : List Loc), F g1 = some r → gH E A LC LS s g1 H locs → W p l e R s m args below meth c H locs (H.size - s.heap.size) (tot H - tot s.heap) Q (F0 m (pc + 3) ls rest)) : W p l e R s m args below meth c H locs cells slots Q (F0 m pc ls (va_rf v :: .ref a :: rest)) := by
  obtain ⟨g1, h1, h2⟩ := bd1_some h
  obtain ⟨⟨c1, c2⟩, h3⟩ := oif h1
  cases h3
  have ht : (gK g a).1 = 5 := by omega
  have hc := gcell_5 (E := E) ht
  refine gb_putF (D := eD E) (ci := 4) (C := RX5) (T := TX5) (N := 40) (ty := tyX5 23) S.1 S.2.1 S.2.2.2.2 in_X5 tyX5 tyX5_ok nmX5 S.2.2.2.1 X.1 (hw.1.2.1 _ _ hc).1 rfl 23 (by decide) (S.2.2.2.2 _ q1817) (fun _ h9 => h9) rfl hin2 rfl (tyX5_ok 23 (by decide)) (rf_fit rfl v).1 (rf_fit rfl v).2 (Nat.le_of_ble_eq_true rfl) hd (fun H1 k1 e1 z1 t1 o1 => ?_)
  exact W.canon (kk _ H1 _ h2 ⟨gB.sR hw.1 hc (gce_sR.trans (gcc_5 ht)) e1 z1 t1 o1 (by omega) (by omega), hw.2.put z1 o1 (hw.1.2.1 _ _ hc).2⟩)
theorem gpX5_138 {v : Option Nat} {F : GS → Option β} (S : CallFix p m c cc nL s args lw_all RX5) (X : gCtx E A s) (hw : gH E A LC LS s g H locs) (hin2 : meth.name = "<init>") (hd : decode cc pc = .ok (.putfield 138, 3)) (h : bd1 (pR g a 5 5 24 v) F = some r) (kk : ∀ (g1 : GS) (H : Heap) (locs : List Loc), F g1 = some r → gH E A LC LS s g1 H locs → W p l e R s m args below meth c H locs (H.size - s.heap.size) (tot H - tot s.heap) Q (F0 m (pc + 3) ls rest)) : W p l e R s m args below meth c H locs cells slots Q (F0 m pc ls (va_rf v :: .ref a :: rest)) := by
  obtain ⟨g1, h1, h2⟩ := bd1_some h
  obtain ⟨⟨c1, c2⟩, h3⟩ := oif h1
  cases h3
  have ht : (gK g a).1 = 5 := by omega
  have hc := gcell_5 (E := E) ht
  refine gb_putF (D := eD E) (ci := 4) (C := RX5) (T := TX5) (N := 40) (ty := tyX5 24) S.1 S.2.1 S.2.2.2.2 in_X5 tyX5 tyX5_ok nmX5 S.2.2.2.1 X.1 (hw.1.2.1 _ _ hc).1 rfl 24 (by decide) (S.2.2.2.2 _ q1818) (fun _ h9 => h9) rfl hin2 rfl (tyX5_ok 24 (by decide)) (rf_fit rfl v).1 (rf_fit rfl v).2 (Nat.le_of_ble_eq_true rfl) hd (fun H1 k1 e1 z1 t1 o1 => ?_)
  exact W.canon (kk _ H1 _ h2 ⟨gB.sR hw.1 hc (gce_sR.trans (gcc_5 ht)) e1 z1 t1 o1 (by omega) (by omega), hw.2.put z1 o1 (hw.1.2.1 _ _ hc).2⟩)
theorem gpX5_141 {v : Option Nat} {F : GS → Option β} (S : CallFix p m c cc nL s args lw_all RX5) (X : gCtx E A s) (hw : gH E A LC LS s g H locs) (hin2 : meth.name = "<init>") (hd : decode cc pc = .ok (.putfield 141, 3)) (h : bd1 (pR g a 5 5 25 v) F = some r) (kk : ∀ (g1 : GS) (H : Heap) (locs : List Loc), F g1 = some r → gH E A LC LS s g1 H locs → W p l e R s m args below meth c H locs (H.size - s.heap.size) (tot H - tot s.heap) Q (F0 m (pc + 3) ls rest)) : W p l e R s m args below meth c H locs cells slots Q (F0 m pc ls (va_rf v :: .ref a :: rest)) := by
  obtain ⟨g1, h1, h2⟩ := bd1_some h
  obtain ⟨⟨c1, c2⟩, h3⟩ := oif h1
  cases h3
  have ht : (gK g a).1 = 5 := by omega
  have hc := gcell_5 (E := E) ht
  refine gb_putF (D := eD E) (ci := 4) (C := RX5) (T := TX5) (N := 40) (ty := tyX5 25) S.1 S.2.1 S.2.2.2.2 in_X5 tyX5 tyX5_ok nmX5 S.2.2.2.1 X.1 (hw.1.2.1 _ _ hc).1 rfl 25 (by decide) (S.2.2.2.2 _ q1819) (fun _ h9 => h9) rfl hin2 rfl (tyX5_ok 25 (by decide)) (rf_fit rfl v).1 (rf_fit rfl v).2 (Nat.le_of_ble_eq_true rfl) hd (fun H1 k1 e1 z1 t1 o1 => ?_)
  exact W.canon (kk _ H1 _ h2 ⟨gB.sR hw.1 hc (gce_sR.trans (gcc_5 ht)) e1 z1 t1 o1 (by omega) (by omega), hw.2.put z1 o1 (hw.1.2.1 _ _ hc).2⟩)
theorem gpX5_144 {v : Option Nat} {F : GS → Option β} (S : CallFix p m c cc nL s args lw_all RX5) (X : gCtx E A s) (hw : gH E A LC LS s g H locs) (hin2 : meth.name = "<init>") (hd : decode cc pc = .ok (.putfield 144, 3)) (h : bd1 (pR g a 5 5 27 v) F = some r) (kk : ∀ (g1 : GS) (H : Heap) (locs : List Loc), F g1 = some r → gH E A LC LS s g1 H locs → W p l e R s m args below meth c H locs (H.size - s.heap.size) (tot H - tot s.heap) Q (F0 m (pc + 3) ls rest)) : W p l e R s m args below meth c H locs cells slots Q (F0 m pc ls (va_rf v :: .ref a :: rest)) := by
  obtain ⟨g1, h1, h2⟩ := bd1_some h
  obtain ⟨⟨c1, c2⟩, h3⟩ := oif h1
  cases h3
  have ht : (gK g a).1 = 5 := by omega
  have hc := gcell_5 (E := E) ht
  refine gb_putF (D := eD E) (ci := 4) (C := RX5) (T := TX5) (N := 40) (ty := tyX5 27) S.1 S.2.1 S.2.2.2.2 in_X5 tyX5 tyX5_ok nmX5 S.2.2.2.1 X.1 (hw.1.2.1 _ _ hc).1 rfl 27 (by decide) (S.2.2.2.2 _ q1821) (fun _ h9 => h9) rfl hin2 rfl (tyX5_ok 27 (by decide)) (rf_fit rfl v).1 (rf_fit rfl v).2 (Nat.le_of_ble_eq_true rfl) hd (fun H1 k1 e1 z1 t1 o1 => ?_)
  exact W.canon (kk _ H1 _ h2 ⟨gB.sR hw.1 hc (gce_sR.trans (gcc_5 ht)) e1 z1 t1 o1 (by omega) (by omega), hw.2.put z1 o1 (hw.1.2.1 _ _ hc).2⟩)
theorem gpX5_148 {v : Option Nat} {F : GS → Option β} (S : CallFix p m c cc nL s args lw_all RX5) (X : gCtx E A s) (hw : gH E A LC LS s g H locs) (hin2 : meth.name = "<init>") (hd : decode cc pc = .ok (.putfield 148, 3)) (h : bd1 (pR g a 5 5 29 v) F = some r) (kk : ∀ (g1 : GS) (H : Heap) (locs : List Loc), F g1 = some r → gH E A LC LS s g1 H locs → W p l e R s m args below meth c H locs (H.size - s.heap.size) (tot H - tot s.heap) Q (F0 m (pc + 3) ls rest)) : W p l e R s m args below meth c H locs cells slots Q (F0 m pc ls (va_rf v :: .ref a :: rest)) := by
  obtain ⟨g1, h1, h2⟩ := bd1_some h
  obtain ⟨⟨c1, c2⟩, h3⟩ := oif h1
  cases h3
  have ht : (gK g a).1 = 5 := by omega
  have hc := gcell_5 (E := E) ht
  refine gb_putF (D := eD E) (ci := 4) (C := RX5) (T := TX5) (N := 40) (ty := tyX5 29) S.1 S.2.1 S.2.2.2.2 in_X5 tyX5 tyX5_ok nmX5 S.2.2.2.1 X.1 (hw.1.2.1 _ _ hc).1 rfl 29 (by decide) (S.2.2.2.2 _ q1823) (fun _ h9 => h9) rfl hin2 rfl (tyX5_ok 29 (by decide)) (rf_fit rfl v).1 (rf_fit rfl v).2 (Nat.le_of_ble_eq_true rfl) hd (fun H1 k1 e1 z1 t1 o1 => ?_)
  exact W.canon (kk _ H1 _ h2 ⟨gB.sR hw.1 hc (gce_sR.trans (gcc_5 ht)) e1 z1 t1 o1 (by omega) (by omega), hw.2.put z1 o1 (hw.1.2.1 _ _ hc).2⟩)
theorem gpX5_151 {v : Option Nat} {F : GS → Option β} (S : CallFix p m c cc nL s args lw_all RX5) (X : gCtx E A s) (hw : gH E A LC LS s g H locs) (hin2 : meth.name = "<init>") (hd : decode cc pc = .ok (.putfield 151, 3)) (h : bd1 (pR g a 5 5 30 v) F = some r) (kk : ∀ (g1 : GS) (H : Heap) (locs : List Loc), F g1 = some r → gH E A LC LS s g1 H locs → W p l e R s m args below meth c H locs (H.size - s.heap.size) (tot H - tot s.heap) Q (F0 m (pc + 3) ls rest)) : W p l e R s m args below meth c H locs cells slots Q (F0 m pc ls (va_rf v :: .ref a :: rest)) := by
  obtain ⟨g1, h1, h2⟩ := bd1_some h
  obtain ⟨⟨c1, c2⟩, h3⟩ := oif h1
  cases h3
  have ht : (gK g a).1 = 5 := by omega
  have hc := gcell_5 (E := E) ht
  refine gb_putF (D := eD E) (ci := 4) (C := RX5) (T := TX5) (N := 40) (ty := tyX5 30) S.1 S.2.1 S.2.2.2.2 in_X5 tyX5 tyX5_ok nmX5 S.2.2.2.1 X.1 (hw.1.2.1 _ _ hc).1 rfl 30 (by decide) (S.2.2.2.2 _ q1824) (fun _ h9 => h9) rfl hin2 rfl (tyX5_ok 30 (by decide)) (rf_fit rfl v).1 (rf_fit rfl v).2 (Nat.le_of_ble_eq_true rfl) hd (fun H1 k1 e1 z1 t1 o1 => ?_)
  exact W.canon (kk _ H1 _ h2 ⟨gB.sR hw.1 hc (gce_sR.trans (gcc_5 ht)) e1 z1 t1 o1 (by omega) (by omega), hw.2.put z1 o1 (hw.1.2.1 _ _ hc).2⟩)
theorem gpX5_154 {v : Option Nat} {F : GS → Option β} (S : CallFix p m c cc nL s args lw_all RX5) (X : gCtx E A s) (hw : gH E A LC LS s g H locs) (hin2 : meth.name = "<init>") (hd : decode cc pc = .ok (.putfield 154, 3)) (h : bd1 (pR g a 5 5 32 v) F = some r) (kk : ∀ (g1 : GS) (H : Heap) (locs : List Loc), F g1 = some r → gH E A LC LS s g1 H locs → W p l e R s m args below meth c H locs (H.size - s.heap.size) (tot H - tot s.heap) Q (F0 m (pc + 3) ls rest)) : W p l e R s m args below meth c H locs cells slots Q (F0 m pc ls (va_rf v :: .ref a :: rest)) := by
  obtain ⟨g1, h1, h2⟩ := bd1_some h
  obtain ⟨⟨c1, c2⟩, h3⟩ := oif h1
  cases h3
  have ht : (gK g a).1 = 5 := by omega
  have hc := gcell_5 (E := E) ht
  refine gb_putF (D := eD E) (ci := 4) (C := RX5) (T := TX5) (N := 40) (ty := tyX5 32) S.1 S.2.1 S.2.2.2.2 in_X5 tyX5 tyX5_ok nmX5 S.2.2.2.1 X.1 (hw.1.2.1 _ _ hc).1 rfl 32 (by decide) (S.2.2.2.2 _ q1826) (fun _ h9 => h9) rfl hin2 rfl (tyX5_ok 32 (by decide)) (rf_fit rfl v).1 (rf_fit rfl v).2 (Nat.le_of_ble_eq_true rfl) hd (fun H1 k1 e1 z1 t1 o1 => ?_)
  exact W.canon (kk _ H1 _ h2 ⟨gB.sR hw.1 hc (gce_sR.trans (gcc_5 ht)) e1 z1 t1 o1 (by omega) (by omega), hw.2.put z1 o1 (hw.1.2.1 _ _ hc).2⟩)
theorem gpX5_157 {v : Option Nat} {F : GS → Option β} (S : CallFix p m c cc nL s args lw_all RX5) (X : gCtx E A s) (hw : gH E A LC LS s g H locs) (hin2 : meth.name = "<init>") (hd : decode cc pc = .ok (.putfield 157, 3)) (h : bd1 (pR g a 5 5 33 v) F = some r) (kk : ∀ (g1 : GS) (H : Heap) (locs : List Loc), F g1 = some r → gH E A LC LS s g1 H locs → W p l e R s m args below meth c H locs (H.size - s.heap.size) (tot H - tot s.heap) Q (F0 m (pc + 3) ls rest)) : W p l e R s m args below meth c H locs cells slots Q (F0 m pc ls (va_rf v :: .ref a :: rest)) := by
  obtain ⟨g1, h1, h2⟩ := bd1_some h
  obtain ⟨⟨c1, c2⟩, h3⟩ := oif h1
  cases h3
  have ht : (gK g a).1 = 5 := by omega
  have hc := gcell_5 (E := E) ht
  refine gb_putF (D := eD E) (ci := 4) (C := RX5) (T := TX5) (N := 40) (ty := tyX5 33) S.1 S.2.1 S.2.2.2.2 in_X5 tyX5 tyX5_ok nmX5 S.2.2.2.1 X.1 (hw.1.2.1 _ _ hc).1 rfl 33 (by decide) (S.2.2.2.2 _ q1827) (fun _ h9 => h9) rfl hin2 rfl (tyX5_ok 33 (by decide)) (rf_fit rfl v).1 (rf_fit rfl v).2 (Nat.le_of_ble_eq_true rfl) hd (fun H1 k1 e1 z1 t1 o1 => ?_)
  exact W.canon (kk _ H1 _ h2 ⟨gB.sR hw.1 hc (gce_sR.trans (gcc_5 ht)) e1 z1 t1 o1 (by omega) (by omega), hw.2.put z1 o1 (hw.1.2.1 _ _ hc).2⟩)
theorem gpX5_160 {v : Option Nat} {F : GS → Option β} (S : CallFix p m c cc nL s args lw_all RX5) (X : gCtx E A s) (hw : gH E A LC LS s g H locs) (hin2 : meth.name = "<init>") (hd : decode cc pc = .ok (.putfield 160, 3)) (h : bd1 (pR g a 5 5 34 v) F = some r) (kk : ∀ (g1 : GS) (H : Heap) (locs : List Loc), F g1 = some r → gH E A LC LS s g1 H locs → W p l e R s m args below meth c H locs (H.size - s.heap.size) (tot H - tot s.heap) Q (F0 m (pc + 3) ls rest)) : W p l e R s m args below meth c H locs cells slots Q (F0 m pc ls (va_rf v :: .ref a :: rest)) := by
  obtain ⟨g1, h1, h2⟩ := bd1_some h
  obtain ⟨⟨c1, c2⟩, h3⟩ := oif h1
  cases h3
  have ht : (gK g a).1 = 5 := by omega
  have hc := gcell_5 (E := E) ht
  refine gb_putF (D := eD E) (ci := 4) (C := RX5) (T := TX5) (N := 40) (ty := tyX5 34) S.1 S.2.1 S.2.2.2.2 in_X5 tyX5 tyX5_ok nmX5 S.2.2.2.1 X.1 (hw.1.2.1 _ _ hc).1 rfl 34 (by decide) (S.2.2.2.2 _ q1828) (fun _ h9 => h9) rfl hin2 rfl (tyX5_ok 34 (by decide)) (rf_fit rfl v).1 (rf_fit rfl v).2 (Nat.le_of_ble_eq_true rfl) hd (fun H1 k1 e1 z1 t1 o1 => ?_)
  exact W.canon (kk _ H1 _ h2 ⟨gB.sR hw.1 hc (gce_sR.trans (gcc_5 ht)) e1 z1 t1 o1 (by omega) (by omega), hw.2.put z1 o1 (hw.1.2.1 _ _ hc).2⟩)
theorem gpX5_163 {v : Option Nat} {F : GS → Option β} (S : CallFix p m c cc nL s args lw_all RX5) (X : gCtx E A s) (hw : gH E A LC LS s g H locs) (hin2 : meth.name = "<init>") (hd : decode cc pc = .ok (.putfield 163, 3)) (h : bd1 (pR g a 5 5 35 v) F = some r) (kk : ∀ (g1 : GS) (H : Heap) (locs : List Loc), F g1 = some r → gH E A LC LS s g1 H locs → W p l e R s m args below meth c H locs (H.size - s.heap.size) (tot H - tot s.heap) Q (F0 m (pc + 3) ls rest)) : W p l e R s m args below meth c H locs cells slots Q (F0 m pc ls (va_rf v :: .ref a :: rest)) := by
  obtain ⟨g1, h1, h2⟩ := bd1_some h
  obtain ⟨⟨c1, c2⟩, h3⟩ := oif h1
  cases h3
  have ht : (gK g a).1 = 5 := by omega
  have hc := gcell_5 (E := E) ht
  refine gb_putF (D := eD E) (ci := 4) (C := RX5) (T := TX5) (N := 40) (ty := tyX5 35) S.1 S.2.1 S.2.2.2.2 in_X5 tyX5 tyX5_ok nmX5 S.2.2.2.1 X.1 (hw.1.2.1 _ _ hc).1 rfl 35 (by decide) (S.2.2.2.2 _ q1829) (fun _ h9 => h9) rfl hin2 rfl (tyX5_ok 35 (by decide)) (rf_fit rfl v).1 (rf_fit rfl v).2 (Nat.le_of_ble_eq_true rfl) hd (fun H1 k1 e1 z1 t1 o1 => ?_)
  exact W.canon (kk _ H1 _ h2 ⟨gB.sR hw.1 hc (gce_sR.trans (gcc_5 ht)) e1 z1 t1 o1 (by omega) (by omega), hw.2.put z1 o1 (hw.1.2.1 _ _ hc).2⟩)
theorem gpX5_166 {v : Option Nat} {F : GS → Option β} (S : CallFix p m c cc nL s args lw_all RX5) (X : gCtx E A s) (hw : gH E A LC LS s g H locs) (hin2 : meth.name = "<init>") (hd : decode cc pc = .ok (.putfield 166, 3)) (h : bd1 (pR g a 5 5 36 v) F = some r) (kk : ∀ (g1 : GS) (H : Heap) (locs : List Loc), F g1 = some r → gH E A LC LS s g1 H locs → W p l e R s m args below meth c H locs (H.size - s.heap.size) (tot H - tot s.heap) Q (F0 m (pc + 3) ls rest)) : W p l e R s m args below meth c H locs cells slots Q (F0 m pc ls (va_rf v :: .ref a :: rest)) := by
  obtain ⟨g1, h1, h2⟩ := bd1_some h
  obtain ⟨⟨c1, c2⟩, h3⟩ := oif h1
  cases h3
  have ht : (gK g a).1 = 5 := by omega
  have hc := gcell_5 (E := E) ht
  refine gb_putF (D := eD E) (ci := 4) (C := RX5) (T := TX5) (N := 40) (ty := tyX5 36) S.1 S.2.1 S.2.2.2.2 in_X5 tyX5 tyX5_ok nmX5 S.2.2.2.1 X.1 (hw.1.2.1 _ _ hc).1 rfl 36 (by decide) (S.2.2.2.2 _ q1830) (fun _ h9 => h9) rfl hin2 rfl (tyX5_ok 36 (by decide)) (rf_fit rfl v).1 (rf_fit rfl v).2 (Nat.le_of_ble_eq_true rfl) hd (fun H1 k1 e1 z1 t1 o1 => ?_)
  exact W.canon (kk _ H1 _ h2 ⟨gB.sR hw.1 hc (gce_sR.trans (gcc_5 ht)) e1 z1 t1 o1 (by omega) (by omega), hw.2.put z1 o1 (hw.1.2.1 _ _ hc).2⟩)
theorem ggJ13_15 {F : Nat → Option β} (S : CallFix p m c cc nL s args lw_all RJ13) (X : gCtx E A s) (hw : gH E A LC LS s g H locs) (hd : decode cc pc = .ok (.getfield 15, 3)) (h : bd1 (oRn g a 26 26 0) F = some r) (kk : ∀ v, F v = some r → W p l e R s m args below meth c H locs cells slots Q (F0 m (pc + 3) ls (.ref v :: rest))) : W p l e R s m args below meth c H locs cells slots Q (F0 m pc ls (.ref a :: rest)) := by
  obtain ⟨v, h1, h2⟩ := bd1_some h
  obtain ⟨⟨c1, c2⟩, h3⟩ := oif h1
  have ht : (gK g a).1 = 26 := by omega
  exact va_get (D := eD E) (ci := 25) (C := RJ14) (T := TJ14) (N := 4) S.1 S.2.1 S.2.2.2.2 in_J14 S.2.2.2.1 X.1 (va_one (hw.1.2.1 _ _ (gcell_26 ht)).1) 0 rfl rfl 0 (by decide) (S.2.2.2.2 _ q698) (fun _ h9 => h9) (by show some (va_rf (gR g a 0)) = some (.ref v); rw [h3]; rfl) hd (kk _ h2)
theorem ggJ13_15q {F : Option Nat → Option β} (S : CallFix p m c cc nL s args lw_all RJ13) (X : gCtx E A s) (hw : gH E A LC LS s g H locs) (hd : decode cc pc = .ok (.getfield 15, 3)) (h : bd1 (oR g a 26 26 0) F = some r) (kk : ∀ v, F v = some r → W p l e R s m args below meth c H locs cells slots Q (F0 m (pc + 3) ls (va_rf v :: rest))) : W p l e R s m args below meth c H locs cells slots Q (F0 m pc ls (.ref a :: rest)) := by
  obtain ⟨v, h1, h2⟩ := bd1_some h
  obtain ⟨⟨c1, c2⟩, h3⟩ := oif h1
  have ht : (gK g a).1 = 26 := by omega
  cases h3
  exact va_get (D := eD E) (ci := 25) (C := RJ14) (T := TJ14) (N := 4) S.1 S.2.1 S.2.2.2.2 in_J14 S.2.2.2.1 X.1 (va_one (hw.1.2.1 _ _ (gcell_26 ht)).1) 0 rfl rfl 0 (by decide) (S.2.2.2.2 _ q698) (fun _ h9 => h9) rfl hd (kk _ h2)
theorem gpJ13_15 {v : Option Nat} {F : GS → Option β} (S : CallFix p m c cc nL s args lw_all RJ13) (X : gCtx E A s) (hw : gH E A LC LS s g H locs) (hd : decode cc pc = .ok (.putfield 15, 3)) (h : bd1 (pR g a 26 26 0 v) F = some r) (kk : ∀ (g1 : GS) (H : Heap) (locs : List Loc), F g1 = some r → gH E A LC LS s g1 H locs → W p l e R s m args below meth c H locs (H.size - s.heap.size) (tot H - tot s.heap) Q (F0 m (pc + 3) ls rest)) : W p l e R s m args below meth c H locs cells slots Q (F0 m pc ls (va_rf v :: .ref a :: rest)) := by
  obtain ⟨g1, h1, h2⟩ := bd1_some h
  obtain ⟨⟨c1, c2⟩, h3⟩ := oif h1
  cases h3
  have ht : (gK g a).1 = 26 := by omega
  have hc := gcell_26 (E := E) ht
  refine gb_put (D := eD E) (ci := 25) (C := RJ14) (T := TJ14) (N := 4) (ty := tyJ14 0) S.1 S.2.1 S.2.2.2.2 in_J14 tyJ14 tyJ14_ok nmJ14 S.2.2.2.1 X.1 (hw.1.2.1 _ _ hc).1 rfl 0 (by decide) (S.2.2.2.2 _ q698) (fun _ h9 => h9) rfl (tyJ14_ok 0 (by decide)) (rf_fit rfl v).1 (rf_fit rfl v).2 (Nat.le_of_ble_eq_true rfl) hd (fun H1 k1 e1 z1 t1 o1 => ?_)
  exact W.canon (kk _ H1 _ h2 ⟨gB.sR hw.1 hc (gce_sR.trans (gcc_26 ht)) e1 z1 t1 o1 (by omega) (by omega), hw.2.put z1 o1 (hw.1.2.1 _ _ hc).2⟩)
theorem ggJ13_22 {F : Int32 → Option β} (S : CallFix p m c cc nL s args lw_all RJ13) (X : gCtx E A s) (hw : gH E A LC LS s g H locs) (hd : decode cc pc = .ok (.getfield 22, 3)) (h : bd1 (oI g a 26 26 1) F = some r) (kk : ∀ v, F v = some r → W p l e R s m args below meth c H locs cells slots Q (F0 m (pc + 3) ls (.int v :: rest))) : W p l e R s m args below meth c H locs cells slots Q (F0 m pc ls (.ref a :: rest)) := by
  obtain ⟨v, h1, h2⟩ := bd1_some h
  obtain ⟨⟨c1, c2⟩, h3⟩ := oif h1
  have ht : (gK g a).1 = 26 := by omega
  cases h3
  exact va_get (D := eD E) (ci := 25) (C := RJ14) (T := TJ14) (N := 4) S.1 S.2.1 S.2.2.2.2 in_J14 S.2.2.2.1 X.1 (va_one (hw.1.2.1 _ _ (gcell_26 ht)).1) 0 rfl rfl 1 (by decide) (S.2.2.2.2 _ q699) (fun _ h9 => h9) rfl hd (kk _ h2)
theorem gpJ13_22 {v : Int32} {F : GS → Option β} (S : CallFix p m c cc nL s args lw_all RJ13) (X : gCtx E A s) (hw : gH E A LC LS s g H locs) (hd : decode cc pc = .ok (.putfield 22, 3)) (hz : narrow .byte (.int v) = .int v ∧ fits .byte (.int v) = true) (h : bd1 (pI g a 26 26 1 v) F = some r) (kk : ∀ (g1 : GS) (H : Heap) (locs : List Loc), F g1 = some r → gH E A LC LS s g1 H locs → W p l e R s m args below meth c H locs (H.size - s.heap.size) (tot H - tot s.heap) Q (F0 m (pc + 3) ls rest)) : W p l e R s m args below meth c H locs cells slots Q (F0 m pc ls (.int v :: .ref a :: rest)) := by
  obtain ⟨g1, h1, h2⟩ := bd1_some h
  obtain ⟨⟨c1, c2⟩, h3⟩ := oif h1
  cases h3
  have ht : (gK g a).1 = 26 := by omega
  have hc := gcell_26 (E := E) ht
  refine gb_put (D := eD E) (ci := 25) (C := RJ14) (T := TJ14) (N := 4) (ty := tyJ14 1) S.1 S.2.1 S.2.2.2.2 in_J14 tyJ14 tyJ14_ok nmJ14 S.2.2.2.1 X.1 (hw.1.2.1 _ _ hc).1 rfl 1 (by decide) (S.2.2.2.2 _ q699) (fun _ h9 => h9) rfl (tyJ14_ok 1 (by decide)) hz.1 hz.2 (Nat.le_of_ble_eq_true rfl) hd (fun H1 k1 e1 z1 t1 o1 => ?_)
  exact W.canon (kk _ H1 _ h2 ⟨gB.sI hw.1 hc (gce_sI.trans (gcc_26 ht)) e1 z1 t1 o1 (by omega) (by omega), hw.2.put z1 o1 (hw.1.2.1 _ _ hc).2⟩)
theorem ggJ13_79 {F : Int32 → Option β} (S : CallFix p m c cc nL s args lw_all RJ13) (X : gCtx E A s) (hw : gH E A LC LS s g H locs) (hd : decode cc pc = .ok (.getfield 79, 3)) (h : bd1 (oI g a 26 26 3) F = some r) (kk : ∀ v, F v = some r → W p l e R s m args below meth c H locs cells slots Q (F0 m (pc + 3) ls (.int v :: rest))) : W p l e R s m args below meth c H locs cells slots Q (F0 m pc ls (.ref a :: rest)) := by
  obtain ⟨v, h1, h2⟩ := bd1_some h
  obtain ⟨⟨c1, c2⟩, h3⟩ := oif h1
  have ht : (gK g a).1 = 26 := by omega
  cases h3
  exact va_get (D := eD E) (ci := 25) (C := RJ14) (T := TJ14) (N := 4) S.1 S.2.1 S.2.2.2.2 in_J14 S.2.2.2.1 X.1 (va_one (hw.1.2.1 _ _ (gcell_26 ht)).1) 0 rfl rfl 3 (by decide) (S.2.2.2.2 _ q701) (fun _ h9 => h9) rfl hd (kk _ h2)
theorem gpJ13_79 {v : Int32} {F : GS → Option β} (S : CallFix p m c cc nL s args lw_all RJ13) (X : gCtx E A s) (hw : gH E A LC LS s g H locs) (hd : decode cc pc = .ok (.putfield 79, 3)) (h : bd1 (pI g a 26 26 3 v) F = some r) (kk : ∀ (g1 : GS) (H : Heap) (locs : List Loc), F g1 = some r → gH E A LC LS s g1 H locs → W p l e R s m args below meth c H locs (H.size - s.heap.size) (tot H - tot s.heap) Q (F0 m (pc + 3) ls rest)) : W p l e R s m args below meth c H locs cells slots Q (F0 m pc ls (.int v :: .ref a :: rest)) := by
  obtain ⟨g1, h1, h2⟩ := bd1_some h
  obtain ⟨⟨c1, c2⟩, h3⟩ := oif h1
  cases h3
  have ht : (gK g a).1 = 26 := by omega
  have hc := gcell_26 (E := E) ht
  refine gb_put (D := eD E) (ci := 25) (C := RJ14) (T := TJ14) (N := 4) (ty := tyJ14 3) S.1 S.2.1 S.2.2.2.2 in_J14 tyJ14 tyJ14_ok nmJ14 S.2.2.2.1 X.1 (hw.1.2.1 _ _ hc).1 rfl 3 (by decide) (S.2.2.2.2 _ q701) (fun _ h9 => h9) rfl (tyJ14_ok 3 (by decide)) rfl rfl (Nat.le_of_ble_eq_true rfl) hd (fun H1 k1 e1 z1 t1 o1 => ?_)
  exact W.canon (kk _ H1 _ h2 ⟨gB.sI hw.1 hc (gce_sI.trans (gcc_26 ht)) e1 z1 t1 o1 (by omega) (by omega), hw.2.put z1 o1 (hw.1.2.1 _ _ hc).2⟩)
theorem ggJ5_9 {F : Nat → Option β} (S : CallFix p m c cc nL s args lw_all RJ5) (X : gCtx E A s) (hw : gH E A LC LS s g H locs) (hd : decode cc pc = .ok (.getfield 9, 3)) (h : bd1 (oRn g a 30 31 0) F = some r) (kk : ∀ v, F v = some r → W p l e R s m args below meth c H locs cells slots Q (F0 m (pc + 3) ls (.ref v :: rest))) : W p l e R s m args below meth c H locs cells slots Q (F0 m pc ls (.ref a :: rest)) := by
  obtain ⟨v, h1, h2⟩ := bd1_some h
  obtain ⟨⟨c1, c2⟩, h3⟩ := oif h1
  rcases (by omega : (gK g a).1 = 30 ∨ (gK g a).1 = 31) with ht | ht
  · exact va_get (D := eD E) (ci := 23) (C := RJ5) (T := TJ5) (N := 4) S.1 S.2.1 S.2.2.2.2 in_J5 S.2.2.2.1 X.1 (va_one (hw.1.2.1 _ _ (gcell_30 ht)).1) 0 rfl rfl 0 (by decide) (S.2.2.2.2 _ q828) (fun _ h9 => h9) (by show some (va_rf (gR g a 0)) = some (.ref v); rw [h3]; rfl) hd (kk _ h2)
  · obtain ⟨i, hi, ea, e1, e2, e3⟩ := hw.1.2.2.1 a ht
    rw [e1] at h3
    cases h3
    rw [ea]
    exact vk_getf S.1 S.2.1 (X.2.2.1.1.1 i hi).2.2.1 hw.2 S.2.2.2.1 (S.2.2.2.2 _ q828) (fun _ h9 => h9) hd (kk _ h2)
theorem ggJ5_9q {F : Option Nat → Option β} (S : CallFix p m c cc nL s args lw_all RJ5) (X : gCtx E A s) (hw : gH E A LC LS s g H locs) (hd : decode cc pc = .ok (.getfield 9, 3)) (h : bd1 (oR g a 30 31 0) F = some r) (kk : ∀ v, F v = some r → W p l e R s m args below meth c H locs cells slots Q (F0 m (pc + 3) ls (va_rf v :: rest))) : W p l e R s m args below meth c H locs cells slots Q (F0 m pc ls (.ref a :: rest)) := by
  obtain ⟨v, h1, h2⟩ := bd1_some h
  obtain ⟨⟨c1, c2⟩, h3⟩ := oif h1
  rcases (by omega : (gK g a).1 = 30 ∨ (gK g a).1 = 31) with ht | ht
  · cases h3
    exact va_get (D := eD E) (ci := 23) (C := RJ5) (T := TJ5) (N := 4) S.1 S.2.1 S.2.2.2.2 in_J5 S.2.2.2.1 X.1 (va_one (hw.1.2.1 _ _ (gcell_30 ht)).1) 0 rfl rfl 0 (by decide) (S.2.2.2.2 _ q828) (fun _ h9 => h9) rfl hd (kk _ h2)
  · obtain ⟨i, hi, ea, e1, e2, e3⟩ := hw.1.2.2.1 a ht
    rw [e1] at h3
    cases h3
    rw [ea]
    exact vk_getf S.1 S.2.1 (X.2.2.1.1.1 i hi).2.2.1 hw.2 S.2.2.2.1 (S.2.2.2.2 _ q828) (fun _ h9 => h9) hd (kk _ h2)
theorem gpJ5_9 {v : Option Nat} {F : GS → Option β} (S : CallFix p m c cc nL s args lw_all RJ5) (X : gCtx E A s) (hw : gH E A LC LS s g H locs) (hin2 : meth.name = "<init>") (hd : decode cc pc = .ok (.putfield 9, 3)) (h : bd1 (pR g a 30 30 0 v) F = some r) (kk : ∀ (g1 : GS) (H : Heap) (locs : List Loc), F g1 = some r → gH E A LC LS s g1 H locs → W p l e R s m args below meth c H locs (H.size - s.heap.size) (tot H - tot s.heap) Q (F0 m (pc + 3) ls rest)) : W p l e R s m args below meth c H locs cells slots Q (F0 m pc ls (va_rf v :: .ref a :: rest)) := by
  obtain ⟨g1, h1, h2⟩ := bd1_some h
  obtain ⟨⟨c1, c2⟩, h3⟩ := oif h1
  cases h3
  have ht : (gK g a).1 = 30 := by omega
  have hc := gcell_30 (E := E) ht
  refine gb_putF (D := eD E) (ci := 23) (C := RJ5) (T := TJ5) (N := 4) (ty := tyJ5 0) S.1 S.2.1 S.2.2.2.2 in_J5 tyJ5 tyJ5_ok nmJ5 S.2.2.2.1 X.1 (hw.1.2.1 _ _ hc).1 rfl 0 (by decide) (S.2.2.2.2 _ q828) (fun _ h9 => h9) rfl hin2 rfl (tyJ5_ok 0 (by decide)) (rf_fit rfl v).1 (rf_fit rfl v).2 (Nat.le_of_ble_eq_true rfl) hd (fun H1 k1 e1 z1 t1 o1 => ?_)
  exact W.canon (kk _ H1 _ h2 ⟨gB.sR hw.1 hc (gce_sR.trans (gcc_30 ht)) e1 z1 t1 o1 (by omega) (by omega), hw.2.put z1 o1 (hw.1.2.1 _ _ hc).2⟩)
theorem ggJ5_15 {F : Int32 → Option β} (S : CallFix p m c cc nL s args lw_all RJ5) (X : gCtx E A s) (hw : gH E A LC LS s g H locs) (hd : decode cc pc = .ok (.getfield 15, 3)) (h : bd1 (oI g a 30 31 1) F = some r) (kk : ∀ v, F v = some r → W p l e R s m args below meth c H locs cells slots Q (F0 m (pc + 3) ls (.int v :: rest))) : W p l e R s m args below meth c H locs cells slots Q (F0 m pc ls (.ref a :: rest)) := by
  obtain ⟨v, h1, h2⟩ := bd1_some h
  obtain ⟨⟨c1, c2⟩, h3⟩ := oif h1
  rcases (by omega : (gK g a).1 = 30 ∨ (gK g a).1 = 31) with ht | ht
  · cases h3
    exact va_get (D := eD E) (ci := 23) (C := RJ5) (T := TJ5) (N := 4) S.1 S.2.1 S.2.2.2.2 in_J5 S.2.2.2.1 X.1 (va_one (hw.1.2.1 _ _ (gcell_30 ht)).1) 0 rfl rfl 1 (by decide) (S.2.2.2.2 _ q829) (fun _ h9 => h9) rfl hd (kk _ h2)
  · obtain ⟨i, hi, ea, e1, e2, e3⟩ := hw.1.2.2.1 a ht
    rw [e2] at h3
    cases h3
    rw [ea]
    exact vk_getf S.1 S.2.1 (X.2.2.1.1.1 i hi).2.1 hw.2 S.2.2.2.1 (S.2.2.2.2 _ q829) (fun _ h9 => h9) hd (kk _ h2)
theorem gpJ5_15 {v : Int32} {F : GS → Option β} (S : CallFix p m c cc nL s args lw_all RJ5) (X : gCtx E A s) (hw : gH E A LC LS s g H locs) (hin2 : meth.name = "<init>") (hd : decode cc pc = .ok (.putfield 15, 3)) (hz : narrow .byte (.int v) = .int v ∧ fits .byte (.int v) = true) (h : bd1 (pI g a 30 30 1 v) F = some r) (kk : ∀ (g1 : GS) (H : Heap) (locs : List Loc), F g1 = some r → gH E A LC LS s g1 H locs → W p l e R s m args below meth c H locs (H.size - s.heap.size) (tot H - tot s.heap) Q (F0 m (pc + 3) ls rest)) : W p l e R s m args below meth c H locs cells slots Q (F0 m pc ls (.int v :: .ref a :: rest)) := by
  obtain ⟨g1, h1, h2⟩ := bd1_some h
  obtain ⟨⟨c1, c2⟩, h3⟩ := oif h1
  cases h3
  have ht : (gK g a).1 = 30 := by omega
  have hc := gcell_30 (E := E) ht
  refine gb_putF (D := eD E) (ci := 23) (C := RJ5) (T := TJ5) (N := 4) (ty := tyJ5 1) S.1 S.2.1 S.2.2.2.2 in_J5 tyJ5 tyJ5_ok nmJ5 S.2.2.2.1 X.1 (hw.1.2.1 _ _ hc).1 rfl 1 (by decide) (S.2.2.2.2 _ q829) (fun _ h9 => h9) rfl hin2 rfl (tyJ5_ok 1 (by decide)) hz.1 hz.2 (Nat.le_of_ble_eq_true rfl) hd (fun H1 k1 e1 z1 t1 o1 => ?_)
  exact W.canon (kk _ H1 _ h2 ⟨gB.sI hw.1 hc (gce_sI.trans (gcc_30 ht)) e1 z1 t1 o1 (by omega) (by omega), hw.2.put z1 o1 (hw.1.2.1 _ _ hc).2⟩)
theorem ggJ5_1048 {F : Int32 → Option β} (S : CallFix p m c cc nL s args lw_all RJ5) (X : gCtx E A s) (hw : gH E A LC LS s g H locs) (hd : decode cc pc = .ok (.getfield 1048, 3)) (h : bd1 (oI g a 26 26 2) F = some r) (kk : ∀ v, F v = some r → W p l e R s m args below meth c H locs cells slots Q (F0 m (pc + 3) ls (.int v :: rest))) : W p l e R s m args below meth c H locs cells slots Q (F0 m pc ls (.ref a :: rest)) := by
  obtain ⟨v, h1, h2⟩ := bd1_some h
  obtain ⟨⟨c1, c2⟩, h3⟩ := oif h1
  have ht : (gK g a).1 = 26 := by omega
  cases h3
  exact va_get (D := eD E) (ci := 25) (C := RJ14) (T := TJ14) (N := 4) S.1 S.2.1 S.2.2.2.2 in_J14 S.2.2.2.1 X.1 (va_one (hw.1.2.1 _ _ (gcell_26 ht)).1) 0 rfl rfl 2 (by decide) (S.2.2.2.2 _ q700) (fun _ h9 => h9) rfl hd (kk _ h2)
theorem gpJ10_7 {v : Option Nat} {F : GS → Option β} (S : CallFix p m c cc nL s args lw_all RJ10) (X : gCtx E A s) (hw : gH E A LC LS s g H locs) (hd : decode cc pc = .ok (.putfield 7, 3)) (h : bd1 (pR g a 6 6 0 v) F = some r) (kk : ∀ (g1 : GS) (H : Heap) (locs : List Loc), F g1 = some r → gH E A LC LS s g1 H locs → W p l e R s m args below meth c H locs (H.size - s.heap.size) (tot H - tot s.heap) Q (F0 m (pc + 3) ls rest)) : W p l e R s m args below meth c H locs cells slots Q (F0 m pc ls (va_rf v :: .ref a :: rest)) := by
  obtain ⟨g1, h1, h2⟩ := bd1_some h
  obtain ⟨⟨c1, c2⟩, h3⟩ := oif h1
  cases h3
  have ht : (gK g a).1 = 6 := by omega
  have hc := gcell_6 (E := E) ht
  refine gb_put (D := eD E) (ci := 5) (C := RX6) (T := TX6) (N := 7) (ty := tyX6 0) S.1 S.2.1 S.2.2.2.2 in_X6 tyX6 tyX6_ok nmX6 S.2.2.2.1 X.1 (hw.1.2.1 _ _ hc).1 rfl 0 (by decide) (S.2.2.2.2 _ q654) (fun _ h9 => h9) rfl (tyX6_ok 0 (by decide)) (rf_fit rfl v).1 (rf_fit rfl v).2 (Nat.le_of_ble_eq_true rfl) hd (fun H1 k1 e1 z1 t1 o1 => ?_)
  exact W.canon (kk _ H1 _ h2 ⟨gB.sR hw.1 hc (gce_sR.trans (gcc_6 ht)) e1 z1 t1 o1 (by omega) (by omega), hw.2.put z1 o1 (hw.1.2.1 _ _ hc).2⟩)
theorem gpJ10_17 {v : Option Nat} {F : GS → Option β} (S : CallFix p m c cc nL s args lw_all RJ10) (X : gCtx E A s) (hw : gH E A LC LS s g H locs) (hd : decode cc pc = .ok (.putfield 17, 3)) (h : bd1 (pR g a 6 6 1 v) F = some r) (kk : ∀ (g1 : GS) (H : Heap) (locs : List Loc), F g1 = some r → gH E A LC LS s g1 H locs → W p l e R s m args below meth c H locs (H.size - s.heap.size) (tot H - tot s.heap) Q (F0 m (pc + 3) ls rest)) : W p l e R s m args below meth c H locs cells slots Q (F0 m pc ls (va_rf v :: .ref a :: rest)) := by
  obtain ⟨g1, h1, h2⟩ := bd1_some h
  obtain ⟨⟨c1, c2⟩, h3⟩ := oif h1
  cases h3
  have ht : (gK g a).1 = 6 := by omega
  have hc := gcell_6 (E := E) ht
  refine gb_put (D := eD E) (ci := 5) (C := RX6) (T := TX6) (N := 7) (ty := tyX6 1) S.1 S.2.1 S.2.2.2.2 in_X6 tyX6 tyX6_ok nmX6 S.2.2.2.1 X.1 (hw.1.2.1 _ _ hc).1 rfl 1 (by decide) (S.2.2.2.2 _ q655) (fun _ h9 => h9) rfl (tyX6_ok 1 (by decide)) (rf_fit rfl v).1 (rf_fit rfl v).2 (Nat.le_of_ble_eq_true rfl) hd (fun H1 k1 e1 z1 t1 o1 => ?_)
  exact W.canon (kk _ H1 _ h2 ⟨gB.sR hw.1 hc (gce_sR.trans (gcc_6 ht)) e1 z1 t1 o1 (by omega) (by omega), hw.2.put z1 o1 (hw.1.2.1 _ _ hc).2⟩)
theorem gpJ10_24 {v : Option Nat} {F : GS → Option β} (S : CallFix p m c cc nL s args lw_all RJ10) (X : gCtx E A s) (hw : gH E A LC LS s g H locs) (hd : decode cc pc = .ok (.putfield 24, 3)) (h : bd1 (pR g a 6 6 2 v) F = some r) (kk : ∀ (g1 : GS) (H : Heap) (locs : List Loc), F g1 = some r → gH E A LC LS s g1 H locs → W p l e R s m args below meth c H locs (H.size - s.heap.size) (tot H - tot s.heap) Q (F0 m (pc + 3) ls rest)) : W p l e R s m args below meth c H locs cells slots Q (F0 m pc ls (va_rf v :: .ref a :: rest)) := by
  obtain ⟨g1, h1, h2⟩ := bd1_some h
  obtain ⟨⟨c1, c2⟩, h3⟩ := oif h1
  cases h3
  have ht : (gK g a).1 = 6 := by omega
  have hc := gcell_6 (E := E) ht
  refine gb_put (D := eD E) (ci := 5) (C := RX6) (T := TX6) (N := 7) (ty := tyX6 2) S.1 S.2.1 S.2.2.2.2 in_X6 tyX6 tyX6_ok nmX6 S.2.2.2.1 X.1 (hw.1.2.1 _ _ hc).1 rfl 2 (by decide) (S.2.2.2.2 _ q656) (fun _ h9 => h9) rfl (tyX6_ok 2 (by decide)) (rf_fit rfl v).1 (rf_fit rfl v).2 (Nat.le_of_ble_eq_true rfl) hd (fun H1 k1 e1 z1 t1 o1 => ?_)
  exact W.canon (kk _ H1 _ h2 ⟨gB.sR hw.1 hc (gce_sR.trans (gcc_6 ht)) e1 z1 t1 o1 (by omega) (by omega), hw.2.put z1 o1 (hw.1.2.1 _ _ hc).2⟩)
theorem gpJ10_31 {v : Option Nat} {F : GS → Option β} (S : CallFix p m c cc nL s args lw_all RJ10) (X : gCtx E A s) (hw : gH E A LC LS s g H locs) (hd : decode cc pc = .ok (.putfield 31, 3)) (h : bd1 (pR g a 6 6 3 v) F = some r) (kk : ∀ (g1 : GS) (H : Heap) (locs : List Loc), F g1 = some r → gH E A LC LS s g1 H locs → W p l e R s m args below meth c H locs (H.size - s.heap.size) (tot H - tot s.heap) Q (F0 m (pc + 3) ls rest)) : W p l e R s m args below meth c H locs cells slots Q (F0 m pc ls (va_rf v :: .ref a :: rest)) := by
  obtain ⟨g1, h1, h2⟩ := bd1_some h
  obtain ⟨⟨c1, c2⟩, h3⟩ := oif h1
  cases h3
  have ht : (gK g a).1 = 6 := by omega
  have hc := gcell_6 (E := E) ht
  refine gb_put (D := eD E) (ci := 5) (C := RX6) (T := TX6) (N := 7) (ty := tyX6 3) S.1 S.2.1 S.2.2.2.2 in_X6 tyX6 tyX6_ok nmX6 S.2.2.2.1 X.1 (hw.1.2.1 _ _ hc).1 rfl 3 (by decide) (S.2.2.2.2 _ q653) (fun _ h9 => h9) rfl (tyX6_ok 3 (by decide)) (rf_fit rfl v).1 (rf_fit rfl v).2 (Nat.le_of_ble_eq_true rfl) hd (fun H1 k1 e1 z1 t1 o1 => ?_)
  exact W.canon (kk _ H1 _ h2 ⟨gB.sR hw.1 hc (gce_sR.trans (gcc_6 ht)) e1 z1 t1 o1 (by omega) (by omega), hw.2.put z1 o1 (hw.1.2.1 _ _ hc).2⟩)
theorem gpJ1_7 {v : Int32} {F : GS → Option β} (S : CallFix p m c cc nL s args lw_all RJ1) (X : gCtx E A s) (hw : gH E A LC LS s g H locs) (hd : decode cc pc = .ok (.putfield 7, 3)) (h : bd1 (pI g a 23 23 0 v) F = some r) (kk : ∀ (g1 : GS) (H : Heap) (locs : List Loc), F g1 = some r → gH E A LC LS s g1 H locs → W p l e R s m args below meth c H locs (H.size - s.heap.size) (tot H - tot s.heap) Q (F0 m (pc + 3) ls rest)) : W p l e R s m args below meth c H locs cells slots Q (F0 m pc ls (.int v :: .ref a :: rest)) := by
  obtain ⟨g1, h1, h2⟩ := bd1_some h
  obtain ⟨⟨c1, c2⟩, h3⟩ := oif h1
  cases h3
  have ht : (gK g a).1 = 23 := by omega
  have hc := gcell_23 (E := E) ht
  refine gb_put (D := eD E) (ci := 22) (C := RJ2) (T := TJ2) (N := 3) (ty := tyJ2 0) S.1 S.2.1 S.2.2.2.2 in_J2 tyJ2 tyJ2_ok nmJ2 S.2.2.2.1 X.1 (hw.1.2.1 _ _ hc).1 rfl 0 (by decide) (S.2.2.2.2 _ q247) (fun _ h9 => h9) rfl (tyJ2_ok 0 (by decide)) rfl rfl (Nat.le_of_ble_eq_true rfl) hd (fun H1 k1 e1 z1 t1 o1 => ?_)
  exact W.canon (kk _ H1 _ h2 ⟨gB.sI hw.1 hc (gce_sI.trans (gcc_23 ht)) e1 z1 t1 o1 (by omega) (by omega), hw.2.put z1 o1 (hw.1.2.1 _ _ hc).2⟩)
theorem ggJ2_9 {F : Nat → Option β} (S : CallFix p m c cc nL s args lw_all RJ2) (X : gCtx E A s) (hw : gH E A LC LS s g H locs) (hd : decode cc pc = .ok (.getfield 9, 3)) (h : bd1 (oRn g a 23 23 1) F = some r) (kk : ∀ v, F v = some r → W p l e R s m args below meth c H locs cells slots Q (F0 m (pc + 3) ls (.ref v :: rest))) : W p l e R s m args below meth c H locs cells slots Q (F0 m pc ls (.ref a :: rest)) := by
  obtain ⟨v, h1, h2⟩ := bd1_some h
  obtain ⟨⟨c1, c2⟩, h3⟩ := oif h1
  have ht : (gK g a).1 = 23 := by omega
  exact va_get (D := eD E) (ci := 22) (C := RJ2) (T := TJ2) (N := 3) S.1 S.2.1 S.2.2.2.2 in_J2 S.2.2.2.1 X.1 (va_one (hw.1.2.1 _ _ (gcell_23 ht)).1) 0 rfl rfl 1 (by decide) (S.2.2.2.2 _ q245) (fun _ h9 => h9) (by show some (va_rf (gR g a 1)) = some (.ref v); rw [h3]; rfl) hd (kk _ h2)
theorem ggJ2_9q {F : Option Nat → Option β} (S : CallFix p m c cc nL s args lw_all RJ2) (X : gCtx E A s) (hw : gH E A LC LS s g H locs) (hd : decode cc pc = .ok (.getfield 9, 3)) (h : bd1 (oR g a 23 23 1) F = some r) (kk : ∀ v, F v = some r → W p l e R s m args below meth c H locs cells slots Q (F0 m (pc + 3) ls (va_rf v :: rest))) : W p l e R s m args below meth c H locs cells slots Q (F0 m pc ls (.ref a :: rest)) := by
  obtain ⟨v, h1, h2⟩ := bd1_some h
  obtain ⟨⟨c1, c2⟩, h3⟩ := oif h1
  have ht : (gK g a).1 = 23 := by omega
  cases h3
  exact va_get (D := eD E) (ci := 22) (C := RJ2) (T := TJ2) (N := 3) S.1 S.2.1 S.2.2.2.2 in_J2 S.2.2.2.1 X.1 (va_one (hw.1.2.1 _ _ (gcell_23 ht)).1) 0 rfl rfl 1 (by decide) (S.2.2.2.2 _ q245) (fun _ h9 => h9) rfl hd (kk _ h2)
theorem gpJ2_9 {v : Option Nat} {F : GS → Option β} (S : CallFix p m c cc nL s args lw_all RJ2) (X : gCtx E A s) (hw : gH E A LC LS s g H locs) (hd : decode cc pc = .ok (.putfield 9, 3)) (h : bd1 (pR g a 23 23 1 v) F = some r) (kk : ∀ (g1 : GS) (H : Heap) (locs : List Loc), F g1 = some r → gH E A LC LS s g1 H locs → W p l e R s m args below meth c H locs (H.size - s.heap.size) (tot H - tot s.heap) Q (F0 m (pc + 3) ls rest)) : W p l e R s m args below meth c H locs cells slots Q (F0 m pc ls (va_rf v :: .ref a :: rest)) := by
  obtain ⟨g1, h1, h2⟩ := bd1_some h
  obtain ⟨⟨c1, c2⟩, h3⟩ := oif h1
  cases h3
  have ht : (gK g a).1 = 23 := by omega
  have hc := gcell_23 (E := E) ht
  refine gb_put (D := eD E) (ci := 22) (C := RJ2) (T := TJ2) (N := 3) (ty := tyJ2 1) S.1 S.2.1 S.2.2.2.2 in_J2 tyJ2 tyJ2_ok nmJ2 S.2.2.2.1 X.1 (hw.1.2.1 _ _ hc).1 rfl 1 (by decide) (S.2.2.2.2 _ q245) (fun _ h9 => h9) rfl (tyJ2_ok 1 (by decide)) (rf_fit rfl v).1 (rf_fit rfl v).2 (Nat.le_of_ble_eq_true rfl) hd (fun H1 k1 e1 z1 t1 o1 => ?_)
  exact W.canon (kk _ H1 _ h2 ⟨gB.sR hw.1 hc (gce_sR.trans (gcc_23 ht)) e1 z1 t1 o1 (by omega) (by omega), hw.2.put z1 o1 (hw.1.2.1 _ _ hc).2⟩)
theorem ggJ2_48 {F : Int32 → Option β} (S : CallFix p m c cc nL s args lw_all RJ2) (X : gCtx E A s) (hw : gH E A LC LS s g H locs) (hd : decode cc pc = .ok (.getfield 48, 3)) (h : bd1 (oI g a 23 23 2) F = some r) (kk : ∀ v, F v = some r → W p l e R s m args below meth c H locs cells slots Q (F0 m (pc + 3) ls (.int v :: rest))) : W p l e R s m args below meth c H locs cells slots Q (F0 m pc ls (.ref a :: rest)) := by
  obtain ⟨v, h1, h2⟩ := bd1_some h
  obtain ⟨⟨c1, c2⟩, h3⟩ := oif h1
  have ht : (gK g a).1 = 23 := by omega
  cases h3
  exact va_get (D := eD E) (ci := 22) (C := RJ2) (T := TJ2) (N := 3) S.1 S.2.1 S.2.2.2.2 in_J2 S.2.2.2.1 X.1 (va_one (hw.1.2.1 _ _ (gcell_23 ht)).1) 0 rfl rfl 2 (by decide) (S.2.2.2.2 _ q246) (fun _ h9 => h9) rfl hd (kk _ h2)
theorem gpJ2_48 {v : Int32} {F : GS → Option β} (S : CallFix p m c cc nL s args lw_all RJ2) (X : gCtx E A s) (hw : gH E A LC LS s g H locs) (hd : decode cc pc = .ok (.putfield 48, 3)) (h : bd1 (pI g a 23 23 2 v) F = some r) (kk : ∀ (g1 : GS) (H : Heap) (locs : List Loc), F g1 = some r → gH E A LC LS s g1 H locs → W p l e R s m args below meth c H locs (H.size - s.heap.size) (tot H - tot s.heap) Q (F0 m (pc + 3) ls rest)) : W p l e R s m args below meth c H locs cells slots Q (F0 m pc ls (.int v :: .ref a :: rest)) := by
  obtain ⟨g1, h1, h2⟩ := bd1_some h
  obtain ⟨⟨c1, c2⟩, h3⟩ := oif h1
  cases h3
  have ht : (gK g a).1 = 23 := by omega
  have hc := gcell_23 (E := E) ht
  refine gb_put (D := eD E) (ci := 22) (C := RJ2) (T := TJ2) (N := 3) (ty := tyJ2 2) S.1 S.2.1 S.2.2.2.2 in_J2 tyJ2 tyJ2_ok nmJ2 S.2.2.2.1 X.1 (hw.1.2.1 _ _ hc).1 rfl 2 (by decide) (S.2.2.2.2 _ q246) (fun _ h9 => h9) rfl (tyJ2_ok 2 (by decide)) rfl rfl (Nat.le_of_ble_eq_true rfl) hd (fun H1 k1 e1 z1 t1 o1 => ?_)
  exact W.canon (kk _ H1 _ h2 ⟨gB.sI hw.1 hc (gce_sI.trans (gcc_23 ht)) e1 z1 t1 o1 (by omega) (by omega), hw.2.put z1 o1 (hw.1.2.1 _ _ hc).2⟩)
theorem ggJ2_63 {F : Int32 → Option β} (S : CallFix p m c cc nL s args lw_all RJ2) (X : gCtx E A s) (hw : gH E A LC LS s g H locs) (hd : decode cc pc = .ok (.getfield 63, 3)) (h : bd1 (oI g a 23 23 0) F = some r) (kk : ∀ v, F v = some r → W p l e R s m args below meth c H locs cells slots Q (F0 m (pc + 3) ls (.int v :: rest))) : W p l e R s m args below meth c H locs cells slots Q (F0 m pc ls (.ref a :: rest)) := by
  obtain ⟨v, h1, h2⟩ := bd1_some h
  obtain ⟨⟨c1, c2⟩, h3⟩ := oif h1
  have ht : (gK g a).1 = 23 := by omega
  cases h3
  exact va_get (D := eD E) (ci := 22) (C := RJ2) (T := TJ2) (N := 3) S.1 S.2.1 S.2.2.2.2 in_J2 S.2.2.2.1 X.1 (va_one (hw.1.2.1 _ _ (gcell_23 ht)).1) 0 rfl rfl 0 (by decide) (S.2.2.2.2 _ q248) (fun x hx => u_same (S.2.2.2.2 _ q249) x hx) rfl hd (kk _ h2)
theorem gpJ2_63 {v : Int32} {F : GS → Option β} (S : CallFix p m c cc nL s args lw_all RJ2) (X : gCtx E A s) (hw : gH E A LC LS s g H locs) (hd : decode cc pc = .ok (.putfield 63, 3)) (h : bd1 (pI g a 23 23 0 v) F = some r) (kk : ∀ (g1 : GS) (H : Heap) (locs : List Loc), F g1 = some r → gH E A LC LS s g1 H locs → W p l e R s m args below meth c H locs (H.size - s.heap.size) (tot H - tot s.heap) Q (F0 m (pc + 3) ls rest)) : W p l e R s m args below meth c H locs cells slots Q (F0 m pc ls (.int v :: .ref a :: rest)) := by
  obtain ⟨g1, h1, h2⟩ := bd1_some h
  obtain ⟨⟨c1, c2⟩, h3⟩ := oif h1
  cases h3
  have ht : (gK g a).1 = 23 := by omega
  have hc := gcell_23 (E := E) ht
  refine gb_put (D := eD E) (ci := 22) (C := RJ2) (T := TJ2) (N := 3) (ty := tyJ2 0) S.1 S.2.1 S.2.2.2.2 in_J2 tyJ2 tyJ2_ok nmJ2 S.2.2.2.1 X.1 (hw.1.2.1 _ _ hc).1 rfl 0 (by decide) (S.2.2.2.2 _ q248) (fun x hx => u_same (S.2.2.2.2 _ q249) x hx) rfl (tyJ2_ok 0 (by decide)) rfl rfl (Nat.le_of_ble_eq_true rfl) hd (fun H1 k1 e1 z1 t1 o1 => ?_)
  exact W.canon (kk _ H1 _ h2 ⟨gB.sI hw.1 hc (gce_sI.trans (gcc_23 ht)) e1 z1 t1 o1 (by omega) (by omega), hw.2.put z1 o1 (hw.1.2.1 _ _ hc).2⟩)
theorem galen40 {F : Int32 → Option β} {own : String} (S : CallFix p m c cc nL s args lw_all own) (X : gCtx E A s) (hw : gH E A LC LS s g H locs) (hd : decode cc pc = .ok (.arraylength, 1)) (h : bd1 (aLen g a 40) F = some r) (kk : ∀ v, F v = some r → W p l e R s m args below meth c H locs cells slots Q (F0 m (pc + 1) ls (.int v :: rest))) : W p l e R s m args below meth c H locs cells slots Q (F0 m pc ls (.ref a :: rest)) := by
  obtain ⟨v, h1, h2⟩ := bd1_some h
  obtain ⟨ht, h3⟩ := oif h1
  cases h3
  exact va_alen (D := eD E) S.1 S.2.1 X.1 (va_one (hw.1.2.1 _ _ (gcell_40 ht)).1) 0 0 rfl rfl rfl hd (kk _ h2)
theorem galen41 {F : Int32 → Option β} {own : String} (S : CallFix p m c cc nL s args lw_all own) (X : gCtx E A s) (hw : gH E A LC LS s g H locs) (hd : decode cc pc = .ok (.arraylength, 1)) (h : bd1 (aLen g a 41) F = some r) (kk : ∀ v, F v = some r → W p l e R s m args below meth c H locs cells slots Q (F0 m (pc + 1) ls (.int v :: rest))) : W p l e R s m args below meth c H locs cells slots Q (F0 m pc ls (.ref a :: rest)) := by
  obtain ⟨v, h1, h2⟩ := bd1_some h
  obtain ⟨ht, h3⟩ := oif h1
  cases h3
  exact va_alen (D := eD E) S.1 S.2.1 X.1 (va_one (hw.1.2.1 _ _ (gcell_41 ht)).1) 0 1 rfl rfl rfl hd (kk _ h2)
theorem galen43 {F : Int32 → Option β} {own : String} (S : CallFix p m c cc nL s args lw_all own) (X : gCtx E A s) (hw : gH E A LC LS s g H locs) (hd : decode cc pc = .ok (.arraylength, 1)) (h : bd1 (aLen g a 43) F = some r) (kk : ∀ v, F v = some r → W p l e R s m args below meth c H locs cells slots Q (F0 m (pc + 1) ls (.int v :: rest))) : W p l e R s m args below meth c H locs cells slots Q (F0 m pc ls (.ref a :: rest)) := by
  obtain ⟨v, h1, h2⟩ := bd1_some h
  obtain ⟨ht, h3⟩ := oif h1
  cases h3
  exact va_alen (D := eD E) S.1 S.2.1 X.1 (va_one (hw.1.2.1 _ _ (gcell_43 ht)).1) 0 2 rfl rfl rfl hd (kk _ h2)
theorem galen45 {F : Int32 → Option β} {own : String} (S : CallFix p m c cc nL s args lw_all own) (X : gCtx E A s) (hw : gH E A LC LS s g H locs) (hd : decode cc pc = .ok (.arraylength, 1)) (h : bd1 (aLen g a 45) F = some r) (kk : ∀ v, F v = some r → W p l e R s m args below meth c H locs cells slots Q (F0 m (pc + 1) ls (.int v :: rest))) : W p l e R s m args below meth c H locs cells slots Q (F0 m pc ls (.ref a :: rest)) := by
  obtain ⟨v, h1, h2⟩ := bd1_some h
  obtain ⟨ht, h3⟩ := oif h1
  cases h3
  exact va_alen (D := eD E) S.1 S.2.1 X.1 (va_one (hw.1.2.1 _ _ (gcell_45 ht)).1) 0 3 rfl rfl rfl hd (kk _ h2)
theorem galen46 {F : Int32 → Option β} {own : String} (S : CallFix p m c cc nL s args lw_all own) (X : gCtx E A s) (hw : gH E A LC LS s g H locs) (hd : decode cc pc = .ok (.arraylength, 1)) (h : bd1 (aLen g a 46) F = some r) (kk : ∀ v, F v = some r → W p l e R s m args below meth c H locs cells slots Q (F0 m (pc + 1) ls (.int v :: rest))) : W p l e R s m args below meth c H locs cells slots Q (F0 m pc ls (.ref a :: rest)) := by
  obtain ⟨v, h1, h2⟩ := bd1_some h
  obtain ⟨ht, h3⟩ := oif h1
  cases h3
  exact va_alen (D := eD E) S.1 S.2.1 X.1 (va_one (hw.1.2.1 _ _ (gcell_46 ht)).1) 0 4 rfl rfl rfl hd (kk _ h2)
theorem galen47 {F : Int32 → Option β} {own : String} (S : CallFix p m c cc nL s args lw_all own) (X : gCtx E A s) (hw : gH E A LC LS s g H locs) (hd : decode cc pc = .ok (.arraylength, 1)) (h : bd1 (aLen g a 47) F = some r) (kk : ∀ v, F v = some r → W p l e R s m args below meth c H locs cells slots Q (F0 m (pc + 1) ls (.int v :: rest))) : W p l e R s m args below meth c H locs cells slots Q (F0 m pc ls (.ref a :: rest)) := by
  obtain ⟨v, h1, h2⟩ := bd1_some h
  obtain ⟨ht, h3⟩ := oif h1
  cases h3
  exact va_alen (D := eD E) S.1 S.2.1 X.1 (va_one (hw.1.2.1 _ _ (gcell_47 ht)).1) 0 5 rfl rfl rfl hd (kk _ h2)
theorem galen48 {F : Int32 → Option β} {own : String} (S : CallFix p m c cc nL s args lw_all own) (X : gCtx E A s) (hw : gH E A LC LS s g H locs) (hd : decode cc pc = .ok (.arraylength, 1)) (h : bd1 (aLen g a 48) F = some r) (kk : ∀ v, F v = some r → W p l e R s m args below meth c H locs cells slots Q (F0 m (pc + 1) ls (.int v :: rest))) : W p l e R s m args below meth c H locs cells slots Q (F0 m pc ls (.ref a :: rest)) := by
  obtain ⟨v, h1, h2⟩ := bd1_some h
  obtain ⟨ht, h3⟩ := oif h1
  cases h3
  exact va_alen (D := eD E) S.1 S.2.1 X.1 (va_one (hw.1.2.1 _ _ (gcell_48 ht)).1) 0 6 rfl rfl rfl hd (kk _ h2)
theorem galen49 {F : Int32 → Option β} {own : String} (S : CallFix p m c cc nL s args lw_all own) (X : gCtx E A s) (hw : gH E A LC LS s g H locs) (hd : decode cc pc = .ok (.arraylength, 1)) (h : bd1 (aLen g a 49) F = some r) (kk : ∀ v, F v = some r → W p l e R s m args below meth c H locs cells slots Q (F0 m (pc + 1) ls (.int v :: rest))) : W p l e R s m args below meth c H locs cells slots Q (F0 m pc ls (.ref a :: rest)) := by
  obtain ⟨v, h1, h2⟩ := bd1_some h
  obtain ⟨ht, h3⟩ := oif h1
  cases h3
  exact va_alen (D := eD E) S.1 S.2.1 X.1 (va_one (hw.1.2.1 _ _ (gcell_49 ht)).1) 0 7 rfl rfl rfl hd (kk _ h2)
theorem galen42 {F : Int32 → Option β} {own : String} (S : CallFix p m c cc nL s args lw_all own) (X : gCtx E A s) (hw : gH E A LC LS s g H locs) (hd : decode cc pc = .ok (.arraylength, 1)) (h : bd1 (aLen g a 42) F = some r) (kk : ∀ v, F v = some r → W p l e R s m args below meth c H locs cells slots Q (F0 m (pc + 1) ls (.int v :: rest))) : W p l e R s m args below meth c H locs cells slots Q (F0 m pc ls (.ref a :: rest)) := by
  obtain ⟨v, h1, h2⟩ := bd1_some h
  obtain ⟨ht, h3⟩ := oif h1
  obtain ⟨i, hi, ea, e1, e2⟩ := hw.1.2.2.2 a ht
  rw [e1] at h3
  cases h3
  rw [ea]
  exact va_tlen S.1 S.2.1 (X.2.2.1.1.1 i hi).2.2.2 hw.2 rfl hd (kk _ h2)
theorem gald40 {i : Int32} {F : Int32 → Option β} {own : String} (S : CallFix p m c cc nL s args lw_all own) (X : gCtx E A s) (hw : gH E A LC LS s g H locs) (hd : decode cc pc = .ok (.iaload, 1)) (h : bd1 (aI g a 40 i) F = some r) (kk : ∀ v, F v = some r → W p l e R s m args below meth c H locs cells slots Q (F0 m (pc + 1) ls (.int v :: rest))) : W p l e R s m args below meth c H locs cells slots Q (F0 m pc ls (.int i :: .ref a :: rest)) := by
  obtain ⟨v, h1, h2⟩ := bd1_some h
  obtain ⟨⟨ht, hi⟩, h3⟩ := oif h1
  cases h3
  exact va_iald (D := eD E) (f := fun j => gI g a j) S.1 S.2.1 X.1 (va_one (hw.1.2.1 _ _ (gcell_40 ht)).1) 0 0 rfl rfl hi hd (kk _ h2)
theorem gald41 {i : Int32} {F : Int32 → Option β} {own : String} (S : CallFix p m c cc nL s args lw_all own) (X : gCtx E A s) (hw : gH E A LC LS s g H locs) (hd : decode cc pc = .ok (.baload, 1)) (h : bd1 (aI g a 41 i) F = some r) (kk : ∀ v, F v = some r → W p l e R s m args below meth c H locs cells slots Q (F0 m (pc + 1) ls (.int v :: rest))) : W p l e R s m args below meth c H locs cells slots Q (F0 m pc ls (.int i :: .ref a :: rest)) := by
  obtain ⟨v, h1, h2⟩ := bd1_some h
  obtain ⟨⟨ht, hi⟩, h3⟩ := oif h1
  cases h3
  exact va_bald (D := eD E) (f := fun j => gI g a j) S.1 S.2.1 X.1 (va_one (hw.1.2.1 _ _ (gcell_41 ht)).1) 0 1 rfl rfl hi hd (kk _ h2)
theorem gald42 {i : Int32} {F : Int32 → Option β} {own : String} (S : CallFix p m c cc nL s args lw_all own) (X : gCtx E A s) (hw : gH E A LC LS s g H locs) (hd : decode cc pc = .ok (.baload, 1)) (h : bd1 (aI g a 42 i) F = some r) (kk : ∀ v, F v = some r → W p l e R s m args below meth c H locs cells slots Q (F0 m (pc + 1) ls (.int v :: rest))) : W p l e R s m args below meth c H locs cells slots Q (F0 m pc ls (.int i :: .ref a :: rest)) := by
  obtain ⟨v, h1, h2⟩ := bd1_some h
  obtain ⟨⟨ht, hi⟩, h3⟩ := oif h1
  obtain ⟨j, hj, ea, e1, e2⟩ := hw.1.2.2.2 a ht
  rw [e1] at hi
  have hlt : i.toNatClampNeg < lenS.getD j 0 := Nat.not_le.mp fun q => hi (Or.inr q)
  rw [e2 _ hlt] at h3
  cases h3
  rw [ea]
  exact va_tb S.1 S.2.1 (X.2.2.1.1.1 j hj).2.2.2 hw.2 hi rfl hd (kk _ h2)
theorem gald43 {i : Int32} {F : Nat → Option β} {own : String} (S : CallFix p m c cc nL s args lw_all own) (X : gCtx E A s) (hw : gH E A LC LS s g H locs) (hd : decode cc pc = .ok (.aaload, 1)) (h : bd1 (aRn g a 43 i) F = some r) (kk : ∀ v, F v = some r → W p l e R s m args below meth c H locs cells slots Q (F0 m (pc + 1) ls (.ref v :: rest))) : W p l e R s m args below meth c H locs cells slots Q (F0 m pc ls (.int i :: .ref a :: rest)) := by
  obtain ⟨v, h1, h2⟩ := bd1_some h
  obtain ⟨⟨ht, hi⟩, h3⟩ := oif h1
  exact gb_aald (D := eD E) (f := fun j => gR g a j) S.1 S.2.1 X.1 2 (hw.1.2.1 _ _ (gcell_43 ht)).1 rfl rfl hi hd (by rw [show (gR g a i.toNatClampNeg) = some v from h3]; exact kk _ h2)
theorem gald43q {i : Int32} {F : Option Nat → Option β} {own : String} (S : CallFix p m c cc nL s args lw_all own) (X : gCtx E A s) (hw : gH E A LC LS s g H locs) (hd : decode cc pc = .ok (.aaload, 1)) (h : bd1 (aR g a 43 i) F = some r) (kk : ∀ v, F v = some r → W p l e R s m args below meth c H locs cells slots Q (F0 m (pc + 1) ls (va_rf v :: rest))) : W p l e R s m args below meth c H locs cells slots Q (F0 m pc ls (.int i :: .ref a :: rest)) := by
  obtain ⟨v, h1, h2⟩ := bd1_some h
  obtain ⟨⟨ht, hi⟩, h3⟩ := oif h1
  cases h3
  exact gb_aald (D := eD E) (f := fun j => gR g a j) S.1 S.2.1 X.1 2 (hw.1.2.1 _ _ (gcell_43 ht)).1 rfl rfl hi hd (kk _ h2)
theorem gald45 {i : Int32} {F : Nat → Option β} {own : String} (S : CallFix p m c cc nL s args lw_all own) (X : gCtx E A s) (hw : gH E A LC LS s g H locs) (hd : decode cc pc = .ok (.aaload, 1)) (h : bd1 (aRn g a 45 i) F = some r) (kk : ∀ v, F v = some r → W p l e R s m args below meth c H locs cells slots Q (F0 m (pc + 1) ls (.ref v :: rest))) : W p l e R s m args below meth c H locs cells slots Q (F0 m pc ls (.int i :: .ref a :: rest)) := by
  obtain ⟨v, h1, h2⟩ := bd1_some h
  obtain ⟨⟨ht, hi⟩, h3⟩ := oif h1
  exact gb_aald (D := eD E) (f := fun j => gR g a j) S.1 S.2.1 X.1 3 (hw.1.2.1 _ _ (gcell_45 ht)).1 rfl rfl hi hd (by rw [show (gR g a i.toNatClampNeg) = some v from h3]; exact kk _ h2)
theorem gald45q {i : Int32} {F : Option Nat → Option β} {own : String} (S : CallFix p m c cc nL s args lw_all own) (X : gCtx E A s) (hw : gH E A LC LS s g H locs) (hd : decode cc pc = .ok (.aaload, 1)) (h : bd1 (aR g a 45 i) F = some r) (kk : ∀ v, F v = some r → W p l e R s m args below meth c H locs cells slots Q (F0 m (pc + 1) ls (va_rf v :: rest))) : W p l e R s m args below meth c H locs cells slots Q (F0 m pc ls (.int i :: .ref a :: rest)) := by
  obtain ⟨v, h1, h2⟩ := bd1_some h
  obtain ⟨⟨ht, hi⟩, h3⟩ := oif h1
  cases h3
  exact gb_aald (D := eD E) (f := fun j => gR g a j) S.1 S.2.1 X.1 3 (hw.1.2.1 _ _ (gcell_45 ht)).1 rfl rfl hi hd (kk _ h2)
theorem gald46 {i : Int32} {F : Nat → Option β} {own : String} (S : CallFix p m c cc nL s args lw_all own) (X : gCtx E A s) (hw : gH E A LC LS s g H locs) (hd : decode cc pc = .ok (.aaload, 1)) (h : bd1 (aRn g a 46 i) F = some r) (kk : ∀ v, F v = some r → W p l e R s m args below meth c H locs cells slots Q (F0 m (pc + 1) ls (.ref v :: rest))) : W p l e R s m args below meth c H locs cells slots Q (F0 m pc ls (.int i :: .ref a :: rest)) := by
  obtain ⟨v, h1, h2⟩ := bd1_some h
  obtain ⟨⟨ht, hi⟩, h3⟩ := oif h1
  exact gb_aald (D := eD E) (f := fun j => gR g a j) S.1 S.2.1 X.1 4 (hw.1.2.1 _ _ (gcell_46 ht)).1 rfl rfl hi hd (by rw [show (gR g a i.toNatClampNeg) = some v from h3]; exact kk _ h2)
theorem gald46q {i : Int32} {F : Option Nat → Option β} {own : String} (S : CallFix p m c cc nL s args lw_all own) (X : gCtx E A s) (hw : gH E A LC LS s g H locs) (hd : decode cc pc = .ok (.aaload, 1)) (h : bd1 (aR g a 46 i) F = some r) (kk : ∀ v, F v = some r → W p l e R s m args below meth c H locs cells slots Q (F0 m (pc + 1) ls (va_rf v :: rest))) : W p l e R s m args below meth c H locs cells slots Q (F0 m pc ls (.int i :: .ref a :: rest)) := by
  obtain ⟨v, h1, h2⟩ := bd1_some h
  obtain ⟨⟨ht, hi⟩, h3⟩ := oif h1
  cases h3
  exact gb_aald (D := eD E) (f := fun j => gR g a j) S.1 S.2.1 X.1 4 (hw.1.2.1 _ _ (gcell_46 ht)).1 rfl rfl hi hd (kk _ h2)
theorem gald47 {i : Int32} {F : Nat → Option β} {own : String} (S : CallFix p m c cc nL s args lw_all own) (X : gCtx E A s) (hw : gH E A LC LS s g H locs) (hd : decode cc pc = .ok (.aaload, 1)) (h : bd1 (aRn g a 47 i) F = some r) (kk : ∀ v, F v = some r → W p l e R s m args below meth c H locs cells slots Q (F0 m (pc + 1) ls (.ref v :: rest))) : W p l e R s m args below meth c H locs cells slots Q (F0 m pc ls (.int i :: .ref a :: rest)) := by
  obtain ⟨v, h1, h2⟩ := bd1_some h
  obtain ⟨⟨ht, hi⟩, h3⟩ := oif h1
  exact gb_aald (D := eD E) (f := fun j => gR g a j) S.1 S.2.1 X.1 5 (hw.1.2.1 _ _ (gcell_47 ht)).1 rfl rfl hi hd (by rw [show (gR g a i.toNatClampNeg) = some v from h3]; exact kk _ h2)
theorem gald47q {i : Int32} {F : Option Nat → Option β} {own : String} (S : CallFix p m c cc nL s args lw_all own) (X : gCtx E A s) (hw : gH E A LC LS s g H locs) (hd : decode cc pc = .ok (.aaload, 1)) (h : bd1 (aR g a 47 i) F = some r) (kk : ∀ v, F v = some r → W p l e R s m args below meth c H locs cells slots Q (F0 m (pc + 1) ls (va_rf v :: rest))) : W p l e R s m args below meth c H locs cells slots Q (F0 m pc ls (.int i :: .ref a :: rest)) := by
  obtain ⟨v, h1, h2⟩ := bd1_some h
  obtain ⟨⟨ht, hi⟩, h3⟩ := oif h1
  cases h3
  exact gb_aald (D := eD E) (f := fun j => gR g a j) S.1 S.2.1 X.1 5 (hw.1.2.1 _ _ (gcell_47 ht)).1 rfl rfl hi hd (kk _ h2)
theorem gast40 {i : Int32} {v : Int32} {F : GS → Option β} {own : String} (S : CallFix p m c cc nL s args lw_all own) (X : gCtx E A s) (hw : gH E A LC LS s g H locs) (hd : decode cc pc = .ok (.iastore, 1)) (h : bd1 (xI g a 40 i v) F = some r) (kk : ∀ (g1 : GS) (H : Heap) (locs : List Loc), F g1 = some r → gH E A LC LS s g1 H locs → W p l e R s m args below meth c H locs (H.size - s.heap.size) (tot H - tot s.heap) Q (F0 m (pc + 1) ls rest)) : W p l e R s m args below meth c H locs cells slots Q (F0 m pc ls (.int v :: .int i :: .ref a :: rest)) := by
  obtain ⟨g1, h1, h2⟩ := bd1_some h
  obtain ⟨⟨ht, hi⟩, h3⟩ := oif h1
  cases h3
  have hc := gcell_40 (E := E) ht
  refine gb_iast (D := eD E) S.1 S.2.1 X.1 0 (hw.1.2.1 _ _ hc).1 rfl hi  hd (fun H1 k1 e1 z1 t1 o1 => ?_)
  exact W.canon (kk _ H1 _ h2 ⟨gB.sI hw.1 hc (gce_sI.trans (gcc_40 ht)) e1 z1 t1 o1 (by omega) (by omega), hw.2.put z1 o1 (hw.1.2.1 _ _ hc).2⟩)
theorem gast48 {i : Int32} {v : Int64} {F : GS → Option β} {own : String} (S : CallFix p m c cc nL s args lw_all own) (X : gCtx E A s) (hw : gH E A LC LS s g H locs) (hd : decode cc pc = .ok (.lastore, 1)) (h : bd1 (xL g a 48 i v) F = some r) (kk : ∀ (g1 : GS) (H : Heap) (locs : List Loc), F g1 = some r → gH E A LC LS s g1 H locs → W p l e R s m args below meth c H locs (H.size - s.heap.size) (tot H - tot s.heap) Q (F0 m (pc + 1) ls rest)) : W p l e R s m args below meth c H locs cells slots Q (F0 m pc ls (.long v :: .int i :: .ref a :: rest)) := by
  obtain ⟨g1, h1, h2⟩ := bd1_some h
  obtain ⟨⟨ht, hi⟩, h3⟩ := oif h1
  cases h3
  have hc := gcell_48 (E := E) ht
  refine gb_last (D := eD E) S.1 S.2.1 X.1 6 (hw.1.2.1 _ _ hc).1 rfl hi  hd (fun H1 k1 e1 z1 t1 o1 => ?_)
  exact W.canon (kk _ H1 _ h2 ⟨gB.sL hw.1 hc (gce_sL.trans (gcc_48 ht)) e1 z1 t1 o1 (by omega) (by omega), hw.2.put z1 o1 (hw.1.2.1 _ _ hc).2⟩)
theorem gast41 {i : Int32} {v : Int32} {F : GS → Option β} {own : String} (S : CallFix p m c cc nL s args lw_all own) (X : gCtx E A s) (hw : gH E A LC LS s g H locs) (hd : decode cc pc = .ok (.bastore, 1)) (h : bd1 (xI g a 41 i (v.toInt8.toInt32)) F = some r) (kk : ∀ (g1 : GS) (H : Heap) (locs : List Loc), F g1 = some r → gH E A LC LS s g1 H locs → W p l e R s m args below meth c H locs (H.size - s.heap.size) (tot H - tot s.heap) Q (F0 m (pc + 1) ls rest)) : W p l e R s m args below meth c H locs cells slots Q (F0 m pc ls (.int v :: .int i :: .ref a :: rest)) := by
  obtain ⟨g1, h1, h2⟩ := bd1_some h
  obtain ⟨⟨ht, hi⟩, h3⟩ := oif h1
  cases h3
  have hc := gcell_41 (E := E) ht
  refine gb_bast (D := eD E) S.1 S.2.1 X.1 1 (hw.1.2.1 _ _ hc).1 rfl hi  hd (fun H1 k1 e1 z1 t1 o1 => ?_)
  exact W.canon (kk _ H1 _ h2 ⟨gB.sI hw.1 hc (gce_sI.trans (gcc_41 ht)) e1 z1 t1 o1 (by omega) (by omega), hw.2.put z1 o1 (hw.1.2.1 _ _ hc).2⟩)
theorem gast43 {i : Int32} {v : Nat} {F : GS → Option β} {own : String} (S : CallFix p m c cc nL s args lw_all own) (X : gCtx E A s) (hw : gH E A LC LS s g H locs) (hd : decode cc pc = .ok (.aastore, 1)) (hv : va_Any "java/lang/Object" s H v) (h : bd1 (xR g a 43 i (some v)) F = some r) (kk : ∀ (g1 : GS) (H : Heap) (locs : List Loc), F g1 = some r → gH E A LC LS s g1 H locs → W p l e R s m args below meth c H locs (H.size - s.heap.size) (tot H - tot s.heap) Q (F0 m (pc + 1) ls rest)) : W p l e R s m args below meth c H locs cells slots Q (F0 m pc ls (.ref v :: .int i :: .ref a :: rest)) := by
  obtain ⟨g1, h1, h2⟩ := bd1_some h
  obtain ⟨⟨ht, hi⟩, h3⟩ := oif h1
  cases h3
  have hc := gcell_43 (E := E) ht
  refine gb_aast (D := eD E) S.1 S.2.1 X.1 2 (hw.1.2.1 _ _ hc).1 rfl hi hv hd (fun H1 k1 e1 z1 t1 o1 => ?_)
  exact W.canon (kk _ H1 _ h2 ⟨gB.sR hw.1 hc (gce_sR.trans (gcc_43 ht)) e1 z1 t1 o1 (by omega) (by omega), hw.2.put z1 o1 (hw.1.2.1 _ _ hc).2⟩)
theorem gast43N {i : Int32} {v : Unit} {F : GS → Option β} {own : String} (S : CallFix p m c cc nL s args lw_all own) (X : gCtx E A s) (hw : gH E A LC LS s g H locs) (hd : decode cc pc = .ok (.aastore, 1)) (h : bd1 (xR g a 43 i none) F = some r) (kk : ∀ (g1 : GS) (H : Heap) (locs : List Loc), F g1 = some r → gH E A LC LS s g1 H locs → W p l e R s m args below meth c H locs (H.size - s.heap.size) (tot H - tot s.heap) Q (F0 m (pc + 1) ls rest)) : W p l e R s m args below meth c H locs cells slots Q (F0 m pc ls (.null :: .int i :: .ref a :: rest)) := by
  obtain ⟨g1, h1, h2⟩ := bd1_some h
  obtain ⟨⟨ht, hi⟩, h3⟩ := oif h1
  cases h3
  have hc := gcell_43 (E := E) ht
  refine gb_aastN (D := eD E) S.1 S.2.1 X.1 2 (hw.1.2.1 _ _ hc).1 rfl hi  hd (fun H1 k1 e1 z1 t1 o1 => ?_)
  exact W.canon (kk _ H1 _ h2 ⟨gB.sR hw.1 hc (gce_sR.trans (gcc_43 ht)) e1 z1 t1 o1 (by omega) (by omega), hw.2.put z1 o1 (hw.1.2.1 _ _ hc).2⟩)
theorem gast45 {i : Int32} {v : Nat} {F : GS → Option β} {own : String} (S : CallFix p m c cc nL s args lw_all own) (X : gCtx E A s) (hw : gH E A LC LS s g H locs) (hd : decode cc pc = .ok (.aastore, 1)) (hv : va_Any "PulseRent$State" s H v) (h : bd1 (xR g a 45 i (some v)) F = some r) (kk : ∀ (g1 : GS) (H : Heap) (locs : List Loc), F g1 = some r → gH E A LC LS s g1 H locs → W p l e R s m args below meth c H locs (H.size - s.heap.size) (tot H - tot s.heap) Q (F0 m (pc + 1) ls rest)) : W p l e R s m args below meth c H locs cells slots Q (F0 m pc ls (.ref v :: .int i :: .ref a :: rest)) := by
  obtain ⟨g1, h1, h2⟩ := bd1_some h
  obtain ⟨⟨ht, hi⟩, h3⟩ := oif h1
  cases h3
  have hc := gcell_45 (E := E) ht
  refine gb_aast (D := eD E) S.1 S.2.1 X.1 3 (hw.1.2.1 _ _ hc).1 rfl hi hv hd (fun H1 k1 e1 z1 t1 o1 => ?_)
  exact W.canon (kk _ H1 _ h2 ⟨gB.sR hw.1 hc (gce_sR.trans (gcc_45 ht)) e1 z1 t1 o1 (by omega) (by omega), hw.2.put z1 o1 (hw.1.2.1 _ _ hc).2⟩)
theorem gast45N {i : Int32} {v : Unit} {F : GS → Option β} {own : String} (S : CallFix p m c cc nL s args lw_all own) (X : gCtx E A s) (hw : gH E A LC LS s g H locs) (hd : decode cc pc = .ok (.aastore, 1)) (h : bd1 (xR g a 45 i none) F = some r) (kk : ∀ (g1 : GS) (H : Heap) (locs : List Loc), F g1 = some r → gH E A LC LS s g1 H locs → W p l e R s m args below meth c H locs (H.size - s.heap.size) (tot H - tot s.heap) Q (F0 m (pc + 1) ls rest)) : W p l e R s m args below meth c H locs cells slots Q (F0 m pc ls (.null :: .int i :: .ref a :: rest)) := by
  obtain ⟨g1, h1, h2⟩ := bd1_some h
  obtain ⟨⟨ht, hi⟩, h3⟩ := oif h1
  cases h3
  have hc := gcell_45 (E := E) ht
  refine gb_aastN (D := eD E) S.1 S.2.1 X.1 3 (hw.1.2.1 _ _ hc).1 rfl hi  hd (fun H1 k1 e1 z1 t1 o1 => ?_)
  exact W.canon (kk _ H1 _ h2 ⟨gB.sR hw.1 hc (gce_sR.trans (gcc_45 ht)) e1 z1 t1 o1 (by omega) (by omega), hw.2.put z1 o1 (hw.1.2.1 _ _ hc).2⟩)
theorem gast47 {i : Int32} {v : Nat} {F : GS → Option β} {own : String} (S : CallFix p m c cc nL s args lw_all own) (X : gCtx E A s) (hw : gH E A LC LS s g H locs) (hd : decode cc pc = .ok (.aastore, 1)) (hv : va_Any "PulseRent$Mark" s H v) (h : bd1 (xR g a 47 i (some v)) F = some r) (kk : ∀ (g1 : GS) (H : Heap) (locs : List Loc), F g1 = some r → gH E A LC LS s g1 H locs → W p l e R s m args below meth c H locs (H.size - s.heap.size) (tot H - tot s.heap) Q (F0 m (pc + 1) ls rest)) : W p l e R s m args below meth c H locs cells slots Q (F0 m pc ls (.ref v :: .int i :: .ref a :: rest)) := by
  obtain ⟨g1, h1, h2⟩ := bd1_some h
  obtain ⟨⟨ht, hi⟩, h3⟩ := oif h1
  cases h3
  have hc := gcell_47 (E := E) ht
  refine gb_aast (D := eD E) S.1 S.2.1 X.1 5 (hw.1.2.1 _ _ hc).1 rfl hi hv hd (fun H1 k1 e1 z1 t1 o1 => ?_)
  exact W.canon (kk _ H1 _ h2 ⟨gB.sR hw.1 hc (gce_sR.trans (gcc_47 ht)) e1 z1 t1 o1 (by omega) (by omega), hw.2.put z1 o1 (hw.1.2.1 _ _ hc).2⟩)
theorem gast47N {i : Int32} {v : Unit} {F : GS → Option β} {own : String} (S : CallFix p m c cc nL s args lw_all own) (X : gCtx E A s) (hw : gH E A LC LS s g H locs) (hd : decode cc pc = .ok (.aastore, 1)) (h : bd1 (xR g a 47 i none) F = some r) (kk : ∀ (g1 : GS) (H : Heap) (locs : List Loc), F g1 = some r → gH E A LC LS s g1 H locs → W p l e R s m args below meth c H locs (H.size - s.heap.size) (tot H - tot s.heap) Q (F0 m (pc + 1) ls rest)) : W p l e R s m args below meth c H locs cells slots Q (F0 m pc ls (.null :: .int i :: .ref a :: rest)) := by
  obtain ⟨g1, h1, h2⟩ := bd1_some h
  obtain ⟨⟨ht, hi⟩, h3⟩ := oif h1
  cases h3
  have hc := gcell_47 (E := E) ht
  refine gb_aastN (D := eD E) S.1 S.2.1 X.1 5 (hw.1.2.1 _ _ hc).1 rfl hi  hd (fun H1 k1 e1 z1 t1 o1 => ?_)
  exact W.canon (kk _ H1 _ h2 ⟨gB.sR hw.1 hc (gce_sR.trans (gcc_47 ht)) e1 z1 t1 o1 (by omega) (by omega), hw.2.put z1 o1 (hw.1.2.1 _ _ hc).2⟩)
end BK3
