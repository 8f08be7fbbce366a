/-! B: making cells, constants, casts, ends, calls (printed by gen/bkit2.py) -/
set_option maxRecDepth 100000
def gRm (R : Room) (s : State) (LC LS : Nat) : Prop := R.cells = LC - s.heap.size ∧ R.slots = LS - tot s.heap
section BK4
variable {p : Program} {l : Launch} {e : Env} {R : Room} {s : State} {m : MethodId} {args : Array Value} {below : List Frame} {meth : Method} {c : Code} {H : Heap} {locs : List Loc} {cells slots : Nat} {Q : State → Prop}
variable {cc : ByteArray} {nL pc : Nat} {ls : Array Slot} {rest : List Value} {A : Nat → Prop} {E : gE} {LC LS : Nat} {g : GS} {a : Nat} {β : Type} {r : β}

theorem gn_end {F : GS → Option β} {t n ns : Nat} {e1 : va_E} {H1 : Heap} {pc2 : Nat} {r2 : List Value} (X : gCtx E A s) (hw : gH E A LC LS s g H locs) (hl : gZ g + 1 ≤ gLC g ∧ gN g + ns ≤ gLS g) (hg1 : gcell E (nw g t n ns) (gZ g) = some e1) (h31 : t ≠ 31) (h42 : t ≠ 42) (h2 : F (nw g t n ns) = some r) (hc : va_at (eD E) vwCl (H.size, e1) H1) (hz : H1.size = H.size + 1) (ht : tot H1 = tot H + ns) (ho : ∀ q : Nat, q < H.size → H1[q]? = H[q]?)
    (kk : ∀ (g1 : GS) (H : Heap), F g1 = some r → gH E A LC LS s g1 H locs → W p l e R s m args below meth c H locs (H.size - s.heap.size) (tot H - tot s.heap) Q (F0 m pc2 ls (.ref (gZ g) :: r2))) : W p l e R s m args below meth c H1 locs cells slots Q (F0 m pc2 ls (.ref H.size :: r2)) := by
  have e := hw.1.1.1
  have k := kk _ H1 h2 ⟨gB.new hw.1 (X.2.1 _ hw.2.1) hg1 hc hz ht ho hl h31 h42, Nat.le_trans hw.2.1 (by omega), fun x h1 h3 => (ho x (Nat.lt_of_lt_of_le h1 hw.2.1)).trans (hw.2.2.1 x h1 h3), hw.2.2.2⟩
  rw [e] at k
  exact W.canon k
theorem gnX1_25 {F : GS → Option β} (S : CallFix p m c cc nL s args lw_all RX1) (X : gCtx E A s) (Z : gRm R s LC LS) (hw : gH E A LC LS s g H locs) (hd : decode cc pc = .ok (.new 25, 3)) (h : bd1 (onw g 2 0 9) F = some r) (kk : ∀ (g1 : GS) (H : Heap), F g1 = some r → gH E A LC LS s g1 H locs → W p l e R s m args below meth c H locs (H.size - s.heap.size) (tot H - tot s.heap) Q (F0 m (pc + 3) ls (.ref (gZ g) :: rest))) : W p l e R s m args below meth c H locs (H.size - s.heap.size) (tot H - tot s.heap) Q (F0 m pc ls rest) := by
  obtain ⟨g1, h1, h2⟩ := bd1_some h
  obtain ⟨hl, h3⟩ := oif h1
  cases h3
  refine W.totle (fun hs ht => ?_)
  have z1 := hw.1.1
  refine gb_new (D := eD E) (ci := 1) (C := RX2) (T := TX2) (N := 9) (fs := [va_rf none, .int 0, .int 0, .int 0, .int 0, .int 0, .int 0, va_rf none, va_rf none]) S.1 S.2.1 S.2.2.2.2 in_X2 tyX2 tyX2_ok S.2.2.2.1 (S.2.2.2.2 _ q188) (S.2.2.2.2 _ q189) (S.2.2.2.2 _ q136) X.1 rfl (fun j hj => by rcases (by omega : j = 0 ∨ j = 1 ∨ j = 2 ∨ j = 3 ∨ j = 4 ∨ j = 5 ∨ j = 6 ∨ j = 7 ∨ j = 8) with rfl | rfl | rfl | rfl | rfl | rfl | rfl | rfl | rfl <;> rfl) (by rw [Z.1]; omega) (by rw [Z.2]; omega) hd (fun H1 e1 e2 e3 e4 => ?_)
  exact gn_end X hw hl (gce_nw.trans (gcc_2 rfl)) (by decide) (by decide) h2 e1 e2 e3 e4 kk
theorem gnX1_32 {F : GS → Option β} (S : CallFix p m c cc nL s args lw_all RX1) (X : gCtx E A s) (Z : gRm R s LC LS) (hw : gH E A LC LS s g H locs) (hd : decode cc pc = .ok (.new 32, 3)) (h : bd1 (onw g 3 0 8) F = some r) (kk : ∀ (g1 : GS) (H : Heap), F g1 = some r → gH E A LC LS s g1 H locs → W p l e R s m args below meth c H locs (H.size - s.heap.size) (tot H - tot s.heap) Q (F0 m (pc + 3) ls (.ref (gZ g) :: rest))) : W p l e R s m args below meth c H locs (H.size - s.heap.size) (tot H - tot s.heap) Q (F0 m pc ls rest) := by
  obtain ⟨g1, h1, h2⟩ := bd1_some h
  obtain ⟨hl, h3⟩ := oif h1
  cases h3
  refine W.totle (fun hs ht => ?_)
  have z1 := hw.1.1
  refine gb_new (D := eD E) (ci := 2) (C := RX3) (T := TX3) (N := 8) (fs := [va_rf none, va_rf none, va_rf none, .int 0, .int 0, .int 0, va_rf none, va_rf none]) S.1 S.2.1 S.2.2.2.2 in_X3 tyX3 tyX3_ok S.2.2.2.1 (S.2.2.2.2 _ q223) (S.2.2.2.2 _ q224) (S.2.2.2.2 _ q137) X.1 rfl (fun j hj => by rcases (by omega : j = 0 ∨ j = 1 ∨ j = 2 ∨ j = 3 ∨ j = 4 ∨ j = 5 ∨ j = 6 ∨ j = 7) with rfl | rfl | rfl | rfl | rfl | rfl | rfl | rfl <;> rfl) (by rw [Z.1]; omega) (by rw [Z.2]; omega) hd (fun H1 e1 e2 e3 e4 => ?_)
  exact gn_end X hw hl (gce_nw.trans (gcc_3 rfl)) (by decide) (by decide) h2 e1 e2 e3 e4 kk
theorem gnX1_39 {F : GS → Option β} (S : CallFix p m c cc nL s args lw_all RX1) (X : gCtx E A s) (Z : gRm R s LC LS) (hw : gH E A LC LS s g H locs) (hd : decode cc pc = .ok (.new 39, 3)) (h : bd1 (onw g 23 0 3) F = some r) (kk : ∀ (g1 : GS) (H : Heap), F g1 = some r → gH E A LC LS s g1 H locs → W p l e R s m args below meth c H locs (H.size - s.heap.size) (tot H - tot s.heap) Q (F0 m (pc + 3) ls (.ref (gZ g) :: rest))) : W p l e R s m args below meth c H locs (H.size - s.heap.size) (tot H - tot s.heap) Q (F0 m pc ls rest) := by
  obtain ⟨g1, h1, h2⟩ := bd1_some h
  obtain ⟨hl, h3⟩ := oif h1
  cases h3
  refine W.totle (fun hs ht => ?_)
  have z1 := hw.1.1
  refine gb_new (D := eD E) (ci := 22) (C := RJ2) (T := TJ2) (N := 3) (fs := [.int 0, va_rf none, .int 0]) S.1 S.2.1 S.2.2.2.2 in_J2 tyJ2 tyJ2_ok S.2.2.2.1 (S.2.2.2.2 _ q296) (S.2.2.2.2 _ q230) (S.2.2.2.2 _ q140) X.1 rfl (fun j hj => by rcases (by omega : j = 0 ∨ j = 1 ∨ j = 2) with rfl | rfl | rfl <;> rfl) (by rw [Z.1]; omega) (by rw [Z.2]; omega) hd (fun H1 e1 e2 e3 e4 => ?_)
  exact gn_end X hw hl (gce_nw.trans (gcc_23 rfl)) (by decide) (by decide) h2 e1 e2 e3 e4 kk
theorem gnX1_48 {F : GS → Option β} (S : CallFix p m c cc nL s args lw_all RX1) (X : gCtx E A s) (Z : gRm R s LC LS) (hw : gH E A LC LS s g H locs) (hd : decode cc pc = .ok (.new 48, 3)) (h : bd1 (onw g 4 0 8) F = some r) (kk : ∀ (g1 : GS) (H : Heap), F g1 = some r → gH E A LC LS s g1 H locs → W p l e R s m args below meth c H locs (H.size - s.heap.size) (tot H - tot s.heap) Q (F0 m (pc + 3) ls (.ref (gZ g) :: rest))) : W p l e R s m args below meth c H locs (H.size - s.heap.size) (tot H - tot s.heap) Q (F0 m pc ls rest) := by
  obtain ⟨g1, h1, h2⟩ := bd1_some h
  obtain ⟨hl, h3⟩ := oif h1
  cases h3
  refine W.totle (fun hs ht => ?_)
  have z1 := hw.1.1
  refine gb_new (D := eD E) (ci := 3) (C := RX4) (T := TX4) (N := 8) (fs := [va_rf none, va_rf none, va_rf none, va_rf none, va_rf none, va_rf none, .int 0, .int 0]) S.1 S.2.1 S.2.2.2.2 in_X4 tyX4 tyX4_ok S.2.2.2.1 (S.2.2.2.2 _ q298) (S.2.2.2.2 _ q299) (S.2.2.2.2 _ q141) X.1 rfl (fun j hj => by rcases (by omega : j = 0 ∨ j = 1 ∨ j = 2 ∨ j = 3 ∨ j = 4 ∨ j = 5 ∨ j = 6 ∨ j = 7) with rfl | rfl | rfl | rfl | rfl | rfl | rfl | rfl <;> rfl) (by rw [Z.1]; omega) (by rw [Z.2]; omega) hd (fun H1 e1 e2 e3 e4 => ?_)
  exact gn_end X hw hl (gce_nw.trans (gcc_4 rfl)) (by decide) (by decide) h2 e1 e2 e3 e4 kk
theorem gnX1_95 {F : GS → Option β} (S : CallFix p m c cc nL s args lw_all RX1) (X : gCtx E A s) (Z : gRm R s LC LS) (hw : gH E A LC LS s g H locs) (hd : decode cc pc = .ok (.new 95, 3)) (h : bd1 (onw g 28 0 4) F = some r) (kk : ∀ (g1 : GS) (H : Heap), F g1 = some r → gH E A LC LS s g1 H locs → W p l e R s m args below meth c H locs (H.size - s.heap.size) (tot H - tot s.heap) Q (F0 m (pc + 3) ls (.ref (gZ g) :: rest))) : W p l e R s m args below meth c H locs (H.size - s.heap.size) (tot H - tot s.heap) Q (F0 m pc ls rest) := by
  obtain ⟨g1, h1, h2⟩ := bd1_some h
  obtain ⟨hl, h3⟩ := oif h1
  cases h3
  refine W.totle (fun hs ht => ?_)
  have z1 := hw.1.1
  refine gb_new (D := eD E) (ci := 21) (C := RX25) (T := TX25) (N := 4) (fs := [va_rf none, va_rf none, va_rf none, .int 0]) S.1 S.2.1 S.2.2.2.2 in_X25 tyX25 tyX25_ok S.2.2.2.1 (S.2.2.2.2 _ q343) (S.2.2.2.2 _ q1649) (S.2.2.2.2 _ q179) X.1 rfl (fun j hj => by rcases (by omega : j = 0 ∨ j = 1 ∨ j = 2 ∨ j = 3) with rfl | rfl | rfl | rfl <;> rfl) (by rw [Z.1]; omega) (by rw [Z.2]; omega) hd (fun H1 e1 e2 e3 e4 => ?_)
  exact gn_end X hw hl (gce_nw.trans (gcc_28 rfl)) (by decide) (by decide) h2 e1 e2 e3 e4 kk
theorem gnX1_10 {F : GS → Option β} (S : CallFix p m c cc nL s args lw_all RX1) (X : gCtx E A s) (Z : gRm R s LC LS) (hw : gH E A LC LS s g H locs) (hd : decode cc pc = .ok (.new 10, 3)) (h : bd1 (onw g 27 0 6) F = some r) (kk : ∀ (g1 : GS) (H : Heap), F g1 = some r → gH E A LC LS s g1 H locs → W p l e R s m args below meth c H locs (H.size - s.heap.size) (tot H - tot s.heap) Q (F0 m (pc + 3) ls (.ref (gZ g) :: rest))) : W p l e R s m args below meth c H locs (H.size - s.heap.size) (tot H - tot s.heap) Q (F0 m pc ls rest) := by
  obtain ⟨g1, h1, h2⟩ := bd1_some h
  obtain ⟨hl, h3⟩ := oif h1
  cases h3
  refine W.totle (fun hs ht => ?_)
  have z1 := hw.1.1
  refine gb_new (D := eD E) (ci := 26) (C := RJ18) (T := TJ18) (N := 6) (fs := [va_rf none, va_rf none, va_rf none, va_rf none, va_rf none, .int 0]) S.1 S.2.1 S.2.2.2.2 in_J18 tyJ18 tyJ18_ok S.2.2.2.1 (S.2.2.2.2 _ q1687) (S.2.2.2.2 _ q1688) (S.2.2.2.2 _ q178) X.1 rfl (fun j hj => by rcases (by omega : j = 0 ∨ j = 1 ∨ j = 2 ∨ j = 3 ∨ j = 4 ∨ j = 5) with rfl | rfl | rfl | rfl | rfl | rfl <;> rfl) (by rw [Z.1]; omega) (by rw [Z.2]; omega) hd (fun H1 e1 e2 e3 e4 => ?_)
  exact gn_end X hw hl (gce_nw.trans (gcc_27 rfl)) (by decide) (by decide) h2 e1 e2 e3 e4 kk
theorem gnX3_9 {F : GS → Option β} (S : CallFix p m c cc nL s args lw_all RX3) (X : gCtx E A s) (Z : gRm R s LC LS) (hw : gH E A LC LS s g H locs) (hd : decode cc pc = .ok (.new 9, 3)) (h : bd1 (onw g 23 0 3) F = some r) (kk : ∀ (g1 : GS) (H : Heap), F g1 = some r → gH E A LC LS s g1 H locs → W p l e R s m args below meth c H locs (H.size - s.heap.size) (tot H - tot s.heap) Q (F0 m (pc + 3) ls (.ref (gZ g) :: rest))) : W p l e R s m args below meth c H locs (H.size - s.heap.size) (tot H - tot s.heap) Q (F0 m pc ls rest) := by
  obtain ⟨g1, h1, h2⟩ := bd1_some h
  obtain ⟨hl, h3⟩ := oif h1
  cases h3
  refine W.totle (fun hs ht => ?_)
  have z1 := hw.1.1
  refine gb_new (D := eD E) (ci := 22) (C := RJ2) (T := TJ2) (N := 3) (fs := [.int 0, va_rf none, .int 0]) S.1 S.2.1 S.2.2.2.2 in_J2 tyJ2 tyJ2_ok S.2.2.2.1 (S.2.2.2.2 _ q229) (S.2.2.2.2 _ q230) (S.2.2.2.2 _ q140) X.1 rfl (fun j hj => by rcases (by omega : j = 0 ∨ j = 1 ∨ j = 2) with rfl | rfl | rfl <;> rfl) (by rw [Z.1]; omega) (by rw [Z.2]; omega) hd (fun H1 e1 e2 e3 e4 => ?_)
  exact gn_end X hw hl (gce_nw.trans (gcc_23 rfl)) (by decide) (by decide) h2 e1 e2 e3 e4 kk
theorem gnX25_9 {F : GS → Option β} (S : CallFix p m c cc nL s args lw_all RX25) (X : gCtx E A s) (Z : gRm R s LC LS) (hw : gH E A LC LS s g H locs) (hd : decode cc pc = .ok (.new 9, 3)) (h : bd1 (onw g 4 0 8) F = some r) (kk : ∀ (g1 : GS) (H : Heap), F g1 = some r → gH E A LC LS s g1 H locs → W p l e R s m args below meth c H locs (H.size - s.heap.size) (tot H - tot s.heap) Q (F0 m (pc + 3) ls (.ref (gZ g) :: rest))) : W p l e R s m args below meth c H locs (H.size - s.heap.size) (tot H - tot s.heap) Q (F0 m pc ls rest) := by
  obtain ⟨g1, h1, h2⟩ := bd1_some h
  obtain ⟨hl, h3⟩ := oif h1
  cases h3
  refine W.totle (fun hs ht => ?_)
  have z1 := hw.1.1
  refine gb_new (D := eD E) (ci := 3) (C := RX4) (T := TX4) (N := 8) (fs := [va_rf none, va_rf none, va_rf none, va_rf none, va_rf none, va_rf none, .int 0, .int 0]) S.1 S.2.1 S.2.2.2.2 in_X4 tyX4 tyX4_ok S.2.2.2.1 (S.2.2.2.2 _ q1654) (S.2.2.2.2 _ q299) (S.2.2.2.2 _ q141) X.1 rfl (fun j hj => by rcases (by omega : j = 0 ∨ j = 1 ∨ j = 2 ∨ j = 3 ∨ j = 4 ∨ j = 5 ∨ j = 6 ∨ j = 7) with rfl | rfl | rfl | rfl | rfl | rfl | rfl | rfl <;> rfl) (by rw [Z.1]; omega) (by rw [Z.2]; omega) hd (fun H1 e1 e2 e3 e4 => ?_)
  exact gn_end X hw hl (gce_nw.trans (gcc_4 rfl)) (by decide) (by decide) h2 e1 e2 e3 e4 kk
theorem gnX2_222 {F : GS → Option β} (S : CallFix p m c cc nL s args lw_all RX2) (X : gCtx E A s) (Z : gRm R s LC LS) (hw : gH E A LC LS s g H locs) (hd : decode cc pc = .ok (.new 222, 3)) (h : bd1 (onw g 8 0 6) F = some r) (kk : ∀ (g1 : GS) (H : Heap), F g1 = some r → gH E A LC LS s g1 H locs → W p l e R s m args below meth c H locs (H.size - s.heap.size) (tot H - tot s.heap) Q (F0 m (pc + 3) ls (.ref (gZ g) :: rest))) : W p l e R s m args below meth c H locs (H.size - s.heap.size) (tot H - tot s.heap) Q (F0 m pc ls rest) := by
  obtain ⟨g1, h1, h2⟩ := bd1_some h
  obtain ⟨hl, h3⟩ := oif h1
  cases h3
  refine W.totle (fun hs ht => ?_)
  have z1 := hw.1.1
  refine gb_new (D := eD E) (ci := 7) (C := RX8) (T := TX8) (N := 6) (fs := [va_rf none, .int 0, .int 0, .int 0, .int 0, .int 0]) S.1 S.2.1 S.2.2.2.2 in_X8 tyX8 tyX8_ok S.2.2.2.1 (S.2.2.2.2 _ q975) (S.2.2.2.2 _ q976) (S.2.2.2.2 _ q160) X.1 rfl (fun j hj => by rcases (by omega : j = 0 ∨ j = 1 ∨ j = 2 ∨ j = 3 ∨ j = 4 ∨ j = 5) with rfl | rfl | rfl | rfl | rfl | rfl <;> rfl) (by rw [Z.1]; omega) (by rw [Z.2]; omega) hd (fun H1 e1 e2 e3 e4 => ?_)
  exact gn_end X hw hl (gce_nw.trans (gcc_8 rfl)) (by decide) (by decide) h2 e1 e2 e3 e4 kk
theorem gnX2_226 {F : GS → Option β} (S : CallFix p m c cc nL s args lw_all RX2) (X : gCtx E A s) (Z : gRm R s LC LS) (hw : gH E A LC LS s g H locs) (hd : decode cc pc = .ok (.new 226, 3)) (h : bd1 (onw g 9 0 6) F = some r) (kk : ∀ (g1 : GS) (H : Heap), F g1 = some r → gH E A LC LS s g1 H locs → W p l e R s m args below meth c H locs (H.size - s.heap.size) (tot H - tot s.heap) Q (F0 m (pc + 3) ls (.ref (gZ g) :: rest))) : W p l e R s m args below meth c H locs (H.size - s.heap.size) (tot H - tot s.heap) Q (F0 m pc ls rest) := by
  obtain ⟨g1, h1, h2⟩ := bd1_some h
  obtain ⟨hl, h3⟩ := oif h1
  cases h3
  refine W.totle (fun hs ht => ?_)
  have z1 := hw.1.1
  refine gb_new (D := eD E) (ci := 8) (C := RX9) (T := TX9) (N := 6) (fs := [va_rf none, .int 0, .int 0, .int 0, .int 0, .int 0]) S.1 S.2.1 S.2.2.2.2 in_X9 tyX9 tyX9_ok S.2.2.2.1 (S.2.2.2.2 _ q1011) (S.2.2.2.2 _ q1012) (S.2.2.2.2 _ q161) X.1 rfl (fun j hj => by rcases (by omega : j = 0 ∨ j = 1 ∨ j = 2 ∨ j = 3 ∨ j = 4 ∨ j = 5) with rfl | rfl | rfl | rfl | rfl | rfl <;> rfl) (by rw [Z.1]; omega) (by rw [Z.2]; omega) hd (fun H1 e1 e2 e3 e4 => ?_)
  exact gn_end X hw hl (gce_nw.trans (gcc_9 rfl)) (by decide) (by decide) h2 e1 e2 e3 e4 kk
theorem gnX2_229 {F : GS → Option β} (S : CallFix p m c cc nL s args lw_all RX2) (X : gCtx E A s) (Z : gRm R s LC LS) (hw : gH E A LC LS s g H locs) (hd : decode cc pc = .ok (.new 229, 3)) (h : bd1 (onw g 10 0 6) F = some r) (kk : ∀ (g1 : GS) (H : Heap), F g1 = some r → gH E A LC LS s g1 H locs → W p l e R s m args below meth c H locs (H.size - s.heap.size) (tot H - tot s.heap) Q (F0 m (pc + 3) ls (.ref (gZ g) :: rest))) : W p l e R s m args below meth c H locs (H.size - s.heap.size) (tot H - tot s.heap) Q (F0 m pc ls rest) := by
  obtain ⟨g1, h1, h2⟩ := bd1_some h
  obtain ⟨hl, h3⟩ := oif h1
  cases h3
  refine W.totle (fun hs ht => ?_)
  have z1 := hw.1.1
  refine gb_new (D := eD E) (ci := 9) (C := RX10) (T := TX10) (N := 6) (fs := [va_rf none, .int 0, .int 0, .int 0, .int 0, .int 0]) S.1 S.2.1 S.2.2.2.2 in_X10 tyX10 tyX10_ok S.2.2.2.1 (S.2.2.2.2 _ q1024) (S.2.2.2.2 _ q1025) (S.2.2.2.2 _ q162) X.1 rfl (fun j hj => by rcases (by omega : j = 0 ∨ j = 1 ∨ j = 2 ∨ j = 3 ∨ j = 4 ∨ j = 5) with rfl | rfl | rfl | rfl | rfl | rfl <;> rfl) (by rw [Z.1]; omega) (by rw [Z.2]; omega) hd (fun H1 e1 e2 e3 e4 => ?_)
  exact gn_end X hw hl (gce_nw.trans (gcc_10 rfl)) (by decide) (by decide) h2 e1 e2 e3 e4 kk
theorem gnX2_232 {F : GS → Option β} (S : CallFix p m c cc nL s args lw_all RX2) (X : gCtx E A s) (Z : gRm R s LC LS) (hw : gH E A LC LS s g H locs) (hd : decode cc pc = .ok (.new 232, 3)) (h : bd1 (onw g 11 0 6) F = some r) (kk : ∀ (g1 : GS) (H : Heap), F g1 = some r → gH E A LC LS s g1 H locs → W p l e R s m args below meth c H locs (H.size - s.heap.size) (tot H - tot s.heap) Q (F0 m (pc + 3) ls (.ref (gZ g) :: rest))) : W p l e R s m args below meth c H locs (H.size - s.heap.size) (tot H - tot s.heap) Q (F0 m pc ls rest) := by
  obtain ⟨g1, h1, h2⟩ := bd1_some h
  obtain ⟨hl, h3⟩ := oif h1
  cases h3
  refine W.totle (fun hs ht => ?_)
  have z1 := hw.1.1
  refine gb_new (D := eD E) (ci := 10) (C := RX11) (T := TX11) (N := 6) (fs := [va_rf none, .int 0, .int 0, .int 0, .int 0, .int 0]) S.1 S.2.1 S.2.2.2.2 in_X11 tyX11 tyX11_ok S.2.2.2.1 (S.2.2.2.2 _ q1037) (S.2.2.2.2 _ q1038) (S.2.2.2.2 _ q163) X.1 rfl (fun j hj => by rcases (by omega : j = 0 ∨ j = 1 ∨ j = 2 ∨ j = 3 ∨ j = 4 ∨ j = 5) with rfl | rfl | rfl | rfl | rfl | rfl <;> rfl) (by rw [Z.1]; omega) (by rw [Z.2]; omega) hd (fun H1 e1 e2 e3 e4 => ?_)
  exact gn_end X hw hl (gce_nw.trans (gcc_11 rfl)) (by decide) (by decide) h2 e1 e2 e3 e4 kk
theorem gnX2_300 {F : GS → Option β} (S : CallFix p m c cc nL s args lw_all RX2) (X : gCtx E A s) (Z : gRm R s LC LS) (hw : gH E A LC LS s g H locs) (hd : decode cc pc = .ok (.new 300, 3)) (h : bd1 (onw g 16 0 3) F = some r) (kk : ∀ (g1 : GS) (H : Heap), F g1 = some r → gH E A LC LS s g1 H locs → W p l e R s m args below meth c H locs (H.size - s.heap.size) (tot H - tot s.heap) Q (F0 m (pc + 3) ls (.ref (gZ g) :: rest))) : W p l e R s m args below meth c H locs (H.size - s.heap.size) (tot H - tot s.heap) Q (F0 m pc ls rest) := by
  obtain ⟨g1, h1, h2⟩ := bd1_some h
  obtain ⟨hl, h3⟩ := oif h1
  cases h3
  refine W.totle (fun hs ht => ?_)
  have z1 := hw.1.1
  refine gb_new (D := eD E) (ci := 15) (C := RX17) (T := TX17) (N := 3) (fs := [.int 0, va_rf none, va_rf none]) S.1 S.2.1 S.2.2.2.2 in_X17 tyX17 tyX17_ok S.2.2.2.1 (S.2.2.2.2 _ q1168) (S.2.2.2.2 _ q1169) (S.2.2.2.2 _ q169) X.1 rfl (fun j hj => by rcases (by omega : j = 0 ∨ j = 1 ∨ j = 2) with rfl | rfl | rfl <;> rfl) (by rw [Z.1]; omega) (by rw [Z.2]; omega) hd (fun H1 e1 e2 e3 e4 => ?_)
  exact gn_end X hw hl (gce_nw.trans (gcc_16 rfl)) (by decide) (by decide) h2 e1 e2 e3 e4 kk
theorem gnX2_106 {F : GS → Option β} (S : CallFix p m c cc nL s args lw_all RX2) (X : gCtx E A s) (Z : gRm R s LC LS) (hw : gH E A LC LS s g H locs) (hd : decode cc pc = .ok (.new 106, 3)) (h : bd1 (onw g 3 0 8) F = some r) (kk : ∀ (g1 : GS) (H : Heap), F g1 = some r → gH E A LC LS s g1 H locs → W p l e R s m args below meth c H locs (H.size - s.heap.size) (tot H - tot s.heap) Q (F0 m (pc + 3) ls (.ref (gZ g) :: rest))) : W p l e R s m args below meth c H locs (H.size - s.heap.size) (tot H - tot s.heap) Q (F0 m pc ls rest) := by
  obtain ⟨g1, h1, h2⟩ := bd1_some h
  obtain ⟨hl, h3⟩ := oif h1
  cases h3
  refine W.totle (fun hs ht => ?_)
  have z1 := hw.1.1
  refine gb_new (D := eD E) (ci := 2) (C := RX3) (T := TX3) (N := 8) (fs := [va_rf none, va_rf none, va_rf none, .int 0, .int 0, .int 0, va_rf none, va_rf none]) S.1 S.2.1 S.2.2.2.2 in_X3 tyX3 tyX3_ok S.2.2.2.1 (S.2.2.2.2 _ q567) (S.2.2.2.2 _ q224) (S.2.2.2.2 _ q137) X.1 rfl (fun j hj => by rcases (by omega : j = 0 ∨ j = 1 ∨ j = 2 ∨ j = 3 ∨ j = 4 ∨ j = 5 ∨ j = 6 ∨ j = 7) with rfl | rfl | rfl | rfl | rfl | rfl | rfl | rfl <;> rfl) (by rw [Z.1]; omega) (by rw [Z.2]; omega) hd (fun H1 e1 e2 e3 e4 => ?_)
  exact gn_end X hw hl (gce_nw.trans (gcc_3 rfl)) (by decide) (by decide) h2 e1 e2 e3 e4 kk
theorem gnX2_178 {F : GS → Option β} (S : CallFix p m c cc nL s args lw_all RX2) (X : gCtx E A s) (Z : gRm R s LC LS) (hw : gH E A LC LS s g H locs) (hd : decode cc pc = .ok (.new 178, 3)) (h : bd1 (onw g 7 0 4) F = some r) (kk : ∀ (g1 : GS) (H : Heap), F g1 = some r → gH E A LC LS s g1 H locs → W p l e R s m args below meth c H locs (H.size - s.heap.size) (tot H - tot s.heap) Q (F0 m (pc + 3) ls (.ref (gZ g) :: rest))) : W p l e R s m args below meth c H locs (H.size - s.heap.size) (tot H - tot s.heap) Q (F0 m pc ls rest) := by
  obtain ⟨g1, h1, h2⟩ := bd1_some h
  obtain ⟨hl, h3⟩ := oif h1
  cases h3
  refine W.totle (fun hs ht => ?_)
  have z1 := hw.1.1
  refine gb_new (D := eD E) (ci := 6) (C := RX7) (T := TX7) (N := 4) (fs := [va_rf none, .int 0, .int 0, .int 0]) S.1 S.2.1 S.2.2.2.2 in_X7 tyX7 tyX7_ok S.2.2.2.1 (S.2.2.2.2 _ q878) (S.2.2.2.2 _ q879) (S.2.2.2.2 _ q159) X.1 rfl (fun j hj => by rcases (by omega : j = 0 ∨ j = 1 ∨ j = 2 ∨ j = 3) with rfl | rfl | rfl | rfl <;> rfl) (by rw [Z.1]; omega) (by rw [Z.2]; omega) hd (fun H1 e1 e2 e3 e4 => ?_)
  exact gn_end X hw hl (gce_nw.trans (gcc_7 rfl)) (by decide) (by decide) h2 e1 e2 e3 e4 kk
theorem gnX2_199 {F : GS → Option β} (S : CallFix p m c cc nL s args lw_all RX2) (X : gCtx E A s) (Z : gRm R s LC LS) (hw : gH E A LC LS s g H locs) (hd : decode cc pc = .ok (.new 199, 3)) (h : bd1 (onw g 12 0 4) F = some r) (kk : ∀ (g1 : GS) (H : Heap), F g1 = some r → gH E A LC LS s g1 H locs → W p l e R s m args below meth c H locs (H.size - s.heap.size) (tot H - tot s.heap) Q (F0 m (pc + 3) ls (.ref (gZ g) :: rest))) : W p l e R s m args below meth c H locs (H.size - s.heap.size) (tot H - tot s.heap) Q (F0 m pc ls rest) := by
  obtain ⟨g1, h1, h2⟩ := bd1_some h
  obtain ⟨hl, h3⟩ := oif h1
  cases h3
  refine W.totle (fun hs ht => ?_)
  have z1 := hw.1.1
  refine gb_new (D := eD E) (ci := 11) (C := RX12) (T := TX12) (N := 4) (fs := [va_rf none, .int 0, .int 0, .int 0]) S.1 S.2.1 S.2.2.2.2 in_X12 tyX12 tyX12_ok S.2.2.2.1 (S.2.2.2.2 _ q1076) (S.2.2.2.2 _ q1077) (S.2.2.2.2 _ q164) X.1 rfl (fun j hj => by rcases (by omega : j = 0 ∨ j = 1 ∨ j = 2 ∨ j = 3) with rfl | rfl | rfl | rfl <;> rfl) (by rw [Z.1]; omega) (by rw [Z.2]; omega) hd (fun H1 e1 e2 e3 e4 => ?_)
  exact gn_end X hw hl (gce_nw.trans (gcc_12 rfl)) (by decide) (by decide) h2 e1 e2 e3 e4 kk
theorem gnX2_153 {F : GS → Option β} (S : CallFix p m c cc nL s args lw_all RX2) (X : gCtx E A s) (Z : gRm R s LC LS) (hw : gH E A LC LS s g H locs) (hd : decode cc pc = .ok (.new 153, 3)) (h : bd1 (onw g 23 0 3) F = some r) (kk : ∀ (g1 : GS) (H : Heap), F g1 = some r → gH E A LC LS s g1 H locs → W p l e R s m args below meth c H locs (H.size - s.heap.size) (tot H - tot s.heap) Q (F0 m (pc + 3) ls (.ref (gZ g) :: rest))) : W p l e R s m args below meth c H locs (H.size - s.heap.size) (tot H - tot s.heap) Q (F0 m pc ls rest) := by
  obtain ⟨g1, h1, h2⟩ := bd1_some h
  obtain ⟨hl, h3⟩ := oif h1
  cases h3
  refine W.totle (fun hs ht => ?_)
  have z1 := hw.1.1
  refine gb_new (D := eD E) (ci := 22) (C := RJ2) (T := TJ2) (N := 3) (fs := [.int 0, va_rf none, .int 0]) S.1 S.2.1 S.2.2.2.2 in_J2 tyJ2 tyJ2_ok S.2.2.2.1 (S.2.2.2.2 _ q1194) (S.2.2.2.2 _ q230) (S.2.2.2.2 _ q140) X.1 rfl (fun j hj => by rcases (by omega : j = 0 ∨ j = 1 ∨ j = 2) with rfl | rfl | rfl <;> rfl) (by rw [Z.1]; omega) (by rw [Z.2]; omega) hd (fun H1 e1 e2 e3 e4 => ?_)
  exact gn_end X hw hl (gce_nw.trans (gcc_23 rfl)) (by decide) (by decide) h2 e1 e2 e3 e4 kk
theorem gnX2_85 {F : GS → Option β} (S : CallFix p m c cc nL s args lw_all RX2) (X : gCtx E A s) (Z : gRm R s LC LS) (hw : gH E A LC LS s g H locs) (hd : decode cc pc = .ok (.new 85, 3)) (h : bd1 (onw g 26 0 4) F = some r) (kk : ∀ (g1 : GS) (H : Heap), F g1 = some r → gH E A LC LS s g1 H locs → W p l e R s m args below meth c H locs (H.size - s.heap.size) (tot H - tot s.heap) Q (F0 m (pc + 3) ls (.ref (gZ g) :: rest))) : W p l e R s m args below meth c H locs (H.size - s.heap.size) (tot H - tot s.heap) Q (F0 m pc ls rest) := by
  obtain ⟨g1, h1, h2⟩ := bd1_some h
  obtain ⟨hl, h3⟩ := oif h1
  cases h3
  refine W.totle (fun hs ht => ?_)
  have z1 := hw.1.1
  refine gb_new (D := eD E) (ci := 25) (C := RJ14) (T := TJ14) (N := 4) (fs := [va_rf none, .int 0, .int 0, .int 0]) S.1 S.2.1 S.2.2.2.2 in_J14 tyJ14 tyJ14_ok S.2.2.2.1 (S.2.2.2.2 _ q681) (S.2.2.2.2 _ q682) (S.2.2.2.2 _ q155) X.1 rfl (fun j hj => by rcases (by omega : j = 0 ∨ j = 1 ∨ j = 2 ∨ j = 3) with rfl | rfl | rfl | rfl <;> rfl) (by rw [Z.1]; omega) (by rw [Z.2]; omega) hd (fun H1 e1 e2 e3 e4 => ?_)
  exact gn_end X hw hl (gce_nw.trans (gcc_26 rfl)) (by decide) (by decide) h2 e1 e2 e3 e4 kk
theorem gnX2_316 {F : GS → Option β} (S : CallFix p m c cc nL s args lw_all RX2) (X : gCtx E A s) (Z : gRm R s LC LS) (hw : gH E A LC LS s g H locs) (hd : decode cc pc = .ok (.new 316, 3)) (h : bd1 (onw g 13 0 1) F = some r) (kk : ∀ (g1 : GS) (H : Heap), F g1 = some r → gH E A LC LS s g1 H locs → W p l e R s m args below meth c H locs (H.size - s.heap.size) (tot H - tot s.heap) Q (F0 m (pc + 3) ls (.ref (gZ g) :: rest))) : W p l e R s m args below meth c H locs (H.size - s.heap.size) (tot H - tot s.heap) Q (F0 m pc ls rest) := by
  obtain ⟨g1, h1, h2⟩ := bd1_some h
  obtain ⟨hl, h3⟩ := oif h1
  cases h3
  refine W.totle (fun hs ht => ?_)
  have z1 := hw.1.1
  refine gb_new (D := eD E) (ci := 12) (C := RX14) (T := TX14) (N := 1) (fs := [.int 0]) S.1 S.2.1 S.2.2.2.2 in_X14 tyX14 tyX14_ok S.2.2.2.1 (S.2.2.2.2 _ q1131) (S.2.2.2.2 _ q1132) (S.2.2.2.2 _ q166) X.1 rfl (fun j hj => by rcases (by omega : j = 0) with rfl <;> rfl) (by rw [Z.1]; omega) (by rw [Z.2]; omega) hd (fun H1 e1 e2 e3 e4 => ?_)
  exact gn_end X hw hl (gce_nw.trans (gcc_13 rfl)) (by decide) (by decide) h2 e1 e2 e3 e4 kk
theorem gnX2_319 {F : GS → Option β} (S : CallFix p m c cc nL s args lw_all RX2) (X : gCtx E A s) (Z : gRm R s LC LS) (hw : gH E A LC LS s g H locs) (hd : decode cc pc = .ok (.new 319, 3)) (h : bd1 (onw g 14 0 1) F = some r) (kk : ∀ (g1 : GS) (H : Heap), F g1 = some r → gH E A LC LS s g1 H locs → W p l e R s m args below meth c H locs (H.size - s.heap.size) (tot H - tot s.heap) Q (F0 m (pc + 3) ls (.ref (gZ g) :: rest))) : W p l e R s m args below meth c H locs (H.size - s.heap.size) (tot H - tot s.heap) Q (F0 m pc ls rest) := by
  obtain ⟨g1, h1, h2⟩ := bd1_some h
  obtain ⟨hl, h3⟩ := oif h1
  cases h3
  refine W.totle (fun hs ht => ?_)
  have z1 := hw.1.1
  refine gb_new (D := eD E) (ci := 13) (C := RX15) (T := TX15) (N := 1) (fs := [.int 0]) S.1 S.2.1 S.2.2.2.2 in_X15 tyX15 tyX15_ok S.2.2.2.1 (S.2.2.2.2 _ q1144) (S.2.2.2.2 _ q1145) (S.2.2.2.2 _ q167) X.1 rfl (fun j hj => by rcases (by omega : j = 0) with rfl <;> rfl) (by rw [Z.1]; omega) (by rw [Z.2]; omega) hd (fun H1 e1 e2 e3 e4 => ?_)
  exact gn_end X hw hl (gce_nw.trans (gcc_14 rfl)) (by decide) (by decide) h2 e1 e2 e3 e4 kk
theorem gnX2_322 {F : GS → Option β} (S : CallFix p m c cc nL s args lw_all RX2) (X : gCtx E A s) (Z : gRm R s LC LS) (hw : gH E A LC LS s g H locs) (hd : decode cc pc = .ok (.new 322, 3)) (h : bd1 (onw g 15 0 1) F = some r) (kk : ∀ (g1 : GS) (H : Heap), F g1 = some r → gH E A LC LS s g1 H locs → W p l e R s m args below meth c H locs (H.size - s.heap.size) (tot H - tot s.heap) Q (F0 m (pc + 3) ls (.ref (gZ g) :: rest))) : W p l e R s m args below meth c H locs (H.size - s.heap.size) (tot H - tot s.heap) Q (F0 m pc ls rest) := by
  obtain ⟨g1, h1, h2⟩ := bd1_some h
  obtain ⟨hl, h3⟩ := oif h1
  cases h3
  refine W.totle (fun hs ht => ?_)
  have z1 := hw.1.1
  refine gb_new (D := eD E) (ci := 14) (C := RX16) (T := TX16) (N := 1) (fs := [va_rf none]) S.1 S.2.1 S.2.2.2.2 in_X16 tyX16 tyX16_ok S.2.2.2.1 (S.2.2.2.2 _ q1154) (S.2.2.2.2 _ q1155) (S.2.2.2.2 _ q168) X.1 rfl (fun j hj => by rcases (by omega : j = 0) with rfl <;> rfl) (by rw [Z.1]; omega) (by rw [Z.2]; omega) hd (fun H1 e1 e2 e3 e4 => ?_)
  exact gn_end X hw hl (gce_nw.trans (gcc_15 rfl)) (by decide) (by decide) h2 e1 e2 e3 e4 kk
theorem gnX2_277 {F : GS → Option β} (S : CallFix p m c cc nL s args lw_all RX2) (X : gCtx E A s) (Z : gRm R s LC LS) (hw : gH E A LC LS s g H locs) (hd : decode cc pc = .ok (.new 277, 3)) (h : bd1 (onw g 17 0 1) F = some r) (kk : ∀ (g1 : GS) (H : Heap), F g1 = some r → gH E A LC LS s g1 H locs → W p l e R s m args below meth c H locs (H.size - s.heap.size) (tot H - tot s.heap) Q (F0 m (pc + 3) ls (.ref (gZ g) :: rest))) : W p l e R s m args below meth c H locs (H.size - s.heap.size) (tot H - tot s.heap) Q (F0 m pc ls rest) := by
  obtain ⟨g1, h1, h2⟩ := bd1_some h
  obtain ⟨hl, h3⟩ := oif h1
  cases h3
  refine W.totle (fun hs ht => ?_)
  have z1 := hw.1.1
  refine gb_new (D := eD E) (ci := 16) (C := RX19) (T := TX19) (N := 1) (fs := [.int 0]) S.1 S.2.1 S.2.2.2.2 in_X19 tyX19 tyX19_ok S.2.2.2.1 (S.2.2.2.2 _ q1201) (S.2.2.2.2 _ q1202) (S.2.2.2.2 _ q171) X.1 rfl (fun j hj => by rcases (by omega : j = 0) with rfl <;> rfl) (by rw [Z.1]; omega) (by rw [Z.2]; omega) hd (fun H1 e1 e2 e3 e4 => ?_)
  exact gn_end X hw hl (gce_nw.trans (gcc_17 rfl)) (by decide) (by decide) h2 e1 e2 e3 e4 kk
theorem gnX2_280 {F : GS → Option β} (S : CallFix p m c cc nL s args lw_all RX2) (X : gCtx E A s) (Z : gRm R s LC LS) (hw : gH E A LC LS s g H locs) (hd : decode cc pc = .ok (.new 280, 3)) (h : bd1 (onw g 22 0 0) F = some r) (kk : ∀ (g1 : GS) (H : Heap), F g1 = some r → gH E A LC LS s g1 H locs → W p l e R s m args below meth c H locs (H.size - s.heap.size) (tot H - tot s.heap) Q (F0 m (pc + 3) ls (.ref (gZ g) :: rest))) : W p l e R s m args below meth c H locs (H.size - s.heap.size) (tot H - tot s.heap) Q (F0 m pc ls rest) := by
  obtain ⟨g1, h1, h2⟩ := bd1_some h
  obtain ⟨hl, h3⟩ := oif h1
  cases h3
  refine W.totle (fun hs ht => ?_)
  have z1 := hw.1.1
  refine gb_new (D := eD E) (ci := 27) (C := RX20) (T := TX20) (N := 0) (fs := []) S.1 S.2.1 S.2.2.2.2 (fun w h => by cases h) (fun _ => .int) (fun k hk => absurd hk (Nat.not_lt_zero k)) S.2.2.2.1 (S.2.2.2.2 _ q1214) (S.2.2.2.2 _ q1215) (S.2.2.2.2 _ q172) X.1 rfl (fun j hj => absurd hj (Nat.not_lt_zero j)) (by rw [Z.1]; omega) (by rw [Z.2]; omega) hd (fun H1 e1 e2 e3 e4 => ?_)
  exact gn_end X hw hl (gce_nw.trans (gcc_22 rfl)) (by decide) (by decide) h2 e1 e2 e3 e4 kk
theorem gnX2_283 {F : GS → Option β} (S : CallFix p m c cc nL s args lw_all RX2) (X : gCtx E A s) (Z : gRm R s LC LS) (hw : gH E A LC LS s g H locs) (hd : decode cc pc = .ok (.new 283, 3)) (h : bd1 (onw g 18 0 1) F = some r) (kk : ∀ (g1 : GS) (H : Heap), F g1 = some r → gH E A LC LS s g1 H locs → W p l e R s m args below meth c H locs (H.size - s.heap.size) (tot H - tot s.heap) Q (F0 m (pc + 3) ls (.ref (gZ g) :: rest))) : W p l e R s m args below meth c H locs (H.size - s.heap.size) (tot H - tot s.heap) Q (F0 m pc ls rest) := by
  obtain ⟨g1, h1, h2⟩ := bd1_some h
  obtain ⟨hl, h3⟩ := oif h1
  cases h3
  refine W.totle (fun hs ht => ?_)
  have z1 := hw.1.1
  refine gb_new (D := eD E) (ci := 17) (C := RX21) (T := TX21) (N := 1) (fs := [.int 0]) S.1 S.2.1 S.2.2.2.2 in_X21 tyX21 tyX21_ok S.2.2.2.1 (S.2.2.2.2 _ q1221) (S.2.2.2.2 _ q1222) (S.2.2.2.2 _ q173) X.1 rfl (fun j hj => by rcases (by omega : j = 0) with rfl <;> rfl) (by rw [Z.1]; omega) (by rw [Z.2]; omega) hd (fun H1 e1 e2 e3 e4 => ?_)
  exact gn_end X hw hl (gce_nw.trans (gcc_18 rfl)) (by decide) (by decide) h2 e1 e2 e3 e4 kk
theorem gnX2_286 {F : GS → Option β} (S : CallFix p m c cc nL s args lw_all RX2) (X : gCtx E A s) (Z : gRm R s LC LS) (hw : gH E A LC LS s g H locs) (hd : decode cc pc = .ok (.new 286, 3)) (h : bd1 (onw g 19 0 2) F = some r) (kk : ∀ (g1 : GS) (H : Heap), F g1 = some r → gH E A LC LS s g1 H locs → W p l e R s m args below meth c H locs (H.size - s.heap.size) (tot H - tot s.heap) Q (F0 m (pc + 3) ls (.ref (gZ g) :: rest))) : W p l e R s m args below meth c H locs (H.size - s.heap.size) (tot H - tot s.heap) Q (F0 m pc ls rest) := by
  obtain ⟨g1, h1, h2⟩ := bd1_some h
  obtain ⟨hl, h3⟩ := oif h1
  cases h3
  refine W.totle (fun hs ht => ?_)
  have z1 := hw.1.1
  refine gb_new (D := eD E) (ci := 18) (C := RX22) (T := TX22) (N := 2) (fs := [.int 0, .int 0]) S.1 S.2.1 S.2.2.2.2 in_X22 tyX22 tyX22_ok S.2.2.2.1 (S.2.2.2.2 _ q1231) (S.2.2.2.2 _ q1232) (S.2.2.2.2 _ q174) X.1 rfl (fun j hj => by rcases (by omega : j = 0 ∨ j = 1) with rfl | rfl <;> rfl) (by rw [Z.1]; omega) (by rw [Z.2]; omega) hd (fun H1 e1 e2 e3 e4 => ?_)
  exact gn_end X hw hl (gce_nw.trans (gcc_19 rfl)) (by decide) (by decide) h2 e1 e2 e3 e4 kk
theorem gnX2_289 {F : GS → Option β} (S : CallFix p m c cc nL s args lw_all RX2) (X : gCtx E A s) (Z : gRm R s LC LS) (hw : gH E A LC LS s g H locs) (hd : decode cc pc = .ok (.new 289, 3)) (h : bd1 (onw g 20 0 1) F = some r) (kk : ∀ (g1 : GS) (H : Heap), F g1 = some r → gH E A LC LS s g1 H locs → W p l e R s m args below meth c H locs (H.size - s.heap.size) (tot H - tot s.heap) Q (F0 m (pc + 3) ls (.ref (gZ g) :: rest))) : W p l e R s m args below meth c H locs (H.size - s.heap.size) (tot H - tot s.heap) Q (F0 m pc ls rest) := by
  obtain ⟨g1, h1, h2⟩ := bd1_some h
  obtain ⟨hl, h3⟩ := oif h1
  cases h3
  refine W.totle (fun hs ht => ?_)
  have z1 := hw.1.1
  refine gb_new (D := eD E) (ci := 19) (C := RX23) (T := TX23) (N := 1) (fs := [.int 0]) S.1 S.2.1 S.2.2.2.2 in_X23 tyX23 tyX23_ok S.2.2.2.1 (S.2.2.2.2 _ q1244) (S.2.2.2.2 _ q1245) (S.2.2.2.2 _ q175) X.1 rfl (fun j hj => by rcases (by omega : j = 0) with rfl <;> rfl) (by rw [Z.1]; omega) (by rw [Z.2]; omega) hd (fun H1 e1 e2 e3 e4 => ?_)
  exact gn_end X hw hl (gce_nw.trans (gcc_20 rfl)) (by decide) (by decide) h2 e1 e2 e3 e4 kk
theorem gnX2_292 {F : GS → Option β} (S : CallFix p m c cc nL s args lw_all RX2) (X : gCtx E A s) (Z : gRm R s LC LS) (hw : gH E A LC LS s g H locs) (hd : decode cc pc = .ok (.new 292, 3)) (h : bd1 (onw g 21 0 2) F = some r) (kk : ∀ (g1 : GS) (H : Heap), F g1 = some r → gH E A LC LS s g1 H locs → W p l e R s m args below meth c H locs (H.size - s.heap.size) (tot H - tot s.heap) Q (F0 m (pc + 3) ls (.ref (gZ g) :: rest))) : W p l e R s m args below meth c H locs (H.size - s.heap.size) (tot H - tot s.heap) Q (F0 m pc ls rest) := by
  obtain ⟨g1, h1, h2⟩ := bd1_some h
  obtain ⟨hl, h3⟩ := oif h1
  cases h3
  refine W.totle (fun hs ht => ?_)
  have z1 := hw.1.1
  refine gb_new (D := eD E) (ci := 20) (C := RX24) (T := TX24) (N := 2) (fs := [.int 0, .int 0]) S.1 S.2.1 S.2.2.2.2 in_X24 tyX24 tyX24_ok S.2.2.2.1 (S.2.2.2.2 _ q1254) (S.2.2.2.2 _ q1255) (S.2.2.2.2 _ q176) X.1 rfl (fun j hj => by rcases (by omega : j = 0 ∨ j = 1) with rfl | rfl <;> rfl) (by rw [Z.1]; omega) (by rw [Z.2]; omega) hd (fun H1 e1 e2 e3 e4 => ?_)
  exact gn_end X hw hl (gce_nw.trans (gcc_21 rfl)) (by decide) (by decide) h2 e1 e2 e3 e4 kk
theorem gnX2_55 {F : GS → Option β} (S : CallFix p m c cc nL s args lw_all RX2) (X : gCtx E A s) (Z : gRm R s LC LS) (hw : gH E A LC LS s g H locs) (hd : decode cc pc = .ok (.new 55, 3)) (h : bd1 (onw g 6 0 7) F = some r) (kk : ∀ (g1 : GS) (H : Heap), F g1 = some r → gH E A LC LS s g1 H locs → W p l e R s m args below meth c H locs (H.size - s.heap.size) (tot H - tot s.heap) Q (F0 m (pc + 3) ls (.ref (gZ g) :: rest))) : W p l e R s m args below meth c H locs (H.size - s.heap.size) (tot H - tot s.heap) Q (F0 m pc ls rest) := by
  obtain ⟨g1, h1, h2⟩ := bd1_some h
  obtain ⟨hl, h3⟩ := oif h1
  cases h3
  refine W.totle (fun hs ht => ?_)
  have z1 := hw.1.1
  refine gb_new (D := eD E) (ci := 5) (C := RX6) (T := TX6) (N := 7) (fs := [va_rf none, va_rf none, va_rf none, va_rf none, va_rf none, .int 0, .int 0]) S.1 S.2.1 S.2.2.2.2 in_X6 tyX6 tyX6_ok S.2.2.2.1 (S.2.2.2.2 _ q598) (S.2.2.2.2 _ q599) (S.2.2.2.2 _ q153) X.1 rfl (fun j hj => by rcases (by omega : j = 0 ∨ j = 1 ∨ j = 2 ∨ j = 3 ∨ j = 4 ∨ j = 5 ∨ j = 6) with rfl | rfl | rfl | rfl | rfl | rfl | rfl <;> rfl) (by rw [Z.1]; omega) (by rw [Z.2]; omega) hd (fun H1 e1 e2 e3 e4 => ?_)
  exact gn_end X hw hl (gce_nw.trans (gcc_6 rfl)) (by decide) (by decide) h2 e1 e2 e3 e4 kk
theorem gnJ14_18 {F : GS → Option β} (S : CallFix p m c cc nL s args lw_all RJ14) (X : gCtx E A s) (Z : gRm R s LC LS) (hw : gH E A LC LS s g H locs) (hd : decode cc pc = .ok (.new 18, 3)) (h : bd1 (onw g 30 0 4) F = some r) (kk : ∀ (g1 : GS) (H : Heap), F g1 = some r → gH E A LC LS s g1 H locs → W p l e R s m args below meth c H locs (H.size - s.heap.size) (tot H - tot s.heap) Q (F0 m (pc + 3) ls (.ref (gZ g) :: rest))) : W p l e R s m args below meth c H locs (H.size - s.heap.size) (tot H - tot s.heap) Q (F0 m pc ls rest) := by
  obtain ⟨g1, h1, h2⟩ := bd1_some h
  obtain ⟨hl, h3⟩ := oif h1
  cases h3
  refine W.totle (fun hs ht => ?_)
  have z1 := hw.1.1
  refine gb_new (D := eD E) (ci := 23) (C := RJ5) (T := TJ5) (N := 4) (fs := [va_rf none, .int 0, .int 0, .int 0]) S.1 S.2.1 S.2.2.2.2 in_J5 tyJ5 tyJ5_ok S.2.2.2.1 (S.2.2.2.2 _ q786) (S.2.2.2.2 _ q787) (S.2.2.2.2 _ q145) X.1 rfl (fun j hj => by rcases (by omega : j = 0 ∨ j = 1 ∨ j = 2 ∨ j = 3) with rfl | rfl | rfl | rfl <;> rfl) (by rw [Z.1]; omega) (by rw [Z.2]; omega) hd (fun H1 e1 e2 e3 e4 => ?_)
  exact gn_end X hw hl (gce_nw.trans (gcc_30 rfl)) (by decide) (by decide) h2 e1 e2 e3 e4 kk
theorem gna_int {n : Int32} {F : GS → Option β} {own : String} (S : CallFix p m c cc nL s args lw_all own) (X : gCtx E A s) (hw : gH E A LC LS s g H locs) (Z : gRm R s LC LS) (hd : decode cc pc = .ok (.newarray .int, 2)) (h : bd1 (onA g 40 n) F = some r) (kk : ∀ (g1 : GS) (H : Heap), F g1 = some r → gH E A LC LS s g1 H locs → W p l e R s m args below meth c H locs (H.size - s.heap.size) (tot H - tot s.heap) Q (F0 m (pc + 2) ls (.ref (gZ g) :: rest))) : W p l e R s m args below meth c H locs (H.size - s.heap.size) (tot H - tot s.heap) Q (F0 m pc ls (.int n :: rest)) := by
  obtain ⟨g1, h1, h2⟩ := bd1_some h
  obtain ⟨⟨hn, hm⟩, h3⟩ := oif h1
  obtain ⟨hl, h3⟩ := oif h3
  cases h3
  refine W.totle (fun hs ht => ?_)
  have z1 := hw.1.1
  refine gb_newa (D := eD E) (atype := .int) (ty := .int) (a0 := (n.toNatClampNeg, .inl (fun _ => 0))) S.1 S.2.1 (S.2.2.2.2 _ q339) rfl X.1 0 rfl rfl (fun cA => rfl) hn rfl (by show n.toNatClampNeg * 4 ≤ 536870912; omega) (by rw [Z.1]; omega) (by rw [Z.2]; omega) hd (fun H1 e1 e2 e3 e4 => ?_)
  exact gn_end X hw hl (gce_nw.trans (gcc_40 rfl)) (by decide) (by decide) h2 e1 e2 e3 e4 kk
theorem gna_byte {n : Int32} {F : GS → Option β} {own : String} (S : CallFix p m c cc nL s args lw_all own) (X : gCtx E A s) (hw : gH E A LC LS s g H locs) (Z : gRm R s LC LS) (hd : decode cc pc = .ok (.newarray .byte, 2)) (h : bd1 (onA g 41 n) F = some r) (kk : ∀ (g1 : GS) (H : Heap), F g1 = some r → gH E A LC LS s g1 H locs → W p l e R s m args below meth c H locs (H.size - s.heap.size) (tot H - tot s.heap) Q (F0 m (pc + 2) ls (.ref (gZ g) :: rest))) : W p l e R s m args below meth c H locs (H.size - s.heap.size) (tot H - tot s.heap) Q (F0 m pc ls (.int n :: rest)) := by
  obtain ⟨g1, h1, h2⟩ := bd1_some h
  obtain ⟨⟨hn, hm⟩, h3⟩ := oif h1
  obtain ⟨hl, h3⟩ := oif h3
  cases h3
  refine W.totle (fun hs ht => ?_)
  have z1 := hw.1.1
  refine gb_newa (D := eD E) (atype := .byte) (ty := .byte) (a0 := (n.toNatClampNeg, .inl (fun _ => 0))) S.1 S.2.1 (S.2.2.2.2 _ q222) rfl X.1 1 rfl rfl (fun cA => rfl) hn rfl (by show n.toNatClampNeg * 1 ≤ 536870912; omega) (by rw [Z.1]; omega) (by rw [Z.2]; omega) hd (fun H1 e1 e2 e3 e4 => ?_)
  exact gn_end X hw hl (gce_nw.trans (gcc_41 rfl)) (by decide) (by decide) h2 e1 e2 e3 e4 kk
theorem gna_long {n : Int32} {F : GS → Option β} {own : String} (S : CallFix p m c cc nL s args lw_all own) (X : gCtx E A s) (hw : gH E A LC LS s g H locs) (Z : gRm R s LC LS) (hd : decode cc pc = .ok (.newarray .long, 2)) (h : bd1 (onA g 48 n) F = some r) (kk : ∀ (g1 : GS) (H : Heap), F g1 = some r → gH E A LC LS s g1 H locs → W p l e R s m args below meth c H locs (H.size - s.heap.size) (tot H - tot s.heap) Q (F0 m (pc + 2) ls (.ref (gZ g) :: rest))) : W p l e R s m args below meth c H locs (H.size - s.heap.size) (tot H - tot s.heap) Q (F0 m pc ls (.int n :: rest)) := by
  obtain ⟨g1, h1, h2⟩ := bd1_some h
  obtain ⟨⟨hn, hm⟩, h3⟩ := oif h1
  obtain ⟨hl, h3⟩ := oif h3
  cases h3
  refine W.totle (fun hs ht => ?_)
  have z1 := hw.1.1
  refine gb_newa (D := eD E) (atype := .long) (ty := .long) (a0 := (n.toNatClampNeg, .inr (.inl (fun _ => 0)))) S.1 S.2.1 (S.2.2.2.2 _ q1915) rfl X.1 6 rfl rfl (fun cA => rfl) hn rfl (by show n.toNatClampNeg * 8 ≤ 536870912; omega) (by rw [Z.1]; omega) (by rw [Z.2]; omega) hd (fun H1 e1 e2 e3 e4 => ?_)
  exact gn_end X hw hl (gce_nw.trans (gcc_48 rfl)) (by decide) (by decide) h2 e1 e2 e3 e4 kk
theorem gna_boolean {n : Int32} {F : GS → Option β} {own : String} (S : CallFix p m c cc nL s args lw_all own) (X : gCtx E A s) (hw : gH E A LC LS s g H locs) (Z : gRm R s LC LS) (hd : decode cc pc = .ok (.newarray .boolean, 2)) (h : bd1 (onA g 49 n) F = some r) (kk : ∀ (g1 : GS) (H : Heap), F g1 = some r → gH E A LC LS s g1 H locs → W p l e R s m args below meth c H locs (H.size - s.heap.size) (tot H - tot s.heap) Q (F0 m (pc + 2) ls (.ref (gZ g) :: rest))) : W p l e R s m args below meth c H locs (H.size - s.heap.size) (tot H - tot s.heap) Q (F0 m pc ls (.int n :: rest)) := by
  obtain ⟨g1, h1, h2⟩ := bd1_some h
  obtain ⟨⟨hn, hm⟩, h3⟩ := oif h1
  obtain ⟨hl, h3⟩ := oif h3
  cases h3
  refine W.totle (fun hs ht => ?_)
  have z1 := hw.1.1
  refine gb_newa (D := eD E) (atype := .boolean) (ty := .boolean) (a0 := (n.toNatClampNeg, .inl (fun _ => 0))) S.1 S.2.1 (S.2.2.2.2 _ q1916) rfl X.1 7 rfl rfl (fun cA => rfl) hn rfl (by show n.toNatClampNeg * 1 ≤ 536870912; omega) (by rw [Z.1]; omega) (by rw [Z.2]; omega) hd (fun H1 e1 e2 e3 e4 => ?_)
  exact gn_end X hw hl (gce_nw.trans (gcc_49 rfl)) (by decide) (by decide) h2 e1 e2 e3 e4 kk
theorem gnqX1_48 {n : Int32} {F : GS → Option β} (S : CallFix p m c cc nL s args lw_all RX1) (X : gCtx E A s) (Z : gRm R s LC LS) (hw : gH E A LC LS s g H locs) (hd : decode cc pc = .ok (.anewarray 48, 3)) (h : bd1 (onA g 45 n) F = some r) (kk : ∀ (g1 : GS) (H : Heap), F g1 = some r → gH E A LC LS s g1 H locs → W p l e R s m args below meth c H locs (H.size - s.heap.size) (tot H - tot s.heap) Q (F0 m (pc + 3) ls (.ref (gZ g) :: rest))) : W p l e R s m args below meth c H locs (H.size - s.heap.size) (tot H - tot s.heap) Q (F0 m pc ls (.int n :: rest)) := by
  obtain ⟨g1, h1, h2⟩ := bd1_some h
  obtain ⟨⟨hn, hm⟩, h3⟩ := oif h1
  obtain ⟨hl, h3⟩ := oif h3
  cases h3
  refine W.totle (fun hs ht => ?_)
  have z1 := hw.1.1
  refine gb_newq (D := eD E) S.1 S.2.1 S.2.2.2.1 (S.2.2.2.2 _ q298) X.2.2.2.2.2.2.1.2.1 X.1 3 rfl hn rfl (by omega) (by rw [Z.1]; omega) (by rw [Z.2]; omega) hd (fun H1 e1 e2 e3 e4 => ?_)
  exact gn_end X hw hl (gce_nw.trans (gcc_45 rfl)) (by decide) (by decide) h2 e1 e2 e3 e4 kk
theorem gnqX1_95 {n : Int32} {F : GS → Option β} (S : CallFix p m c cc nL s args lw_all RX1) (X : gCtx E A s) (Z : gRm R s LC LS) (hw : gH E A LC LS s g H locs) (hd : decode cc pc = .ok (.anewarray 95, 3)) (h : bd1 (onA g 47 n) F = some r) (kk : ∀ (g1 : GS) (H : Heap), F g1 = some r → gH E A LC LS s g1 H locs → W p l e R s m args below meth c H locs (H.size - s.heap.size) (tot H - tot s.heap) Q (F0 m (pc + 3) ls (.ref (gZ g) :: rest))) : W p l e R s m args below meth c H locs (H.size - s.heap.size) (tot H - tot s.heap) Q (F0 m pc ls (.int n :: rest)) := by
  obtain ⟨g1, h1, h2⟩ := bd1_some h
  obtain ⟨⟨hn, hm⟩, h3⟩ := oif h1
  obtain ⟨hl, h3⟩ := oif h3
  cases h3
  refine W.totle (fun hs ht => ?_)
  have z1 := hw.1.1
  refine gb_newq (D := eD E) S.1 S.2.1 S.2.2.2.1 (S.2.2.2.2 _ q343) X.2.2.2.2.2.2.1.2.2.1 X.1 5 rfl hn rfl (by omega) (by rw [Z.1]; omega) (by rw [Z.2]; omega) hd (fun H1 e1 e2 e3 e4 => ?_)
  exact gn_end X hw hl (gce_nw.trans (gcc_47 rfl)) (by decide) (by decide) h2 e1 e2 e3 e4 kk
theorem gnqJ2_7 {n : Int32} {F : GS → Option β} (S : CallFix p m c cc nL s args lw_all RJ2) (X : gCtx E A s) (Z : gRm R s LC LS) (hw : gH E A LC LS s g H locs) (hd : decode cc pc = .ok (.anewarray 7, 3)) (h : bd1 (onA g 43 n) F = some r) (kk : ∀ (g1 : GS) (H : Heap), F g1 = some r → gH E A LC LS s g1 H locs → W p l e R s m args below meth c H locs (H.size - s.heap.size) (tot H - tot s.heap) Q (F0 m (pc + 3) ls (.ref (gZ g) :: rest))) : W p l e R s m args below meth c H locs (H.size - s.heap.size) (tot H - tot s.heap) Q (F0 m pc ls (.int n :: rest)) := by
  obtain ⟨g1, h1, h2⟩ := bd1_some h
  obtain ⟨⟨hn, hm⟩, h3⟩ := oif h1
  obtain ⟨hl, h3⟩ := oif h3
  cases h3
  refine W.totle (fun hs ht => ?_)
  have z1 := hw.1.1
  refine gb_newq (D := eD E) S.1 S.2.1 S.2.2.2.1 (S.2.2.2.2 _ q241) X.2.2.2.2.2.2.1.1 X.1 2 rfl hn rfl (by omega) (by rw [Z.1]; omega) (by rw [Z.2]; omega) hd (fun H1 e1 e2 e3 e4 => ?_)
  exact gn_end X hw hl (gce_nw.trans (gcc_43 rfl)) (by decide) (by decide) h2 e1 e2 e3 e4 kk
theorem gnqJ16_2 {n : Int32} {F : GS → Option β} (S : CallFix p m c cc nL s args lw_all RJ16) (X : gCtx E A s) (Z : gRm R s LC LS) (hw : gH E A LC LS s g H locs) (hd : decode cc pc = .ok (.anewarray 2, 3)) (h : bd1 (onA g 43 n) F = some r) (kk : ∀ (g1 : GS) (H : Heap), F g1 = some r → gH E A LC LS s g1 H locs → W p l e R s m args below meth c H locs (H.size - s.heap.size) (tot H - tot s.heap) Q (F0 m (pc + 3) ls (.ref (gZ g) :: rest))) : W p l e R s m args below meth c H locs (H.size - s.heap.size) (tot H - tot s.heap) Q (F0 m pc ls (.int n :: rest)) := by
  obtain ⟨g1, h1, h2⟩ := bd1_some h
  obtain ⟨⟨hn, hm⟩, h3⟩ := oif h1
  obtain ⟨hl, h3⟩ := oif h3
  cases h3
  refine W.totle (fun hs ht => ?_)
  have z1 := hw.1.1
  refine gb_newq (D := eD E) S.1 S.2.1 S.2.2.2.1 (S.2.2.2.2 _ q964) X.2.2.2.2.2.2.1.1 X.1 2 rfl hn rfl (by omega) (by rw [Z.1]; omega) (by rw [Z.2]; omega) hd (fun H1 e1 e2 e3 e4 => ?_)
  exact gn_end X hw hl (gce_nw.trans (gcc_43 rfl)) (by decide) (by decide) h2 e1 e2 e3 e4 kk
theorem gsJ13_18 (S : CallFix p m c cc nL s args lw_all RJ13) (X : gCtx E A s) (hw : gH E A LC LS s g H locs) (hd : decode cc pc = .ok (.getstatic 18, 3)) (kk : W p l e R s m args below meth c H locs cells slots Q (F0 m (pc + 3) ls (.int 1 :: rest))) : W p l e R s m args below meth c H locs cells slots Q (F0 m pc ls rest) :=
  va_gets S.1 S.2.1 X.2.2.2.1.1 hw.2 S.2.2.2.1 (S.2.2.2.2 _ q690) (fun _ h9 => h9) hd kk
theorem gsJ5_38 (S : CallFix p m c cc nL s args lw_all RJ5) (X : gCtx E A s) (hw : gH E A LC LS s g H locs) (hd : decode cc pc = .ok (.getstatic 38, 3)) (kk : W p l e R s m args below meth c H locs cells slots Q (F0 m (pc + 3) ls (.int 1 :: rest))) : W p l e R s m args below meth c H locs cells slots Q (F0 m pc ls rest) :=
  va_gets S.1 S.2.1 X.2.2.2.1.1 hw.2 S.2.2.2.1 (S.2.2.2.2 _ q489) (fun _ h9 => h9) hd kk
theorem gsJ5_1053 (S : CallFix p m c cc nL s args lw_all RJ5) (X : gCtx E A s) (hw : gH E A LC LS s g H locs) (hd : decode cc pc = .ok (.getstatic 1053, 3)) (kk : W p l e R s m args below meth c H locs cells slots Q (F0 m (pc + 3) ls (va_rf (gT g 3) :: rest))) : W p l e R s m args below meth c H locs cells slots Q (F0 m pc ls rest) :=
  va_gets S.1 S.2.1 X.2.2.2.1.2.2.2.2 hw.2 S.2.2.2.1 (S.2.2.2.2 _ q532) (fun _ h9 => h9) hd (by rw [← hw.1.1.2.2.2.2.2.2.1 3 (by decide)]; exact kk)
theorem gsJ10_13 (S : CallFix p m c cc nL s args lw_all RJ10) (X : gCtx E A s) (hw : gH E A LC LS s g H locs) (hd : decode cc pc = .ok (.getstatic 13, 3)) (kk : W p l e R s m args below meth c H locs cells slots Q (F0 m (pc + 3) ls (va_rf (gT g 1) :: rest))) : W p l e R s m args below meth c H locs cells slots Q (F0 m pc ls rest) :=
  va_gets S.1 S.2.1 X.2.2.2.1.2.2.1 hw.2 S.2.2.2.1 (S.2.2.2.2 _ q624) (fun _ h9 => h9) hd (by rw [← hw.1.1.2.2.2.2.2.2.1 1 (by decide)]; exact kk)
theorem gsJ10_20 (S : CallFix p m c cc nL s args lw_all RJ10) (X : gCtx E A s) (hw : gH E A LC LS s g H locs) (hd : decode cc pc = .ok (.getstatic 20, 3)) (kk : W p l e R s m args below meth c H locs cells slots Q (F0 m (pc + 3) ls (va_rf (gT g 2) :: rest))) : W p l e R s m args below meth c H locs cells slots Q (F0 m pc ls rest) :=
  va_gets S.1 S.2.1 X.2.2.2.1.2.2.2.1 hw.2 S.2.2.2.1 (S.2.2.2.2 _ q626) (fun _ h9 => h9) hd (by rw [← hw.1.1.2.2.2.2.2.2.1 2 (by decide)]; exact kk)
theorem gsJ2_15 (S : CallFix p m c cc nL s args lw_all RJ2) (X : gCtx E A s) (hw : gH E A LC LS s g H locs) (hd : decode cc pc = .ok (.getstatic 15, 3)) (kk : W p l e R s m args below meth c H locs cells slots Q (F0 m (pc + 3) ls (va_rf (gT g 0) :: rest))) : W p l e R s m args below meth c H locs cells slots Q (F0 m pc ls rest) :=
  va_gets S.1 S.2.1 X.2.2.2.1.2.1 hw.2 S.2.2.2.1 (S.2.2.2.2 _ q243) (fun _ h9 => h9) hd (by rw [← hw.1.1.2.2.2.2.2.2.1 0 (by decide)]; exact kk)
theorem va_ldcwS {own tx : String} {index q : Nat} (hexec : p.tables.exec = Jvm.exec) (hb : c.code = cc) (hown : s.vm.findClass own = some m.cls) (hZ : vk_R own index tx q s) (hdg : decode cc pc = .ok (.ldc_w index, 3))
    (k : W p l e R s m args below meth c H locs cells slots Q (F0 m (pc + 3) ls (.ref q :: rest))) : W p l e R s m args below meth c H locs cells slots Q (F0 m pc ls rest) := by
  intro T hT X
  obtain ⟨t, a1, b1⟩ := k T hT X
  refine ⟨t, ?_, b1⟩
  obtain ⟨k0, cf, i, a', hk, hcf, hcp, -, hr, hev'⟩ := Cond.stringRef_spec hown hZ.1
  cases hZ.2.symm.trans hev'
  obtain ⟨k', hk', he⟩ := X.warmed.alike.2.2 _ _ hk
  have hr' : k'.resolved[index]? = some (some (.string q)) := by
    rcases X.warmed.entry hk hk' index with h | ⟨h, -⟩
    · rw [h]; exact hr
    · rw [hr] at h; cases h
  have hd2 : decode c.code pc = .ok (.ldc_w index, 3) := by rw [hb]; exact hdg
  jvm_step X.here [hexec, hd2, ldc_w.wp_string (e := e) (s := T) (f := F0 m pc ls rest) X.here.top hk' (by rw [he]; exact hcf) hcp hr']
  exact a1
theorem gls0 {F : Nat → Option β} (S : CallFix p m c cc nL s args lw_all RX2) (X : gCtx E A s) (hw : gH E A LC LS s g H locs) (hd : decode cc pc = .ok (.ldc 48, 2)) (h : bd1 (gT g 10) F = some r) (kk : ∀ v, F v = some r → W p l e R s m args below meth c H locs cells slots Q (F0 m (pc + 2) ls (.ref v :: rest))) : W p l e R s m args below meth c H locs cells slots Q (F0 m pc ls rest) := by
  obtain ⟨v, h1, h2⟩ := bd1_some h
  have e1 := hw.1.1.2.2.2.2.2.2.2 0 (by decide)
  have e2 : v = eK E 0 := Option.some.inj (h1.symm.trans e1)
  subst e2
  exact va_ldcS S.1 S.2.1 S.2.2.2.1 (X.2.2.1.2 0 (by decide)) hd (kk _ h2)
theorem gls1 {F : Nat → Option β} (S : CallFix p m c cc nL s args lw_all RX2) (X : gCtx E A s) (hw : gH E A LC LS s g H locs) (hd : decode cc pc = .ok (.ldc 83, 2)) (h : bd1 (gT g 11) F = some r) (kk : ∀ v, F v = some r → W p l e R s m args below meth c H locs cells slots Q (F0 m (pc + 2) ls (.ref v :: rest))) : W p l e R s m args below meth c H locs cells slots Q (F0 m pc ls rest) := by
  obtain ⟨v, h1, h2⟩ := bd1_some h
  have e1 := hw.1.1.2.2.2.2.2.2.2 1 (by decide)
  have e2 : v = eK E 1 := Option.some.inj (h1.symm.trans e1)
  subst e2
  exact va_ldcS S.1 S.2.1 S.2.2.2.1 (X.2.2.1.2 1 (by decide)) hd (kk _ h2)
theorem gls2 {F : Nat → Option β} (S : CallFix p m c cc nL s args lw_all RX2) (X : gCtx E A s) (hw : gH E A LC LS s g H locs) (hd : decode cc pc = .ok (.ldc 133, 2)) (h : bd1 (gT g 12) F = some r) (kk : ∀ v, F v = some r → W p l e R s m args below meth c H locs cells slots Q (F0 m (pc + 2) ls (.ref v :: rest))) : W p l e R s m args below meth c H locs cells slots Q (F0 m pc ls rest) := by
  obtain ⟨v, h1, h2⟩ := bd1_some h
  have e1 := hw.1.1.2.2.2.2.2.2.2 2 (by decide)
  have e2 : v = eK E 2 := Option.some.inj (h1.symm.trans e1)
  subst e2
  exact va_ldcS S.1 S.2.1 S.2.2.2.1 (X.2.2.1.2 2 (by decide)) hd (kk _ h2)
theorem gls3 {F : Nat → Option β} (S : CallFix p m c cc nL s args lw_all RX2) (X : gCtx E A s) (hw : gH E A LC LS s g H locs) (hd : decode cc pc = .ok (.ldc 171, 2)) (h : bd1 (gT g 13) F = some r) (kk : ∀ v, F v = some r → W p l e R s m args below meth c H locs cells slots Q (F0 m (pc + 2) ls (.ref v :: rest))) : W p l e R s m args below meth c H locs cells slots Q (F0 m pc ls rest) := by
  obtain ⟨v, h1, h2⟩ := bd1_some h
  have e1 := hw.1.1.2.2.2.2.2.2.2 3 (by decide)
  have e2 : v = eK E 3 := Option.some.inj (h1.symm.trans e1)
  subst e2
  exact va_ldcS S.1 S.2.1 S.2.2.2.1 (X.2.2.1.2 3 (by decide)) hd (kk _ h2)
theorem gls4 {F : Nat → Option β} (S : CallFix p m c cc nL s args lw_all RX2) (X : gCtx E A s) (hw : gH E A LC LS s g H locs) (hd : decode cc pc = .ok (.ldc 176, 2)) (h : bd1 (gT g 14) F = some r) (kk : ∀ v, F v = some r → W p l e R s m args below meth c H locs cells slots Q (F0 m (pc + 2) ls (.ref v :: rest))) : W p l e R s m args below meth c H locs cells slots Q (F0 m pc ls rest) := by
  obtain ⟨v, h1, h2⟩ := bd1_some h
  have e1 := hw.1.1.2.2.2.2.2.2.2 4 (by decide)
  have e2 : v = eK E 4 := Option.some.inj (h1.symm.trans e1)
  subst e2
  exact va_ldcS S.1 S.2.1 S.2.2.2.1 (X.2.2.1.2 4 (by decide)) hd (kk _ h2)
theorem gls5 {F : Nat → Option β} (S : CallFix p m c cc nL s args lw_all RX2) (X : gCtx E A s) (hw : gH E A LC LS s g H locs) (hd : decode cc pc = .ok (.ldc 180, 2)) (h : bd1 (gT g 15) F = some r) (kk : ∀ v, F v = some r → W p l e R s m args below meth c H locs cells slots Q (F0 m (pc + 2) ls (.ref v :: rest))) : W p l e R s m args below meth c H locs cells slots Q (F0 m pc ls rest) := by
  obtain ⟨v, h1, h2⟩ := bd1_some h
  have e1 := hw.1.1.2.2.2.2.2.2.2 5 (by decide)
  have e2 : v = eK E 5 := Option.some.inj (h1.symm.trans e1)
  subst e2
  exact va_ldcS S.1 S.2.1 S.2.2.2.1 (X.2.2.1.2 5 (by decide)) hd (kk _ h2)
theorem gls6 {F : Nat → Option β} (S : CallFix p m c cc nL s args lw_all RX2) (X : gCtx E A s) (hw : gH E A LC LS s g H locs) (hd : decode cc pc = .ok (.ldc 195, 2)) (h : bd1 (gT g 16) F = some r) (kk : ∀ v, F v = some r → W p l e R s m args below meth c H locs cells slots Q (F0 m (pc + 2) ls (.ref v :: rest))) : W p l e R s m args below meth c H locs cells slots Q (F0 m pc ls rest) := by
  obtain ⟨v, h1, h2⟩ := bd1_some h
  have e1 := hw.1.1.2.2.2.2.2.2.2 6 (by decide)
  have e2 : v = eK E 6 := Option.some.inj (h1.symm.trans e1)
  subst e2
  exact va_ldcS S.1 S.2.1 S.2.2.2.1 (X.2.2.1.2 6 (by decide)) hd (kk _ h2)
theorem gls7 {F : Nat → Option β} (S : CallFix p m c cc nL s args lw_all RX2) (X : gCtx E A s) (hw : gH E A LC LS s g H locs) (hd : decode cc pc = .ok (.ldc 197, 2)) (h : bd1 (gT g 17) F = some r) (kk : ∀ v, F v = some r → W p l e R s m args below meth c H locs cells slots Q (F0 m (pc + 2) ls (.ref v :: rest))) : W p l e R s m args below meth c H locs cells slots Q (F0 m pc ls rest) := by
  obtain ⟨v, h1, h2⟩ := bd1_some h
  have e1 := hw.1.1.2.2.2.2.2.2.2 7 (by decide)
  have e2 : v = eK E 7 := Option.some.inj (h1.symm.trans e1)
  subst e2
  exact va_ldcS S.1 S.2.1 S.2.2.2.1 (X.2.2.1.2 7 (by decide)) hd (kk _ h2)
theorem gls8 {F : Nat → Option β} (S : CallFix p m c cc nL s args lw_all RX2) (X : gCtx E A s) (hw : gH E A LC LS s g H locs) (hd : decode cc pc = .ok (.ldc 201, 2)) (h : bd1 (gT g 18) F = some r) (kk : ∀ v, F v = some r → W p l e R s m args below meth c H locs cells slots Q (F0 m (pc + 2) ls (.ref v :: rest))) : W p l e R s m args below meth c H locs cells slots Q (F0 m pc ls rest) := by
  obtain ⟨v, h1, h2⟩ := bd1_some h
  have e1 := hw.1.1.2.2.2.2.2.2.2 8 (by decide)
  have e2 : v = eK E 8 := Option.some.inj (h1.symm.trans e1)
  subst e2
  exact va_ldcS S.1 S.2.1 S.2.2.2.1 (X.2.2.1.2 8 (by decide)) hd (kk _ h2)
theorem gls9 {F : Nat → Option β} (S : CallFix p m c cc nL s args lw_all RX2) (X : gCtx E A s) (hw : gH E A LC LS s g H locs) (hd : decode cc pc = .ok (.ldc 204, 2)) (h : bd1 (gT g 19) F = some r) (kk : ∀ v, F v = some r → W p l e R s m args below meth c H locs cells slots Q (F0 m (pc + 2) ls (.ref v :: rest))) : W p l e R s m args below meth c H locs cells slots Q (F0 m pc ls rest) := by
  obtain ⟨v, h1, h2⟩ := bd1_some h
  have e1 := hw.1.1.2.2.2.2.2.2.2 9 (by decide)
  have e2 : v = eK E 9 := Option.some.inj (h1.symm.trans e1)
  subst e2
  exact va_ldcS S.1 S.2.1 S.2.2.2.1 (X.2.2.1.2 9 (by decide)) hd (kk _ h2)
theorem gls10 {F : Nat → Option β} (S : CallFix p m c cc nL s args lw_all RX2) (X : gCtx E A s) (hw : gH E A LC LS s g H locs) (hd : decode cc pc = .ok (.ldc 209, 2)) (h : bd1 (gT g 20) F = some r) (kk : ∀ v, F v = some r → W p l e R s m args below meth c H locs cells slots Q (F0 m (pc + 2) ls (.ref v :: rest))) : W p l e R s m args below meth c H locs cells slots Q (F0 m pc ls rest) := by
  obtain ⟨v, h1, h2⟩ := bd1_some h
  have e1 := hw.1.1.2.2.2.2.2.2.2 10 (by decide)
  have e2 : v = eK E 10 := Option.some.inj (h1.symm.trans e1)
  subst e2
  exact va_ldcS S.1 S.2.1 S.2.2.2.1 (X.2.2.1.2 10 (by decide)) hd (kk _ h2)
theorem gls11 {F : Nat → Option β} (S : CallFix p m c cc nL s args lw_all RX2) (X : gCtx E A s) (hw : gH E A LC LS s g H locs) (hd : decode cc pc = .ok (.ldc 215, 2)) (h : bd1 (gT g 21) F = some r) (kk : ∀ v, F v = some r → W p l e R s m args below meth c H locs cells slots Q (F0 m (pc + 2) ls (.ref v :: rest))) : W p l e R s m args below meth c H locs cells slots Q (F0 m pc ls rest) := by
  obtain ⟨v, h1, h2⟩ := bd1_some h
  have e1 := hw.1.1.2.2.2.2.2.2.2 11 (by decide)
  have e2 : v = eK E 11 := Option.some.inj (h1.symm.trans e1)
  subst e2
  exact va_ldcS S.1 S.2.1 S.2.2.2.1 (X.2.2.1.2 11 (by decide)) hd (kk _ h2)
theorem gls12 {F : Nat → Option β} (S : CallFix p m c cc nL s args lw_all RX2) (X : gCtx E A s) (hw : gH E A LC LS s g H locs) (hd : decode cc pc = .ok (.ldc 217, 2)) (h : bd1 (gT g 22) F = some r) (kk : ∀ v, F v = some r → W p l e R s m args below meth c H locs cells slots Q (F0 m (pc + 2) ls (.ref v :: rest))) : W p l e R s m args below meth c H locs cells slots Q (F0 m pc ls rest) := by
  obtain ⟨v, h1, h2⟩ := bd1_some h
  have e1 := hw.1.1.2.2.2.2.2.2.2 12 (by decide)
  have e2 : v = eK E 12 := Option.some.inj (h1.symm.trans e1)
  subst e2
  exact va_ldcS S.1 S.2.1 S.2.2.2.1 (X.2.2.1.2 12 (by decide)) hd (kk _ h2)
theorem gls13 {F : Nat → Option β} (S : CallFix p m c cc nL s args lw_all RX2) (X : gCtx E A s) (hw : gH E A LC LS s g H locs) (hd : decode cc pc = .ok (.ldc 235, 2)) (h : bd1 (gT g 23) F = some r) (kk : ∀ v, F v = some r → W p l e R s m args below meth c H locs cells slots Q (F0 m (pc + 2) ls (.ref v :: rest))) : W p l e R s m args below meth c H locs cells slots Q (F0 m pc ls rest) := by
  obtain ⟨v, h1, h2⟩ := bd1_some h
  have e1 := hw.1.1.2.2.2.2.2.2.2 13 (by decide)
  have e2 : v = eK E 13 := Option.some.inj (h1.symm.trans e1)
  subst e2
  exact va_ldcS S.1 S.2.1 S.2.2.2.1 (X.2.2.1.2 13 (by decide)) hd (kk _ h2)
theorem gls14 {F : Nat → Option β} (S : CallFix p m c cc nL s args lw_all RX2) (X : gCtx E A s) (hw : gH E A LC LS s g H locs) (hd : decode cc pc = .ok (.ldc 240, 2)) (h : bd1 (gT g 24) F = some r) (kk : ∀ v, F v = some r → W p l e R s m args below meth c H locs cells slots Q (F0 m (pc + 2) ls (.ref v :: rest))) : W p l e R s m args below meth c H locs cells slots Q (F0 m pc ls rest) := by
  obtain ⟨v, h1, h2⟩ := bd1_some h
  have e1 := hw.1.1.2.2.2.2.2.2.2 14 (by decide)
  have e2 : v = eK E 14 := Option.some.inj (h1.symm.trans e1)
  subst e2
  exact va_ldcS S.1 S.2.1 S.2.2.2.1 (X.2.2.1.2 14 (by decide)) hd (kk _ h2)
theorem gls15 {F : Nat → Option β} (S : CallFix p m c cc nL s args lw_all RX2) (X : gCtx E A s) (hw : gH E A LC LS s g H locs) (hd : decode cc pc = .ok (.ldc 245, 2)) (h : bd1 (gT g 25) F = some r) (kk : ∀ v, F v = some r → W p l e R s m args below meth c H locs cells slots Q (F0 m (pc + 2) ls (.ref v :: rest))) : W p l e R s m args below meth c H locs cells slots Q (F0 m pc ls rest) := by
  obtain ⟨v, h1, h2⟩ := bd1_some h
  have e1 := hw.1.1.2.2.2.2.2.2.2 15 (by decide)
  have e2 : v = eK E 15 := Option.some.inj (h1.symm.trans e1)
  subst e2
  exact va_ldcS S.1 S.2.1 S.2.2.2.1 (X.2.2.1.2 15 (by decide)) hd (kk _ h2)
theorem gls16 {F : Nat → Option β} (S : CallFix p m c cc nL s args lw_all RX2) (X : gCtx E A s) (hw : gH E A LC LS s g H locs) (hd : decode cc pc = .ok (.ldc 250, 2)) (h : bd1 (gT g 26) F = some r) (kk : ∀ v, F v = some r → W p l e R s m args below meth c H locs cells slots Q (F0 m (pc + 2) ls (.ref v :: rest))) : W p l e R s m args below meth c H locs cells slots Q (F0 m pc ls rest) := by
  obtain ⟨v, h1, h2⟩ := bd1_some h
  have e1 := hw.1.1.2.2.2.2.2.2.2 16 (by decide)
  have e2 : v = eK E 16 := Option.some.inj (h1.symm.trans e1)
  subst e2
  exact va_ldcS S.1 S.2.1 S.2.2.2.1 (X.2.2.1.2 16 (by decide)) hd (kk _ h2)
theorem glw17 {F : Nat → Option β} (S : CallFix p m c cc nL s args lw_all RX2) (X : gCtx E A s) (hw : gH E A LC LS s g H locs) (hd : decode cc pc = .ok (.ldc_w 272, 3)) (h : bd1 (gT g 27) F = some r) (kk : ∀ v, F v = some r → W p l e R s m args below meth c H locs cells slots Q (F0 m (pc + 3) ls (.ref v :: rest))) : W p l e R s m args below meth c H locs cells slots Q (F0 m pc ls rest) := by
  obtain ⟨v, h1, h2⟩ := bd1_some h
  have e1 := hw.1.1.2.2.2.2.2.2.2 17 (by decide)
  have e2 : v = eK E 17 := Option.some.inj (h1.symm.trans e1)
  subst e2
  exact va_ldcwS S.1 S.2.1 S.2.2.2.1 (X.2.2.1.2 17 (by decide)) hd (kk _ h2)
theorem glw18 {F : Nat → Option β} (S : CallFix p m c cc nL s args lw_all RX2) (X : gCtx E A s) (hw : gH E A LC LS s g H locs) (hd : decode cc pc = .ok (.ldc_w 298, 3)) (h : bd1 (gT g 28) F = some r) (kk : ∀ v, F v = some r → W p l e R s m args below meth c H locs cells slots Q (F0 m (pc + 3) ls (.ref v :: rest))) : W p l e R s m args below meth c H locs cells slots Q (F0 m pc ls rest) := by
  obtain ⟨v, h1, h2⟩ := bd1_some h
  have e1 := hw.1.1.2.2.2.2.2.2.2 18 (by decide)
  have e2 : v = eK E 18 := Option.some.inj (h1.symm.trans e1)
  subst e2
  exact va_ldcwS S.1 S.2.1 S.2.2.2.1 (X.2.2.1.2 18 (by decide)) hd (kk _ h2)
theorem glw19 {F : Nat → Option β} (S : CallFix p m c cc nL s args lw_all RX2) (X : gCtx E A s) (hw : gH E A LC LS s g H locs) (hd : decode cc pc = .ok (.ldc_w 314, 3)) (h : bd1 (gT g 29) F = some r) (kk : ∀ v, F v = some r → W p l e R s m args below meth c H locs cells slots Q (F0 m (pc + 3) ls (.ref v :: rest))) : W p l e R s m args below meth c H locs cells slots Q (F0 m pc ls rest) := by
  obtain ⟨v, h1, h2⟩ := bd1_some h
  have e1 := hw.1.1.2.2.2.2.2.2.2 19 (by decide)
  have e2 : v = eK E 19 := Option.some.inj (h1.symm.trans e1)
  subst e2
  exact va_ldcwS S.1 S.2.1 S.2.2.2.1 (X.2.2.1.2 19 (by decide)) hd (kk _ h2)
theorem g_recv {C : String} {T : u_T} {N ci : Nat} {fs : List Value} (X : gCtx E A s) (hw : gH E A LC LS s g H locs) (hc : vwCl[ci]? = some (C, T, N)) (hg : gcell E g a = some (.inr (ci, fs))) : ∃ cell : Cell, H[a]? = some cell ∧ cell.vm.isStatics = false ∧ s.vm.findClass C = some cell.cls :=
  va_recv X.1 (va_one (hw.1.2.1 _ _ hg).1) (ci := ci) (q0 := 0) hc rfl
theorem gckX1_327 {F : Nat → Option β} (S : CallFix p m c cc nL s args lw_all RX1) (X : gCtx E A s) (hw : gH E A LC LS s g H locs) (hd : decode cc pc = .ok (.checkcast 327, 3)) (h : bd1 (oK g a 12 12) F = some r) (kk : ∀ v, F v = some r → W p l e R s m args below meth c H locs cells slots Q (F0 m (pc + 3) ls (.ref a :: rest))) : W p l e R s m args below meth c H locs cells slots Q (F0 m pc ls (.ref a :: rest)) := by
  obtain ⟨v, h1, h2⟩ := bd1_some h
  obtain ⟨⟨c1, c2⟩, h3⟩ := oif h1
  have ht : (gK g a).1 = 12 := by omega
  exact va_castE S.1 S.2.1 S.2.2.2.1 (S.2.2.2.2 _ q1548) (g_recv X hw (ci := 11) rfl (gcell_12 ht)) hd (kk _ h2)
theorem gckX1_306 {F : Nat → Option β} (S : CallFix p m c cc nL s args lw_all RX1) (X : gCtx E A s) (hw : gH E A LC LS s g H locs) (hd : decode cc pc = .ok (.checkcast 306, 3)) (h : bd1 (oK g a 17 22) F = some r) (kk : ∀ v, F v = some r → W p l e R s m args below meth c H locs cells slots Q (F0 m (pc + 3) ls (.ref a :: rest))) : W p l e R s m args below meth c H locs cells slots Q (F0 m pc ls (.ref a :: rest)) := by
  obtain ⟨v, h1, h2⟩ := bd1_some h
  obtain ⟨⟨c1, c2⟩, h3⟩ := oif h1
  rcases (by omega : (gK g a).1 = 17 ∨ (gK g a).1 = 18 ∨ (gK g a).1 = 19 ∨ (gK g a).1 = 20 ∨ (gK g a).1 = 21 ∨ (gK g a).1 = 22) with ht | ht | ht | ht | ht | ht
  · exact va_castY S.1 S.2.1 S.2.2.2.1 (S.2.2.2.2 _ q1491) (X.2.2.2.2.2.1 _ q2372 rfl) (g_recv X hw (ci := 16) rfl (gcell_17 ht)) hd (kk _ h2)
  · exact va_castY S.1 S.2.1 S.2.2.2.1 (S.2.2.2.2 _ q1491) (X.2.2.2.2.2.1 _ q2367 rfl) (g_recv X hw (ci := 17) rfl (gcell_18 ht)) hd (kk _ h2)
  · exact va_castY S.1 S.2.1 S.2.2.2.1 (S.2.2.2.2 _ q1491) (X.2.2.2.2.2.1 _ q2369 rfl) (g_recv X hw (ci := 18) rfl (gcell_19 ht)) hd (kk _ h2)
  · exact va_castY S.1 S.2.1 S.2.2.2.1 (S.2.2.2.2 _ q1491) (X.2.2.2.2.2.1 _ q2368 rfl) (g_recv X hw (ci := 19) rfl (gcell_20 ht)) hd (kk _ h2)
  · exact va_castY S.1 S.2.1 S.2.2.2.1 (S.2.2.2.2 _ q1491) (X.2.2.2.2.2.1 _ q2370 rfl) (g_recv X hw (ci := 20) rfl (gcell_21 ht)) hd (kk _ h2)
  · exact va_castY S.1 S.2.1 S.2.2.2.1 (S.2.2.2.2 _ q1491) (X.2.2.2.2.2.1 _ q2371 rfl) (g_recv X hw (ci := 27) rfl (gcell_22 ht)) hd (kk _ h2)
theorem gckX1_144 {F : Nat → Option β} (S : CallFix p m c cc nL s args lw_all RX1) (X : gCtx E A s) (hw : gH E A LC LS s g H locs) (hd : decode cc pc = .ok (.checkcast 144, 3)) (h : bd1 (oK g a 7 7) F = some r) (kk : ∀ v, F v = some r → W p l e R s m args below meth c H locs cells slots Q (F0 m (pc + 3) ls (.ref a :: rest))) : W p l e R s m args below meth c H locs cells slots Q (F0 m pc ls (.ref a :: rest)) := by
  obtain ⟨v, h1, h2⟩ := bd1_some h
  obtain ⟨⟨c1, c2⟩, h3⟩ := oif h1
  have ht : (gK g a).1 = 7 := by omega
  exact va_castE S.1 S.2.1 S.2.2.2.1 (S.2.2.2.2 _ q1288) (g_recv X hw (ci := 6) rfl (gcell_7 ht)) hd (kk _ h2)
theorem gckX1_149 {F : Nat → Option β} (S : CallFix p m c cc nL s args lw_all RX1) (X : gCtx E A s) (hw : gH E A LC LS s g H locs) (hd : decode cc pc = .ok (.checkcast 149, 3)) (h : bd1 (oK g a 8 11) F = some r) (kk : ∀ v, F v = some r → W p l e R s m args below meth c H locs cells slots Q (F0 m (pc + 3) ls (.ref a :: rest))) : W p l e R s m args below meth c H locs cells slots Q (F0 m pc ls (.ref a :: rest)) := by
  obtain ⟨v, h1, h2⟩ := bd1_some h
  obtain ⟨⟨c1, c2⟩, h3⟩ := oif h1
  rcases (by omega : (gK g a).1 = 8 ∨ (gK g a).1 = 9 ∨ (gK g a).1 = 10 ∨ (gK g a).1 = 11) with ht | ht | ht | ht
  · exact va_castE S.1 S.2.1 S.2.2.2.1 (S.2.2.2.2 _ q1309) (g_recv X hw (ci := 7) rfl (gcell_8 ht)) hd (kk _ h2)
  · exact va_castY S.1 S.2.1 S.2.2.2.1 (S.2.2.2.2 _ q1309) (X.2.2.2.2.2.1 _ q2364 rfl) (g_recv X hw (ci := 8) rfl (gcell_9 ht)) hd (kk _ h2)
  · exact va_castY S.1 S.2.1 S.2.2.2.1 (S.2.2.2.2 _ q1309) (X.2.2.2.2.2.1 _ q2365 rfl) (g_recv X hw (ci := 9) rfl (gcell_10 ht)) hd (kk _ h2)
  · exact va_castY S.1 S.2.1 S.2.2.2.1 (S.2.2.2.2 _ q1309) (X.2.2.2.2.2.1 _ q2366 rfl) (g_recv X hw (ci := 10) rfl (gcell_11 ht)) hd (kk _ h2)
theorem gckX3_59 {F : Nat → Option β} (S : CallFix p m c cc nL s args lw_all RX3) (X : gCtx E A s) (hw : gH E A LC LS s g H locs) (hd : decode cc pc = .ok (.checkcast 59, 3)) (h : bd1 (oK g a 12 12) F = some r) (kk : ∀ v, F v = some r → W p l e R s m args below meth c H locs cells slots Q (F0 m (pc + 3) ls (.ref a :: rest))) : W p l e R s m args below meth c H locs cells slots Q (F0 m pc ls (.ref a :: rest)) := by
  obtain ⟨v, h1, h2⟩ := bd1_some h
  obtain ⟨⟨c1, c2⟩, h3⟩ := oif h1
  have ht : (gK g a).1 = 12 := by omega
  exact va_castE S.1 S.2.1 S.2.2.2.1 (S.2.2.2.2 _ q863) (g_recv X hw (ci := 11) rfl (gcell_12 ht)) hd (kk _ h2)
theorem gckX3_56 {F : Nat → Option β} (S : CallFix p m c cc nL s args lw_all RX3) (X : gCtx E A s) (hw : gH E A LC LS s g H locs) (hd : decode cc pc = .ok (.checkcast 56, 3)) (h : bd1 (oK g a 8 11) F = some r) (kk : ∀ v, F v = some r → W p l e R s m args below meth c H locs cells slots Q (F0 m (pc + 3) ls (.ref a :: rest))) : W p l e R s m args below meth c H locs cells slots Q (F0 m pc ls (.ref a :: rest)) := by
  obtain ⟨v, h1, h2⟩ := bd1_some h
  obtain ⟨⟨c1, c2⟩, h3⟩ := oif h1
  rcases (by omega : (gK g a).1 = 8 ∨ (gK g a).1 = 9 ∨ (gK g a).1 = 10 ∨ (gK g a).1 = 11) with ht | ht | ht | ht
  · exact va_castE S.1 S.2.1 S.2.2.2.1 (S.2.2.2.2 _ q858) (g_recv X hw (ci := 7) rfl (gcell_8 ht)) hd (kk _ h2)
  · exact va_castY S.1 S.2.1 S.2.2.2.1 (S.2.2.2.2 _ q858) (X.2.2.2.2.2.1 _ q2364 rfl) (g_recv X hw (ci := 8) rfl (gcell_9 ht)) hd (kk _ h2)
  · exact va_castY S.1 S.2.1 S.2.2.2.1 (S.2.2.2.2 _ q858) (X.2.2.2.2.2.1 _ q2365 rfl) (g_recv X hw (ci := 9) rfl (gcell_10 ht)) hd (kk _ h2)
  · exact va_castY S.1 S.2.1 S.2.2.2.1 (S.2.2.2.2 _ q858) (X.2.2.2.2.2.1 _ q2366 rfl) (g_recv X hw (ci := 10) rfl (gcell_11 ht)) hd (kk _ h2)
theorem gckX3_44 {F : Nat → Option β} (S : CallFix p m c cc nL s args lw_all RX3) (X : gCtx E A s) (hw : gH E A LC LS s g H locs) (hd : decode cc pc = .ok (.checkcast 44, 3)) (h : bd1 (oK g a 7 7) F = some r) (kk : ∀ v, F v = some r → W p l e R s m args below meth c H locs cells slots Q (F0 m (pc + 3) ls (.ref a :: rest))) : W p l e R s m args below meth c H locs cells slots Q (F0 m pc ls (.ref a :: rest)) := by
  obtain ⟨v, h1, h2⟩ := bd1_some h
  obtain ⟨⟨c1, c2⟩, h3⟩ := oif h1
  have ht : (gK g a).1 = 7 := by omega
  exact va_castE S.1 S.2.1 S.2.2.2.1 (S.2.2.2.2 _ q845) (g_recv X hw (ci := 6) rfl (gcell_7 ht)) hd (kk _ h2)
theorem gckX2_222 {F : Nat → Option β} (S : CallFix p m c cc nL s args lw_all RX2) (X : gCtx E A s) (hw : gH E A LC LS s g H locs) (hd : decode cc pc = .ok (.checkcast 222, 3)) (h : bd1 (oK g a 8 11) F = some r) (kk : ∀ v, F v = some r → W p l e R s m args below meth c H locs cells slots Q (F0 m (pc + 3) ls (.ref a :: rest))) : W p l e R s m args below meth c H locs cells slots Q (F0 m pc ls (.ref a :: rest)) := by
  obtain ⟨v, h1, h2⟩ := bd1_some h
  obtain ⟨⟨c1, c2⟩, h3⟩ := oif h1
  rcases (by omega : (gK g a).1 = 8 ∨ (gK g a).1 = 9 ∨ (gK g a).1 = 10 ∨ (gK g a).1 = 11) with ht | ht | ht | ht
  · exact va_castE S.1 S.2.1 S.2.2.2.1 (S.2.2.2.2 _ q975) (g_recv X hw (ci := 7) rfl (gcell_8 ht)) hd (kk _ h2)
  · exact va_castY S.1 S.2.1 S.2.2.2.1 (S.2.2.2.2 _ q975) (X.2.2.2.2.2.1 _ q2364 rfl) (g_recv X hw (ci := 8) rfl (gcell_9 ht)) hd (kk _ h2)
  · exact va_castY S.1 S.2.1 S.2.2.2.1 (S.2.2.2.2 _ q975) (X.2.2.2.2.2.1 _ q2365 rfl) (g_recv X hw (ci := 9) rfl (gcell_10 ht)) hd (kk _ h2)
  · exact va_castY S.1 S.2.1 S.2.2.2.1 (S.2.2.2.2 _ q975) (X.2.2.2.2.2.1 _ q2366 rfl) (g_recv X hw (ci := 10) rfl (gcell_11 ht)) hd (kk _ h2)
theorem gckX4_57 {F : Nat → Option β} (S : CallFix p m c cc nL s args lw_all RX4) (X : gCtx E A s) (hw : gH E A LC LS s g H locs) (hd : decode cc pc = .ok (.checkcast 57, 3)) (h : bd1 (oK g a 8 11) F = some r) (kk : ∀ v, F v = some r → W p l e R s m args below meth c H locs cells slots Q (F0 m (pc + 3) ls (.ref a :: rest))) : W p l e R s m args below meth c H locs cells slots Q (F0 m pc ls (.ref a :: rest)) := by
  obtain ⟨v, h1, h2⟩ := bd1_some h
  obtain ⟨⟨c1, c2⟩, h3⟩ := oif h1
  rcases (by omega : (gK g a).1 = 8 ∨ (gK g a).1 = 9 ∨ (gK g a).1 = 10 ∨ (gK g a).1 = 11) with ht | ht | ht | ht
  · exact va_castE S.1 S.2.1 S.2.2.2.1 (S.2.2.2.2 _ q367) (g_recv X hw (ci := 7) rfl (gcell_8 ht)) hd (kk _ h2)
  · exact va_castY S.1 S.2.1 S.2.2.2.1 (S.2.2.2.2 _ q367) (X.2.2.2.2.2.1 _ q2364 rfl) (g_recv X hw (ci := 8) rfl (gcell_9 ht)) hd (kk _ h2)
  · exact va_castY S.1 S.2.1 S.2.2.2.1 (S.2.2.2.2 _ q367) (X.2.2.2.2.2.1 _ q2365 rfl) (g_recv X hw (ci := 9) rfl (gcell_10 ht)) hd (kk _ h2)
  · exact va_castY S.1 S.2.1 S.2.2.2.1 (S.2.2.2.2 _ q367) (X.2.2.2.2.2.1 _ q2366 rfl) (g_recv X hw (ci := 10) rfl (gcell_11 ht)) hd (kk _ h2)
theorem gioJ5_10 {F : Nat → Option β} (S : CallFix p m c cc nL s args lw_all RJ5) (X : gCtx E A s) (hw : gH E A LC LS s g H locs) (hd : decode cc pc = .ok (.instanceof 10, 3)) (h : bd1 (oK g a 30 30) F = some r) (kk : ∀ v, F v = some r → W p l e R s m args below meth c H locs cells slots Q (F0 m (pc + 3) ls (.int 1 :: rest))) : W p l e R s m args below meth c H locs cells slots Q (F0 m pc ls (.ref a :: rest)) := by
  obtain ⟨v, h1, h2⟩ := bd1_some h
  obtain ⟨⟨c1, c2⟩, h3⟩ := oif h1
  have ht : (gK g a).1 = 30 := by omega
  exact va_instE S.1 S.2.1 S.2.2.2.1 (S.2.2.2.2 _ q850) (g_recv X hw (ci := 23) rfl (gcell_30 ht)) hd (kk _ h2)
theorem gckJ5_10 {F : Nat → Option β} (S : CallFix p m c cc nL s args lw_all RJ5) (X : gCtx E A s) (hw : gH E A LC LS s g H locs) (hd : decode cc pc = .ok (.checkcast 10, 3)) (h : bd1 (oK g a 30 30) F = some r) (kk : ∀ v, F v = some r → W p l e R s m args below meth c H locs cells slots Q (F0 m (pc + 3) ls (.ref a :: rest))) : W p l e R s m args below meth c H locs cells slots Q (F0 m pc ls (.ref a :: rest)) := by
  obtain ⟨v, h1, h2⟩ := bd1_some h
  obtain ⟨⟨c1, c2⟩, h3⟩ := oif h1
  have ht : (gK g a).1 = 30 := by omega
  exact va_castE S.1 S.2.1 S.2.2.2.1 (S.2.2.2.2 _ q850) (g_recv X hw (ci := 23) rfl (gcell_30 ht)) hd (kk _ h2)
theorem gany_43_7 (X : gCtx E A s) (hw : gH E A LC LS s g H locs) (ht : (gK g a).1 = 7) : va_Any "java/lang/Object" s H a :=
  va_rAny (ci := 6) (q0 := 0) X.1 (va_one (hw.1.2.1 _ _ (gcell_7 ht)).1) rfl rfl (fun comp c0 h1 h2 => by obtain ⟨c1, t1, f1, f2, f3⟩ := Cond.castable_spec (va_Nw.use (A := #[]) rfl (X.2.2.2.2.2.1 _ q2383 rfl)); cases h1.symm.trans f2; cases h2.symm.trans f1; exact f3)
theorem gany_43_8 (X : gCtx E A s) (hw : gH E A LC LS s g H locs) (ht : (gK g a).1 = 8) : va_Any "java/lang/Object" s H a :=
  va_rAny (ci := 7) (q0 := 0) X.1 (va_one (hw.1.2.1 _ _ (gcell_8 ht)).1) rfl rfl (fun comp c0 h1 h2 => by obtain ⟨c1, t1, f1, f2, f3⟩ := Cond.castable_spec (va_Nw.use (A := #[]) rfl (X.2.2.2.2.2.1 _ q2384 rfl)); cases h1.symm.trans f2; cases h2.symm.trans f1; exact f3)
theorem gany_43_9 (X : gCtx E A s) (hw : gH E A LC LS s g H locs) (ht : (gK g a).1 = 9) : va_Any "java/lang/Object" s H a :=
  va_rAny (ci := 8) (q0 := 0) X.1 (va_one (hw.1.2.1 _ _ (gcell_9 ht)).1) rfl rfl (fun comp c0 h1 h2 => by obtain ⟨c1, t1, f1, f2, f3⟩ := Cond.castable_spec (va_Nw.use (A := #[]) rfl (X.2.2.2.2.2.1 _ q2385 rfl)); cases h1.symm.trans f2; cases h2.symm.trans f1; exact f3)
theorem gany_43_10 (X : gCtx E A s) (hw : gH E A LC LS s g H locs) (ht : (gK g a).1 = 10) : va_Any "java/lang/Object" s H a :=
  va_rAny (ci := 9) (q0 := 0) X.1 (va_one (hw.1.2.1 _ _ (gcell_10 ht)).1) rfl rfl (fun comp c0 h1 h2 => by obtain ⟨c1, t1, f1, f2, f3⟩ := Cond.castable_spec (va_Nw.use (A := #[]) rfl (X.2.2.2.2.2.1 _ q2386 rfl)); cases h1.symm.trans f2; cases h2.symm.trans f1; exact f3)
theorem gany_43_11 (X : gCtx E A s) (hw : gH E A LC LS s g H locs) (ht : (gK g a).1 = 11) : va_Any "java/lang/Object" s H a :=
  va_rAny (ci := 10) (q0 := 0) X.1 (va_one (hw.1.2.1 _ _ (gcell_11 ht)).1) rfl rfl (fun comp c0 h1 h2 => by obtain ⟨c1, t1, f1, f2, f3⟩ := Cond.castable_spec (va_Nw.use (A := #[]) rfl (X.2.2.2.2.2.1 _ q2387 rfl)); cases h1.symm.trans f2; cases h2.symm.trans f1; exact f3)
theorem gany_43_12 (X : gCtx E A s) (hw : gH E A LC LS s g H locs) (ht : (gK g a).1 = 12) : va_Any "java/lang/Object" s H a :=
  va_rAny (ci := 11) (q0 := 0) X.1 (va_one (hw.1.2.1 _ _ (gcell_12 ht)).1) rfl rfl (fun comp c0 h1 h2 => by obtain ⟨c1, t1, f1, f2, f3⟩ := Cond.castable_spec (va_Nw.use (A := #[]) rfl (X.2.2.2.2.2.1 _ q2388 rfl)); cases h1.symm.trans f2; cases h2.symm.trans f1; exact f3)
theorem gany_43_17 (X : gCtx E A s) (hw : gH E A LC LS s g H locs) (ht : (gK g a).1 = 17) : va_Any "java/lang/Object" s H a :=
  va_rAny (ci := 16) (q0 := 0) X.1 (va_one (hw.1.2.1 _ _ (gcell_17 ht)).1) rfl rfl (fun comp c0 h1 h2 => by obtain ⟨c1, t1, f1, f2, f3⟩ := Cond.castable_spec (va_Nw.use (A := #[]) rfl (X.2.2.2.2.2.1 _ q2393 rfl)); cases h1.symm.trans f2; cases h2.symm.trans f1; exact f3)
theorem gany_43_18 (X : gCtx E A s) (hw : gH E A LC LS s g H locs) (ht : (gK g a).1 = 18) : va_Any "java/lang/Object" s H a :=
  va_rAny (ci := 17) (q0 := 0) X.1 (va_one (hw.1.2.1 _ _ (gcell_18 ht)).1) rfl rfl (fun comp c0 h1 h2 => by obtain ⟨c1, t1, f1, f2, f3⟩ := Cond.castable_spec (va_Nw.use (A := #[]) rfl (X.2.2.2.2.2.1 _ q2395 rfl)); cases h1.symm.trans f2; cases h2.symm.trans f1; exact f3)
theorem gany_43_19 (X : gCtx E A s) (hw : gH E A LC LS s g H locs) (ht : (gK g a).1 = 19) : va_Any "java/lang/Object" s H a :=
  va_rAny (ci := 18) (q0 := 0) X.1 (va_one (hw.1.2.1 _ _ (gcell_19 ht)).1) rfl rfl (fun comp c0 h1 h2 => by obtain ⟨c1, t1, f1, f2, f3⟩ := Cond.castable_spec (va_Nw.use (A := #[]) rfl (X.2.2.2.2.2.1 _ q2396 rfl)); cases h1.symm.trans f2; cases h2.symm.trans f1; exact f3)
theorem gany_43_20 (X : gCtx E A s) (hw : gH E A LC LS s g H locs) (ht : (gK g a).1 = 20) : va_Any "java/lang/Object" s H a :=
  va_rAny (ci := 19) (q0 := 0) X.1 (va_one (hw.1.2.1 _ _ (gcell_20 ht)).1) rfl rfl (fun comp c0 h1 h2 => by obtain ⟨c1, t1, f1, f2, f3⟩ := Cond.castable_spec (va_Nw.use (A := #[]) rfl (X.2.2.2.2.2.1 _ q2397 rfl)); cases h1.symm.trans f2; cases h2.symm.trans f1; exact f3)
theorem gany_43_21 (X : gCtx E A s) (hw : gH E A LC LS s g H locs) (ht : (gK g a).1 = 21) : va_Any "java/lang/Object" s H a :=
  va_rAny (ci := 20) (q0 := 0) X.1 (va_one (hw.1.2.1 _ _ (gcell_21 ht)).1) rfl rfl (fun comp c0 h1 h2 => by obtain ⟨c1, t1, f1, f2, f3⟩ := Cond.castable_spec (va_Nw.use (A := #[]) rfl (X.2.2.2.2.2.1 _ q2398 rfl)); cases h1.symm.trans f2; cases h2.symm.trans f1; exact f3)
theorem gany_43_22 (X : gCtx E A s) (hw : gH E A LC LS s g H locs) (ht : (gK g a).1 = 22) : va_Any "java/lang/Object" s H a :=
  va_rAny (ci := 27) (q0 := 0) X.1 (va_one (hw.1.2.1 _ _ (gcell_22 ht)).1) rfl rfl (fun comp c0 h1 h2 => by obtain ⟨c1, t1, f1, f2, f3⟩ := Cond.castable_spec (va_Nw.use (A := #[]) rfl (X.2.2.2.2.2.1 _ q2394 rfl)); cases h1.symm.trans f2; cases h2.symm.trans f1; exact f3)
theorem gany_45_4 (X : gCtx E A s) (hw : gH E A LC LS s g H locs) (ht : (gK g a).1 = 4) : va_Any "PulseRent$State" s H a :=
  va_rAny (ci := 3) (q0 := 0) X.1 (va_one (hw.1.2.1 _ _ (gcell_4 ht)).1) rfl rfl (fun comp c0 h1 h2 => by cases h1.symm.trans h2; exact va_assign (C := RX4) ⟨h2, (X.1.1 3 _ rfl).2.2 |> fun q => by obtain ⟨kC, q1, q2⟩ := q; have e0 := Option.some.inj (h2.symm.trans (X.1.1 3 _ rfl).2.1); subst e0; exact ⟨kC, q1, q2⟩⟩)
theorem gany_47_28 (X : gCtx E A s) (hw : gH E A LC LS s g H locs) (ht : (gK g a).1 = 28) : va_Any "PulseRent$Mark" s H a :=
  va_rAny (ci := 21) (q0 := 0) X.1 (va_one (hw.1.2.1 _ _ (gcell_28 ht)).1) rfl rfl (fun comp c0 h1 h2 => by cases h1.symm.trans h2; exact va_assign (C := RX25) ⟨h2, (X.1.1 21 _ rfl).2.2 |> fun q => by obtain ⟨kC, q1, q2⟩ := q; have e0 := Option.some.inj (h2.symm.trans (X.1.1 21 _ rfl).2.1); subst e0; exact ⟨kC, q1, q2⟩⟩)
end BK4
