/-! walks over the plain heap, printed by gen/bgen.py -/
set_option maxRecDepth 100000
def B_J4_checkIndex_p9 (x0 : Int32) (x1 : Int32) (x2 : Option Nat) (w : GS) : Option Int32 :=
  none
def B_J4_checkIndex (x0 : Int32) (x1 : Int32) (x2 : Option Nat) (w : GS) : Option Int32 :=
  if x0 < 0 then
    B_J4_checkIndex_p9 x0 x1 x2 w
  else
    if x0 < x1 then
      some x0
    else
      B_J4_checkIndex_p9 x0 x1 x2 w
set_option maxRecDepth 100000 in
set_option maxHeartbeats 4000000 in
theorem wk_B_J4_checkIndex_p9 {p : Program} {l : Launch} {e : Env} {R : Room} {s : State} {m : MethodId} {args : Array Value} {below : List Frame} {meth : Method} {c : Code} {E : gE} {A : Nat → Prop} {LC LS : Nat} (S : CallFix p m c cJ4_checkIndex 3 s args lw_all RJ4) (X : gCtx E A s) (Z : gRm R s LC LS) (hF : 0 ≤ R.frames) (hL : 0 ≤ R.locals) (hr : meth.sig.returnType = (Option.some Jvm.ClassFile.FieldType.int)) (hlocks : meth.locks = false) {res : Int32}  : ∀ (x0 : Int32) (x1 : Int32) (x2 : Option Nat) (w : GS) (H : Heap) (locs : List Loc) (ls : Array Slot), B_J4_checkIndex_p9 x0 x1 x2 w = some res → gH E A LC LS s w H locs → lv_has ls 3 [(0, .int x0), (1, .int x1), (2, va_rf x2)] → W p l e R s m args below meth c H locs (H.size - s.heap.size) (tot H - tot s.heap) (MQ below (gQi E A LC LS res w) args s R.cells R.slots A) (F0 m 9 ls []) := by
  intro x0 x1 x2 w H locs ls h hw hl
  unfold B_J4_checkIndex_p9 at h
  cases h
set_option maxRecDepth 100000 in
set_option maxHeartbeats 4000000 in
theorem met_B_J4_checkIndex (l : Launch) (E : gE) (A : Nat → Prop) (LC LS : Nat)  (x0 : Int32) (x1 : Int32) (x2 : Option Nat) (w : GS) (res : Int32) (h : B_J4_checkIndex x0 x1 x2 w = some res) : Met l yJ4_checkIndex (ws_ yJ4_checkIndex cJ4_checkIndex 3 (Option.some Jvm.ClassFile.FieldType.int)) (gRoom 0 0 LC LS w) (gPc E A LC LS [.int x0, .int x1, va_rf x2] w) (gQi E A LC LS res w) (LC - gZ w) (LS - gN w) A := by
  cases x2 with
  | none =>
    refine gMet (by decide) rfl (Nat.le_of_ble_eq_true rfl) ?_
    intro p e s m below meth c R S hr hlocks hin2 X Z hF hL H ls hw hl
    replace hl : lv_has ls 3 [(0, .int x0), (1, .int x1), (2, va_rf none)] := hl
    unfold B_J4_checkIndex at h
    refine lv_iload_n S.1 S.2.1 dJ4_checkIndex_0 rfl (lv_at hl 0 rfl) ?_
    refine lv_if_lt (tgt := 9) S.1 S.2.1 dJ4_checkIndex_1 rfl (fun c1 => ?_) (fun c1 => ?_)
    · replace h := if_t c1 h
      exact wk_B_J4_checkIndex_p9 S X Z hF hL hr hlocks  _ _ _ _ _ _ _ h hw (lv_sub hl [0, 1, 2] rfl)
    · replace h := if_f c1 h
      refine lv_iload_n S.1 S.2.1 dJ4_checkIndex_4 rfl (lv_at hl 0 rfl) ?_
      refine lv_iload_n S.1 S.2.1 dJ4_checkIndex_5 rfl (lv_at hl 1 rfl) ?_
      refine lv_icmp_lt (tgt := 16) S.1 S.2.1 dJ4_checkIndex_6 rfl (fun c2 => ?_) (fun c2 => ?_)
      · replace h := if_t c2 h
        refine lv_iload_n S.1 S.2.1 dJ4_checkIndex_16 rfl (lv_at hl 0 rfl) ?_
        exact g_iret S Z hr hlocks hw ⟨so1 h, rfl⟩ dJ4_checkIndex_17
      · replace h := if_f c2 h
        exact wk_B_J4_checkIndex_p9 S X Z hF hL hr hlocks  _ _ _ _ _ _ _ h hw (lv_sub hl [0, 1, 2] rfl)
  | some x2 =>
    refine gMet (by decide) rfl (Nat.le_of_ble_eq_true rfl) ?_
    intro p e s m below meth c R S hr hlocks hin2 X Z hF hL H ls hw hl
    replace hl : lv_has ls 3 [(0, .int x0), (1, .int x1), (2, va_rf (some x2))] := hl
    unfold B_J4_checkIndex at h
    refine lv_iload_n S.1 S.2.1 dJ4_checkIndex_0 rfl (lv_at hl 0 rfl) ?_
    refine lv_if_lt (tgt := 9) S.1 S.2.1 dJ4_checkIndex_1 rfl (fun c1 => ?_) (fun c1 => ?_)
    · replace h := if_t c1 h
      exact wk_B_J4_checkIndex_p9 S X Z hF hL hr hlocks  _ _ _ _ _ _ _ h hw (lv_sub hl [0, 1, 2] rfl)
    · replace h := if_f c1 h
      refine lv_iload_n S.1 S.2.1 dJ4_checkIndex_4 rfl (lv_at hl 0 rfl) ?_
      refine lv_iload_n S.1 S.2.1 dJ4_checkIndex_5 rfl (lv_at hl 1 rfl) ?_
      refine lv_icmp_lt (tgt := 16) S.1 S.2.1 dJ4_checkIndex_6 rfl (fun c2 => ?_) (fun c2 => ?_)
      · replace h := if_t c2 h
        refine lv_iload_n S.1 S.2.1 dJ4_checkIndex_16 rfl (lv_at hl 0 rfl) ?_
        exact g_iret S Z hr hlocks hw ⟨so1 h, rfl⟩ dJ4_checkIndex_17
      · replace h := if_f c2 h
        exact wk_B_J4_checkIndex_p9 S X Z hF hL hr hlocks  _ _ _ _ _ _ _ h hw (lv_sub hl [0, 1, 2] rfl)
theorem cb_J3_105 {R : Room} {s : State} {args : Array Value} {rm : Room} {mc ms : Nat} (hts : ∀ w ∈ lw_all, w.before args s = true) (hc : rm.cells = mc) (hs : rm.slots = ms) (hR : rm.frames + 1 ≤ R.frames ∧ 8 + (3 + 11) + rm.locals ≤ R.locals) : CallB R s args RJ3 105 yJ4_checkIndex cJ4_checkIndex 3 (Option.some Jvm.ClassFile.FieldType.int) (ws_ yJ4_checkIndex cJ4_checkIndex 3 (Option.some Jvm.ClassFile.FieldType.int)) rm mc ms 3 ∧ (Cond.static yJ4_checkIndex).before args s = true := va_cwS 3 hts (lw_S q360 q361 q143 q362) rfl hc hs (by decide +kernel) hR
def B_J3_checkIndex (x0 : Int32) (x1 : Int32) (w : GS) : Option Int32 :=
  bd1 (B_J4_checkIndex x0 x1 none w) fun r1 =>
  some r1
set_option maxRecDepth 100000 in
set_option maxHeartbeats 4000000 in
theorem met_B_J3_checkIndex (l : Launch) (E : gE) (A : Nat → Prop) (LC LS : Nat)  (x0 : Int32) (x1 : Int32) (w : GS) (res : Int32) (h : B_J3_checkIndex x0 x1 w = some res) : Met l yJ3_checkIndex (ws_ yJ3_checkIndex cJ3_checkIndex 2 (Option.some Jvm.ClassFile.FieldType.int)) (gRoom 1 22 LC LS w) (gPc E A LC LS [.int x0, .int x1] w) (gQi E A LC LS res w) (LC - gZ w) (LS - gN w) A := by
  refine gMet (by decide) rfl (Nat.le_of_ble_eq_true rfl) ?_
  intro p e s m below meth c R S hr hlocks hin2 X Z hF hL H ls hw hl
  replace hl : lv_has ls 2 [(0, .int x0), (1, .int x1)] := hl
  unfold B_J3_checkIndex at h
  refine lv_iload_n S.1 S.2.1 dJ3_checkIndex_0 rfl (lv_at hl 0 rfl) ?_
  refine lv_iload_n S.1 S.2.1 dJ3_checkIndex_1 rfl (lv_at hl 1 rfl) ?_
  refine lv_null S.1 S.2.1 dJ3_checkIndex_2 ?_
  refine gcSri (As := [.int x0, .int x1, .null]) (rest := []) S X Z hw h (fun u h1 => met_B_J4_checkIndex l E A LC LS x0 x1 none w u h1) (cb_J3_105 S.2.2.2.2 rfl rfl ⟨Nat.le_trans (Nat.le_of_ble_eq_true rfl : 0 + 1 ≤ 1) hF, Nat.le_trans (Nat.le_of_ble_eq_true rfl : 8 + (3 + 11) + 0 ≤ 22) hL⟩) rfl hl.1 rfl (lv_room (Nat.le_of_ble_eq_true rfl)) dJ3_checkIndex_3 (fun r1 H locs h hw => ?_)
  exact g_iret S Z hr hlocks hw ⟨so1 h, rfl⟩ dJ3_checkIndex_6
theorem cb_J5_1059 {R : Room} {s : State} {args : Array Value} {rm : Room} {mc ms : Nat} (hts : ∀ w ∈ lw_all, w.before args s = true) (hc : rm.cells = mc) (hs : rm.slots = ms) (hR : rm.frames + 1 ≤ R.frames ∧ 8 + (3 + 11) + rm.locals ≤ R.locals) : CallB R s args RJ5 1059 yJ4_checkIndex cJ4_checkIndex 3 (Option.some Jvm.ClassFile.FieldType.int) (ws_ yJ4_checkIndex cJ4_checkIndex 3 (Option.some Jvm.ClassFile.FieldType.int)) rm mc ms 3 ∧ (Cond.static yJ4_checkIndex).before args s = true := va_cwS 3 hts (lw_S q586 q361 q143 q362) rfl hc hs (by decide +kernel) hR
def B_J5_checkIndex (x0 : Int32) (x1 : Int32) (w : GS) : Option GS :=
  bd1 (B_J4_checkIndex x0 x1 (gT w 3) w) fun r1 =>
  some w
set_option maxRecDepth 100000 in
set_option maxHeartbeats 4000000 in
theorem met_B_J5_checkIndex (l : Launch) (E : gE) (A : Nat → Prop) (LC LS : Nat)  (x0 : Int32) (x1 : Int32) (w : GS) (res : GS) (h : B_J5_checkIndex x0 x1 w = some res) : Met l yJ5_checkIndex (ws_ yJ5_checkIndex cJ5_checkIndex 2 (Option.none : Option Jvm.ClassFile.FieldType)) (gRoom 1 22 LC LS w) (gPc E A LC LS [.int x0, .int x1] w) (gQv E A LC LS res) (LC - gZ w) (LS - gN w) A := by
  refine gMet (by decide) rfl (Nat.le_of_ble_eq_true rfl) ?_
  intro p e s m below meth c R S hr hlocks hin2 X Z hF hL H ls hw hl
  replace hl : lv_has ls 2 [(0, .int x0), (1, .int x1)] := hl
  unfold B_J5_checkIndex at h
  refine lv_iload_n S.1 S.2.1 dJ5_checkIndex_0 rfl (lv_at hl 0 rfl) ?_
  refine lv_iload_n S.1 S.2.1 dJ5_checkIndex_1 rfl (lv_at hl 1 rfl) ?_
  refine gsJ5_1053 S X hw dJ5_checkIndex_2 ?_
  refine gcSri (As := [.int x0, .int x1, va_rf (gT w 3)]) (rest := []) S X Z hw h (fun u h1 => met_B_J4_checkIndex l E A LC LS x0 x1 (gT w 3) w u h1) (cb_J5_1059 S.2.2.2.2 rfl rfl ⟨Nat.le_trans (Nat.le_of_ble_eq_true rfl : 0 + 1 ≤ 1) hF, Nat.le_trans (Nat.le_of_ble_eq_true rfl : 8 + (3 + 11) + 0 ≤ 22) hL⟩) rfl hl.1 rfl (lv_room (Nat.le_of_ble_eq_true rfl)) dJ5_checkIndex_5 (fun r1 H locs h hw => ?_)
  refine lv_pop S.1 S.2.1 dJ5_checkIndex_8 rfl ?_
  exact g_vret S Z hr hlocks hw (so1 h) dJ5_checkIndex_9
def B_J6_canEncode (x0 : Int32) : Int32 :=
  if x0 < 0 then
    (0 : Int32)
  else
    if (255 : Int32) < x0 then
      (0 : Int32)
    else
      (1 : Int32)
set_option maxRecDepth 100000 in
set_option maxHeartbeats 4000000 in
theorem met_B_J6_canEncode (l : Launch) (E : gE) (A : Nat → Prop) (LC LS : Nat)  (x0 : Int32) (w : GS) (res : Int32) (h : B_J6_canEncode x0 = res) : Met l yJ6_canEncode (ws_ yJ6_canEncode cJ6_canEncode 1 (Option.some Jvm.ClassFile.FieldType.boolean)) (gRoom 0 0 LC LS w) (gPc E A LC LS [.int x0] w) (gQi E A LC LS res w) (LC - gZ w) (LS - gN w) A := by
  refine gMet (by decide) rfl (Nat.le_of_ble_eq_true rfl) ?_
  intro p e s m below meth c R S hr hlocks hin2 X Z hF hL H ls hw hl
  replace hl : lv_has ls 1 [(0, .int x0)] := hl
  unfold B_J6_canEncode at h
  refine lv_iload_n S.1 S.2.1 dJ6_canEncode_0 rfl (lv_at hl 0 rfl) ?_
  refine lv_if_lt (tgt := 15) S.1 S.2.1 dJ6_canEncode_1 rfl (fun c1 => ?_) (fun c1 => ?_)
  · replace h := if_t c1 h
    refine lv_iconst (v := 0) S.1 S.2.1 dJ6_canEncode_15 rfl ?_
    exact g_zret S Z hr hlocks hw rfl ⟨h, rfl⟩ dJ6_canEncode_16
  · replace h := if_f c1 h
    refine lv_iload_n S.1 S.2.1 dJ6_canEncode_4 rfl (lv_at hl 0 rfl) ?_
    refine lv_sipush (v := 255) S.1 S.2.1 dJ6_canEncode_5 rfl ?_
    refine lv_icmp_gt (tgt := 15) S.1 S.2.1 dJ6_canEncode_8 rfl (fun c2 => ?_) (fun c2 => ?_)
    · replace h := if_t c2 h
      refine lv_iconst (v := 0) S.1 S.2.1 dJ6_canEncode_15 rfl ?_
      exact g_zret S Z hr hlocks hw rfl ⟨h, rfl⟩ dJ6_canEncode_16
    · replace h := if_f c2 h
      refine lv_iconst (v := 1) S.1 S.2.1 dJ6_canEncode_11 rfl ?_
      refine lv_goto (tgt := 16) S.1 S.2.1 dJ6_canEncode_12 rfl ?_
      exact g_zret S Z hr hlocks hw rfl ⟨h, rfl⟩ dJ6_canEncode_16
def B_J6_canEncode_2 (x0 : Int32) : Int32 :=
  if (255 : Int32) < x0 then
    (0 : Int32)
  else
    (1 : Int32)
set_option maxRecDepth 100000 in
set_option maxHeartbeats 4000000 in
theorem met_B_J6_canEncode_2 (l : Launch) (E : gE) (A : Nat → Prop) (LC LS : Nat)  (x0 : Int32) (w : GS) (res : Int32) (h : B_J6_canEncode_2 x0 = res) : Met l yJ6_canEncode_2 (ws_ yJ6_canEncode_2 cJ6_canEncode_2 1 (Option.some Jvm.ClassFile.FieldType.boolean)) (gRoom 0 0 LC LS w) (gPc E A LC LS [.int x0] w) (gQi E A LC LS res w) (LC - gZ w) (LS - gN w) A := by
  refine gMet (by decide) rfl (Nat.le_of_ble_eq_true rfl) ?_
  intro p e s m below meth c R S hr hlocks hin2 X Z hF hL H ls hw hl
  replace hl : lv_has ls 1 [(0, .int x0)] := hl
  unfold B_J6_canEncode_2 at h
  refine lv_iload_n S.1 S.2.1 dJ6_canEncode_2_0 rfl (lv_at hl 0 rfl) ?_
  refine lv_sipush (v := 255) S.1 S.2.1 dJ6_canEncode_2_1 rfl ?_
  refine lv_icmp_gt (tgt := 11) S.1 S.2.1 dJ6_canEncode_2_4 rfl (fun c1 => ?_) (fun c1 => ?_)
  · replace h := if_t c1 h
    refine lv_iconst (v := 0) S.1 S.2.1 dJ6_canEncode_2_11 rfl ?_
    exact g_zret S Z hr hlocks hw rfl ⟨h, rfl⟩ dJ6_canEncode_2_12
  · replace h := if_f c1 h
    refine lv_iconst (v := 1) S.1 S.2.1 dJ6_canEncode_2_7 rfl ?_
    refine lv_goto (tgt := 12) S.1 S.2.1 dJ6_canEncode_2_8 rfl ?_
    exact g_zret S Z hr hlocks hw rfl ⟨h, rfl⟩ dJ6_canEncode_2_12
theorem cb_J6_9 {R : Room} {s : State} {args : Array Value} {rm : Room} {mc ms : Nat} (hts : ∀ w ∈ lw_all, w.before args s = true) (hc : rm.cells = mc) (hs : rm.slots = ms) (hR : rm.frames + 1 ≤ R.frames ∧ 8 + (2 + 11) + rm.locals ≤ R.locals) : CallB R s args RJ6 9 yJ5_checkIndex cJ5_checkIndex 2 (Option.none : Option Jvm.ClassFile.FieldType) (ws_ yJ5_checkIndex cJ5_checkIndex 2 (Option.none : Option Jvm.ClassFile.FieldType)) rm mc ms 2 ∧ (Cond.static yJ5_checkIndex).before args s = true := va_cwS 2 hts (lw_S q583 q584 q145 q585) rfl hc hs (by decide +kernel) hR
def B_J6_charAt (x0 : Nat) (x1 : Int32) (w : GS) : Option (Int32 × GS) :=
  bd1 (aLenb w x0) fun v1 =>
  bd1 (B_J5_checkIndex x1 v1 w) fun w2 =>
  bd1 (aIb w2 x0 x1) fun v3 =>
  zc (((v3 &&& (255 : Int32)).toUInt32 % 65536).toInt32) (some (((v3 &&& (255 : Int32)).toUInt32 % 65536).toInt32, w2))
set_option maxRecDepth 100000 in
set_option maxHeartbeats 4000000 in
theorem met_B_J6_charAt (l : Launch) (E : gE) (A : Nat → Prop) (LC LS : Nat)  (x0 : Nat) (x1 : Int32) (w : GS) (res : Int32 × GS) (h : B_J6_charAt x0 x1 w = some res) : Met l yJ6_charAt (ws_ yJ6_charAt cJ6_charAt 2 (Option.some Jvm.ClassFile.FieldType.char)) (gRoom 2 43 LC LS w) (gPc E A LC LS [.ref x0, .int x1] w) (gQi E A LC LS res.1 res.2) (LC - gZ w) (LS - gN w) A := by
  refine gMet (by decide) rfl (Nat.le_of_ble_eq_true rfl) ?_
  intro p e s m below meth c R S hr hlocks hin2 X Z hF hL H ls hw hl
  replace hl : lv_has ls 2 [(0, .ref x0), (1, .int x1)] := hl
  unfold B_J6_charAt at h
  refine lv_iload_n S.1 S.2.1 dJ6_charAt_0 rfl (lv_at hl 1 rfl) ?_
  refine lv_aload_n S.1 S.2.1 dJ6_charAt_1 rfl (lv_at hl 0 rfl) ?_
  refine galenb S X hw dJ6_charAt_2 h (fun v1 h => ?_)
  refine gcSv (As := [.int x1, .int v1]) (rest := []) S X Z hw h (fun u h1 => met_B_J5_checkIndex l E A LC LS x1 v1 w u h1) (cb_J6_9 S.2.2.2.2 rfl rfl ⟨Nat.le_trans (Nat.le_of_ble_eq_true rfl : 1 + 1 ≤ 2) hF, Nat.le_trans (Nat.le_of_ble_eq_true rfl : 8 + (2 + 11) + 22 ≤ 43) hL⟩) rfl hl.1 rfl (lv_room (Nat.le_of_ble_eq_true rfl)) dJ6_charAt_3 (fun w2 H locs h hw => ?_)
  refine lv_aload_n S.1 S.2.1 dJ6_charAt_6 rfl (lv_at hl 0 rfl) ?_
  refine lv_iload_n S.1 S.2.1 dJ6_charAt_7 rfl (lv_at hl 1 rfl) ?_
  refine galdb S X hw dJ6_charAt_8 h (fun v3 h => ?_)
  refine lv_sipush (v := 255) S.1 S.2.1 dJ6_charAt_9 rfl ?_
  refine lv_iand S.1 S.2.1 dJ6_charAt_12 ?_
  refine lv_i2c S.1 S.2.1 dJ6_charAt_13 rfl ?_
  exact g_zret S Z hr hlocks hw (by rw [← (oif h).1]; exact pk_nc _) (so2 (oif h).2) dJ6_charAt_14
def B_J6_equals_p9 : Nat → Nat → Nat → Int32 → GS → Option Int32
  | 0, _, _, _, _ => none
  | n + 1, x0, x1, x2, w =>
    bd1 (aLenb w x0) fun v4 =>
    if v4 ≤ x2 then
      some (1 : Int32)
    else
      bd1 (aIb w x0 x2) fun v6 =>
      bd1 (aIb w x1 x2) fun v7 =>
      if v6 = v7 then
        (B_J6_equals_p9 n) x0 x1 (x2 + (1 : Int32)) w
      else
        some (0 : Int32)
def B_J6_equals (x0 : Nat) (x1 : Nat) (w : GS) : Option Int32 :=
  bd1 (aLenb w x0) fun v1 =>
  bd1 (aLenb w x1) fun v2 =>
  if v1 = v2 then
    B_J6_equals_p9 FU x0 x1 (0 : Int32) w
  else
    some (0 : Int32)
set_option maxRecDepth 100000 in
set_option maxHeartbeats 4000000 in
theorem wk_B_J6_equals_p9 {p : Program} {l : Launch} {e : Env} {R : Room} {s : State} {m : MethodId} {args : Array Value} {below : List Frame} {meth : Method} {c : Code} {E : gE} {A : Nat → Prop} {LC LS : Nat} (S : CallFix p m c cJ6_equals 3 s args lw_all RJ6) (X : gCtx E A s) (Z : gRm R s LC LS) (hF : 0 ≤ R.frames) (hL : 0 ≤ R.locals) (hr : meth.sig.returnType = (Option.some Jvm.ClassFile.FieldType.boolean)) (hlocks : meth.locks = false) {res : Int32}  : ∀ n : Nat, ∀ (x0 : Nat) (x1 : Nat) (x2 : Int32) (w : GS) (H : Heap) (locs : List Loc) (ls : Array Slot), B_J6_equals_p9 n x0 x1 x2 w = some res → gH E A LC LS s w H locs → lv_has ls 3 [(0, .ref x0), (1, .ref x1), (2, .int x2)] → W p l e R s m args below meth c H locs (H.size - s.heap.size) (tot H - tot s.heap) (MQ below (gQi E A LC LS res w) args s R.cells R.slots A) (F0 m 9 ls []) := by
  intro n
  induction n with
  | zero => intro x0 x1 x2 w H locs ls h; cases (show (none : Option Int32) = some res from h)
  | succ n ih =>
    intro x0 x1 x2 w H locs ls h hw hl
    rw [B_J6_equals_p9] at h
    refine lv_iload_n S.1 S.2.1 dJ6_equals_9 rfl (lv_at hl 2 rfl) ?_
    refine lv_aload_n S.1 S.2.1 dJ6_equals_10 rfl (lv_at hl 0 rfl) ?_
    refine galenb S X hw dJ6_equals_11 h (fun v4 h => ?_)
    refine lv_icmp_ge (tgt := 32) S.1 S.2.1 dJ6_equals_12 rfl (fun c5 => ?_) (fun c5 => ?_)
    · replace h := if_t c5 h
      refine lv_iconst (v := 1) S.1 S.2.1 dJ6_equals_32 rfl ?_
      exact g_zret S Z hr hlocks hw rfl ⟨so1 h, rfl⟩ dJ6_equals_33
    · replace h := if_f c5 h
      refine lv_aload_n S.1 S.2.1 dJ6_equals_15 rfl (lv_at hl 0 rfl) ?_
      refine lv_iload_n S.1 S.2.1 dJ6_equals_16 rfl (lv_at hl 2 rfl) ?_
      refine galdb S X hw dJ6_equals_17 h (fun v6 h => ?_)
      refine lv_aload_n S.1 S.2.1 dJ6_equals_18 rfl (lv_at hl 1 rfl) ?_
      refine lv_iload_n S.1 S.2.1 dJ6_equals_19 rfl (lv_at hl 2 rfl) ?_
      refine galdb S X hw dJ6_equals_20 h (fun v7 h => ?_)
      refine lv_icmp_eq (tgt := 26) S.1 S.2.1 dJ6_equals_21 rfl (fun c8 => ?_) (fun c8 => ?_)
      · replace h := if_t c8 h
        refine lv_iinc (v := x2 + (1 : Int32)) (lv' := [(2, .int (x2 + (1 : Int32))), (0, .ref x0), (1, .ref x1)]) S.1 S.2.1 dJ6_equals_26 hl (k := 2) rfl rfl (by decide) rfl (fun ls hl => ?_)
        refine lv_goto (tgt := 9) S.1 S.2.1 dJ6_equals_29 rfl ?_
        exact ih _ _ _ _ _ _ _ h hw (lv_sub hl [1, 2, 0] rfl)
      · replace h := if_f c8 h
        refine lv_iconst (v := 0) S.1 S.2.1 dJ6_equals_24 rfl ?_
        exact g_zret S Z hr hlocks hw rfl ⟨so1 h, rfl⟩ dJ6_equals_25
set_option maxRecDepth 100000 in
set_option maxHeartbeats 4000000 in
theorem met_B_J6_equals (l : Launch) (E : gE) (A : Nat → Prop) (LC LS : Nat)  (x0 : Nat) (x1 : Nat) (w : GS) (res : Int32) (h : B_J6_equals x0 x1 w = some res) : Met l yJ6_equals (ws_ yJ6_equals cJ6_equals 3 (Option.some Jvm.ClassFile.FieldType.boolean)) (gRoom 0 0 LC LS w) (gPc E A LC LS [.ref x0, .ref x1] w) (gQi E A LC LS res w) (LC - gZ w) (LS - gN w) A := by
  refine gMet (by decide) rfl (Nat.le_of_ble_eq_true rfl) ?_
  intro p e s m below meth c R S hr hlocks hin2 X Z hF hL H ls hw hl
  replace hl : lv_has ls 3 [(0, .ref x0), (1, .ref x1)] := hl
  unfold B_J6_equals at h
  refine lv_aload_n S.1 S.2.1 dJ6_equals_0 rfl (lv_at hl 0 rfl) ?_
  refine galenb S X hw dJ6_equals_1 h (fun v1 h => ?_)
  refine lv_aload_n S.1 S.2.1 dJ6_equals_2 rfl (lv_at hl 1 rfl) ?_
  refine galenb S X hw dJ6_equals_3 h (fun v2 h => ?_)
  refine lv_icmp_ne (tgt := 34) S.1 S.2.1 dJ6_equals_4 rfl (fun c3 => ?_) (fun c3 => ?_)
  · replace h := if_f c3 h
    refine lv_iconst (v := 0) S.1 S.2.1 dJ6_equals_34 rfl ?_
    exact g_zret S Z hr hlocks hw rfl ⟨so1 h, rfl⟩ dJ6_equals_35
  · replace h := if_t c3 h
    refine lv_iconst (v := 0) S.1 S.2.1 dJ6_equals_7 rfl ?_
    refine lv_istore_n (lv' := [(2, .int (0 : Int32)), (0, .ref x0), (1, .ref x1)]) S.1 S.2.1 dJ6_equals_8 rfl hl (by decide) rfl (fun ls hl => ?_)
    exact wk_B_J6_equals_p9 S X Z hF hL hr hlocks  FU _ _ _ _ _ _ _ h hw (lv_sub hl [1, 2, 0] rfl)
def B_J6_indexOfChar_p7 : Nat → Nat → Int32 → Int32 → Int32 → GS → Option Int32
  | 0, _, _, _, _, _ => none
  | n + 1, x0, x3, x4, x5, w =>
    if x3 ≤ x5 then
      some (-1 : Int32)
    else
      bd1 (aIb w x0 x5) fun v2 =>
      if v2 = x4 then
        some x5
      else
        (B_J6_indexOfChar_p7 n) x0 x3 x4 (x5 + (1 : Int32)) w
def B_J6_indexOfChar (x0 : Nat) (x1 : Int32) (x2 : Int32) (x3 : Int32) (w : GS) : Option Int32 :=
  B_J6_indexOfChar_p7 FU x0 x3 x1.toInt8.toInt32 x2 w
set_option maxRecDepth 100000 in
set_option maxHeartbeats 4000000 in
theorem wk_B_J6_indexOfChar_p7 {p : Program} {l : Launch} {e : Env} {R : Room} {s : State} {m : MethodId} {args : Array Value} {below : List Frame} {meth : Method} {c : Code} {E : gE} {A : Nat → Prop} {LC LS : Nat} (S : CallFix p m c cJ6_indexOfChar 6 s args lw_all RJ6) (X : gCtx E A s) (Z : gRm R s LC LS) (hF : 0 ≤ R.frames) (hL : 0 ≤ R.locals) (hr : meth.sig.returnType = (Option.some Jvm.ClassFile.FieldType.int)) (hlocks : meth.locks = false) {res : Int32}  : ∀ n : Nat, ∀ (x0 : Nat) (x3 : Int32) (x4 : Int32) (x5 : Int32) (w : GS) (H : Heap) (locs : List Loc) (ls : Array Slot), B_J6_indexOfChar_p7 n x0 x3 x4 x5 w = some res → gH E A LC LS s w H locs → lv_has ls 6 [(0, .ref x0), (3, .int x3), (4, .int x4), (5, .int x5)] → W p l e R s m args below meth c H locs (H.size - s.heap.size) (tot H - tot s.heap) (MQ below (gQi E A LC LS res w) args s R.cells R.slots A) (F0 m 7 ls []) := by
  intro n
  induction n with
  | zero => intro x0 x3 x4 x5 w H locs ls h; cases (show (none : Option Int32) = some res from h)
  | succ n ih =>
    intro x0 x3 x4 x5 w H locs ls h hw hl
    rw [B_J6_indexOfChar_p7] at h
    refine lv_iload S.1 S.2.1 dJ6_indexOfChar_7 (lv_at hl 3 rfl) ?_
    refine lv_iload_n S.1 S.2.1 dJ6_indexOfChar_9 rfl (lv_at hl 1 rfl) ?_
    refine lv_icmp_ge (tgt := 31) S.1 S.2.1 dJ6_indexOfChar_10 rfl (fun c1 => ?_) (fun c1 => ?_)
    · replace h := if_t c1 h
      refine lv_iconst (v := -1) S.1 S.2.1 dJ6_indexOfChar_31 rfl ?_
      exact g_iret S Z hr hlocks hw ⟨so1 h, rfl⟩ dJ6_indexOfChar_32
    · replace h := if_f c1 h
      refine lv_aload_n S.1 S.2.1 dJ6_indexOfChar_13 rfl (lv_at hl 0 rfl) ?_
      refine lv_iload S.1 S.2.1 dJ6_indexOfChar_14 (lv_at hl 3 rfl) ?_
      refine galdb S X hw dJ6_indexOfChar_16 h (fun v2 h => ?_)
      refine lv_iload S.1 S.2.1 dJ6_indexOfChar_17 (lv_at hl 2 rfl) ?_
      refine lv_icmp_ne (tgt := 25) S.1 S.2.1 dJ6_indexOfChar_19 rfl (fun c3 => ?_) (fun c3 => ?_)
      · replace h := if_f c3 h
        refine lv_iinc (v := x5 + (1 : Int32)) (lv' := [(5, .int (x5 + (1 : Int32))), (0, .ref x0), (3, .int x3), (4, .int x4)]) S.1 S.2.1 dJ6_indexOfChar_25 hl (k := 3) rfl rfl (by decide) rfl (fun ls hl => ?_)
        refine lv_goto (tgt := 7) S.1 S.2.1 dJ6_indexOfChar_28 rfl ?_
        exact ih _ _ _ _ _ _ _ _ h hw (lv_sub hl [1, 2, 3, 0] rfl)
      · replace h := if_t c3 h
        refine lv_iload S.1 S.2.1 dJ6_indexOfChar_22 (lv_at hl 3 rfl) ?_
        exact g_iret S Z hr hlocks hw ⟨so1 h, rfl⟩ dJ6_indexOfChar_24
set_option maxRecDepth 100000 in
set_option maxHeartbeats 4000000 in
theorem met_B_J6_indexOfChar (l : Launch) (E : gE) (A : Nat → Prop) (LC LS : Nat)  (x0 : Nat) (x1 : Int32) (x2 : Int32) (x3 : Int32) (w : GS) (res : Int32) (h : B_J6_indexOfChar x0 x1 x2 x3 w = some res) : Met l yJ6_indexOfChar (ws_ yJ6_indexOfChar cJ6_indexOfChar 6 (Option.some Jvm.ClassFile.FieldType.int)) (gRoom 0 0 LC LS w) (gPc E A LC LS [.ref x0, .int x1, .int x2, .int x3] w) (gQi E A LC LS res w) (LC - gZ w) (LS - gN w) A := by
  refine gMet (by decide) rfl (Nat.le_of_ble_eq_true rfl) ?_
  intro p e s m below meth c R S hr hlocks hin2 X Z hF hL H ls hw hl
  replace hl : lv_has ls 6 [(0, .ref x0), (1, .int x1), (2, .int x2), (3, .int x3)] := hl
  unfold B_J6_indexOfChar at h
  refine lv_iload_n S.1 S.2.1 dJ6_indexOfChar_0 rfl (lv_at hl 1 rfl) ?_
  refine lv_i2b S.1 S.2.1 dJ6_indexOfChar_1 rfl ?_
  refine lv_istore (lv' := [(4, .int x1.toInt8.toInt32), (0, .ref x0), (1, .int x1), (2, .int x2), (3, .int x3)]) S.1 S.2.1 dJ6_indexOfChar_2 hl (by decide) rfl (fun ls hl => ?_)
  refine lv_iload_n S.1 S.2.1 dJ6_indexOfChar_4 rfl (lv_at hl 3 rfl) ?_
  refine lv_istore (lv' := [(5, .int x2), (4, .int x1.toInt8.toInt32), (0, .ref x0), (1, .int x1), (2, .int x2), (3, .int x3)]) S.1 S.2.1 dJ6_indexOfChar_5 hl (by decide) rfl (fun ls hl => ?_)
  exact wk_B_J6_indexOfChar_p7 S X Z hF hL hr hlocks  FU _ _ _ _ _ _ _ _ h hw (lv_sub hl [2, 5, 1, 0] rfl)
theorem cb_J6_88 {R : Room} {s : State} {args : Array Value} {rm : Room} {mc ms : Nat} (hts : ∀ w ∈ lw_all, w.before args s = true) (hc : rm.cells = mc) (hs : rm.slots = ms) (hR : rm.frames + 1 ≤ R.frames ∧ 8 + (1 + 11) + rm.locals ≤ R.locals) : CallB R s args RJ6 88 yJ6_canEncode cJ6_canEncode 1 (Option.some Jvm.ClassFile.FieldType.boolean) (ws_ yJ6_canEncode cJ6_canEncode 1 (Option.some Jvm.ClassFile.FieldType.boolean)) rm mc ms 1 ∧ (Cond.static yJ6_canEncode).before args s = true := va_cwS 1 hts (lw_S q502 q503 q146 q504) rfl hc hs (by decide +kernel) hR
theorem cb_J6_95 {R : Room} {s : State} {args : Array Value} {rm : Room} {mc ms : Nat} (hts : ∀ w ∈ lw_all, w.before args s = true) (hc : rm.cells = mc) (hs : rm.slots = ms) (hR : rm.frames + 1 ≤ R.frames ∧ 8 + (6 + 11) + rm.locals ≤ R.locals) : CallB R s args RJ6 95 yJ6_indexOfChar cJ6_indexOfChar 6 (Option.some Jvm.ClassFile.FieldType.int) (ws_ yJ6_indexOfChar cJ6_indexOfChar 6 (Option.some Jvm.ClassFile.FieldType.int)) rm mc ms 4 ∧ (Cond.static yJ6_indexOfChar).before args s = true := va_cwS 4 hts (lw_S q511 q512 q146 q513) rfl hc hs (by decide +kernel) hR
def B_J6_indexOf (x0 : Nat) (x1 : Int32) (x2 : Int32) (x3 : Int32) (w : GS) : Option Int32 :=
  if (B_J6_canEncode x1) = 0 then
    some (-1 : Int32)
  else
    bdp ((if x2 < (0 : Int32) then (0 : Int32) else x2)) fun y2 =>
    bd1 (aLenb w x0) fun v3 =>
    bdp ((if v3 < x3 then v3 else x3)) fun y4 =>
    if y2 < y4 then
      bd1 (B_J6_indexOfChar x0 x1 y2 y4 w) fun r6 =>
      some r6
    else
      some (-1 : Int32)
set_option maxRecDepth 100000 in
set_option maxHeartbeats 4000000 in
theorem met_B_J6_indexOf (l : Launch) (E : gE) (A : Nat → Prop) (LC LS : Nat)  (x0 : Nat) (x1 : Int32) (x2 : Int32) (x3 : Int32) (w : GS) (res : Int32) (h : B_J6_indexOf x0 x1 x2 x3 w = some res) : Met l yJ6_indexOf (ws_ yJ6_indexOf cJ6_indexOf 4 (Option.some Jvm.ClassFile.FieldType.int)) (gRoom 1 25 LC LS w) (gPc E A LC LS [.ref x0, .int x1, .int x2, .int x3] w) (gQi E A LC LS res w) (LC - gZ w) (LS - gN w) A := by
  refine gMet (by decide) rfl (Nat.le_of_ble_eq_true rfl) ?_
  intro p e s m below meth c R S hr hlocks hin2 X Z hF hL H ls hw hl
  replace hl : lv_has ls 4 [(0, .ref x0), (1, .int x1), (2, .int x2), (3, .int x3)] := hl
  unfold B_J6_indexOf at h
  refine lv_iload_n S.1 S.2.1 dJ6_indexOf_0 rfl (lv_at hl 1 rfl) ?_
  refine gcSti (As := [.int x1]) (rest := []) S X Z hw (met_B_J6_canEncode l E A LC LS x1 w _ rfl) (cb_J6_88 S.2.2.2.2 rfl rfl ⟨Nat.le_trans (Nat.le_of_ble_eq_true rfl : 0 + 1 ≤ 1) hF, Nat.le_trans (Nat.le_of_ble_eq_true rfl : 8 + (1 + 11) + 0 ≤ 25) hL⟩) rfl hl.1 rfl (lv_room (Nat.le_of_ble_eq_true rfl)) dJ6_indexOf_1 (fun H locs hw => ?_)
  refine lv_if_ne (tgt := 9) S.1 S.2.1 dJ6_indexOf_4 rfl (fun c1 => ?_) (fun c1 => ?_)
  · replace h := if_f c1 h
    refine lv_iload_n S.1 S.2.1 dJ6_indexOf_9 rfl (lv_at hl 2 rfl) ?_
    refine lv_iconst (v := 0) S.1 S.2.1 dJ6_indexOf_10 rfl ?_
    refine va_mmax (x := x2) (y := (0 : Int32)) (rest := []) S.1 S.2.1 (S.2.2.1.trans hl.1.symm) S.2.2.2.1 (S.2.2.2.2 _ q505) (S.2.2.2.2 _ q506) (S.2.2.2.2 _ q147) (S.2.2.2.2 _ q507) (Nat.le_trans (Nat.le_of_ble_eq_true rfl) hF) (Nat.le_trans (Nat.le_of_ble_eq_true rfl : (([] : List Value).map fun v : Value => v.category).sum + 13 ≤ 21) (Nat.le_trans (Nat.le_of_ble_eq_true rfl) hL)) (gRm_le Z hw).1 (gRm_le Z hw).2 dJ6_indexOf_11 ?_
    refine lv_topi (fun y2 ey => ?_)
    replace h := bdp_e ey h
    refine lv_istore_n (lv' := [(2, .int y2), (0, .ref x0), (1, .int x1), (3, .int x3)]) S.1 S.2.1 dJ6_indexOf_14 rfl hl (by decide) rfl (fun ls hl => ?_)
    refine lv_iload_n S.1 S.2.1 dJ6_indexOf_15 rfl (lv_at hl 3 rfl) ?_
    refine lv_aload_n S.1 S.2.1 dJ6_indexOf_16 rfl (lv_at hl 1 rfl) ?_
    refine galenb S X hw dJ6_indexOf_17 h (fun v3 h => ?_)
    refine va_mmin (x := x3) (y := v3) (rest := []) S.1 S.2.1 (S.2.2.1.trans hl.1.symm) S.2.2.2.1 (S.2.2.2.2 _ q508) (S.2.2.2.2 _ q509) (S.2.2.2.2 _ q147) (S.2.2.2.2 _ q510) (Nat.le_trans (Nat.le_of_ble_eq_true rfl) hF) (Nat.le_trans (Nat.le_of_ble_eq_true rfl : (([] : List Value).map fun v : Value => v.category).sum + 13 ≤ 21) (Nat.le_trans (Nat.le_of_ble_eq_true rfl) hL)) (gRm_le Z hw).1 (gRm_le Z hw).2 dJ6_indexOf_18 ?_
    refine lv_topi (fun y4 ey => ?_)
    replace h := bdp_e ey h
    refine lv_istore_n (lv' := [(3, .int y4), (2, .int y2), (0, .ref x0), (1, .int x1)]) S.1 S.2.1 dJ6_indexOf_21 rfl hl (by decide) rfl (fun ls hl => ?_)
    refine lv_iload_n S.1 S.2.1 dJ6_indexOf_22 rfl (lv_at hl 1 rfl) ?_
    refine lv_iload_n S.1 S.2.1 dJ6_indexOf_23 rfl (lv_at hl 0 rfl) ?_
    refine lv_icmp_lt (tgt := 29) S.1 S.2.1 dJ6_indexOf_24 rfl (fun c5 => ?_) (fun c5 => ?_)
    · replace h := if_t c5 h
      refine lv_aload_n S.1 S.2.1 dJ6_indexOf_29 rfl (lv_at hl 2 rfl) ?_
      refine lv_iload_n S.1 S.2.1 dJ6_indexOf_30 rfl (lv_at hl 3 rfl) ?_
      refine lv_iload_n S.1 S.2.1 dJ6_indexOf_31 rfl (lv_at hl 1 rfl) ?_
      refine lv_iload_n S.1 S.2.1 dJ6_indexOf_32 rfl (lv_at hl 0 rfl) ?_
      refine gcSri (As := [.ref x0, .int x1, .int y2, .int y4]) (rest := []) S X Z hw h (fun u h1 => met_B_J6_indexOfChar l E A LC LS x0 x1 y2 y4 w u h1) (cb_J6_95 S.2.2.2.2 rfl rfl ⟨Nat.le_trans (Nat.le_of_ble_eq_true rfl : 0 + 1 ≤ 1) hF, Nat.le_trans (Nat.le_of_ble_eq_true rfl : 8 + (6 + 11) + 0 ≤ 25) hL⟩) rfl hl.1 rfl (lv_room (Nat.le_of_ble_eq_true rfl)) dJ6_indexOf_33 (fun r6 H locs h hw => ?_)
      exact g_iret S Z hr hlocks hw ⟨so1 h, rfl⟩ dJ6_indexOf_36
    · replace h := if_f c5 h
      refine lv_iconst (v := -1) S.1 S.2.1 dJ6_indexOf_27 rfl ?_
      exact g_iret S Z hr hlocks hw ⟨so1 h, rfl⟩ dJ6_indexOf_28
  · replace h := if_t c1 h
    refine lv_iconst (v := -1) S.1 S.2.1 dJ6_indexOf_7 rfl ?_
    exact g_iret S Z hr hlocks hw ⟨so1 h, rfl⟩ dJ6_indexOf_8
def B_J5_isLatin1 (x0 : Nat) (w : GS) : Option Int32 :=
  if (1 : Int32) = 0 then
    some (0 : Int32)
  else
    bd1 (oI w x0 30 31 1) fun v2 =>
    if v2 = 0 then
      some (1 : Int32)
    else
      some (0 : Int32)
set_option maxRecDepth 100000 in
set_option maxHeartbeats 4000000 in
theorem met_B_J5_isLatin1 (l : Launch) (E : gE) (A : Nat → Prop) (LC LS : Nat)  (x0 : Nat) (w : GS) (res : Int32) (h : B_J5_isLatin1 x0 w = some res) : Met l yJ5_isLatin1 (ws_ yJ5_isLatin1 cJ5_isLatin1 1 (Option.some Jvm.ClassFile.FieldType.boolean)) (gRoom 0 0 LC LS w) (gPc E A LC LS [.ref x0] w) (gQi E A LC LS res w) (LC - gZ w) (LS - gN w) A := by
  refine gMet (by decide) rfl (Nat.le_of_ble_eq_true rfl) ?_
  intro p e s m below meth c R S hr hlocks hin2 X Z hF hL H ls hw hl
  replace hl : lv_has ls 1 [(0, .ref x0)] := hl
  unfold B_J5_isLatin1 at h
  refine gsJ5_38 S X hw dJ5_isLatin1_0 ?_
  refine lv_if_eq (tgt := 17) S.1 S.2.1 dJ5_isLatin1_3 rfl (fun c1 => ?_) (fun c1 => ?_)
  · replace h := if_t c1 h
    refine lv_iconst (v := 0) S.1 S.2.1 dJ5_isLatin1_17 rfl ?_
    exact g_zret S Z hr hlocks hw rfl ⟨so1 h, rfl⟩ dJ5_isLatin1_18
  · replace h := if_f c1 h
    refine lv_aload_n S.1 S.2.1 dJ5_isLatin1_6 rfl (lv_at hl 0 rfl) ?_
    refine ggJ5_15 S X hw dJ5_isLatin1_7 h (fun v2 h => ?_)
    refine lv_if_ne (tgt := 17) S.1 S.2.1 dJ5_isLatin1_10 rfl (fun c3 => ?_) (fun c3 => ?_)
    · replace h := if_f c3 h
      refine lv_iconst (v := 0) S.1 S.2.1 dJ5_isLatin1_17 rfl ?_
      exact g_zret S Z hr hlocks hw rfl ⟨so1 h, rfl⟩ dJ5_isLatin1_18
    · replace h := if_t c3 h
      refine lv_iconst (v := 1) S.1 S.2.1 dJ5_isLatin1_13 rfl ?_
      refine lv_goto (tgt := 18) S.1 S.2.1 dJ5_isLatin1_14 rfl ?_
      exact g_zret S Z hr hlocks hw rfl ⟨so1 h, rfl⟩ dJ5_isLatin1_18
def B_J5_coder (x0 : Nat) (w : GS) : Option Int32 :=
  if (1 : Int32) = 0 then
    some (1 : Int32)
  else
    bd1 (oI w x0 30 31 1) fun v2 =>
    zby v2 (some v2)
set_option maxRecDepth 100000 in
set_option maxHeartbeats 4000000 in
theorem met_B_J5_coder (l : Launch) (E : gE) (A : Nat → Prop) (LC LS : Nat)  (x0 : Nat) (w : GS) (res : Int32) (h : B_J5_coder x0 w = some res) : Met l yJ5_coder (ws_ yJ5_coder cJ5_coder 1 (Option.some Jvm.ClassFile.FieldType.byte)) (gRoom 0 0 LC LS w) (gPc E A LC LS [.ref x0] w) (gQi E A LC LS res w) (LC - gZ w) (LS - gN w) A := by
  refine gMet (by decide) rfl (Nat.le_of_ble_eq_true rfl) ?_
  intro p e s m below meth c R S hr hlocks hin2 X Z hF hL H ls hw hl
  replace hl : lv_has ls 1 [(0, .ref x0)] := hl
  unfold B_J5_coder at h
  refine gsJ5_38 S X hw dJ5_coder_0 ?_
  refine lv_if_eq (tgt := 13) S.1 S.2.1 dJ5_coder_3 rfl (fun c1 => ?_) (fun c1 => ?_)
  · replace h := if_t c1 h
    refine lv_iconst (v := 1) S.1 S.2.1 dJ5_coder_13 rfl ?_
    exact g_zret S Z hr hlocks hw rfl ⟨so1 h, rfl⟩ dJ5_coder_14
  · replace h := if_f c1 h
    refine lv_aload_n S.1 S.2.1 dJ5_coder_6 rfl (lv_at hl 0 rfl) ?_
    refine ggJ5_15 S X hw dJ5_coder_7 h (fun v2 h => ?_)
    refine lv_goto (tgt := 14) S.1 S.2.1 dJ5_coder_10 rfl ?_
    exact g_zret S Z hr hlocks hw (by rw [← (oif h).1]; exact pk_nb _) ⟨so1 (oif h).2, rfl⟩ dJ5_coder_14
theorem cb_J5_335 {R : Room} {s : State} {args : Array Value} {rm : Room} {mc ms : Nat} (hts : ∀ w ∈ lw_all, w.before args s = true) (hc : rm.cells = mc) (hs : rm.slots = ms) (hR : rm.frames + 1 ≤ R.frames ∧ 8 + (1 + 11) + rm.locals ≤ R.locals) : CallW R s args RJ5 RJ5 335 yJ5_coder cJ5_coder 1 (Option.some Jvm.ClassFile.FieldType.byte) (ws_ yJ5_coder cJ5_coder 1 (Option.some Jvm.ClassFile.FieldType.byte)) rm mc ms 0 := cwV 0 hts (lw_V q495 q496 q497 q145 q498) rfl hc hs (by decide +kernel) hR
def B_J5_length (x0 : Nat) (w : GS) : Option Int32 :=
  bd1 (oRn w x0 30 31 0) fun a1 =>
  bd1 (aLenb w a1) fun v2 =>
  bd1 (oK w x0 30 31) fun _ =>
  bd1 (B_J5_coder x0 w) fun r3 =>
  some (v2 >>> (r3 &&& 31))
set_option maxRecDepth 100000 in
set_option maxHeartbeats 4000000 in
theorem met_B_J5_length (l : Launch) (E : gE) (A : Nat → Prop) (LC LS : Nat)  (x0 : Nat) (w : GS) (res : Int32) (h : B_J5_length x0 w = some res) : Met l yJ5_length (ws_ yJ5_length cJ5_length 1 (Option.some Jvm.ClassFile.FieldType.int)) (gRoom 1 20 LC LS w) (gPc E A LC LS [.ref x0] w) (gQi E A LC LS res w) (LC - gZ w) (LS - gN w) A := by
  refine gMet (by decide) rfl (Nat.le_of_ble_eq_true rfl) ?_
  intro p e s m below meth c R S hr hlocks hin2 X Z hF hL H ls hw hl
  replace hl : lv_has ls 1 [(0, .ref x0)] := hl
  unfold B_J5_length at h
  refine lv_aload_n S.1 S.2.1 dJ5_length_0 rfl (lv_at hl 0 rfl) ?_
  refine ggJ5_9 S X hw dJ5_length_1 h (fun a1 h => ?_)
  refine galenb S X hw dJ5_length_4 h (fun v2 h => ?_)
  refine lv_aload_n S.1 S.2.1 dJ5_length_5 rfl (lv_at hl 0 rfl) ?_
  obtain ⟨hrc, h⟩ := oKS h
  refine gcVri (As := []) (rest := [.int v2]) S X Z hw (b := x0) h (fun u h1 => met_B_J5_coder l E A LC LS x0 w u h1) (cb_J5_335 S.2.2.2.2 rfl rfl ⟨Nat.le_trans (Nat.le_of_ble_eq_true rfl : 0 + 1 ≤ 1) hF, Nat.le_trans (Nat.le_of_ble_eq_true rfl : 8 + (1 + 11) + 0 ≤ 20) hL⟩) (g_recvS X hw hrc) rfl hl.1 rfl (lv_room (Nat.le_of_ble_eq_true rfl)) dJ5_length_6 (fun r3 H locs h hw => ?_)
  refine lv_ishr S.1 S.2.1 dJ5_length_9 ?_
  exact g_iret S Z hr hlocks hw ⟨so1 h, rfl⟩ dJ5_length_10
theorem cb_J5_492 {R : Room} {s : State} {args : Array Value} {rm : Room} {mc ms : Nat} (hts : ∀ w ∈ lw_all, w.before args s = true) (hc : rm.cells = mc) (hs : rm.slots = ms) (hR : rm.frames + 1 ≤ R.frames ∧ 8 + (1 + 11) + rm.locals ≤ R.locals) : CallW R s args RJ5 RJ5 492 yJ5_isLatin1 cJ5_isLatin1 1 (Option.some Jvm.ClassFile.FieldType.boolean) (ws_ yJ5_isLatin1 cJ5_isLatin1 1 (Option.some Jvm.ClassFile.FieldType.boolean)) rm mc ms 0 := cwV 0 hts (lw_V q485 q486 q487 q145 q488) rfl hc hs (by decide +kernel) hR
theorem cb_J5_495 {R : Room} {s : State} {args : Array Value} {rm : Room} {mc ms : Nat} (hts : ∀ w ∈ lw_all, w.before args s = true) (hc : rm.cells = mc) (hs : rm.slots = ms) (hR : rm.frames + 1 ≤ R.frames ∧ 8 + (2 + 11) + rm.locals ≤ R.locals) : CallB R s args RJ5 495 yJ6_charAt cJ6_charAt 2 (Option.some Jvm.ClassFile.FieldType.char) (ws_ yJ6_charAt cJ6_charAt 2 (Option.some Jvm.ClassFile.FieldType.char)) rm mc ms 2 ∧ (Cond.static yJ6_charAt).before args s = true := va_cwS 2 hts (lw_S q580 q581 q146 q582) rfl hc hs (by decide +kernel) hR
def B_J5_charAt (x0 : Nat) (x1 : Int32) (w : GS) : Option (Int32 × GS) :=
  bd1 (oK w x0 30 31) fun _ =>
  bd1 (B_J5_isLatin1 x0 w) fun r1 =>
  if r1 = 0 then
    bd1 (oRn w x0 30 31 0) fun a3 =>
    none
  else
    bd1 (oRn w x0 30 31 0) fun a4 =>
    bd2 (B_J6_charAt a4 x1 w) fun r6 w5 =>
    zc r6 (some (r6, w5))
set_option maxRecDepth 100000 in
set_option maxHeartbeats 4000000 in
theorem met_B_J5_charAt (l : Launch) (E : gE) (A : Nat → Prop) (LC LS : Nat)  (x0 : Nat) (x1 : Int32) (w : GS) (res : Int32 × GS) (h : B_J5_charAt x0 x1 w = some res) : Met l yJ5_charAt (ws_ yJ5_charAt cJ5_charAt 2 (Option.some Jvm.ClassFile.FieldType.char)) (gRoom 3 64 LC LS w) (gPc E A LC LS [.ref x0, .int x1] w) (gQi E A LC LS res.1 res.2) (LC - gZ w) (LS - gN w) A := by
  refine gMet (by decide) rfl (Nat.le_of_ble_eq_true rfl) ?_
  intro p e s m below meth c R S hr hlocks hin2 X Z hF hL H ls hw hl
  replace hl : lv_has ls 2 [(0, .ref x0), (1, .int x1)] := hl
  unfold B_J5_charAt at h
  refine lv_aload_n S.1 S.2.1 dJ5_charAt_0 rfl (lv_at hl 0 rfl) ?_
  obtain ⟨hrc, h⟩ := oKS h
  refine gcVri (As := []) (rest := []) S X Z hw (b := x0) h (fun u h1 => met_B_J5_isLatin1 l E A LC LS x0 w u h1) (cb_J5_492 S.2.2.2.2 rfl rfl ⟨Nat.le_trans (Nat.le_of_ble_eq_true rfl : 0 + 1 ≤ 3) hF, Nat.le_trans (Nat.le_of_ble_eq_true rfl : 8 + (1 + 11) + 0 ≤ 64) hL⟩) (g_recvS X hw hrc) rfl hl.1 rfl (lv_room (Nat.le_of_ble_eq_true rfl)) dJ5_charAt_1 (fun r1 H locs h hw => ?_)
  refine lv_if_eq (tgt := 16) S.1 S.2.1 dJ5_charAt_4 rfl (fun c2 => ?_) (fun c2 => ?_)
  · replace h := if_t c2 h
    refine lv_aload_n S.1 S.2.1 dJ5_charAt_16 rfl (lv_at hl 0 rfl) ?_
    refine ggJ5_9 S X hw dJ5_charAt_17 h (fun a3 h => ?_)
    refine lv_iload_n S.1 S.2.1 dJ5_charAt_20 rfl (lv_at hl 1 rfl) ?_
    cases h
  · replace h := if_f c2 h
    refine lv_aload_n S.1 S.2.1 dJ5_charAt_7 rfl (lv_at hl 0 rfl) ?_
    refine ggJ5_9 S X hw dJ5_charAt_8 h (fun a4 h => ?_)
    refine lv_iload_n S.1 S.2.1 dJ5_charAt_11 rfl (lv_at hl 1 rfl) ?_
    refine gcSi (As := [.ref a4, .int x1]) (rest := []) S X Z hw h (fun u h1 => met_B_J6_charAt l E A LC LS a4 x1 w u h1) (cb_J5_495 S.2.2.2.2 rfl rfl ⟨Nat.le_trans (Nat.le_of_ble_eq_true rfl : 2 + 1 ≤ 3) hF, Nat.le_trans (Nat.le_of_ble_eq_true rfl : 8 + (2 + 11) + 43 ≤ 64) hL⟩) rfl hl.1 rfl (lv_room (Nat.le_of_ble_eq_true rfl)) dJ5_charAt_12 (fun r6 w5 H locs h hw => ?_)
    exact g_zret S Z hr hlocks hw (by rw [← (oif h).1]; exact pk_nc _) (so2 (oif h).2) dJ5_charAt_15
theorem cb_J5_505 {R : Room} {s : State} {args : Array Value} {rm : Room} {mc ms : Nat} (hts : ∀ w ∈ lw_all, w.before args s = true) (hc : rm.cells = mc) (hs : rm.slots = ms) (hR : rm.frames + 1 ≤ R.frames ∧ 8 + (1 + 11) + rm.locals ≤ R.locals) : CallW R s args RJ5 RJ5 505 yJ5_length cJ5_length 1 (Option.some Jvm.ClassFile.FieldType.int) (ws_ yJ5_length cJ5_length 1 (Option.some Jvm.ClassFile.FieldType.int)) rm mc ms 0 := cwV 0 hts (lw_V q491 q492 q493 q145 q494) rfl hc hs (by decide +kernel) hR
theorem cb_J5_637 {R : Room} {s : State} {args : Array Value} {rm : Room} {mc ms : Nat} (hts : ∀ w ∈ lw_all, w.before args s = true) (hc : rm.cells = mc) (hs : rm.slots = ms) (hR : rm.frames + 1 ≤ R.frames ∧ 8 + (4 + 11) + rm.locals ≤ R.locals) : CallB R s args RJ5 637 yJ6_indexOf cJ6_indexOf 4 (Option.some Jvm.ClassFile.FieldType.int) (ws_ yJ6_indexOf cJ6_indexOf 4 (Option.some Jvm.ClassFile.FieldType.int)) rm mc ms 4 ∧ (Cond.static yJ6_indexOf).before args s = true := va_cwS 4 hts (lw_S q499 q500 q146 q501) rfl hc hs (by decide +kernel) hR
def B_J5_indexOf_2 (x0 : Nat) (x1 : Int32) (x2 : Int32) (w : GS) : Option Int32 :=
  bd1 (oK w x0 30 31) fun _ =>
  bd1 (B_J5_isLatin1 x0 w) fun r1 =>
  if r1 = 0 then
    bd1 (oRn w x0 30 31 0) fun a3 =>
    bd1 (oK w x0 30 31) fun _ =>
    bd1 (B_J5_length x0 w) fun r4 =>
    none
  else
    bd1 (oRn w x0 30 31 0) fun a5 =>
    bd1 (oK w x0 30 31) fun _ =>
    bd1 (B_J5_length x0 w) fun r6 =>
    bd1 (B_J6_indexOf a5 x1 x2 r6 w) fun r7 =>
    some r7
set_option maxRecDepth 100000 in
set_option maxHeartbeats 4000000 in
theorem met_B_J5_indexOf_2 (l : Launch) (E : gE) (A : Nat → Prop) (LC LS : Nat)  (x0 : Nat) (x1 : Int32) (x2 : Int32) (w : GS) (res : Int32) (h : B_J5_indexOf_2 x0 x1 x2 w = some res) : Met l yJ5_indexOf_2 (ws_ yJ5_indexOf_2 cJ5_indexOf_2 3 (Option.some Jvm.ClassFile.FieldType.int)) (gRoom 2 48 LC LS w) (gPc E A LC LS [.ref x0, .int x1, .int x2] w) (gQi E A LC LS res w) (LC - gZ w) (LS - gN w) A := by
  refine gMet (by decide) rfl (Nat.le_of_ble_eq_true rfl) ?_
  intro p e s m below meth c R S hr hlocks hin2 X Z hF hL H ls hw hl
  replace hl : lv_has ls 3 [(0, .ref x0), (1, .int x1), (2, .int x2)] := hl
  unfold B_J5_indexOf_2 at h
  refine lv_aload_n S.1 S.2.1 dJ5_indexOf_2_0 rfl (lv_at hl 0 rfl) ?_
  obtain ⟨hrc, h⟩ := oKS h
  refine gcVri (As := []) (rest := []) S X Z hw (b := x0) h (fun u h1 => met_B_J5_isLatin1 l E A LC LS x0 w u h1) (cb_J5_492 S.2.2.2.2 rfl rfl ⟨Nat.le_trans (Nat.le_of_ble_eq_true rfl : 0 + 1 ≤ 2) hF, Nat.le_trans (Nat.le_of_ble_eq_true rfl : 8 + (1 + 11) + 0 ≤ 48) hL⟩) (g_recvS X hw hrc) rfl hl.1 rfl (lv_room (Nat.le_of_ble_eq_true rfl)) dJ5_indexOf_2_1 (fun r1 H locs h hw => ?_)
  refine lv_if_eq (tgt := 23) S.1 S.2.1 dJ5_indexOf_2_4 rfl (fun c2 => ?_) (fun c2 => ?_)
  · replace h := if_t c2 h
    refine lv_aload_n S.1 S.2.1 dJ5_indexOf_2_23 rfl (lv_at hl 0 rfl) ?_
    refine ggJ5_9 S X hw dJ5_indexOf_2_24 h (fun a3 h => ?_)
    refine lv_iload_n S.1 S.2.1 dJ5_indexOf_2_27 rfl (lv_at hl 1 rfl) ?_
    refine lv_iload_n S.1 S.2.1 dJ5_indexOf_2_28 rfl (lv_at hl 2 rfl) ?_
    refine lv_aload_n S.1 S.2.1 dJ5_indexOf_2_29 rfl (lv_at hl 0 rfl) ?_
    obtain ⟨hrc, h⟩ := oKS h
    refine gcVri (As := []) (rest := [.int x2, .int x1, .ref a3]) S X Z hw (b := x0) h (fun u h1 => met_B_J5_length l E A LC LS x0 w u h1) (cb_J5_505 S.2.2.2.2 rfl rfl ⟨Nat.le_trans (Nat.le_of_ble_eq_true rfl : 1 + 1 ≤ 2) hF, Nat.le_trans (Nat.le_of_ble_eq_true rfl : 8 + (1 + 11) + 20 ≤ 48) hL⟩) (g_recvS X hw hrc) rfl hl.1 rfl (lv_room (Nat.le_of_ble_eq_true rfl)) dJ5_indexOf_2_30 (fun r4 H locs h hw => ?_)
    cases h
  · replace h := if_f c2 h
    refine lv_aload_n S.1 S.2.1 dJ5_indexOf_2_7 rfl (lv_at hl 0 rfl) ?_
    refine ggJ5_9 S X hw dJ5_indexOf_2_8 h (fun a5 h => ?_)
    refine lv_iload_n S.1 S.2.1 dJ5_indexOf_2_11 rfl (lv_at hl 1 rfl) ?_
    refine lv_iload_n S.1 S.2.1 dJ5_indexOf_2_12 rfl (lv_at hl 2 rfl) ?_
    refine lv_aload_n S.1 S.2.1 dJ5_indexOf_2_13 rfl (lv_at hl 0 rfl) ?_
    obtain ⟨hrc, h⟩ := oKS h
    refine gcVri (As := []) (rest := [.int x2, .int x1, .ref a5]) S X Z hw (b := x0) h (fun u h1 => met_B_J5_length l E A LC LS x0 w u h1) (cb_J5_505 S.2.2.2.2 rfl rfl ⟨Nat.le_trans (Nat.le_of_ble_eq_true rfl : 1 + 1 ≤ 2) hF, Nat.le_trans (Nat.le_of_ble_eq_true rfl : 8 + (1 + 11) + 20 ≤ 48) hL⟩) (g_recvS X hw hrc) rfl hl.1 rfl (lv_room (Nat.le_of_ble_eq_true rfl)) dJ5_indexOf_2_14 (fun r6 H locs h hw => ?_)
    refine gcSri (As := [.ref a5, .int x1, .int x2, .int r6]) (rest := []) S X Z hw h (fun u h1 => met_B_J6_indexOf l E A LC LS a5 x1 x2 r6 w u h1) (cb_J5_637 S.2.2.2.2 rfl rfl ⟨Nat.le_trans (Nat.le_of_ble_eq_true rfl : 1 + 1 ≤ 2) hF, Nat.le_trans (Nat.le_of_ble_eq_true rfl : 8 + (4 + 11) + 25 ≤ 48) hL⟩) rfl hl.1 rfl (lv_room (Nat.le_of_ble_eq_true rfl)) dJ5_indexOf_2_17 (fun r7 H locs h hw => ?_)
    refine lv_goto (tgt := 36) S.1 S.2.1 dJ5_indexOf_2_20 rfl ?_
    exact g_iret S Z hr hlocks hw ⟨so1 h, rfl⟩ dJ5_indexOf_2_36
theorem cb_J5_633 {R : Room} {s : State} {args : Array Value} {rm : Room} {mc ms : Nat} (hts : ∀ w ∈ lw_all, w.before args s = true) (hc : rm.cells = mc) (hs : rm.slots = ms) (hR : rm.frames + 1 ≤ R.frames ∧ 8 + (3 + 11) + rm.locals ≤ R.locals) : CallW R s args RJ5 RJ5 633 yJ5_indexOf_2 cJ5_indexOf_2 3 (Option.some Jvm.ClassFile.FieldType.int) (ws_ yJ5_indexOf_2 cJ5_indexOf_2 3 (Option.some Jvm.ClassFile.FieldType.int)) rm mc ms 2 := cwV 2 hts (lw_V q481 q482 q483 q145 q484) rfl hc hs (by decide +kernel) hR
def B_J5_indexOf (x0 : Nat) (x1 : Int32) (w : GS) : Option Int32 :=
  bd1 (oK w x0 30 31) fun _ =>
  bd1 (B_J5_indexOf_2 x0 x1 (0 : Int32) w) fun r1 =>
  some r1
set_option maxRecDepth 100000 in
set_option maxHeartbeats 4000000 in
theorem met_B_J5_indexOf (l : Launch) (E : gE) (A : Nat → Prop) (LC LS : Nat)  (x0 : Nat) (x1 : Int32) (w : GS) (res : Int32) (h : B_J5_indexOf x0 x1 w = some res) : Met l yJ5_indexOf (ws_ yJ5_indexOf cJ5_indexOf 2 (Option.some Jvm.ClassFile.FieldType.int)) (gRoom 3 70 LC LS w) (gPc E A LC LS [.ref x0, .int x1] w) (gQi E A LC LS res w) (LC - gZ w) (LS - gN w) A := by
  refine gMet (by decide) rfl (Nat.le_of_ble_eq_true rfl) ?_
  intro p e s m below meth c R S hr hlocks hin2 X Z hF hL H ls hw hl
  replace hl : lv_has ls 2 [(0, .ref x0), (1, .int x1)] := hl
  unfold B_J5_indexOf at h
  refine lv_aload_n S.1 S.2.1 dJ5_indexOf_0 rfl (lv_at hl 0 rfl) ?_
  refine lv_iload_n S.1 S.2.1 dJ5_indexOf_1 rfl (lv_at hl 1 rfl) ?_
  refine lv_iconst (v := 0) S.1 S.2.1 dJ5_indexOf_2 rfl ?_
  obtain ⟨hrc, h⟩ := oKS h
  refine gcVri (As := [.int x1, .int (0 : Int32)]) (rest := []) S X Z hw (b := x0) h (fun u h1 => met_B_J5_indexOf_2 l E A LC LS x0 x1 (0 : Int32) w u h1) (cb_J5_633 S.2.2.2.2 rfl rfl ⟨Nat.le_trans (Nat.le_of_ble_eq_true rfl : 2 + 1 ≤ 3) hF, Nat.le_trans (Nat.le_of_ble_eq_true rfl : 8 + (3 + 11) + 48 ≤ 70) hL⟩) (g_recvS X hw hrc) rfl hl.1 rfl (lv_room (Nat.le_of_ble_eq_true rfl)) dJ5_indexOf_3 (fun r1 H locs h hw => ?_)
  exact g_iret S Z hr hlocks hw ⟨so1 h, rfl⟩ dJ5_indexOf_6
theorem cb_J5_541 {R : Room} {s : State} {args : Array Value} {rm : Room} {mc ms : Nat} (hts : ∀ w ∈ lw_all, w.before args s = true) (hc : rm.cells = mc) (hs : rm.slots = ms) (hR : rm.frames + 1 ≤ R.frames ∧ 8 + (3 + 11) + rm.locals ≤ R.locals) : CallB R s args RJ5 541 yJ6_equals cJ6_equals 3 (Option.some Jvm.ClassFile.FieldType.boolean) (ws_ yJ6_equals cJ6_equals 3 (Option.some Jvm.ClassFile.FieldType.boolean)) rm mc ms 2 ∧ (Cond.static yJ6_equals).before args s = true := va_cwS 2 hts (lw_S q851 q852 q146 q853) rfl hc hs (by decide +kernel) hR
def B_J5_equals_p36 (x0 : Nat) (x2 : Nat) (w : GS) : Option Int32 :=
  bd1 (oRn w x0 30 31 0) fun a4 =>
  bd1 (oRn w x2 30 31 0) fun a5 =>
  bd1 (B_J6_equals a4 a5 w) fun r6 =>
  if r6 = 0 then
    some (0 : Int32)
  else
    some (1 : Int32)
def B_J5_equals (x0 : Nat) (x1 : Nat) (w : GS) : Option Int32 :=
  if ((some x0) : Option Nat) = (some x1) then
    some (1 : Int32)
  else
    bd1 (oK w x1 30 30) fun _ =>
    if (1 : Int32) = 0 then
      some (0 : Int32)
    else
      bd1 (oK w x1 30 30) fun _ =>
      if (1 : Int32) = 0 then
        B_J5_equals_p36 x0 x1 w
      else
        bd1 (oI w x0 30 31 1) fun v8 =>
        bd1 (oI w x1 30 31 1) fun v9 =>
        if v8 = v9 then
          B_J5_equals_p36 x0 x1 w
        else
          some (0 : Int32)
set_option maxRecDepth 100000 in
set_option maxHeartbeats 4000000 in
theorem wk_B_J5_equals_p36 {p : Program} {l : Launch} {e : Env} {R : Room} {s : State} {m : MethodId} {args : Array Value} {below : List Frame} {meth : Method} {c : Code} {E : gE} {A : Nat → Prop} {LC LS : Nat} (S : CallFix p m c cJ5_equals 3 s args lw_all RJ5) (X : gCtx E A s) (Z : gRm R s LC LS) (hF : 1 ≤ R.frames) (hL : 22 ≤ R.locals) (hr : meth.sig.returnType = (Option.some Jvm.ClassFile.FieldType.boolean)) (hlocks : meth.locks = false) {res : Int32}  : ∀ (x0 : Nat) (x2 : Nat) (w : GS) (H : Heap) (locs : List Loc) (ls : Array Slot), B_J5_equals_p36 x0 x2 w = some res → gH E A LC LS s w H locs → lv_has ls 3 [(0, .ref x0), (2, .ref x2)] → W p l e R s m args below meth c H locs (H.size - s.heap.size) (tot H - tot s.heap) (MQ below (gQi E A LC LS res w) args s R.cells R.slots A) (F0 m 36 ls []) := by
  intro x0 x2 w H locs ls h hw hl
  unfold B_J5_equals_p36 at h
  refine lv_aload_n S.1 S.2.1 dJ5_equals_36 rfl (lv_at hl 0 rfl) ?_
  refine ggJ5_9 S X hw dJ5_equals_37 h (fun a4 h => ?_)
  refine lv_aload_n S.1 S.2.1 dJ5_equals_40 rfl (lv_at hl 1 rfl) ?_
  refine ggJ5_9 S X hw dJ5_equals_41 h (fun a5 h => ?_)
  refine gcSri (As := [.ref a4, .ref a5]) (rest := []) S X Z hw h (fun u h1 => met_B_J6_equals l E A LC LS a4 a5 w u h1) (cb_J5_541 S.2.2.2.2 rfl rfl ⟨Nat.le_trans (Nat.le_of_ble_eq_true rfl : 0 + 1 ≤ 1) hF, Nat.le_trans (Nat.le_of_ble_eq_true rfl : 8 + (3 + 11) + 0 ≤ 22) hL⟩) rfl hl.1 rfl (lv_room (Nat.le_of_ble_eq_true rfl)) dJ5_equals_44 (fun r6 H locs h hw => ?_)
  refine lv_if_eq (tgt := 54) S.1 S.2.1 dJ5_equals_47 rfl (fun c7 => ?_) (fun c7 => ?_)
  · replace h := if_t c7 h
    refine lv_iconst (v := 0) S.1 S.2.1 dJ5_equals_54 rfl ?_
    exact g_zret S Z hr hlocks hw rfl ⟨so1 h, rfl⟩ dJ5_equals_55
  · replace h := if_f c7 h
    refine lv_iconst (v := 1) S.1 S.2.1 dJ5_equals_50 rfl ?_
    refine lv_goto (tgt := 55) S.1 S.2.1 dJ5_equals_51 rfl ?_
    exact g_zret S Z hr hlocks hw rfl ⟨so1 h, rfl⟩ dJ5_equals_55
set_option maxRecDepth 100000 in
set_option maxHeartbeats 4000000 in
theorem met_B_J5_equals (l : Launch) (E : gE) (A : Nat → Prop) (LC LS : Nat)  (x0 : Nat) (x1 : Nat) (w : GS) (res : Int32) (h : B_J5_equals x0 x1 w = some res) : Met l yJ5_equals (ws_ yJ5_equals cJ5_equals 3 (Option.some Jvm.ClassFile.FieldType.boolean)) (gRoom 1 22 LC LS w) (gPc E A LC LS [.ref x0, .ref x1] w) (gQi E A LC LS res w) (LC - gZ w) (LS - gN w) A := by
  refine gMet (by decide) rfl (Nat.le_of_ble_eq_true rfl) ?_
  intro p e s m below meth c R S hr hlocks hin2 X Z hF hL H ls hw hl
  replace hl : lv_has ls 3 [(0, .ref x0), (1, .ref x1)] := hl
  unfold B_J5_equals at h
  refine lv_aload_n S.1 S.2.1 dJ5_equals_0 rfl (lv_at hl 0 rfl) ?_
  refine lv_aload_n S.1 S.2.1 dJ5_equals_1 rfl (lv_at hl 1 rfl) ?_
  refine lv_acmp_ne (rx := (some x0)) (ry := (some x1)) (tgt := 7) S.1 S.2.1 dJ5_equals_2 rfl (fun c1 => ?_) (fun c1 => ?_)
  · replace h := if_f c1 h
    refine lv_aload_n S.1 S.2.1 dJ5_equals_7 rfl (lv_at hl 1 rfl) ?_
    refine gioJ5_10 S X hw dJ5_equals_8 h (fun _ h => ?_)
    refine lv_if_eq (tgt := 54) S.1 S.2.1 dJ5_equals_11 rfl (fun c2 => ?_) (fun c2 => ?_)
    · replace h := if_t c2 h
      refine lv_iconst (v := 0) S.1 S.2.1 dJ5_equals_54 rfl ?_
      exact g_zret S Z hr hlocks hw rfl ⟨so1 h, rfl⟩ dJ5_equals_55
    · replace h := if_f c2 h
      refine lv_aload_n S.1 S.2.1 dJ5_equals_14 rfl (lv_at hl 1 rfl) ?_
      refine gckJ5_10 S X hw dJ5_equals_15 h (fun _ h => ?_)
      refine lv_astore_n (lv' := [(2, .ref x1), (0, .ref x0), (1, .ref x1)]) S.1 S.2.1 dJ5_equals_18 rfl hl (by decide) rfl (fun ls hl => ?_)
      refine gsJ5_38 S X hw dJ5_equals_19 ?_
      refine lv_if_eq (tgt := 36) S.1 S.2.1 dJ5_equals_22 rfl (fun c3 => ?_) (fun c3 => ?_)
      · replace h := if_t c3 h
        exact wk_B_J5_equals_p36 S X Z hF hL hr hlocks  _ _ _ _ _ _ h hw (lv_sub hl [1, 0] rfl)
      · replace h := if_f c3 h
        refine lv_aload_n S.1 S.2.1 dJ5_equals_25 rfl (lv_at hl 1 rfl) ?_
        refine ggJ5_15 S X hw dJ5_equals_26 h (fun v8 h => ?_)
        refine lv_aload_n S.1 S.2.1 dJ5_equals_29 rfl (lv_at hl 0 rfl) ?_
        refine ggJ5_15 S X hw dJ5_equals_30 h (fun v9 h => ?_)
        refine lv_icmp_ne (tgt := 54) S.1 S.2.1 dJ5_equals_33 rfl (fun c10 => ?_) (fun c10 => ?_)
        · replace h := if_f c10 h
          refine lv_iconst (v := 0) S.1 S.2.1 dJ5_equals_54 rfl ?_
          exact g_zret S Z hr hlocks hw rfl ⟨so1 h, rfl⟩ dJ5_equals_55
        · replace h := if_t c10 h
          exact wk_B_J5_equals_p36 S X Z hF hL hr hlocks  _ _ _ _ _ _ h hw (lv_sub hl [1, 0] rfl)
  · replace h := if_t c1 h
    refine lv_iconst (v := 1) S.1 S.2.1 dJ5_equals_5 rfl ?_
    exact g_zret S Z hr hlocks hw rfl ⟨so1 h, rfl⟩ dJ5_equals_6
def B_J0_init (x0 : Nat) (w : GS) : Option GS :=
  some w
set_option maxRecDepth 100000 in
set_option maxHeartbeats 4000000 in
theorem met_B_J0_init (l : Launch) (E : gE) (A : Nat → Prop) (LC LS : Nat)  (x0 : Nat) (w : GS) (res : GS) (h : B_J0_init x0 w = some res) : Met l yJ0_init (ws_ yJ0_init cJ0_init 1 (Option.none : Option Jvm.ClassFile.FieldType)) (gRoom 1 20 LC LS w) (gPc E A LC LS [.ref x0] w) (gQv E A LC LS res) (LC - gZ w) (LS - gN w) A := by
  refine gMet (by decide) rfl (Nat.le_of_ble_eq_true rfl) ?_
  intro p e s m below meth c R S hr hlocks hin2 X Z hF hL H ls hw hl
  replace hl : lv_has ls 1 [(0, .ref x0)] := hl
  unfold B_J0_init at h
  replace hin2 : meth.name = "<init>" := hin2
  refine lv_aload_n S.1 S.2.1 dJ0_init_0 rfl (lv_at hl 0 rfl) ?_
  refine W.objInit S.1 S.2.1 S.2.2.2.1 (S.2.2.2.2 _ q240) (S.2.2.2.2 _ q186) (S.2.2.2.2 _ q187) rfl (by rw [S.2.2.1]; exact hl.1) rfl dJ0_init_1 (Nat.le_trans (Nat.le_of_ble_eq_true rfl) hF) (Nat.le_trans (Nat.add_le_add_right (lv_room (st := []) (Nat.le_of_ble_eq_true rfl)) 12) (Nat.le_trans (Nat.le_of_ble_eq_true rfl) hL)) ?_
  refine W.eq (g2 := F0 m 4 ls []) rfl ?_
  exact g_vret S Z hr hlocks hw (so1 h) dJ0_init_4
theorem cb_J1_1 {R : Room} {s : State} {args : Array Value} {rm : Room} {mc ms : Nat} (hts : ∀ w ∈ lw_all, w.before args s = true) (hc : rm.cells = mc) (hs : rm.slots = ms) (hR : rm.frames + 1 ≤ R.frames ∧ 8 + (1 + 11) + rm.locals ≤ R.locals) : CallB R s args RJ1 1 yJ0_init cJ0_init 1 none (ws_ yJ0_init cJ0_init 1 (Option.none : Option Jvm.ClassFile.FieldType)) rm mc ms 0 ∧ yJ0_init.name = "<init>" ∧ (Cond.instanceMethod yJ0_init).before args s = true := cwI 0 hts (lw_meth q239) rfl hc hs (hts _ q138) (hts _ q237) (hts _ q238) rfl (by decide +kernel) hR
def B_J1_init (x0 : Nat) (w : GS) : Option GS :=
  bd1 (B_J0_init x0 w) fun w1 =>
  bd1 (pI w1 x0 23 23 0 (0 : Int32)) fun w2 =>
  some w2
set_option maxRecDepth 100000 in
set_option maxHeartbeats 4000000 in
theorem met_B_J1_init (l : Launch) (E : gE) (A : Nat → Prop) (LC LS : Nat)  (x0 : Nat) (w : GS) (res : GS) (h : B_J1_init x0 w = some res) : Met l yJ1_init (ws_ yJ1_init cJ1_init 1 (Option.none : Option Jvm.ClassFile.FieldType)) (gRoom 2 40 LC LS w) (gPc E A LC LS [.ref x0] w) (gQv E A LC LS res) (LC - gZ w) (LS - gN w) A := by
  refine gMet (by decide) rfl (Nat.le_of_ble_eq_true rfl) ?_
  intro p e s m below meth c R S hr hlocks hin2 X Z hF hL H ls hw hl
  replace hl : lv_has ls 1 [(0, .ref x0)] := hl
  unfold B_J1_init at h
  replace hin2 : meth.name = "<init>" := hin2
  refine lv_aload_n S.1 S.2.1 dJ1_init_0 rfl (lv_at hl 0 rfl) ?_
  refine gcIv (As := []) (rest := []) S X Z hw (b := x0) h (fun u h1 => met_B_J0_init l E A LC LS x0 w u h1) (cb_J1_1 S.2.2.2.2 rfl rfl ⟨Nat.le_trans (Nat.le_of_ble_eq_true rfl : 1 + 1 ≤ 2) hF, Nat.le_trans (Nat.le_of_ble_eq_true rfl : 8 + (1 + 11) + 20 ≤ 40) hL⟩) rfl hl.1 rfl (lv_room (Nat.le_of_ble_eq_true rfl)) dJ1_init_1 (fun w1 H locs h hw => ?_)
  refine lv_aload_n S.1 S.2.1 dJ1_init_4 rfl (lv_at hl 0 rfl) ?_
  refine lv_iconst (v := 0) S.1 S.2.1 dJ1_init_5 rfl ?_
  refine gpJ1_7 S X hw dJ1_init_6 h (fun w2 H locs h hw => ?_)
  exact g_vret S Z hr hlocks hw (so1 h) dJ1_init_9
theorem cb_J2_1 {R : Room} {s : State} {args : Array Value} {rm : Room} {mc ms : Nat} (hts : ∀ w ∈ lw_all, w.before args s = true) (hc : rm.cells = mc) (hs : rm.slots = ms) (hR : rm.frames + 1 ≤ R.frames ∧ 8 + (1 + 11) + rm.locals ≤ R.locals) : CallB R s args RJ2 1 yJ1_init cJ1_init 1 none (ws_ yJ1_init cJ1_init 1 (Option.none : Option Jvm.ClassFile.FieldType)) rm mc ms 0 ∧ yJ1_init.name = "<init>" ∧ (Cond.instanceMethod yJ1_init).before args s = true := cwI 0 hts (lw_meth q236) rfl hc hs (hts _ q139) (hts _ q234) (hts _ q235) rfl (by decide +kernel) hR
def B_J2_init (x0 : Nat) (x1 : Int32) (w : GS) : Option GS :=
  bd1 (B_J1_init x0 w) fun w1 =>
  if x1 ≤ 0 then
    if x1 = 0 then
      bd1 (pR w1 x0 23 23 1 (gT w1 0)) fun w4 =>
      some w4
    else
      none
  else
    bd1 (onA w1 43 x1) fun w5 =>
    bd1 (pR w5 x0 23 23 1 (some (gZ w1))) fun w6 =>
    some w6
set_option maxRecDepth 100000 in
set_option maxHeartbeats 4000000 in
theorem met_B_J2_init (l : Launch) (E : gE) (A : Nat → Prop) (LC LS : Nat)  (x0 : Nat) (x1 : Int32) (w : GS) (res : GS) (h : B_J2_init x0 x1 w = some res) : Met l yJ2_init (ws_ yJ2_init cJ2_init 2 (Option.none : Option Jvm.ClassFile.FieldType)) (gRoom 3 60 LC LS w) (gPc E A LC LS [.ref x0, .int x1] w) (gQv E A LC LS res) (LC - gZ w) (LS - gN w) A := by
  refine gMet (by decide) rfl (Nat.le_of_ble_eq_true rfl) ?_
  intro p e s m below meth c R S hr hlocks hin2 X Z hF hL H ls hw hl
  replace hl : lv_has ls 2 [(0, .ref x0), (1, .int x1)] := hl
  unfold B_J2_init at h
  replace hin2 : meth.name = "<init>" := hin2
  refine lv_aload_n S.1 S.2.1 dJ2_init_0 rfl (lv_at hl 0 rfl) ?_
  refine gcIv (As := []) (rest := []) S X Z hw (b := x0) h (fun u h1 => met_B_J1_init l E A LC LS x0 w u h1) (cb_J2_1 S.2.2.2.2 rfl rfl ⟨Nat.le_trans (Nat.le_of_ble_eq_true rfl : 2 + 1 ≤ 3) hF, Nat.le_trans (Nat.le_of_ble_eq_true rfl : 8 + (1 + 11) + 40 ≤ 60) hL⟩) rfl hl.1 rfl (lv_room (Nat.le_of_ble_eq_true rfl)) dJ2_init_1 (fun w1 H locs h hw => ?_)
  refine lv_iload_n S.1 S.2.1 dJ2_init_4 rfl (lv_at hl 1 rfl) ?_
  refine lv_if_le (tgt := 19) S.1 S.2.1 dJ2_init_5 rfl (fun c2 => ?_) (fun c2 => ?_)
  · replace h := if_t c2 h
    refine lv_iload_n S.1 S.2.1 dJ2_init_19 rfl (lv_at hl 1 rfl) ?_
    refine lv_if_ne (tgt := 33) S.1 S.2.1 dJ2_init_20 rfl (fun c3 => ?_) (fun c3 => ?_)
    · replace h := if_f c3 h
      cases h
    · replace h := if_t c3 h
      refine lv_aload_n S.1 S.2.1 dJ2_init_23 rfl (lv_at hl 0 rfl) ?_
      refine gsJ2_15 S X hw dJ2_init_24 ?_
      refine gpJ2_9 (v := gT w1 0) S X hw dJ2_init_27 h (fun w4 H locs h hw => ?_)
      refine lv_goto (tgt := 60) S.1 S.2.1 dJ2_init_30 rfl ?_
      exact g_vret S Z hr hlocks hw (so1 h) dJ2_init_60
  · replace h := if_f c2 h
    refine lv_aload_n S.1 S.2.1 dJ2_init_8 rfl (lv_at hl 0 rfl) ?_
    refine lv_iload_n S.1 S.2.1 dJ2_init_9 rfl (lv_at hl 1 rfl) ?_
    refine gnqJ2_7 S X Z hw dJ2_init_10 h (fun w5 H h hw => ?_)
    refine gpJ2_9 (v := some (gZ w1)) S X hw dJ2_init_13 h (fun w6 H locs h hw => ?_)
    refine lv_goto (tgt := 60) S.1 S.2.1 dJ2_init_16 rfl ?_
    exact g_vret S Z hr hlocks hw (so1 h) dJ2_init_60
def B_J2_size (x0 : Nat) (w : GS) : Option Int32 :=
  bd1 (oI w x0 23 23 2) fun v1 =>
  some v1
set_option maxRecDepth 100000 in
set_option maxHeartbeats 4000000 in
theorem met_B_J2_size (l : Launch) (E : gE) (A : Nat → Prop) (LC LS : Nat)  (x0 : Nat) (w : GS) (res : Int32) (h : B_J2_size x0 w = some res) : Met l yJ2_size (ws_ yJ2_size cJ2_size 1 (Option.some Jvm.ClassFile.FieldType.int)) (gRoom 0 0 LC LS w) (gPc E A LC LS [.ref x0] w) (gQi E A LC LS res w) (LC - gZ w) (LS - gN w) A := by
  refine gMet (by decide) rfl (Nat.le_of_ble_eq_true rfl) ?_
  intro p e s m below meth c R S hr hlocks hin2 X Z hF hL H ls hw hl
  replace hl : lv_has ls 1 [(0, .ref x0)] := hl
  unfold B_J2_size at h
  refine lv_aload_n S.1 S.2.1 dJ2_size_0 rfl (lv_at hl 0 rfl) ?_
  refine ggJ2_48 S X hw dJ2_size_1 h (fun v1 h => ?_)
  exact g_iret S Z hr hlocks hw ⟨so1 h, rfl⟩ dJ2_size_4
def B_J2_elementData (x0 : Nat) (x1 : Int32) (w : GS) : Option Nat :=
  bd1 (oRn w x0 23 23 1) fun a1 =>
  bd1 (aRn w a1 43 x1) fun a2 =>
  some a2
set_option maxRecDepth 100000 in
set_option maxHeartbeats 4000000 in
theorem met_B_J2_elementData (l : Launch) (E : gE) (A : Nat → Prop) (LC LS : Nat)  (x0 : Nat) (x1 : Int32) (w : GS) (res : Nat) (h : B_J2_elementData x0 x1 w = some res) : Met l yJ2_elementData (ws_ yJ2_elementData cJ2_elementData 2 (Option.some (Jvm.ClassFile.FieldType.object "java/lang/Object"))) (gRoom 0 0 LC LS w) (gPc E A LC LS [.ref x0, .int x1] w) (gQr E A LC LS res w) (LC - gZ w) (LS - gN w) A := by
  refine gMet (by decide) rfl (Nat.le_of_ble_eq_true rfl) ?_
  intro p e s m below meth c R S hr hlocks hin2 X Z hF hL H ls hw hl
  replace hl : lv_has ls 2 [(0, .ref x0), (1, .int x1)] := hl
  unfold B_J2_elementData at h
  refine lv_aload_n S.1 S.2.1 dJ2_elementData_0 rfl (lv_at hl 0 rfl) ?_
  refine ggJ2_9 S X hw dJ2_elementData_1 h (fun a1 h => ?_)
  refine lv_iload_n S.1 S.2.1 dJ2_elementData_4 rfl (lv_at hl 1 rfl) ?_
  refine gald43 S X hw dJ2_elementData_5 h (fun a2 h => ?_)
  exact g_aret S Z hr (Or.inl ⟨_, rfl⟩) hlocks hw ⟨so1 h, rfl⟩ dJ2_elementData_6
theorem cb_J2_118 {R : Room} {s : State} {args : Array Value} {rm : Room} {mc ms : Nat} (hts : ∀ w ∈ lw_all, w.before args s = true) (hc : rm.cells = mc) (hs : rm.slots = ms) (hR : rm.frames + 1 ≤ R.frames ∧ 8 + (2 + 11) + rm.locals ≤ R.locals) : CallB R s args RJ2 118 yJ3_checkIndex cJ3_checkIndex 2 (Option.some Jvm.ClassFile.FieldType.int) (ws_ yJ3_checkIndex cJ3_checkIndex 2 (Option.some Jvm.ClassFile.FieldType.int)) rm mc ms 2 ∧ (Cond.static yJ3_checkIndex).before args s = true := va_cwS 2 hts (lw_S q357 q358 q142 q359) rfl hc hs (by decide +kernel) hR
theorem cb_J2_123 {R : Room} {s : State} {args : Array Value} {rm : Room} {mc ms : Nat} (hts : ∀ w ∈ lw_all, w.before args s = true) (hc : rm.cells = mc) (hs : rm.slots = ms) (hR : rm.frames + 1 ≤ R.frames ∧ 8 + (2 + 11) + rm.locals ≤ R.locals) : CallW R s args RJ2 RJ2 123 yJ2_elementData cJ2_elementData 2 (Option.some (Jvm.ClassFile.FieldType.object "java/lang/Object")) (ws_ yJ2_elementData cJ2_elementData 2 (Option.some (Jvm.ClassFile.FieldType.object "java/lang/Object"))) rm mc ms 1 := cwV 1 hts (lw_V q363 q364 q365 q140 q366) rfl hc hs (by decide +kernel) hR
def B_J2_get (x0 : Nat) (x1 : Int32) (w : GS) : Option Nat :=
  bd1 (oI w x0 23 23 2) fun v1 =>
  bd1 (B_J3_checkIndex x1 v1 w) fun r2 =>
  bd1 (oK w x0 23 23) fun _ =>
  bd1 (B_J2_elementData x0 x1 w) fun a3 =>
  some a3
set_option maxRecDepth 100000 in
set_option maxHeartbeats 4000000 in
theorem met_B_J2_get (l : Launch) (E : gE) (A : Nat → Prop) (LC LS : Nat)  (x0 : Nat) (x1 : Int32) (w : GS) (res : Nat) (h : B_J2_get x0 x1 w = some res) : Met l yJ2_get (ws_ yJ2_get cJ2_get 2 (Option.some (Jvm.ClassFile.FieldType.object "java/lang/Object"))) (gRoom 2 43 LC LS w) (gPc E A LC LS [.ref x0, .int x1] w) (gQr E A LC LS res w) (LC - gZ w) (LS - gN w) A := by
  refine gMet (by decide) rfl (Nat.le_of_ble_eq_true rfl) ?_
  intro p e s m below meth c R S hr hlocks hin2 X Z hF hL H ls hw hl
  replace hl : lv_has ls 2 [(0, .ref x0), (1, .int x1)] := hl
  unfold B_J2_get at h
  refine lv_iload_n S.1 S.2.1 dJ2_get_0 rfl (lv_at hl 1 rfl) ?_
  refine lv_aload_n S.1 S.2.1 dJ2_get_1 rfl (lv_at hl 0 rfl) ?_
  refine ggJ2_48 S X hw dJ2_get_2 h (fun v1 h => ?_)
  refine gcSri (As := [.int x1, .int v1]) (rest := []) S X Z hw h (fun u h1 => met_B_J3_checkIndex l E A LC LS x1 v1 w u h1) (cb_J2_118 S.2.2.2.2 rfl rfl ⟨Nat.le_trans (Nat.le_of_ble_eq_true rfl : 1 + 1 ≤ 2) hF, Nat.le_trans (Nat.le_of_ble_eq_true rfl : 8 + (2 + 11) + 22 ≤ 43) hL⟩) rfl hl.1 rfl (lv_room (Nat.le_of_ble_eq_true rfl)) dJ2_get_5 (fun r2 H locs h hw => ?_)
  refine lv_pop S.1 S.2.1 dJ2_get_8 rfl ?_
  refine lv_aload_n S.1 S.2.1 dJ2_get_9 rfl (lv_at hl 0 rfl) ?_
  refine lv_iload_n S.1 S.2.1 dJ2_get_10 rfl (lv_at hl 1 rfl) ?_
  obtain ⟨hrc, h⟩ := oK1 h
  refine gcVrr (As := [.int x1]) (rest := []) S X Z hw (b := x0) h (fun u h1 => met_B_J2_elementData l E A LC LS x0 x1 w u h1) (cb_J2_123 S.2.2.2.2 rfl rfl ⟨Nat.le_trans (Nat.le_of_ble_eq_true rfl : 0 + 1 ≤ 2) hF, Nat.le_trans (Nat.le_of_ble_eq_true rfl : 8 + (2 + 11) + 0 ≤ 43) hL⟩) (g_recv X hw (ci := 22) rfl (gcell_23 hrc)) rfl hl.1 rfl (lv_room (Nat.le_of_ble_eq_true rfl)) dJ2_get_11 (fun a3 H locs h hw => ?_)
  exact g_aret S Z hr (Or.inl ⟨_, rfl⟩) hlocks hw ⟨so1 h, rfl⟩ dJ2_get_14
def B_J13_init (x0 : Nat) (x1 : Int32) (w : GS) : Option GS :=
  if (1 : Int32) = 0 then
    none
  else
    bd1 (onA w 41 x1) fun w2 =>
    bd1 (pR w2 x0 26 26 0 (some (gZ w))) fun w3 =>
    bd1 (pI w3 x0 26 26 1 (0 : Int32)) fun w4 =>
    some w4
set_option maxRecDepth 100000 in
set_option maxHeartbeats 4000000 in
theorem met_B_J13_init (l : Launch) (E : gE) (A : Nat → Prop) (LC LS : Nat)  (x0 : Nat) (x1 : Int32) (w : GS) (res : GS) (h : B_J13_init x0 x1 w = some res) : Met l yJ13_init (ws_ yJ13_init cJ13_init 2 (Option.none : Option Jvm.ClassFile.FieldType)) (gRoom 1 20 LC LS w) (gPc E A LC LS [.ref x0, .int x1] w) (gQv E A LC LS res) (LC - gZ w) (LS - gN w) A := by
  refine gMet (by decide) rfl (Nat.le_of_ble_eq_true rfl) ?_
  intro p e s m below meth c R S hr hlocks hin2 X Z hF hL H ls hw hl
  replace hl : lv_has ls 2 [(0, .ref x0), (1, .int x1)] := hl
  unfold B_J13_init at h
  replace hin2 : meth.name = "<init>" := hin2
  refine lv_aload_n S.1 S.2.1 dJ13_init_0 rfl (lv_at hl 0 rfl) ?_
  refine W.objInit S.1 S.2.1 S.2.2.2.1 (S.2.2.2.2 _ q689) (S.2.2.2.2 _ q186) (S.2.2.2.2 _ q187) rfl (by rw [S.2.2.1]; exact hl.1) rfl dJ13_init_1 (Nat.le_trans (Nat.le_of_ble_eq_true rfl) hF) (Nat.le_trans (Nat.add_le_add_right (lv_room (st := []) (Nat.le_of_ble_eq_true rfl)) 12) (Nat.le_trans (Nat.le_of_ble_eq_true rfl) hL)) ?_
  refine W.eq (g2 := F0 m 4 ls []) rfl ?_
  refine gsJ13_18 S X hw dJ13_init_4 ?_
  refine lv_if_eq (tgt := 25) S.1 S.2.1 dJ13_init_7 rfl (fun c1 => ?_) (fun c1 => ?_)
  · replace h := if_t c1 h
    refine lv_aload_n S.1 S.2.1 dJ13_init_25 rfl (lv_at hl 0 rfl) ?_
    refine lv_iload_n S.1 S.2.1 dJ13_init_26 rfl (lv_at hl 1 rfl) ?_
    cases h
  · replace h := if_f c1 h
    refine lv_aload_n S.1 S.2.1 dJ13_init_10 rfl (lv_at hl 0 rfl) ?_
    refine lv_iload_n S.1 S.2.1 dJ13_init_11 rfl (lv_at hl 1 rfl) ?_
    refine gna_byte S X hw Z dJ13_init_12 h (fun w2 H h hw => ?_)
    refine gpJ13_15 (v := some (gZ w)) S X hw dJ13_init_14 h (fun w3 H locs h hw => ?_)
    refine lv_aload_n S.1 S.2.1 dJ13_init_17 rfl (lv_at hl 0 rfl) ?_
    refine lv_iconst (v := 0) S.1 S.2.1 dJ13_init_18 rfl ?_
    refine gpJ13_22 S X hw dJ13_init_19 ⟨by decide, by decide⟩ h (fun w4 H locs h hw => ?_)
    refine lv_goto (tgt := 38) S.1 S.2.1 dJ13_init_22 rfl ?_
    exact g_vret S Z hr hlocks hw (so1 h) dJ13_init_38
def B_J13_isLatin1 (x0 : Nat) (w : GS) : Option Int32 :=
  if (1 : Int32) = 0 then
    some (0 : Int32)
  else
    bd1 (oI w x0 26 26 1) fun v2 =>
    if v2 = 0 then
      some (1 : Int32)
    else
      some (0 : Int32)
set_option maxRecDepth 100000 in
set_option maxHeartbeats 4000000 in
theorem met_B_J13_isLatin1 (l : Launch) (E : gE) (A : Nat → Prop) (LC LS : Nat)  (x0 : Nat) (w : GS) (res : Int32) (h : B_J13_isLatin1 x0 w = some res) : Met l yJ13_isLatin1 (ws_ yJ13_isLatin1 cJ13_isLatin1 1 (Option.some Jvm.ClassFile.FieldType.boolean)) (gRoom 0 0 LC LS w) (gPc E A LC LS [.ref x0] w) (gQi E A LC LS res w) (LC - gZ w) (LS - gN w) A := by
  refine gMet (by decide) rfl (Nat.le_of_ble_eq_true rfl) ?_
  intro p e s m below meth c R S hr hlocks hin2 X Z hF hL H ls hw hl
  replace hl : lv_has ls 1 [(0, .ref x0)] := hl
  unfold B_J13_isLatin1 at h
  refine gsJ13_18 S X hw dJ13_isLatin1_0 ?_
  refine lv_if_eq (tgt := 17) S.1 S.2.1 dJ13_isLatin1_3 rfl (fun c1 => ?_) (fun c1 => ?_)
  · replace h := if_t c1 h
    refine lv_iconst (v := 0) S.1 S.2.1 dJ13_isLatin1_17 rfl ?_
    exact g_zret S Z hr hlocks hw rfl ⟨so1 h, rfl⟩ dJ13_isLatin1_18
  · replace h := if_f c1 h
    refine lv_aload_n S.1 S.2.1 dJ13_isLatin1_6 rfl (lv_at hl 0 rfl) ?_
    refine ggJ13_22 S X hw dJ13_isLatin1_7 h (fun v2 h => ?_)
    refine lv_if_ne (tgt := 17) S.1 S.2.1 dJ13_isLatin1_10 rfl (fun c3 => ?_) (fun c3 => ?_)
    · replace h := if_f c3 h
      refine lv_iconst (v := 0) S.1 S.2.1 dJ13_isLatin1_17 rfl ?_
      exact g_zret S Z hr hlocks hw rfl ⟨so1 h, rfl⟩ dJ13_isLatin1_18
    · replace h := if_t c3 h
      refine lv_iconst (v := 1) S.1 S.2.1 dJ13_isLatin1_13 rfl ?_
      refine lv_goto (tgt := 18) S.1 S.2.1 dJ13_isLatin1_14 rfl ?_
      exact g_zret S Z hr hlocks hw rfl ⟨so1 h, rfl⟩ dJ13_isLatin1_18
def B_J13_ensureCapacityInternal (x0 : Nat) (x1 : Int32) (w : GS) : Option GS :=
  bd1 (oRn w x0 26 26 0) fun a1 =>
  bd1 (aLenb w a1) fun v2 =>
  bd1 (oI w x0 26 26 1) fun v3 =>
  bdp (v2 >>> (v3 &&& 31)) fun y4 =>
  if (x1 - y4) ≤ 0 then
    some w
  else
    bd1 (oRn w x0 26 26 0) fun a6 =>
    none
set_option maxRecDepth 100000 in
set_option maxHeartbeats 4000000 in
theorem met_B_J13_ensureCapacityInternal (l : Launch) (E : gE) (A : Nat → Prop) (LC LS : Nat)  (x0 : Nat) (x1 : Int32) (w : GS) (res : GS) (h : B_J13_ensureCapacityInternal x0 x1 w = some res) : Met l yJ13_ensureCapacityInternal (ws_ yJ13_ensureCapacityInternal cJ13_ensureCapacityInternal 3 (Option.none : Option Jvm.ClassFile.FieldType)) (gRoom 0 0 LC LS w) (gPc E A LC LS [.ref x0, .int x1] w) (gQv E A LC LS res) (LC - gZ w) (LS - gN w) A := by
  refine gMet (by decide) rfl (Nat.le_of_ble_eq_true rfl) ?_
  intro p e s m below meth c R S hr hlocks hin2 X Z hF hL H ls hw hl
  replace hl : lv_has ls 3 [(0, .ref x0), (1, .int x1)] := hl
  unfold B_J13_ensureCapacityInternal at h
  refine lv_aload_n S.1 S.2.1 dJ13_ensureCapacityInternal_0 rfl (lv_at hl 0 rfl) ?_
  refine ggJ13_15 S X hw dJ13_ensureCapacityInternal_1 h (fun a1 h => ?_)
  refine galenb S X hw dJ13_ensureCapacityInternal_4 h (fun v2 h => ?_)
  refine lv_aload_n S.1 S.2.1 dJ13_ensureCapacityInternal_5 rfl (lv_at hl 0 rfl) ?_
  refine ggJ13_22 S X hw dJ13_ensureCapacityInternal_6 h (fun v3 h => ?_)
  refine lv_ishr S.1 S.2.1 dJ13_ensureCapacityInternal_9 ?_
  refine lv_topi (fun y4 ey => ?_)
  replace h := bdp_e ey h
  refine lv_istore_n (lv' := [(2, .int y4), (0, .ref x0), (1, .int x1)]) S.1 S.2.1 dJ13_ensureCapacityInternal_10 rfl hl (by decide) rfl (fun ls hl => ?_)
  refine lv_iload_n S.1 S.2.1 dJ13_ensureCapacityInternal_11 rfl (lv_at hl 2 rfl) ?_
  refine lv_iload_n S.1 S.2.1 dJ13_ensureCapacityInternal_12 rfl (lv_at hl 0 rfl) ?_
  refine lv_isub S.1 S.2.1 dJ13_ensureCapacityInternal_13 ?_
  refine lv_if_le (tgt := 38) S.1 S.2.1 dJ13_ensureCapacityInternal_14 rfl (fun c5 => ?_) (fun c5 => ?_)
  · replace h := if_t c5 h
    exact g_vret S Z hr hlocks hw (so1 h) dJ13_ensureCapacityInternal_38
  · replace h := if_f c5 h
    refine lv_aload_n S.1 S.2.1 dJ13_ensureCapacityInternal_17 rfl (lv_at hl 1 rfl) ?_
    refine lv_aload_n S.1 S.2.1 dJ13_ensureCapacityInternal_18 rfl (lv_at hl 1 rfl) ?_
    refine ggJ13_15 S X hw dJ13_ensureCapacityInternal_19 h (fun a6 h => ?_)
    refine lv_aload_n S.1 S.2.1 dJ13_ensureCapacityInternal_22 rfl (lv_at hl 1 rfl) ?_
    refine lv_iload_n S.1 S.2.1 dJ13_ensureCapacityInternal_23 rfl (lv_at hl 2 rfl) ?_
    cases h
theorem cb_J13_100 {R : Room} {s : State} {args : Array Value} {rm : Room} {mc ms : Nat} (hts : ∀ w ∈ lw_all, w.before args s = true) (hsel : va_Nw sbSel s) (hc : rm.cells = mc) (hs : rm.slots = ms) (hR : rm.frames + 1 ≤ R.frames ∧ 8 + (3 + 11) + rm.locals ≤ R.locals) : va_CU R s args RJ13 RJ14 "java/lang/AbstractStringBuilder" 100 yJ13_ensureCapacityInternal yJ13_ensureCapacityInternal cJ13_ensureCapacityInternal 3 (Option.none : Option Jvm.ClassFile.FieldType) (ws_ yJ13_ensureCapacityInternal cJ13_ensureCapacityInternal 3 (Option.none : Option Jvm.ClassFile.FieldType)) rm mc ms 1 := ⟨⟨hc, hs, hR.1, hR.2, pay_in hts (lw_meth q721), List.mem_cons_self⟩, hts _ q721, hts _ q154, ⟨by decide, by decide⟩, fun sig h => by have h2 : (parseMethodDescriptor yJ13_ensureCapacityInternal.desc).map (fun d => d.parameters.length) = some 1 := (by decide +kernel); rw [h] at h2; exact (Option.some.inj h2).symm, hts _ q718, hts _ q2360, va_Decl.of (hts _ q720) (hts _ q721), va_Nw.use rfl hsel, hts _ q720⟩
theorem cb_J13_83 {R : Room} {s : State} {args : Array Value} {rm : Room} {mc ms : Nat} (hts : ∀ w ∈ lw_all, w.before args s = true) (hc : rm.cells = mc) (hs : rm.slots = ms) (hR : rm.frames + 1 ≤ R.frames ∧ 8 + (1 + 11) + rm.locals ≤ R.locals) : va_CU R s args RJ13 RJ14 "java/lang/AbstractStringBuilder" 83 yJ13_isLatin1 yJ13_isLatin1 cJ13_isLatin1 1 (Option.some Jvm.ClassFile.FieldType.boolean) (ws_ yJ13_isLatin1 cJ13_isLatin1 1 (Option.some Jvm.ClassFile.FieldType.boolean)) rm mc ms 0 := va_cwU 0 hts (lw_app (by intro w hw; simp only [List.mem_cons, List.not_mem_nil, or_false] at hw; rcases hw with e | e | e | e | e <;> rw [e]; exact q749; exact q751; exact q752; exact q750; exact q154) (lw_meth q753)) rfl hc hs rfl (by decide +kernel) hR
theorem cb_J13_191 {R : Room} {s : State} {args : Array Value} {rm : Room} {mc ms : Nat} (hts : ∀ w ∈ lw_all, w.before args s = true) (hc : rm.cells = mc) (hs : rm.slots = ms) (hR : rm.frames + 1 ≤ R.frames ∧ 8 + (1 + 11) + rm.locals ≤ R.locals) : CallB R s args RJ13 191 yJ6_canEncode_2 cJ6_canEncode_2 1 (Option.some Jvm.ClassFile.FieldType.boolean) (ws_ yJ6_canEncode_2 cJ6_canEncode_2 1 (Option.some Jvm.ClassFile.FieldType.boolean)) rm mc ms 1 ∧ (Cond.static yJ6_canEncode_2).before args s = true := va_cwS 1 hts (lw_S q754 q755 q146 q756) rfl hc hs (by decide +kernel) hR
def B_J13_append_p56 (x0 : Nat) (x1 : Int32) (w : GS) : Option (Nat × GS) :=
  bd1 (oRn w x0 26 26 0) fun a7 =>
  bd1 (oI w x0 26 26 3) fun v8 =>
  bd1 (pI w x0 26 26 3 (v8 + (1 : Int32))) fun w9 =>
  none
def B_J13_append_p45 (x0 : Nat) (x1 : Int32) (w : GS) : Option (Nat × GS) :=
  bd1 (oK w x0 26 26) fun _ =>
  bd1 (B_J13_isLatin1 x0 w) fun r5 =>
  if r5 = 0 then
    B_J13_append_p56 x0 x1 w
  else
    none
def B_J13_append (x0 : Nat) (x1 : Int32) (w : GS) : Option (Nat × GS) :=
  bd1 (oI w x0 26 26 3) fun v1 =>
  bd1 (oK w x0 26 26) fun _ =>
  bd1 (B_J13_ensureCapacityInternal x0 (v1 + (1 : Int32)) w) fun w2 =>
  bd1 (oK w2 x0 26 26) fun _ =>
  bd1 (B_J13_isLatin1 x0 w2) fun r3 =>
  if r3 = 0 then
    B_J13_append_p45 x0 x1 w2
  else
    if (B_J6_canEncode_2 x1) = 0 then
      B_J13_append_p45 x0 x1 w2
    else
      bd1 (oRn w2 x0 26 26 0) fun a11 =>
      bd1 (oI w2 x0 26 26 3) fun v12 =>
      bd1 (pI w2 x0 26 26 3 (v12 + (1 : Int32))) fun w13 =>
      bd1 (xI w13 a11 41 v12 (x1.toInt8.toInt32.toInt8.toInt32)) fun w14 =>
      some (x0, w14)
set_option maxRecDepth 100000 in
set_option maxHeartbeats 4000000 in
theorem wk_B_J13_append_p56 {p : Program} {l : Launch} {e : Env} {R : Room} {s : State} {m : MethodId} {args : Array Value} {below : List Frame} {meth : Method} {c : Code} {E : gE} {A : Nat → Prop} {LC LS : Nat} (S : CallFix p m c cJ13_append 2 s args lw_all RJ13) (X : gCtx E A s) (Z : gRm R s LC LS) (hF : 1 ≤ R.frames) (hL : 22 ≤ R.locals) (hr : meth.sig.returnType = (Option.some (Jvm.ClassFile.FieldType.object "java/lang/AbstractStringBuilder"))) (hlocks : meth.locks = false) {res : Nat × GS}  : ∀ (x0 : Nat) (x1 : Int32) (w : GS) (H : Heap) (locs : List Loc) (ls : Array Slot), B_J13_append_p56 x0 x1 w = some res → gH E A LC LS s w H locs → lv_has ls 2 [(0, .ref x0), (1, .int x1)] → W p l e R s m args below meth c H locs (H.size - s.heap.size) (tot H - tot s.heap) (MQ below (gQr E A LC LS res.1 res.2) args s R.cells R.slots A) (F0 m 56 ls []) := by
  intro x0 x1 w H locs ls h hw hl
  unfold B_J13_append_p56 at h
  refine lv_aload_n S.1 S.2.1 dJ13_append_56 rfl (lv_at hl 0 rfl) ?_
  refine ggJ13_15 S X hw dJ13_append_57 h (fun a7 h => ?_)
  refine lv_aload_n S.1 S.2.1 dJ13_append_60 rfl (lv_at hl 0 rfl) ?_
  refine lv_dup S.1 S.2.1 dJ13_append_61 rfl ?_
  refine ggJ13_79 S X hw dJ13_append_62 h (fun v8 h => ?_)
  refine lv_dup_x1 S.1 S.2.1 dJ13_append_65 rfl rfl ?_
  refine lv_iconst (v := 1) S.1 S.2.1 dJ13_append_66 rfl ?_
  refine lv_iadd S.1 S.2.1 dJ13_append_67 ?_
  refine gpJ13_79 S X hw dJ13_append_68 h (fun w9 H locs h hw => ?_)
  refine lv_iload_n S.1 S.2.1 dJ13_append_71 rfl (lv_at hl 1 rfl) ?_
  cases h
set_option maxRecDepth 100000 in
set_option maxHeartbeats 4000000 in
theorem wk_B_J13_append_p45 {p : Program} {l : Launch} {e : Env} {R : Room} {s : State} {m : MethodId} {args : Array Value} {below : List Frame} {meth : Method} {c : Code} {E : gE} {A : Nat → Prop} {LC LS : Nat} (S : CallFix p m c cJ13_append 2 s args lw_all RJ13) (X : gCtx E A s) (Z : gRm R s LC LS) (hF : 1 ≤ R.frames) (hL : 22 ≤ R.locals) (hr : meth.sig.returnType = (Option.some (Jvm.ClassFile.FieldType.object "java/lang/AbstractStringBuilder"))) (hlocks : meth.locks = false) {res : Nat × GS}  : ∀ (x0 : Nat) (x1 : Int32) (w : GS) (H : Heap) (locs : List Loc) (ls : Array Slot), B_J13_append_p45 x0 x1 w = some res → gH E A LC LS s w H locs → lv_has ls 2 [(0, .ref x0), (1, .int x1)] → W p l e R s m args below meth c H locs (H.size - s.heap.size) (tot H - tot s.heap) (MQ below (gQr E A LC LS res.1 res.2) args s R.cells R.slots A) (F0 m 45 ls []) := by
  intro x0 x1 w H locs ls h hw hl
  unfold B_J13_append_p45 at h
  refine lv_aload_n S.1 S.2.1 dJ13_append_45 rfl (lv_at hl 0 rfl) ?_
  obtain ⟨hrc, h⟩ := oK1 h
  refine gcHri (As := []) (rest := []) S X Z hw (b := x0) h (fun u h1 => met_B_J13_isLatin1 l E A LC LS x0 w u h1) (cb_J13_83 S.2.2.2.2 rfl rfl ⟨Nat.le_trans (Nat.le_of_ble_eq_true rfl : 0 + 1 ≤ 1) hF, Nat.le_trans (Nat.le_of_ble_eq_true rfl : 8 + (1 + 11) + 0 ≤ 22) hL⟩) (g_recv X hw (ci := 25) rfl (gcell_26 hrc)) rfl hl.1 rfl (lv_room (Nat.le_of_ble_eq_true rfl)) dJ13_append_46 (fun r5 H locs h hw => ?_)
  refine lv_if_eq (tgt := 56) S.1 S.2.1 dJ13_append_49 rfl (fun c6 => ?_) (fun c6 => ?_)
  · replace h := if_t c6 h
    exact wk_B_J13_append_p56 S X Z hF hL hr hlocks  _ _ _ _ _ _ h hw (lv_sub hl [0, 1] rfl)
  · replace h := if_f c6 h
    refine lv_aload_n S.1 S.2.1 dJ13_append_52 rfl (lv_at hl 0 rfl) ?_
    cases h
set_option maxRecDepth 100000 in
set_option maxHeartbeats 4000000 in
theorem met_B_J13_append (l : Launch) (E : gE) (A : Nat → Prop) (LC LS : Nat)  (x0 : Nat) (x1 : Int32) (w : GS) (res : Nat × GS) (h : B_J13_append x0 x1 w = some res) : Met l yJ13_append (ws_ yJ13_append cJ13_append 2 (Option.some (Jvm.ClassFile.FieldType.object "java/lang/AbstractStringBuilder"))) (gRoom 1 22 LC LS w) (gPc E A LC LS [.ref x0, .int x1] w) (gQr E A LC LS res.1 res.2) (LC - gZ w) (LS - gN w) A := by
  refine gMet (by decide) rfl (Nat.le_of_ble_eq_true rfl) ?_
  intro p e s m below meth c R S hr hlocks hin2 X Z hF hL H ls hw hl
  replace hl : lv_has ls 2 [(0, .ref x0), (1, .int x1)] := hl
  unfold B_J13_append at h
  refine lv_aload_n S.1 S.2.1 dJ13_append_0 rfl (lv_at hl 0 rfl) ?_
  refine lv_aload_n S.1 S.2.1 dJ13_append_1 rfl (lv_at hl 0 rfl) ?_
  refine ggJ13_79 S X hw dJ13_append_2 h (fun v1 h => ?_)
  refine lv_iconst (v := 1) S.1 S.2.1 dJ13_append_5 rfl ?_
  refine lv_iadd S.1 S.2.1 dJ13_append_6 ?_
  obtain ⟨hrc, h⟩ := oK1 h
  refine gcHv (As := [.int (v1 + (1 : Int32))]) (rest := []) S X Z hw (b := x0) h (fun u h1 => met_B_J13_ensureCapacityInternal l E A LC LS x0 (v1 + (1 : Int32)) w u h1) (cb_J13_100 S.2.2.2.2 X.2.2.2.2.2.2.1.2.2.2 rfl rfl ⟨Nat.le_trans (Nat.le_of_ble_eq_true rfl : 0 + 1 ≤ 1) hF, Nat.le_trans (Nat.le_of_ble_eq_true rfl : 8 + (3 + 11) + 0 ≤ 22) hL⟩) (g_recv X hw (ci := 25) rfl (gcell_26 hrc)) rfl hl.1 rfl (lv_room (Nat.le_of_ble_eq_true rfl)) dJ13_append_7 (fun w2 H locs h hw => ?_)
  refine lv_aload_n S.1 S.2.1 dJ13_append_10 rfl (lv_at hl 0 rfl) ?_
  obtain ⟨hrc, h⟩ := oK1 h
  refine gcHri (As := []) (rest := []) S X Z hw (b := x0) h (fun u h1 => met_B_J13_isLatin1 l E A LC LS x0 w2 u h1) (cb_J13_83 S.2.2.2.2 rfl rfl ⟨Nat.le_trans (Nat.le_of_ble_eq_true rfl : 0 + 1 ≤ 1) hF, Nat.le_trans (Nat.le_of_ble_eq_true rfl : 8 + (1 + 11) + 0 ≤ 22) hL⟩) (g_recv X hw (ci := 25) rfl (gcell_26 hrc)) rfl hl.1 rfl (lv_room (Nat.le_of_ble_eq_true rfl)) dJ13_append_11 (fun r3 H locs h hw => ?_)
  refine lv_if_eq (tgt := 45) S.1 S.2.1 dJ13_append_14 rfl (fun c4 => ?_) (fun c4 => ?_)
  · replace h := if_t c4 h
    exact wk_B_J13_append_p45 S X Z hF hL hr hlocks  _ _ _ _ _ _ h hw (lv_sub hl [0, 1] rfl)
  · replace h := if_f c4 h
    refine lv_iload_n S.1 S.2.1 dJ13_append_17 rfl (lv_at hl 1 rfl) ?_
    refine gcSti (As := [.int x1]) (rest := []) S X Z hw (met_B_J6_canEncode_2 l E A LC LS x1 w2 _ rfl) (cb_J13_191 S.2.2.2.2 rfl rfl ⟨Nat.le_trans (Nat.le_of_ble_eq_true rfl : 0 + 1 ≤ 1) hF, Nat.le_trans (Nat.le_of_ble_eq_true rfl : 8 + (1 + 11) + 0 ≤ 22) hL⟩) rfl hl.1 rfl (lv_room (Nat.le_of_ble_eq_true rfl)) dJ13_append_18 (fun H locs hw => ?_)
    refine lv_if_eq (tgt := 45) S.1 S.2.1 dJ13_append_21 rfl (fun c10 => ?_) (fun c10 => ?_)
    · replace h := if_t c10 h
      exact wk_B_J13_append_p45 S X Z hF hL hr hlocks  _ _ _ _ _ _ h hw (lv_sub hl [0, 1] rfl)
    · replace h := if_f c10 h
      refine lv_aload_n S.1 S.2.1 dJ13_append_24 rfl (lv_at hl 0 rfl) ?_
      refine ggJ13_15 S X hw dJ13_append_25 h (fun a11 h => ?_)
      refine lv_aload_n S.1 S.2.1 dJ13_append_28 rfl (lv_at hl 0 rfl) ?_
      refine lv_dup S.1 S.2.1 dJ13_append_29 rfl ?_
      refine ggJ13_79 S X hw dJ13_append_30 h (fun v12 h => ?_)
      refine lv_dup_x1 S.1 S.2.1 dJ13_append_33 rfl rfl ?_
      refine lv_iconst (v := 1) S.1 S.2.1 dJ13_append_34 rfl ?_
      refine lv_iadd S.1 S.2.1 dJ13_append_35 ?_
      refine gpJ13_79 S X hw dJ13_append_36 h (fun w13 H locs h hw => ?_)
      refine lv_iload_n S.1 S.2.1 dJ13_append_39 rfl (lv_at hl 1 rfl) ?_
      refine lv_i2b S.1 S.2.1 dJ13_append_40 rfl ?_
      refine gast41 S X hw dJ13_append_41 h (fun w14 H locs h hw => ?_)
      refine lv_goto (tgt := 75) S.1 S.2.1 dJ13_append_42 rfl ?_
      refine lv_aload_n S.1 S.2.1 dJ13_append_75 rfl (lv_at hl 0 rfl) ?_
      exact g_aret S Z hr (Or.inl ⟨_, rfl⟩) hlocks hw (so2 h) dJ13_append_76
def B_J13_getValue (x0 : Nat) (w : GS) : Option Nat :=
  bd1 (oRn w x0 26 26 0) fun a1 =>
  some a1
set_option maxRecDepth 100000 in
set_option maxHeartbeats 4000000 in
theorem met_B_J13_getValue (l : Launch) (E : gE) (A : Nat → Prop) (LC LS : Nat)  (x0 : Nat) (w : GS) (res : Nat) (h : B_J13_getValue x0 w = some res) : Met l yJ13_getValue (ws_ yJ13_getValue cJ13_getValue 1 (Option.some (Jvm.ClassFile.FieldType.array Jvm.ClassFile.FieldType.byte))) (gRoom 0 0 LC LS w) (gPc E A LC LS [.ref x0] w) (gQr E A LC LS res w) (LC - gZ w) (LS - gN w) A := by
  refine gMet (by decide) rfl (Nat.le_of_ble_eq_true rfl) ?_
  intro p e s m below meth c R S hr hlocks hin2 X Z hF hL H ls hw hl
  replace hl : lv_has ls 1 [(0, .ref x0)] := hl
  unfold B_J13_getValue at h
  refine lv_aload_n S.1 S.2.1 dJ13_getValue_0 rfl (lv_at hl 0 rfl) ?_
  refine ggJ13_15 S X hw dJ13_getValue_1 h (fun a1 h => ?_)
  exact g_aret S Z hr (Or.inr ⟨_, rfl⟩) hlocks hw ⟨so1 h, rfl⟩ dJ13_getValue_4
def B_J13_length (x0 : Nat) (w : GS) : Option Int32 :=
  bd1 (oI w x0 26 26 3) fun v1 =>
  some v1
set_option maxRecDepth 100000 in
set_option maxHeartbeats 4000000 in
theorem met_B_J13_length (l : Launch) (E : gE) (A : Nat → Prop) (LC LS : Nat)  (x0 : Nat) (w : GS) (res : Int32) (h : B_J13_length x0 w = some res) : Met l yJ13_length (ws_ yJ13_length cJ13_length 1 (Option.some Jvm.ClassFile.FieldType.int)) (gRoom 0 0 LC LS w) (gPc E A LC LS [.ref x0] w) (gQi E A LC LS res w) (LC - gZ w) (LS - gN w) A := by
  refine gMet (by decide) rfl (Nat.le_of_ble_eq_true rfl) ?_
  intro p e s m below meth c R S hr hlocks hin2 X Z hF hL H ls hw hl
  replace hl : lv_has ls 1 [(0, .ref x0)] := hl
  unfold B_J13_length at h
  refine lv_aload_n S.1 S.2.1 dJ13_length_0 rfl (lv_at hl 0 rfl) ?_
  refine ggJ13_79 S X hw dJ13_length_1 h (fun v1 h => ?_)
  exact g_iret S Z hr hlocks hw ⟨so1 h, rfl⟩ dJ13_length_4
theorem cb_J14_343 {R : Room} {s : State} {args : Array Value} {rm : Room} {mc ms : Nat} (hts : ∀ w ∈ lw_all, w.before args s = true) (hc : rm.cells = mc) (hs : rm.slots = ms) (hR : rm.frames + 1 ≤ R.frames ∧ 8 + (1 + 11) + rm.locals ≤ R.locals) : va_CS R s args RJ14 343 yJ13_length cJ13_length 1 (Option.some Jvm.ClassFile.FieldType.int) (ws_ yJ13_length cJ13_length 1 (Option.some Jvm.ClassFile.FieldType.int)) rm mc ms 0 := va_cwSU 0 hts (lw_app (by intro w hw; simp only [List.mem_cons, List.not_mem_nil, or_false] at hw; rcases hw with e | e | e | e | e <;> rw [e]; exact q806; exact q802; exact q710; exact q801; exact q154) (lw_meth q807)) rfl hc hs (by decide +kernel) hR
def B_J14_length (x0 : Nat) (w : GS) : Option Int32 :=
  bd1 (oK w x0 26 26) fun _ =>
  bd1 (B_J13_length x0 w) fun r1 =>
  some r1
set_option maxRecDepth 100000 in
set_option maxHeartbeats 4000000 in
theorem met_B_J14_length (l : Launch) (E : gE) (A : Nat → Prop) (LC LS : Nat)  (x0 : Nat) (w : GS) (res : Int32) (h : B_J14_length x0 w = some res) : Met l yJ14_length (ws_ yJ14_length cJ14_length 1 (Option.some Jvm.ClassFile.FieldType.int)) (gRoom 1 20 LC LS w) (gPc E A LC LS [.ref x0] w) (gQi E A LC LS res w) (LC - gZ w) (LS - gN w) A := by
  refine gMet (by decide) rfl (Nat.le_of_ble_eq_true rfl) ?_
  intro p e s m below meth c R S hr hlocks hin2 X Z hF hL H ls hw hl
  replace hl : lv_has ls 1 [(0, .ref x0)] := hl
  unfold B_J14_length at h
  refine lv_aload_n S.1 S.2.1 dJ14_length_0 rfl (lv_at hl 0 rfl) ?_
  obtain ⟨hrc, h⟩ := oK1 h
  refine gcUri (As := []) (rest := []) S X Z hw (b := x0) h (fun u h1 => met_B_J13_length l E A LC LS x0 w u h1) (X.1.1 25 _ rfl).2 (cb_J14_343 S.2.2.2.2 rfl rfl ⟨Nat.le_trans (Nat.le_of_ble_eq_true rfl : 0 + 1 ≤ 1) hF, Nat.le_trans (Nat.le_of_ble_eq_true rfl : 8 + (1 + 11) + 0 ≤ 20) hL⟩) (g_recv X hw (ci := 25) rfl (gcell_26 hrc)) rfl hl.1 rfl (lv_room (Nat.le_of_ble_eq_true rfl)) dJ14_length_1 (fun r1 H locs h hw => ?_)
  exact g_iret S Z hr hlocks hw ⟨so1 h, rfl⟩ dJ14_length_4
theorem cb_J14_1 {R : Room} {s : State} {args : Array Value} {rm : Room} {mc ms : Nat} (hts : ∀ w ∈ lw_all, w.before args s = true) (hc : rm.cells = mc) (hs : rm.slots = ms) (hR : rm.frames + 1 ≤ R.frames ∧ 8 + (2 + 11) + rm.locals ≤ R.locals) : CallB R s args RJ14 1 yJ13_init cJ13_init 2 none (ws_ yJ13_init cJ13_init 2 (Option.none : Option Jvm.ClassFile.FieldType)) rm mc ms 1 ∧ yJ13_init.name = "<init>" ∧ (Cond.instanceMethod yJ13_init).before args s = true := cwI 1 hts (lw_meth q688) rfl hc hs (hts _ q154) (hts _ q686) (hts _ q687) rfl (by decide +kernel) hR
def B_J14_init (x0 : Nat) (x1 : Int32) (w : GS) : Option GS :=
  bd1 (B_J13_init x0 x1 w) fun w1 =>
  some w1
set_option maxRecDepth 100000 in
set_option maxHeartbeats 4000000 in
theorem met_B_J14_init (l : Launch) (E : gE) (A : Nat → Prop) (LC LS : Nat)  (x0 : Nat) (x1 : Int32) (w : GS) (res : GS) (h : B_J14_init x0 x1 w = some res) : Met l yJ14_init (ws_ yJ14_init cJ14_init 2 (Option.none : Option Jvm.ClassFile.FieldType)) (gRoom 2 41 LC LS w) (gPc E A LC LS [.ref x0, .int x1] w) (gQv E A LC LS res) (LC - gZ w) (LS - gN w) A := by
  refine gMet (by decide) rfl (Nat.le_of_ble_eq_true rfl) ?_
  intro p e s m below meth c R S hr hlocks hin2 X Z hF hL H ls hw hl
  replace hl : lv_has ls 2 [(0, .ref x0), (1, .int x1)] := hl
  unfold B_J14_init at h
  replace hin2 : meth.name = "<init>" := hin2
  refine lv_aload_n S.1 S.2.1 dJ14_init_0 rfl (lv_at hl 0 rfl) ?_
  refine lv_iload_n S.1 S.2.1 dJ14_init_1 rfl (lv_at hl 1 rfl) ?_
  refine gcIv (As := [.int x1]) (rest := []) S X Z hw (b := x0) h (fun u h1 => met_B_J13_init l E A LC LS x0 x1 w u h1) (cb_J14_1 S.2.2.2.2 rfl rfl ⟨Nat.le_trans (Nat.le_of_ble_eq_true rfl : 1 + 1 ≤ 2) hF, Nat.le_trans (Nat.le_of_ble_eq_true rfl : 8 + (2 + 11) + 20 ≤ 41) hL⟩) rfl hl.1 rfl (lv_room (Nat.le_of_ble_eq_true rfl)) dJ14_init_2 (fun w1 H locs h hw => ?_)
  exact g_vret S Z hr hlocks hw (so1 h) dJ14_init_5
theorem cb_J14_50 {R : Room} {s : State} {args : Array Value} {rm : Room} {mc ms : Nat} (hts : ∀ w ∈ lw_all, w.before args s = true) (hc : rm.cells = mc) (hs : rm.slots = ms) (hR : rm.frames + 1 ≤ R.frames ∧ 8 + (2 + 11) + rm.locals ≤ R.locals) : va_CS R s args RJ14 50 yJ13_append cJ13_append 2 (Option.some (Jvm.ClassFile.FieldType.object "java/lang/AbstractStringBuilder")) (ws_ yJ13_append cJ13_append 2 (Option.some (Jvm.ClassFile.FieldType.object "java/lang/AbstractStringBuilder"))) rm mc ms 1 := va_cwSU 1 hts (lw_app (by intro w hw; simp only [List.mem_cons, List.not_mem_nil, or_false] at hw; rcases hw with e | e | e | e | e <;> rw [e]; exact q715; exact q2359; exact q710; exact q716; exact q154) (lw_meth q717)) rfl hc hs (by decide +kernel) hR
def B_J14_append (x0 : Nat) (x1 : Int32) (w : GS) : Option (Nat × GS) :=
  bd1 (oK w x0 26 26) fun _ =>
  bd2 (B_J13_append x0 x1 w) fun a2 w1 =>
  some (x0, w1)
set_option maxRecDepth 100000 in
set_option maxHeartbeats 4000000 in
theorem met_B_J14_append (l : Launch) (E : gE) (A : Nat → Prop) (LC LS : Nat)  (x0 : Nat) (x1 : Int32) (w : GS) (res : Nat × GS) (h : B_J14_append x0 x1 w = some res) : Met l yJ14_append (ws_ yJ14_append cJ14_append 2 (Option.some (Jvm.ClassFile.FieldType.object "java/lang/StringBuilder"))) (gRoom 2 43 LC LS w) (gPc E A LC LS [.ref x0, .int x1] w) (gQr E A LC LS res.1 res.2) (LC - gZ w) (LS - gN w) A := by
  refine gMet (by decide) rfl (Nat.le_of_ble_eq_true rfl) ?_
  intro p e s m below meth c R S hr hlocks hin2 X Z hF hL H ls hw hl
  replace hl : lv_has ls 2 [(0, .ref x0), (1, .int x1)] := hl
  unfold B_J14_append at h
  refine lv_aload_n S.1 S.2.1 dJ14_append_0 rfl (lv_at hl 0 rfl) ?_
  refine lv_iload_n S.1 S.2.1 dJ14_append_1 rfl (lv_at hl 1 rfl) ?_
  obtain ⟨hrc, h⟩ := oK1 h
  refine gcUr (As := [.int x1]) (rest := []) S X Z hw (b := x0) h (fun u h1 => met_B_J13_append l E A LC LS x0 x1 w u h1) (X.1.1 25 _ rfl).2 (cb_J14_50 S.2.2.2.2 rfl rfl ⟨Nat.le_trans (Nat.le_of_ble_eq_true rfl : 1 + 1 ≤ 2) hF, Nat.le_trans (Nat.le_of_ble_eq_true rfl : 8 + (2 + 11) + 22 ≤ 43) hL⟩) (g_recv X hw (ci := 25) rfl (gcell_26 hrc)) rfl hl.1 rfl (lv_room (Nat.le_of_ble_eq_true rfl)) dJ14_append_2 (fun a2 w1 H locs h hw => ?_)
  refine lv_pop S.1 S.2.1 dJ14_append_5 rfl ?_
  refine lv_aload_n S.1 S.2.1 dJ14_append_6 rfl (lv_at hl 0 rfl) ?_
  exact g_aret S Z hr (Or.inl ⟨_, rfl⟩) hlocks hw (so2 h) dJ14_append_7
def B_J10_init_2N_p41 (x0 : Nat) (x3 : Int32) (w : GS) : Option GS :=
  bd1 (pR w x0 6 6 3 (none)) fun w6 =>
  bd1 (pR w6 x0 6 6 0 (none)) fun w7 =>
  if x3 = 0 then
    bd1 (pR w7 x0 6 6 2 (none)) fun w9 =>
    some w9
  else
    some w7
def B_J10_init_2N (x0 : Nat) (x3 : Int32) (x4 : Int32) (w : GS) : Option GS :=
  bd1 (pR w x0 6 6 0 (some x0)) fun w1 =>
  bd1 (pR w1 x0 6 6 1 (gT w1 1)) fun w2 =>
  bd1 (pR w2 x0 6 6 2 (gT w2 2)) fun w3 =>
  if x4 = 0 then
    bd1 (pR w3 x0 6 6 1 (none)) fun w5 =>
    B_J10_init_2N_p41 x0 x3 w5
  else
    none
set_option maxRecDepth 100000 in
set_option maxHeartbeats 4000000 in
theorem wk_B_J10_init_2N_p41 {p : Program} {l : Launch} {e : Env} {R : Room} {s : State} {m : MethodId} {args : Array Value} {below : List Frame} {meth : Method} {c : Code} {E : gE} {A : Nat → Prop} {LC LS : Nat} (S : CallFix p m c cJ10_init_2 5 s args lw_all RJ10) (X : gCtx E A s) (Z : gRm R s LC LS) (hF : 1 ≤ R.frames) (hL : 20 ≤ R.locals) (hr : meth.sig.returnType = (Option.none : Option Jvm.ClassFile.FieldType)) (hlocks : meth.locks = false) (hin2 : meth.name = "<init>") {res : GS}  : ∀ (x0 : Nat) (x3 : Int32) (w : GS) (H : Heap) (locs : List Loc) (ls : Array Slot), B_J10_init_2N_p41 x0 x3 w = some res → gH E A LC LS s w H locs → lv_has ls 5 [(0, .ref x0), (1, .null), (2, .null), (3, .int x3)] → W p l e R s m args below meth c H locs (H.size - s.heap.size) (tot H - tot s.heap) (MQ below (gQv E A LC LS res) args s R.cells R.slots A) (F0 m 41 ls []) := by
  intro x0 x3 w H locs ls h hw hl
  unfold B_J10_init_2N_p41 at h
  refine lv_aload_n S.1 S.2.1 dJ10_init_2_41 rfl (lv_at hl 0 rfl) ?_
  refine lv_aload_nN S.1 S.2.1 dJ10_init_2_42 rfl (lv_at hl 1 rfl) ?_
  refine gpJ10_31 (v := none) S X hw dJ10_init_2_43 h (fun w6 H locs h hw => ?_)
  refine lv_aload_n S.1 S.2.1 dJ10_init_2_46 rfl (lv_at hl 0 rfl) ?_
  refine lv_aload_nN S.1 S.2.1 dJ10_init_2_47 rfl (lv_at hl 2 rfl) ?_
  refine gpJ10_7 (v := none) S X hw dJ10_init_2_48 h (fun w7 H locs h hw => ?_)
  refine lv_iload_n S.1 S.2.1 dJ10_init_2_51 rfl (lv_at hl 3 rfl) ?_
  refine lv_if_ne (tgt := 60) S.1 S.2.1 dJ10_init_2_52 rfl (fun c8 => ?_) (fun c8 => ?_)
  · replace h := if_f c8 h
    exact g_vret S Z hr hlocks hw (so1 h) dJ10_init_2_60
  · replace h := if_t c8 h
    refine lv_aload_n S.1 S.2.1 dJ10_init_2_55 rfl (lv_at hl 0 rfl) ?_
    refine lv_null S.1 S.2.1 dJ10_init_2_56 ?_
    refine gpJ10_24 (v := none) S X hw dJ10_init_2_57 h (fun w9 H locs h hw => ?_)
    exact g_vret S Z hr hlocks hw (so1 h) dJ10_init_2_60
set_option maxRecDepth 100000 in
set_option maxHeartbeats 4000000 in
theorem met_B_J10_init_2N (l : Launch) (E : gE) (A : Nat → Prop) (LC LS : Nat)  (x0 : Nat) (x3 : Int32) (x4 : Int32) (w : GS) (res : GS) (h : B_J10_init_2N x0 x3 x4 w = some res) : Met l yJ10_init_2 (ws_ yJ10_init_2 cJ10_init_2 5 (Option.none : Option Jvm.ClassFile.FieldType)) (gRoom 1 20 LC LS w) (gPc E A LC LS [.ref x0, .null, .null, .int x3, .int x4] w) (gQv E A LC LS res) (LC - gZ w) (LS - gN w) A := by
  refine gMet (by decide) rfl (Nat.le_of_ble_eq_true rfl) ?_
  intro p e s m below meth c R S hr hlocks hin2 X Z hF hL H ls hw hl
  replace hl : lv_has ls 5 [(0, .ref x0), (1, .null), (2, .null), (3, .int x3), (4, .int x4)] := hl
  unfold B_J10_init_2N at h
  replace hin2 : meth.name = "<init>" := hin2
  refine lv_aload_n S.1 S.2.1 dJ10_init_2_0 rfl (lv_at hl 0 rfl) ?_
  refine W.objInit S.1 S.2.1 S.2.2.2.1 (S.2.2.2.2 _ q623) (S.2.2.2.2 _ q186) (S.2.2.2.2 _ q187) rfl (by rw [S.2.2.1]; exact hl.1) rfl dJ10_init_2_1 (Nat.le_trans (Nat.le_of_ble_eq_true rfl) hF) (Nat.le_trans (Nat.add_le_add_right (lv_room (st := []) (Nat.le_of_ble_eq_true rfl)) 12) (Nat.le_trans (Nat.le_of_ble_eq_true rfl) hL)) ?_
  refine W.eq (g2 := F0 m 4 ls []) rfl ?_
  refine lv_aload_n S.1 S.2.1 dJ10_init_2_4 rfl (lv_at hl 0 rfl) ?_
  refine lv_aload_n S.1 S.2.1 dJ10_init_2_5 rfl (lv_at hl 0 rfl) ?_
  refine gpJ10_7 (v := some x0) S X hw dJ10_init_2_6 h (fun w1 H locs h hw => ?_)
  refine lv_aload_n S.1 S.2.1 dJ10_init_2_9 rfl (lv_at hl 0 rfl) ?_
  refine gsJ10_13 S X hw dJ10_init_2_10 ?_
  refine gpJ10_17 (v := gT w1 1) S X hw dJ10_init_2_13 h (fun w2 H locs h hw => ?_)
  refine lv_aload_n S.1 S.2.1 dJ10_init_2_16 rfl (lv_at hl 0 rfl) ?_
  refine gsJ10_20 S X hw dJ10_init_2_17 ?_
  refine gpJ10_24 (v := gT w2 2) S X hw dJ10_init_2_20 h (fun w3 H locs h hw => ?_)
  refine lv_iload S.1 S.2.1 dJ10_init_2_23 (lv_at hl 4 rfl) ?_
  refine lv_if_eq (tgt := 36) S.1 S.2.1 dJ10_init_2_25 rfl (fun c4 => ?_) (fun c4 => ?_)
  · replace h := if_t c4 h
    refine lv_aload_n S.1 S.2.1 dJ10_init_2_36 rfl (lv_at hl 0 rfl) ?_
    refine lv_null S.1 S.2.1 dJ10_init_2_37 ?_
    refine gpJ10_17 (v := none) S X hw dJ10_init_2_38 h (fun w5 H locs h hw => ?_)
    exact wk_B_J10_init_2N_p41 S X Z hF hL hr hlocks hin2 _ _ _ _ _ _ h hw (lv_sub hl [0, 1, 2, 3] rfl)
  · replace h := if_f c4 h
    refine lv_aload_n S.1 S.2.1 dJ10_init_2_28 rfl (lv_at hl 0 rfl) ?_
    cases h
