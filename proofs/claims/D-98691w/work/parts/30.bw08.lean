/-! walks over the plain heap, printed by gen/bgen.py -/
set_option maxRecDepth 100000
def B_X1_canMove (x0 : Nat) (x1 : Nat) (x2 : Int32) (x3 : Int32) (w : GS) : Option Int32 :=
  bd1 (oI w x1 4 4 7) fun v1 =>
  if (B_X1_isIn v1 x2) = 0 then
    bd1 (oK w x0 1 1) fun _ =>
    bd1 (B_X1_whoIn x0 x1 x3 w) fun r3 =>
    if 0 ≤ r3 then
      some (0 : Int32)
    else
      some (1 : Int32)
  else
    some (0 : Int32)
set_option maxRecDepth 100000 in
set_option maxHeartbeats 4000000 in
theorem met_B_X1_canMove (l : Launch) (E : gE) (A : Nat → Prop) (LC LS : Nat)  (x0 : Nat) (x1 : Nat) (x2 : Int32) (x3 : Int32) (w : GS) (res : Int32) (h : B_X1_canMove x0 x1 x2 x3 w = some res) : Met l yX1_canMove (ws_ yX1_canMove cX1_canMove 4 (Option.some Jvm.ClassFile.FieldType.boolean)) (gRoom 3 63 LC LS w) (gPc E A LC LS [.ref x0, .ref x1, .int x2, .int x3] w) (gQi E A LC LS res w) (LC - gZ w) (LS - gN w) A := by
  refine gMet (by decide) rfl (Nat.le_of_ble_eq_true rfl) ?_
  intro p e s m below meth c R S hr hlocks hin2 X Z hF hL H ls hw hl
  replace hl : lv_has ls 4 [(0, .ref x0), (1, .ref x1), (2, .int x2), (3, .int x3)] := hl
  unfold B_X1_canMove at h
  refine lv_aload_n S.1 S.2.1 dX1_canMove_0 rfl (lv_at hl 1 rfl) ?_
  refine ggX1_249 S X hw dX1_canMove_1 h (fun v1 h => ?_)
  refine lv_iload_n S.1 S.2.1 dX1_canMove_4 rfl (lv_at hl 2 rfl) ?_
  refine gcSti (As := [.int v1, .int x2]) (rest := []) S X Z hw (met_B_X1_isIn l E A LC LS v1 x2 w _ rfl) (cb_X1_252 S.2.2.2.2 rfl rfl ⟨Nat.le_trans (Nat.le_of_ble_eq_true rfl : 0 + 1 ≤ 3) hF, Nat.le_trans (Nat.le_of_ble_eq_true rfl : 8 + (2 + 11) + 0 ≤ 63) hL⟩) rfl hl.1 rfl (lv_room (Nat.le_of_ble_eq_true rfl)) dX1_canMove_5 (fun H locs hw => ?_)
  refine lv_if_ne (tgt := 24) S.1 S.2.1 dX1_canMove_8 rfl (fun c2 => ?_) (fun c2 => ?_)
  · replace h := if_f c2 h
    refine lv_iconst (v := 0) S.1 S.2.1 dX1_canMove_24 rfl ?_
    exact g_zret S Z hr hlocks hw rfl ⟨so1 h, rfl⟩ dX1_canMove_25
  · replace h := if_t c2 h
    refine lv_aload_n S.1 S.2.1 dX1_canMove_11 rfl (lv_at hl 0 rfl) ?_
    refine lv_aload_n S.1 S.2.1 dX1_canMove_12 rfl (lv_at hl 1 rfl) ?_
    refine lv_iload_n S.1 S.2.1 dX1_canMove_13 rfl (lv_at hl 3 rfl) ?_
    obtain ⟨hrc, h⟩ := oK1 h
    refine gcVri (As := [.ref x1, .int x3]) (rest := []) S X Z hw (b := x0) h (fun u h1 => met_B_X1_whoIn l E A LC LS x0 x1 x3 w u h1) (cb_X1_261 S.2.2.2.2 rfl rfl ⟨Nat.le_trans (Nat.le_of_ble_eq_true rfl : 2 + 1 ≤ 3) hF, Nat.le_trans (Nat.le_of_ble_eq_true rfl : 8 + (4 + 11) + 40 ≤ 63) hL⟩) (g_recv X hw (ci := 0) rfl (gcell_1 hrc)) rfl hl.1 rfl (lv_room (Nat.le_of_ble_eq_true rfl)) dX1_canMove_14 (fun r3 H locs h hw => ?_)
    refine lv_if_ge (tgt := 24) S.1 S.2.1 dX1_canMove_17 rfl (fun c4 => ?_) (fun c4 => ?_)
    · replace h := if_t c4 h
      refine lv_iconst (v := 0) S.1 S.2.1 dX1_canMove_24 rfl ?_
      exact g_zret S Z hr hlocks hw rfl ⟨so1 h, rfl⟩ dX1_canMove_25
    · replace h := if_f c4 h
      refine lv_iconst (v := 1) S.1 S.2.1 dX1_canMove_20 rfl ?_
      refine lv_goto (tgt := 25) S.1 S.2.1 dX1_canMove_21 rfl ?_
      exact g_zret S Z hr hlocks hw rfl ⟨so1 h, rfl⟩ dX1_canMove_25
theorem cb_X1_302 {R : Room} {s : State} {args : Array Value} {rm : Room} {mc ms : Nat} (hts : ∀ w ∈ lw_all, w.before args s = true) (hc : rm.cells = mc) (hs : rm.slots = ms) (hR : rm.frames + 1 ≤ R.frames ∧ 8 + (4 + 11) + rm.locals ≤ R.locals) : CallW R s args RX1 RX1 302 yX1_canMove cX1_canMove 4 (Option.some Jvm.ClassFile.FieldType.boolean) (ws_ yX1_canMove cX1_canMove 4 (Option.some Jvm.ClassFile.FieldType.boolean)) rm mc ms 3 := cwV 3 hts (lw_V q1479 q1481 qs46 q135 q1482) rfl hc hs (by decide +kernel) hR
def B_X1_move (x0 : Nat) (x1 : Int32) (x2 : Int32) (w : GS) : Option (Int32 × GS) :=
  bd1 (oK w x0 1 1) fun _ =>
  bd1 (B_X1_isTenant x0 x1 w) fun r1 =>
  if r1 = 0 then
    some ((0 : Int32), w)
  else
    bd1 (oK w x0 1 1) fun _ =>
    bd1 (B_X1_isRoom x0 x2 w) fun r3 =>
    if r3 = 0 then
      some ((0 : Int32), w)
    else
      bd1 (oRn w x0 1 1 4) fun a5 =>
      bd1 (oK w x0 1 1) fun _ =>
      bd1 (B_X1_canMove x0 a5 x1 x2 w) fun r6 =>
      if r6 = 0 then
        some ((0 : Int32), w)
      else
        bd1 (oK w x0 1 1) fun _ =>
        bd1 (B_X1_keeps x0 w) fun w8 =>
        bd1 (oRn w8 x0 1 1 4) fun a9 =>
        bd1 (oRn w8 a9 4 4 0) fun a10 =>
        bd1 (xI w8 a10 40 x1 x2) fun w11 =>
        some ((1 : Int32), w11)
set_option maxRecDepth 100000 in
set_option maxHeartbeats 4000000 in
theorem met_B_X1_move (l : Launch) (E : gE) (A : Nat → Prop) (LC LS : Nat)  (x0 : Nat) (x1 : Int32) (x2 : Int32) (w : GS) (res : Int32 × GS) (h : B_X1_move x0 x1 x2 w = some res) : Met l yX1_move (ws_ yX1_move cX1_move 3 (Option.some Jvm.ClassFile.FieldType.boolean)) (gRoom 4 86 LC LS w) (gPc E A LC LS [.ref x0, .int x1, .int x2] w) (gQi E A LC LS res.1 res.2) (LC - gZ w) (LS - gN w) A := by
  refine gMet (by decide) rfl (Nat.le_of_ble_eq_true rfl) ?_
  intro p e s m below meth c R S hr hlocks hin2 X Z hF hL H ls hw hl
  replace hl : lv_has ls 3 [(0, .ref x0), (1, .int x1), (2, .int x2)] := hl
  unfold B_X1_move at h
  refine lv_aload_n S.1 S.2.1 dX1_move_0 rfl (lv_at hl 0 rfl) ?_
  refine lv_iload_n S.1 S.2.1 dX1_move_1 rfl (lv_at hl 1 rfl) ?_
  obtain ⟨hrc, h⟩ := oK1 h
  refine gcVri (As := [.int x1]) (rest := []) S X Z hw (b := x0) h (fun u h1 => met_B_X1_isTenant l E A LC LS x0 x1 w u h1) (cb_X1_159 S.2.2.2.2 rfl rfl ⟨Nat.le_trans (Nat.le_of_ble_eq_true rfl : 2 + 1 ≤ 4) hF, Nat.le_trans (Nat.le_of_ble_eq_true rfl : 8 + (2 + 11) + 40 ≤ 86) hL⟩) (g_recv X hw (ci := 0) rfl (gcell_1 hrc)) rfl hl.1 rfl (lv_room (Nat.le_of_ble_eq_true rfl)) dX1_move_2 (fun r1 H locs h hw => ?_)
  refine lv_if_eq (tgt := 29) S.1 S.2.1 dX1_move_5 rfl (fun c2 => ?_) (fun c2 => ?_)
  · replace h := if_t c2 h
    refine lv_iconst (v := 0) S.1 S.2.1 dX1_move_29 rfl ?_
    exact g_zret S Z hr hlocks hw rfl (so2 h) dX1_move_30
  · replace h := if_f c2 h
    refine lv_aload_n S.1 S.2.1 dX1_move_8 rfl (lv_at hl 0 rfl) ?_
    refine lv_iload_n S.1 S.2.1 dX1_move_9 rfl (lv_at hl 2 rfl) ?_
    obtain ⟨hrc, h⟩ := oK1 h
    refine gcVri (As := [.int x2]) (rest := []) S X Z hw (b := x0) h (fun u h1 => met_B_X1_isRoom l E A LC LS x0 x2 w u h1) (cb_X1_255 S.2.2.2.2 rfl rfl ⟨Nat.le_trans (Nat.le_of_ble_eq_true rfl : 2 + 1 ≤ 4) hF, Nat.le_trans (Nat.le_of_ble_eq_true rfl : 8 + (2 + 11) + 40 ≤ 86) hL⟩) (g_recv X hw (ci := 0) rfl (gcell_1 hrc)) rfl hl.1 rfl (lv_room (Nat.le_of_ble_eq_true rfl)) dX1_move_10 (fun r3 H locs h hw => ?_)
    refine lv_if_eq (tgt := 29) S.1 S.2.1 dX1_move_13 rfl (fun c4 => ?_) (fun c4 => ?_)
    · replace h := if_t c4 h
      refine lv_iconst (v := 0) S.1 S.2.1 dX1_move_29 rfl ?_
      exact g_zret S Z hr hlocks hw rfl (so2 h) dX1_move_30
    · replace h := if_f c4 h
      refine lv_aload_n S.1 S.2.1 dX1_move_16 rfl (lv_at hl 0 rfl) ?_
      refine lv_aload_n S.1 S.2.1 dX1_move_17 rfl (lv_at hl 0 rfl) ?_
      refine ggX1_51 S X hw dX1_move_18 h (fun a5 h => ?_)
      refine lv_iload_n S.1 S.2.1 dX1_move_21 rfl (lv_at hl 1 rfl) ?_
      refine lv_iload_n S.1 S.2.1 dX1_move_22 rfl (lv_at hl 2 rfl) ?_
      obtain ⟨hrc, h⟩ := oK1 h
      refine gcVri (As := [.ref a5, .int x1, .int x2]) (rest := []) S X Z hw (b := x0) h (fun u h1 => met_B_X1_canMove l E A LC LS x0 a5 x1 x2 w u h1) (cb_X1_302 S.2.2.2.2 rfl rfl ⟨Nat.le_trans (Nat.le_of_ble_eq_true rfl : 3 + 1 ≤ 4) hF, Nat.le_trans (Nat.le_of_ble_eq_true rfl : 8 + (4 + 11) + 63 ≤ 86) hL⟩) (g_recv X hw (ci := 0) rfl (gcell_1 hrc)) rfl hl.1 rfl (lv_room (Nat.le_of_ble_eq_true rfl)) dX1_move_23 (fun r6 H locs h hw => ?_)
      refine lv_if_ne (tgt := 31) S.1 S.2.1 dX1_move_26 rfl (fun c7 => ?_) (fun c7 => ?_)
      · replace h := if_f c7 h
        refine lv_aload_n S.1 S.2.1 dX1_move_31 rfl (lv_at hl 0 rfl) ?_
        obtain ⟨hrc, h⟩ := oK1 h
        refine gcVv (As := []) (rest := []) S X Z hw (b := x0) h (fun u h1 => met_B_X1_keeps l E A LC LS x0 w u h1) (cb_X1_283 S.2.2.2.2 rfl rfl ⟨Nat.le_trans (Nat.le_of_ble_eq_true rfl : 2 + 1 ≤ 4) hF, Nat.le_trans (Nat.le_of_ble_eq_true rfl : 8 + (3 + 11) + 43 ≤ 86) hL⟩) (g_recv X hw (ci := 0) rfl (gcell_1 hrc)) rfl hl.1 rfl (lv_room (Nat.le_of_ble_eq_true rfl)) dX1_move_32 (fun w8 H locs h hw => ?_)
        refine lv_aload_n S.1 S.2.1 dX1_move_35 rfl (lv_at hl 0 rfl) ?_
        refine ggX1_51 S X hw dX1_move_36 h (fun a9 h => ?_)
        refine ggX1_176 S X hw dX1_move_39 h (fun a10 h => ?_)
        refine lv_iload_n S.1 S.2.1 dX1_move_42 rfl (lv_at hl 1 rfl) ?_
        refine lv_iload_n S.1 S.2.1 dX1_move_43 rfl (lv_at hl 2 rfl) ?_
        refine gast40 S X hw dX1_move_44 h (fun w11 H locs h hw => ?_)
        refine lv_iconst (v := 1) S.1 S.2.1 dX1_move_45 rfl ?_
        exact g_zret S Z hr hlocks hw rfl (so2 h) dX1_move_46
      · replace h := if_t c7 h
        refine lv_iconst (v := 0) S.1 S.2.1 dX1_move_29 rfl ?_
        exact g_zret S Z hr hlocks hw rfl (so2 h) dX1_move_30
def B_X1_undo (x0 : Nat) (w : GS) : Option (Int32 × GS) :=
  bd1 (oI w x0 1 1 9) fun v1 =>
  if v1 = 0 then
    some ((0 : Int32), w)
  else
    bd1 (oRn w x0 1 1 4) fun a3 =>
    bd1 (oRn w x0 1 1 8) fun a4 =>
    bd1 (oI w x0 1 1 9) fun v5 =>
    bd1 (pI w x0 1 1 9 (v5 - (1 : Int32))) fun w6 =>
    bd1 (aRn w6 a4 45 (v5 - (1 : Int32))) fun a7 =>
    bd1 (oK w6 a3 4 4) fun _ =>
    bd1 (B_X4_be a3 a7 w6) fun w8 =>
    some ((1 : Int32), w8)
set_option maxRecDepth 100000 in
set_option maxHeartbeats 4000000 in
theorem met_B_X1_undo (l : Launch) (E : gE) (A : Nat → Prop) (LC LS : Nat)  (x0 : Nat) (w : GS) (res : Int32 × GS) (h : B_X1_undo x0 w = some res) : Met l yX1_undo (ws_ yX1_undo cX1_undo 1 (Option.some Jvm.ClassFile.FieldType.boolean)) (gRoom 2 43 LC LS w) (gPc E A LC LS [.ref x0] w) (gQi E A LC LS res.1 res.2) (LC - gZ w) (LS - gN w) A := by
  refine gMet (by decide) rfl (Nat.le_of_ble_eq_true rfl) ?_
  intro p e s m below meth c R S hr hlocks hin2 X Z hF hL H ls hw hl
  replace hl : lv_has ls 1 [(0, .ref x0)] := hl
  unfold B_X1_undo at h
  refine lv_aload_n S.1 S.2.1 dX1_undo_0 rfl (lv_at hl 0 rfl) ?_
  refine ggX1_126 S X hw dX1_undo_1 h (fun v1 h => ?_)
  refine lv_if_ne (tgt := 9) S.1 S.2.1 dX1_undo_4 rfl (fun c2 => ?_) (fun c2 => ?_)
  · replace h := if_f c2 h
    refine lv_aload_n S.1 S.2.1 dX1_undo_9 rfl (lv_at hl 0 rfl) ?_
    refine ggX1_51 S X hw dX1_undo_10 h (fun a3 h => ?_)
    refine lv_aload_n S.1 S.2.1 dX1_undo_13 rfl (lv_at hl 0 rfl) ?_
    refine ggX1_62 S X hw dX1_undo_14 h (fun a4 h => ?_)
    refine lv_aload_n S.1 S.2.1 dX1_undo_17 rfl (lv_at hl 0 rfl) ?_
    refine lv_dup S.1 S.2.1 dX1_undo_18 rfl ?_
    refine ggX1_126 S X hw dX1_undo_19 h (fun v5 h => ?_)
    refine lv_iconst (v := 1) S.1 S.2.1 dX1_undo_22 rfl ?_
    refine lv_isub S.1 S.2.1 dX1_undo_23 ?_
    refine lv_dup_x1 S.1 S.2.1 dX1_undo_24 rfl rfl ?_
    refine gpX1_126 S X hw dX1_undo_25 h (fun w6 H locs h hw => ?_)
    refine gald45 S X hw dX1_undo_28 h (fun a7 h => ?_)
    obtain ⟨hrc, h⟩ := oK1 h
    refine gcVv (As := [.ref a7]) (rest := []) S X Z hw (b := a3) h (fun u h1 => met_B_X4_be l E A LC LS a3 a7 w6 u h1) (cb_X1_276 S.2.2.2.2 rfl rfl ⟨Nat.le_trans (Nat.le_of_ble_eq_true rfl : 1 + 1 ≤ 2) hF, Nat.le_trans (Nat.le_of_ble_eq_true rfl : 8 + (2 + 11) + 22 ≤ 43) hL⟩) (g_recv X hw (ci := 3) rfl (gcell_4 hrc)) rfl hl.1 rfl (lv_room (Nat.le_of_ble_eq_true rfl)) dX1_undo_29 (fun w8 H locs h hw => ?_)
    refine lv_iconst (v := 1) S.1 S.2.1 dX1_undo_32 rfl ?_
    exact g_zret S Z hr hlocks hw rfl (so2 h) dX1_undo_33
  · replace h := if_t c2 h
    refine lv_iconst (v := 0) S.1 S.2.1 dX1_undo_7 rfl ?_
    exact g_zret S Z hr hlocks hw rfl (so2 h) dX1_undo_8
theorem cb_X4_47 {R : Room} {s : State} {args : Array Value} {rm : Room} {mc ms : Nat} (hts : ∀ w ∈ lw_all, w.before args s = true) (hc : rm.cells = mc) (hs : rm.slots = ms) (hR : rm.frames + 1 ≤ R.frames ∧ 8 + (1 + 11) + rm.locals ≤ R.locals) : CallW R s args RX4 RJ2 47 yJ2_size cJ2_size 1 (Option.some Jvm.ClassFile.FieldType.int) (ws_ yJ2_size cJ2_size 1 (Option.some Jvm.ClassFile.FieldType.int)) rm mc ms 0 := cwV 0 hts (lw_V q349 q350 q351 q140 q352) rfl hc hs (by decide +kernel) hR
theorem cb_X4_53 {R : Room} {s : State} {args : Array Value} {rm : Room} {mc ms : Nat} (hts : ∀ w ∈ lw_all, w.before args s = true) (hc : rm.cells = mc) (hs : rm.slots = ms) (hR : rm.frames + 1 ≤ R.frames ∧ 8 + (2 + 11) + rm.locals ≤ R.locals) : CallW R s args RX4 RJ2 53 yJ2_get cJ2_get 2 (Option.some (Jvm.ClassFile.FieldType.object "java/lang/Object")) (ws_ yJ2_get cJ2_get 2 (Option.some (Jvm.ClassFile.FieldType.object "java/lang/Object"))) rm mc ms 1 := cwV 1 hts (lw_V q353 q354 q355 q140 q356) rfl hc hs (by decide +kernel) hR
def B_X4_begin_p80 (k2 : Nat → Nat → Int32 → GS → Option GS) (x0 : Nat) (x1 : Nat) (x2 : Int32) (t0 : Int32) (t1 : Int32) (t2 : Nat) (w : GS) : Option GS :=
  bd1 (xI w t2 40 t1 t0) fun w12 =>
  bd1 (oRn w12 x0 4 4 1) fun a13 =>
  bd1 (xI w12 a13 40 x2 (0 : Int32)) fun w14 =>
  bd1 (oRn w14 x0 4 4 2) fun a15 =>
  bd1 (xI w14 a15 40 x2 (0 : Int32)) fun w16 =>
  bd1 (oRn w16 x0 4 4 3) fun a17 =>
  bd1 (xI w16 a17 40 x2 (0 : Int32)) fun w18 =>
  bd1 (oRn w18 x0 4 4 4) fun a19 =>
  bd1 (xI w18 a19 40 x2 (0 : Int32)) fun w20 =>
  k2 x0 x1 (x2 + (1 : Int32)) w20
def B_X4_begin_p52 (k2 : Nat → Nat → Int32 → GS → Option GS) (x0 : Nat) (x1 : Nat) (x2 : Int32) (x3 : Int32) (t0 : Int32) (t1 : Int32) (t2 : Nat) (w : GS) : Option GS :=
  bd1 (xI w t2 40 t1 t0) fun w9 =>
  bd1 (oRn w9 x0 4 4 5) fun a10 =>
  if x3 = 0 then
    B_X4_begin_p80 k2 x0 x1 x2 (0 : Int32) x2 a10 w9
  else
    bd1 (oRn w9 x1 3 3 1) fun a21 =>
    bd1 (oK w9 a21 23 23) fun _ =>
    bd1 (B_J2_get a21 x2 w9) fun a22 =>
    bd1 (oK w9 a22 8 11) fun _ =>
    bd1 (oI w9 a22 8 11 3) fun v23 =>
    B_X4_begin_p80 k2 x0 x1 x2 v23 x2 a10 w9
def B_X4_begin_p24 (k2 : Nat → Nat → Int32 → GS → Option GS) (x0 : Nat) (x1 : Nat) (x2 : Int32) (t0 : Int32) (w : GS) : Option GS :=
  bd1 (oRn w x0 4 4 0) fun a7 =>
  if t0 = 0 then
    B_X4_begin_p52 k2 x0 x1 x2 t0 (-1 : Int32) x2 a7 w
  else
    bd1 (oRn w x1 3 3 1) fun a24 =>
    bd1 (oK w a24 23 23) fun _ =>
    bd1 (B_J2_get a24 x2 w) fun a25 =>
    bd1 (oK w a25 8 11) fun _ =>
    bd1 (oI w a25 8 11 4) fun v26 =>
    B_X4_begin_p52 k2 x0 x1 x2 t0 v26 x2 a7 w
def B_X4_begin_p2 : Nat → Nat → Nat → Int32 → GS → Option GS
  | 0, _, _, _, _ => none
  | n + 1, x0, x1, x2, w =>
    if (6 : Int32) ≤ x2 then
      bd1 (pI w x0 4 4 6 (0 : Int32)) fun w2 =>
      bd1 (pI w2 x0 4 4 7 (0 : Int32)) fun w3 =>
      some w3
    else
      bd1 (oRn w x1 3 3 1) fun a4 =>
      bd1 (oK w a4 23 23) fun _ =>
      bd1 (B_J2_size a4 w) fun r5 =>
      if r5 ≤ x2 then
        B_X4_begin_p24 (B_X4_begin_p2 n) x0 x1 x2 (0 : Int32) w
      else
        B_X4_begin_p24 (B_X4_begin_p2 n) x0 x1 x2 (1 : Int32) w
def B_X4_begin (x0 : Nat) (x1 : Nat) (w : GS) : Option GS :=
  B_X4_begin_p2 FU x0 x1 (0 : Int32) w
set_option maxRecDepth 100000 in
set_option maxHeartbeats 4000000 in
theorem wk_B_X4_begin_p80 {p : Program} {l : Launch} {e : Env} {R : Room} {s : State} {m : MethodId} {args : Array Value} {below : List Frame} {meth : Method} {c : Code} {E : gE} {A : Nat → Prop} {LC LS : Nat} (S : CallFix p m c cX4_begin 4 s args lw_all RX4) (X : gCtx E A s) (Z : gRm R s LC LS) (hF : 3 ≤ R.frames) (hL : 64 ≤ R.locals) (hr : meth.sig.returnType = (Option.none : Option Jvm.ClassFile.FieldType)) (hlocks : meth.locks = false) {res : GS}  {k2 : Nat → Nat → Int32 → GS → Option GS} (hk2 : ∀ (x0 : Nat) (x1 : Nat) (x2 : Int32) (w : GS) (H : Heap) (locs : List Loc) (ls : Array Slot), k2 x0 x1 x2 w = some res → gH E A LC LS s w H locs → lv_has ls 4 [(0, .ref x0), (1, .ref x1), (2, .int x2)] → W p l e R s m args below meth c H locs (H.size - s.heap.size) (tot H - tot s.heap) (MQ below (gQv E A LC LS res) args s R.cells R.slots A) (F0 m 2 ls [])) : ∀ (x0 : Nat) (x1 : Nat) (x2 : Int32) (t0 : Int32) (t1 : Int32) (t2 : Nat) (w : GS) (H : Heap) (locs : List Loc) (ls : Array Slot), B_X4_begin_p80 k2 x0 x1 x2 t0 t1 t2 w = some res → gH E A LC LS s w H locs → lv_has ls 4 [(0, .ref x0), (1, .ref x1), (2, .int x2)] → W p l e R s m args below meth c H locs (H.size - s.heap.size) (tot H - tot s.heap) (MQ below (gQv E A LC LS res) args s R.cells R.slots A) (F0 m 80 ls [.int t0, .int t1, .ref t2]) := by
  intro x0 x1 x2 t0 t1 t2 w H locs ls h hw hl
  unfold B_X4_begin_p80 at h
  refine gast40 S X hw dX4_begin_80 h (fun w12 H locs h hw => ?_)
  refine lv_aload_n S.1 S.2.1 dX4_begin_81 rfl (lv_at hl 0 rfl) ?_
  refine ggX4_15 S X hw dX4_begin_82 h (fun a13 h => ?_)
  refine lv_iload_n S.1 S.2.1 dX4_begin_85 rfl (lv_at hl 2 rfl) ?_
  refine lv_iconst (v := 0) S.1 S.2.1 dX4_begin_86 rfl ?_
  refine gast40 S X hw dX4_begin_87 h (fun w14 H locs h hw => ?_)
  refine lv_aload_n S.1 S.2.1 dX4_begin_88 rfl (lv_at hl 0 rfl) ?_
  refine ggX4_18 S X hw dX4_begin_89 h (fun a15 h => ?_)
  refine lv_iload_n S.1 S.2.1 dX4_begin_92 rfl (lv_at hl 2 rfl) ?_
  refine lv_iconst (v := 0) S.1 S.2.1 dX4_begin_93 rfl ?_
  refine gast40 S X hw dX4_begin_94 h (fun w16 H locs h hw => ?_)
  refine lv_aload_n S.1 S.2.1 dX4_begin_95 rfl (lv_at hl 0 rfl) ?_
  refine ggX4_21 S X hw dX4_begin_96 h (fun a17 h => ?_)
  refine lv_iload_n S.1 S.2.1 dX4_begin_99 rfl (lv_at hl 2 rfl) ?_
  refine lv_iconst (v := 0) S.1 S.2.1 dX4_begin_100 rfl ?_
  refine gast40 S X hw dX4_begin_101 h (fun w18 H locs h hw => ?_)
  refine lv_aload_n S.1 S.2.1 dX4_begin_102 rfl (lv_at hl 0 rfl) ?_
  refine ggX4_24 S X hw dX4_begin_103 h (fun a19 h => ?_)
  refine lv_iload_n S.1 S.2.1 dX4_begin_106 rfl (lv_at hl 2 rfl) ?_
  refine lv_iconst (v := 0) S.1 S.2.1 dX4_begin_107 rfl ?_
  refine gast40 S X hw dX4_begin_108 h (fun w20 H locs h hw => ?_)
  refine lv_iinc (v := x2 + (1 : Int32)) (lv' := [(2, .int (x2 + (1 : Int32))), (0, .ref x0), (1, .ref x1)]) S.1 S.2.1 dX4_begin_109 hl (k := 2) rfl rfl (by decide) rfl (fun ls hl => ?_)
  refine lv_goto (tgt := 2) S.1 S.2.1 dX4_begin_112 rfl ?_
  exact hk2 _ _ _ _ _ _ _ h hw (lv_sub hl [1, 2, 0] rfl)
set_option maxRecDepth 100000 in
set_option maxHeartbeats 4000000 in
theorem wk_B_X4_begin_p52 {p : Program} {l : Launch} {e : Env} {R : Room} {s : State} {m : MethodId} {args : Array Value} {below : List Frame} {meth : Method} {c : Code} {E : gE} {A : Nat → Prop} {LC LS : Nat} (S : CallFix p m c cX4_begin 4 s args lw_all RX4) (X : gCtx E A s) (Z : gRm R s LC LS) (hF : 3 ≤ R.frames) (hL : 64 ≤ R.locals) (hr : meth.sig.returnType = (Option.none : Option Jvm.ClassFile.FieldType)) (hlocks : meth.locks = false) {res : GS}  {k2 : Nat → Nat → Int32 → GS → Option GS} (hk2 : ∀ (x0 : Nat) (x1 : Nat) (x2 : Int32) (w : GS) (H : Heap) (locs : List Loc) (ls : Array Slot), k2 x0 x1 x2 w = some res → gH E A LC LS s w H locs → lv_has ls 4 [(0, .ref x0), (1, .ref x1), (2, .int x2)] → W p l e R s m args below meth c H locs (H.size - s.heap.size) (tot H - tot s.heap) (MQ below (gQv E A LC LS res) args s R.cells R.slots A) (F0 m 2 ls [])) : ∀ (x0 : Nat) (x1 : Nat) (x2 : Int32) (x3 : Int32) (t0 : Int32) (t1 : Int32) (t2 : Nat) (w : GS) (H : Heap) (locs : List Loc) (ls : Array Slot), B_X4_begin_p52 k2 x0 x1 x2 x3 t0 t1 t2 w = some res → gH E A LC LS s w H locs → lv_has ls 4 [(0, .ref x0), (1, .ref x1), (2, .int x2), (3, .int x3)] → W p l e R s m args below meth c H locs (H.size - s.heap.size) (tot H - tot s.heap) (MQ below (gQv E A LC LS res) args s R.cells R.slots A) (F0 m 52 ls [.int t0, .int t1, .ref t2]) := by
  intro x0 x1 x2 x3 t0 t1 t2 w H locs ls h hw hl
  unfold B_X4_begin_p52 at h
  refine gast40 S X hw dX4_begin_52 h (fun w9 H locs h hw => ?_)
  refine lv_aload_n S.1 S.2.1 dX4_begin_53 rfl (lv_at hl 0 rfl) ?_
  refine ggX4_27 S X hw dX4_begin_54 h (fun a10 h => ?_)
  refine lv_iload_n S.1 S.2.1 dX4_begin_57 rfl (lv_at hl 2 rfl) ?_
  refine lv_iload_n S.1 S.2.1 dX4_begin_58 rfl (lv_at hl 3 rfl) ?_
  refine lv_if_eq (tgt := 79) S.1 S.2.1 dX4_begin_59 rfl (fun c11 => ?_) (fun c11 => ?_)
  · replace h := if_t c11 h
    refine lv_iconst (v := 0) S.1 S.2.1 dX4_begin_79 rfl ?_
    exact wk_B_X4_begin_p80 S X Z hF hL hr hlocks  hk2 _ _ _ _ _ _ _ _ _ _ h hw (lv_sub hl [0, 1, 2] rfl)
  · replace h := if_f c11 h
    refine lv_aload_n S.1 S.2.1 dX4_begin_62 rfl (lv_at hl 1 rfl) ?_
    refine ggX4_41 S X hw dX4_begin_63 h (fun a21 h => ?_)
    refine lv_iload_n S.1 S.2.1 dX4_begin_66 rfl (lv_at hl 2 rfl) ?_
    obtain ⟨hrc, h⟩ := oK1 h
    refine gcVrr (As := [.int x2]) (rest := [.int x2, .ref a10]) S X Z hw (b := a21) h (fun u h1 => met_B_J2_get l E A LC LS a21 x2 w9 u h1) (cb_X4_53 S.2.2.2.2 rfl rfl ⟨Nat.le_trans (Nat.le_of_ble_eq_true rfl : 2 + 1 ≤ 3) hF, Nat.le_trans (Nat.le_of_ble_eq_true rfl : 8 + (2 + 11) + 43 ≤ 64) hL⟩) (g_recv X hw (ci := 22) rfl (gcell_23 hrc)) rfl hl.1 rfl (lv_room (Nat.le_of_ble_eq_true rfl)) dX4_begin_67 (fun a22 H locs h hw => ?_)
    refine gckX4_57 S X hw dX4_begin_70 h (fun _ h => ?_)
    refine ggX4_61 S X hw dX4_begin_73 h (fun v23 h => ?_)
    refine lv_goto (tgt := 80) S.1 S.2.1 dX4_begin_76 rfl ?_
    exact wk_B_X4_begin_p80 S X Z hF hL hr hlocks  hk2 _ _ _ _ _ _ _ _ _ _ h hw (lv_sub hl [0, 1, 2] rfl)
set_option maxRecDepth 100000 in
set_option maxHeartbeats 4000000 in
theorem wk_B_X4_begin_p24 {p : Program} {l : Launch} {e : Env} {R : Room} {s : State} {m : MethodId} {args : Array Value} {below : List Frame} {meth : Method} {c : Code} {E : gE} {A : Nat → Prop} {LC LS : Nat} (S : CallFix p m c cX4_begin 4 s args lw_all RX4) (X : gCtx E A s) (Z : gRm R s LC LS) (hF : 3 ≤ R.frames) (hL : 64 ≤ R.locals) (hr : meth.sig.returnType = (Option.none : Option Jvm.ClassFile.FieldType)) (hlocks : meth.locks = false) {res : GS}  {k2 : Nat → Nat → Int32 → GS → Option GS} (hk2 : ∀ (x0 : Nat) (x1 : Nat) (x2 : Int32) (w : GS) (H : Heap) (locs : List Loc) (ls : Array Slot), k2 x0 x1 x2 w = some res → gH E A LC LS s w H locs → lv_has ls 4 [(0, .ref x0), (1, .ref x1), (2, .int x2)] → W p l e R s m args below meth c H locs (H.size - s.heap.size) (tot H - tot s.heap) (MQ below (gQv E A LC LS res) args s R.cells R.slots A) (F0 m 2 ls [])) : ∀ (x0 : Nat) (x1 : Nat) (x2 : Int32) (t0 : Int32) (w : GS) (H : Heap) (locs : List Loc) (ls : Array Slot), B_X4_begin_p24 k2 x0 x1 x2 t0 w = some res → gH E A LC LS s w H locs → lv_has ls 4 [(0, .ref x0), (1, .ref x1), (2, .int x2)] → W p l e R s m args below meth c H locs (H.size - s.heap.size) (tot H - tot s.heap) (MQ below (gQv E A LC LS res) args s R.cells R.slots A) (F0 m 24 ls [.int t0]) := by
  intro x0 x1 x2 t0 w H locs ls h hw hl
  unfold B_X4_begin_p24 at h
  refine lv_istore_n (lv' := [(3, .int t0), (0, .ref x0), (1, .ref x1), (2, .int x2)]) S.1 S.2.1 dX4_begin_24 rfl hl (by decide) rfl (fun ls hl => ?_)
  refine lv_aload_n S.1 S.2.1 dX4_begin_25 rfl (lv_at hl 1 rfl) ?_
  refine ggX4_9 S X hw dX4_begin_26 h (fun a7 h => ?_)
  refine lv_iload_n S.1 S.2.1 dX4_begin_29 rfl (lv_at hl 3 rfl) ?_
  refine lv_iload_n S.1 S.2.1 dX4_begin_30 rfl (lv_at hl 0 rfl) ?_
  refine lv_if_eq (tgt := 51) S.1 S.2.1 dX4_begin_31 rfl (fun c8 => ?_) (fun c8 => ?_)
  · replace h := if_t c8 h
    refine lv_iconst (v := -1) S.1 S.2.1 dX4_begin_51 rfl ?_
    exact wk_B_X4_begin_p52 S X Z hF hL hr hlocks  hk2 _ _ _ _ _ _ _ _ _ _ _ h hw (lv_sub hl [1, 2, 3, 0] rfl)
  · replace h := if_f c8 h
    refine lv_aload_n S.1 S.2.1 dX4_begin_34 rfl (lv_at hl 2 rfl) ?_
    refine ggX4_41 S X hw dX4_begin_35 h (fun a24 h => ?_)
    refine lv_iload_n S.1 S.2.1 dX4_begin_38 rfl (lv_at hl 3 rfl) ?_
    obtain ⟨hrc, h⟩ := oK1 h
    refine gcVrr (As := [.int x2]) (rest := [.int x2, .ref a7]) S X Z hw (b := a24) h (fun u h1 => met_B_J2_get l E A LC LS a24 x2 w u h1) (cb_X4_53 S.2.2.2.2 rfl rfl ⟨Nat.le_trans (Nat.le_of_ble_eq_true rfl : 2 + 1 ≤ 3) hF, Nat.le_trans (Nat.le_of_ble_eq_true rfl : 8 + (2 + 11) + 43 ≤ 64) hL⟩) (g_recv X hw (ci := 22) rfl (gcell_23 hrc)) rfl hl.1 rfl (lv_room (Nat.le_of_ble_eq_true rfl)) dX4_begin_39 (fun a25 H locs h hw => ?_)
    refine gckX4_57 S X hw dX4_begin_42 h (fun _ h => ?_)
    refine ggX4_59 S X hw dX4_begin_45 h (fun v26 h => ?_)
    refine lv_goto (tgt := 52) S.1 S.2.1 dX4_begin_48 rfl ?_
    exact wk_B_X4_begin_p52 S X Z hF hL hr hlocks  hk2 _ _ _ _ _ _ _ _ _ _ _ h hw (lv_sub hl [1, 2, 3, 0] rfl)
set_option maxRecDepth 100000 in
set_option maxHeartbeats 4000000 in
theorem wk_B_X4_begin_p2 {p : Program} {l : Launch} {e : Env} {R : Room} {s : State} {m : MethodId} {args : Array Value} {below : List Frame} {meth : Method} {c : Code} {E : gE} {A : Nat → Prop} {LC LS : Nat} (S : CallFix p m c cX4_begin 4 s args lw_all RX4) (X : gCtx E A s) (Z : gRm R s LC LS) (hF : 3 ≤ R.frames) (hL : 64 ≤ R.locals) (hr : meth.sig.returnType = (Option.none : Option Jvm.ClassFile.FieldType)) (hlocks : meth.locks = false) {res : GS}  : ∀ n : Nat, ∀ (x0 : Nat) (x1 : Nat) (x2 : Int32) (w : GS) (H : Heap) (locs : List Loc) (ls : Array Slot), B_X4_begin_p2 n x0 x1 x2 w = some res → gH E A LC LS s w H locs → lv_has ls 4 [(0, .ref x0), (1, .ref x1), (2, .int x2)] → W p l e R s m args below meth c H locs (H.size - s.heap.size) (tot H - tot s.heap) (MQ below (gQv E A LC LS res) args s R.cells R.slots A) (F0 m 2 ls []) := by
  intro n
  induction n with
  | zero => intro x0 x1 x2 w H locs ls h; cases (show (none : Option GS) = some res from h)
  | succ n ih =>
    intro x0 x1 x2 w H locs ls h hw hl
    rw [B_X4_begin_p2] at h
    refine lv_iload_n S.1 S.2.1 dX4_begin_2 rfl (lv_at hl 2 rfl) ?_
    refine lv_bipush (v := 6) S.1 S.2.1 dX4_begin_3 rfl ?_
    refine lv_icmp_ge (tgt := 115) S.1 S.2.1 dX4_begin_5 rfl (fun c1 => ?_) (fun c1 => ?_)
    · replace h := if_t c1 h
      refine lv_aload_n S.1 S.2.1 dX4_begin_115 rfl (lv_at hl 0 rfl) ?_
      refine lv_iconst (v := 0) S.1 S.2.1 dX4_begin_116 rfl ?_
      refine gpX4_34 S X hw dX4_begin_117 h (fun w2 H locs h hw => ?_)
      refine lv_aload_n S.1 S.2.1 dX4_begin_120 rfl (lv_at hl 0 rfl) ?_
      refine lv_iconst (v := 0) S.1 S.2.1 dX4_begin_121 rfl ?_
      refine gpX4_38 S X hw dX4_begin_122 h (fun w3 H locs h hw => ?_)
      exact g_vret S Z hr hlocks hw (so1 h) dX4_begin_125
    · replace h := if_f c1 h
      refine lv_iload_n S.1 S.2.1 dX4_begin_8 rfl (lv_at hl 2 rfl) ?_
      refine lv_aload_n S.1 S.2.1 dX4_begin_9 rfl (lv_at hl 1 rfl) ?_
      refine ggX4_41 S X hw dX4_begin_10 h (fun a4 h => ?_)
      obtain ⟨hrc, h⟩ := oK1 h
      refine gcVri (As := []) (rest := [.int x2]) S X Z hw (b := a4) h (fun u h1 => met_B_J2_size l E A LC LS a4 w u h1) (cb_X4_47 S.2.2.2.2 rfl rfl ⟨Nat.le_trans (Nat.le_of_ble_eq_true rfl : 0 + 1 ≤ 3) hF, Nat.le_trans (Nat.le_of_ble_eq_true rfl : 8 + (1 + 11) + 0 ≤ 64) hL⟩) (g_recv X hw (ci := 22) rfl (gcell_23 hrc)) rfl hl.1 rfl (lv_room (Nat.le_of_ble_eq_true rfl)) dX4_begin_13 (fun r5 H locs h hw => ?_)
      refine lv_icmp_ge (tgt := 23) S.1 S.2.1 dX4_begin_16 rfl (fun c6 => ?_) (fun c6 => ?_)
      · replace h := if_t c6 h
        refine lv_iconst (v := 0) S.1 S.2.1 dX4_begin_23 rfl ?_
        exact wk_B_X4_begin_p24 S X Z hF hL hr hlocks  ih _ _ _ _ _ _ _ _ h hw (lv_sub hl [0, 1, 2] rfl)
      · replace h := if_f c6 h
        refine lv_iconst (v := 1) S.1 S.2.1 dX4_begin_19 rfl ?_
        refine lv_goto (tgt := 24) S.1 S.2.1 dX4_begin_20 rfl ?_
        exact wk_B_X4_begin_p24 S X Z hF hL hr hlocks  ih _ _ _ _ _ _ _ _ h hw (lv_sub hl [0, 1, 2] rfl)
set_option maxRecDepth 100000 in
set_option maxHeartbeats 4000000 in
theorem met_B_X4_begin (l : Launch) (E : gE) (A : Nat → Prop) (LC LS : Nat)  (x0 : Nat) (x1 : Nat) (w : GS) (res : GS) (h : B_X4_begin x0 x1 w = some res) : Met l yX4_begin (ws_ yX4_begin cX4_begin 4 (Option.none : Option Jvm.ClassFile.FieldType)) (gRoom 3 64 LC LS w) (gPc E A LC LS [.ref x0, .ref x1] w) (gQv E A LC LS res) (LC - gZ w) (LS - gN w) A := by
  refine gMet (by decide) rfl (Nat.le_of_ble_eq_true rfl) ?_
  intro p e s m below meth c R S hr hlocks hin2 X Z hF hL H ls hw hl
  replace hl : lv_has ls 4 [(0, .ref x0), (1, .ref x1)] := hl
  unfold B_X4_begin at h
  refine lv_iconst (v := 0) S.1 S.2.1 dX4_begin_0 rfl ?_
  refine lv_istore_n (lv' := [(2, .int (0 : Int32)), (0, .ref x0), (1, .ref x1)]) S.1 S.2.1 dX4_begin_1 rfl hl (by decide) rfl (fun ls hl => ?_)
  exact wk_B_X4_begin_p2 S X Z hF hL hr hlocks  FU _ _ _ _ _ _ _ h hw (lv_sub hl [1, 2, 0] rfl)
theorem cb_X19_13 {R : Room} {s : State} {args : Array Value} {rm : Room} {mc ms : Nat} (hts : ∀ w ∈ lw_all, w.before args s = true) (hN : gNw s) (hc : rm.cells = mc) (hs : rm.slots = ms) (hR : rm.frames + 1 ≤ R.frames ∧ 8 + (4 + 11) + rm.locals ≤ R.locals) : va_CN R s args RX19 13 yX1_pass "PulseRent" cX1_pass 4 (Option.none : Option Jvm.ClassFile.FieldType) (ws_ yX1_pass cX1_pass 4 (Option.none : Option Jvm.ClassFile.FieldType)) rm mc ms 2 ∧ (Cond.instanceMethod yX1_pass).before args s = true ∧ (Cond.selects RX1 yX1_pass yX1_pass).before args s = true := ⟨va_cnB 2 hts (lw_meth q1410) rfl hc hs (hN _ q1520 rfl) (hts _ q135) (by decide +kernel) hR, hts _ q1409, hts _ qs41⟩
theorem cb_X21_13 {R : Room} {s : State} {args : Array Value} {rm : Room} {mc ms : Nat} (hts : ∀ w ∈ lw_all, w.before args s = true) (hc : rm.cells = mc) (hs : rm.slots = ms) (hR : rm.frames + 1 ≤ R.frames ∧ 8 + (2 + 11) + rm.locals ≤ R.locals) : CallW R s args RX21 RX4 13 yX4_isIn cX4_isIn 2 (Option.some Jvm.ClassFile.FieldType.boolean) (ws_ yX4_isIn cX4_isIn 2 (Option.some Jvm.ClassFile.FieldType.boolean)) rm mc ms 1 := cwV 1 hts (lw_V q1498 q1334 q1335 q141 q1336) rfl hc hs (by decide +kernel) hR
theorem cb_X21_19 {R : Room} {s : State} {args : Array Value} {rm : Room} {mc ms : Nat} (hts : ∀ w ∈ lw_all, w.before args s = true) (hN : gNw s) (hc : rm.cells = mc) (hs : rm.slots = ms) (hR : rm.frames + 1 ≤ R.frames ∧ 8 + (3 + 11) + rm.locals ≤ R.locals) : va_CN R s args RX21 19 yX1_climbs "PulseRent" cX1_climbs 3 (Option.none : Option Jvm.ClassFile.FieldType) (ws_ yX1_climbs cX1_climbs 3 (Option.none : Option Jvm.ClassFile.FieldType)) rm mc ms 2 ∧ (Cond.instanceMethod yX1_climbs).before args s = true ∧ (Cond.selects RX1 yX1_climbs yX1_climbs).before args s = true := ⟨va_cnB 2 hts (lw_meth q1379) rfl hc hs (hN _ q1499 rfl) (hts _ q135) (by decide +kernel) hR, hts _ q1378, hts _ qs39⟩
theorem cb_X22_16 {R : Room} {s : State} {args : Array Value} {rm : Room} {mc ms : Nat} (hts : ∀ w ∈ lw_all, w.before args s = true) (hc : rm.cells = mc) (hs : rm.slots = ms) (hR : rm.frames + 1 ≤ R.frames ∧ 8 + (2 + 11) + rm.locals ≤ R.locals) : CallW R s args RX22 RX4 16 yX4_isIn cX4_isIn 2 (Option.some Jvm.ClassFile.FieldType.boolean) (ws_ yX4_isIn cX4_isIn 2 (Option.some Jvm.ClassFile.FieldType.boolean)) rm mc ms 1 := cwV 1 hts (lw_V q1507 q1334 q1335 q141 q1336) rfl hc hs (by decide +kernel) hR
theorem cb_X22_22 {R : Room} {s : State} {args : Array Value} {rm : Room} {mc ms : Nat} (hts : ∀ w ∈ lw_all, w.before args s = true) (hN : gNw s) (hc : rm.cells = mc) (hs : rm.slots = ms) (hR : rm.frames + 1 ≤ R.frames ∧ 8 + (4 + 11) + rm.locals ≤ R.locals) : va_CN R s args RX22 22 yX1_frightens "PulseRent" cX1_frightens 4 (Option.none : Option Jvm.ClassFile.FieldType) (ws_ yX1_frightens cX1_frightens 4 (Option.none : Option Jvm.ClassFile.FieldType)) rm mc ms 3 ∧ (Cond.instanceMethod yX1_frightens).before args s = true ∧ (Cond.selects RX1 yX1_frightens yX1_frightens).before args s = true := ⟨va_cnB 3 hts (lw_meth q1397) rfl hc hs (hN _ q1508 rfl) (hts _ q135) (by decide +kernel) hR, hts _ q1396, hts _ qs40⟩
theorem cb_X23_13 {R : Room} {s : State} {args : Array Value} {rm : Room} {mc ms : Nat} (hts : ∀ w ∈ lw_all, w.before args s = true) (hc : rm.cells = mc) (hs : rm.slots = ms) (hR : rm.frames + 1 ≤ R.frames ∧ 8 + (2 + 11) + rm.locals ≤ R.locals) : CallW R s args RX23 RX4 13 yX4_isIn cX4_isIn 2 (Option.some Jvm.ClassFile.FieldType.boolean) (ws_ yX4_isIn cX4_isIn 2 (Option.some Jvm.ClassFile.FieldType.boolean)) rm mc ms 1 := cwV 1 hts (lw_V q1503 q1334 q1335 q141 q1336) rfl hc hs (by decide +kernel) hR
theorem cb_X24_16 {R : Room} {s : State} {args : Array Value} {rm : Room} {mc ms : Nat} (hts : ∀ w ∈ lw_all, w.before args s = true) (hN : gNw s) (hc : rm.cells = mc) (hs : rm.slots = ms) (hR : rm.frames + 1 ≤ R.frames ∧ 8 + (4 + 11) + rm.locals ≤ R.locals) : va_CN R s args RX24 16 yX1_canMove "PulseRent" cX1_canMove 4 (Option.some Jvm.ClassFile.FieldType.boolean) (ws_ yX1_canMove cX1_canMove 4 (Option.some Jvm.ClassFile.FieldType.boolean)) rm mc ms 3 ∧ (Cond.instanceMethod yX1_canMove).before args s = true ∧ (Cond.selects RX1 yX1_canMove yX1_canMove).before args s = true := ⟨va_cnB 3 hts (lw_meth q1482) rfl hc hs (hN _ q1512 rfl) (hts _ q135) (by decide +kernel) hR, hts _ q1481, hts _ qs46⟩
theorem cb_X20_7 {R : Room} {s : State} {args : Array Value} {rm : Room} {mc ms : Nat} (hts : ∀ w ∈ lw_all, w.before args s = true) (hN : gNw s) (hc : rm.cells = mc) (hs : rm.slots = ms) (hR : rm.frames + 1 ≤ R.frames ∧ 8 + (6 + 11) + rm.locals ≤ R.locals) : va_CN R s args RX20 7 yX1_collects "PulseRent" cX1_collects 6 (Option.some Jvm.ClassFile.FieldType.int) (ws_ yX1_collects cX1_collects 6 (Option.some Jvm.ClassFile.FieldType.int)) rm mc ms 1 ∧ (Cond.instanceMethod yX1_collects).before args s = true ∧ (Cond.selects RX1 yX1_collects yX1_collects).before args s = true := ⟨va_cnB 1 hts (lw_meth q1436) rfl hc hs (hN _ q1516 rfl) (hts _ q135) (by decide +kernel) hR, hts _ q1435, hts _ qs43⟩
def B_X19_isDone (x0 : Nat) (x1 : Nat) (x2 : Nat) (w : GS) : Option (Int32 × GS) :=
  bd1 (oI w x0 17 17 0) fun v1 =>
  bd1 (oK w x1 1 1) fun _ =>
  bd1 (B_X1_pass x1 x2 v1 w) fun w2 =>
  some ((1 : Int32), w2)
set_option maxRecDepth 100000 in
set_option maxHeartbeats 4000000 in
theorem met_B_X19_isDone (l : Launch) (E : gE) (A : Nat → Prop) (LC LS : Nat)  (x0 : Nat) (x1 : Nat) (x2 : Nat) (w : GS) (res : Int32 × GS) (h : B_X19_isDone x0 x1 x2 w = some res) : Met l yX19_isDone (ws_ yX19_isDone cX19_isDone 3 (Option.some Jvm.ClassFile.FieldType.boolean)) (gRoom 1105 33123 LC LS w) (gPc E A LC LS [.ref x0, .ref x1, .ref x2] w) (gQi E A LC LS res.1 res.2) (LC - gZ w) (LS - gN w) A := by
  refine gMet (by decide) rfl (Nat.le_of_ble_eq_true rfl) ?_
  intro p e s m below meth c R S hr hlocks hin2 X Z hF hL H ls hw hl
  replace hl : lv_has ls 3 [(0, .ref x0), (1, .ref x1), (2, .ref x2)] := hl
  unfold B_X19_isDone at h
  refine lv_aload_n S.1 S.2.1 dX19_isDone_0 rfl (lv_at hl 1 rfl) ?_
  refine lv_aload_n S.1 S.2.1 dX19_isDone_1 rfl (lv_at hl 2 rfl) ?_
  refine lv_aload_n S.1 S.2.1 dX19_isDone_2 rfl (lv_at hl 0 rfl) ?_
  refine ggX19_7 S X hw dX19_isDone_3 h (fun v1 h => ?_)
  obtain ⟨hrc, h⟩ := oK1 h
  refine gcVNv (As := [.ref x2, .int v1]) (rest := []) S X Z hw (b := x1) h (fun u h1 => met_B_X1_pass l E A LC LS x1 x2 v1 w u h1) (cb_X19_13 S.2.2.2.2 X.2.2.2.2.2.1 rfl rfl ⟨Nat.le_trans (Nat.le_of_ble_eq_true rfl : 6 + 1 ≤ 1105) hF, Nat.le_trans (Nat.le_of_ble_eq_true rfl : 8 + (4 + 11) + 134 ≤ 33123) hL⟩) (g_recv X hw (ci := 0) rfl (gcell_1 hrc)) rfl hl.1 rfl (lv_room (Nat.le_of_ble_eq_true rfl)) dX19_isDone_6 (fun w2 H locs h hw => ?_)
  refine lv_iconst (v := 1) S.1 S.2.1 dX19_isDone_9 rfl ?_
  exact g_zret S Z hr hlocks hw rfl (so2 h) dX19_isDone_10
def B_X21_isDone (x0 : Nat) (x1 : Nat) (x2 : Nat) (w : GS) : Option (Int32 × GS) :=
  bd1 (oI w x0 18 18 0) fun v1 =>
  bd1 (oK w x2 4 4) fun _ =>
  bd1 (B_X4_isIn x2 v1 w) fun r2 =>
  if r2 = 0 then
    some ((0 : Int32), w)
  else
    bd1 (oI w x0 18 18 0) fun v4 =>
    bd1 (oK w x1 1 1) fun _ =>
    bd1 (B_X1_climbs x1 x2 v4 w) fun w5 =>
    some ((1 : Int32), w5)
set_option maxRecDepth 100000 in
set_option maxHeartbeats 4000000 in
theorem met_B_X21_isDone (l : Launch) (E : gE) (A : Nat → Prop) (LC LS : Nat)  (x0 : Nat) (x1 : Nat) (x2 : Nat) (w : GS) (res : Int32 × GS) (h : B_X21_isDone x0 x1 x2 w = some res) : Met l yX21_isDone (ws_ yX21_isDone cX21_isDone 3 (Option.some Jvm.ClassFile.FieldType.boolean)) (gRoom 1105 33123 LC LS w) (gPc E A LC LS [.ref x0, .ref x1, .ref x2] w) (gQi E A LC LS res.1 res.2) (LC - gZ w) (LS - gN w) A := by
  refine gMet (by decide) rfl (Nat.le_of_ble_eq_true rfl) ?_
  intro p e s m below meth c R S hr hlocks hin2 X Z hF hL H ls hw hl
  replace hl : lv_has ls 3 [(0, .ref x0), (1, .ref x1), (2, .ref x2)] := hl
  unfold B_X21_isDone at h
  refine lv_aload_n S.1 S.2.1 dX21_isDone_0 rfl (lv_at hl 2 rfl) ?_
  refine lv_aload_n S.1 S.2.1 dX21_isDone_1 rfl (lv_at hl 0 rfl) ?_
  refine ggX21_7 S X hw dX21_isDone_2 h (fun v1 h => ?_)
  obtain ⟨hrc, h⟩ := oK1 h
  refine gcVri (As := [.int v1]) (rest := []) S X Z hw (b := x2) h (fun u h1 => met_B_X4_isIn l E A LC LS x2 v1 w u h1) (cb_X21_13 S.2.2.2.2 rfl rfl ⟨Nat.le_trans (Nat.le_of_ble_eq_true rfl : 0 + 1 ≤ 1105) hF, Nat.le_trans (Nat.le_of_ble_eq_true rfl : 8 + (2 + 11) + 0 ≤ 33123) hL⟩) (g_recv X hw (ci := 3) rfl (gcell_4 hrc)) rfl hl.1 rfl (lv_room (Nat.le_of_ble_eq_true rfl)) dX21_isDone_5 (fun r2 H locs h hw => ?_)
  refine lv_if_ne (tgt := 13) S.1 S.2.1 dX21_isDone_8 rfl (fun c3 => ?_) (fun c3 => ?_)
  · replace h := if_f c3 h
    refine lv_aload_n S.1 S.2.1 dX21_isDone_13 rfl (lv_at hl 1 rfl) ?_
    refine lv_aload_n S.1 S.2.1 dX21_isDone_14 rfl (lv_at hl 2 rfl) ?_
    refine lv_aload_n S.1 S.2.1 dX21_isDone_15 rfl (lv_at hl 0 rfl) ?_
    refine ggX21_7 S X hw dX21_isDone_16 h (fun v4 h => ?_)
    obtain ⟨hrc, h⟩ := oK1 h
    refine gcVNv (As := [.ref x2, .int v4]) (rest := []) S X Z hw (b := x1) h (fun u h1 => met_B_X1_climbs l E A LC LS x1 x2 v4 w u h1) (cb_X21_19 S.2.2.2.2 X.2.2.2.2.2.1 rfl rfl ⟨Nat.le_trans (Nat.le_of_ble_eq_true rfl : 4 + 1 ≤ 1105) hF, Nat.le_trans (Nat.le_of_ble_eq_true rfl : 8 + (3 + 11) + 85 ≤ 33123) hL⟩) (g_recv X hw (ci := 0) rfl (gcell_1 hrc)) rfl hl.1 rfl (lv_room (Nat.le_of_ble_eq_true rfl)) dX21_isDone_19 (fun w5 H locs h hw => ?_)
    refine lv_iconst (v := 1) S.1 S.2.1 dX21_isDone_22 rfl ?_
    exact g_zret S Z hr hlocks hw rfl (so2 h) dX21_isDone_23
  · replace h := if_t c3 h
    refine lv_iconst (v := 0) S.1 S.2.1 dX21_isDone_11 rfl ?_
    exact g_zret S Z hr hlocks hw rfl (so2 h) dX21_isDone_12
def B_X22_isDone (x0 : Nat) (x1 : Nat) (x2 : Nat) (w : GS) : Option (Int32 × GS) :=
  bd1 (oI w x0 19 19 0) fun v1 =>
  bd1 (oK w x2 4 4) fun _ =>
  bd1 (B_X4_isIn x2 v1 w) fun r2 =>
  if r2 = 0 then
    some ((0 : Int32), w)
  else
    bd1 (oI w x0 19 19 0) fun v4 =>
    bd1 (oI w x0 19 19 1) fun v5 =>
    bd1 (oK w x1 1 1) fun _ =>
    bd1 (B_X1_frightens x1 x2 v4 v5 w) fun w6 =>
    some ((1 : Int32), w6)
set_option maxRecDepth 100000 in
set_option maxHeartbeats 4000000 in
theorem met_B_X22_isDone (l : Launch) (E : gE) (A : Nat → Prop) (LC LS : Nat)  (x0 : Nat) (x1 : Nat) (x2 : Nat) (w : GS) (res : Int32 × GS) (h : B_X22_isDone x0 x1 x2 w = some res) : Met l yX22_isDone (ws_ yX22_isDone cX22_isDone 3 (Option.some Jvm.ClassFile.FieldType.boolean)) (gRoom 1105 33123 LC LS w) (gPc E A LC LS [.ref x0, .ref x1, .ref x2] w) (gQi E A LC LS res.1 res.2) (LC - gZ w) (LS - gN w) A := by
  refine gMet (by decide) rfl (Nat.le_of_ble_eq_true rfl) ?_
  intro p e s m below meth c R S hr hlocks hin2 X Z hF hL H ls hw hl
  replace hl : lv_has ls 3 [(0, .ref x0), (1, .ref x1), (2, .ref x2)] := hl
  unfold B_X22_isDone at h
  refine lv_aload_n S.1 S.2.1 dX22_isDone_0 rfl (lv_at hl 2 rfl) ?_
  refine lv_aload_n S.1 S.2.1 dX22_isDone_1 rfl (lv_at hl 0 rfl) ?_
  refine ggX22_7 S X hw dX22_isDone_2 h (fun v1 h => ?_)
  obtain ⟨hrc, h⟩ := oK1 h
  refine gcVri (As := [.int v1]) (rest := []) S X Z hw (b := x2) h (fun u h1 => met_B_X4_isIn l E A LC LS x2 v1 w u h1) (cb_X22_16 S.2.2.2.2 rfl rfl ⟨Nat.le_trans (Nat.le_of_ble_eq_true rfl : 0 + 1 ≤ 1105) hF, Nat.le_trans (Nat.le_of_ble_eq_true rfl : 8 + (2 + 11) + 0 ≤ 33123) hL⟩) (g_recv X hw (ci := 3) rfl (gcell_4 hrc)) rfl hl.1 rfl (lv_room (Nat.le_of_ble_eq_true rfl)) dX22_isDone_5 (fun r2 H locs h hw => ?_)
  refine lv_if_ne (tgt := 13) S.1 S.2.1 dX22_isDone_8 rfl (fun c3 => ?_) (fun c3 => ?_)
  · replace h := if_f c3 h
    refine lv_aload_n S.1 S.2.1 dX22_isDone_13 rfl (lv_at hl 1 rfl) ?_
    refine lv_aload_n S.1 S.2.1 dX22_isDone_14 rfl (lv_at hl 2 rfl) ?_
    refine lv_aload_n S.1 S.2.1 dX22_isDone_15 rfl (lv_at hl 0 rfl) ?_
    refine ggX22_7 S X hw dX22_isDone_16 h (fun v4 h => ?_)
    refine lv_aload_n S.1 S.2.1 dX22_isDone_19 rfl (lv_at hl 0 rfl) ?_
    refine ggX22_13 S X hw dX22_isDone_20 h (fun v5 h => ?_)
    obtain ⟨hrc, h⟩ := oK1 h
    refine gcVNv (As := [.ref x2, .int v4, .int v5]) (rest := []) S X Z hw (b := x1) h (fun u h1 => met_B_X1_frightens l E A LC LS x1 x2 v4 v5 w u h1) (cb_X22_22 S.2.2.2.2 X.2.2.2.2.2.1 rfl rfl ⟨Nat.le_trans (Nat.le_of_ble_eq_true rfl : 4 + 1 ≤ 1105) hF, Nat.le_trans (Nat.le_of_ble_eq_true rfl : 8 + (4 + 11) + 85 ≤ 33123) hL⟩) (g_recv X hw (ci := 0) rfl (gcell_1 hrc)) rfl hl.1 rfl (lv_room (Nat.le_of_ble_eq_true rfl)) dX22_isDone_23 (fun w6 H locs h hw => ?_)
    refine lv_iconst (v := 1) S.1 S.2.1 dX22_isDone_26 rfl ?_
    exact g_zret S Z hr hlocks hw rfl (so2 h) dX22_isDone_27
  · replace h := if_t c3 h
    refine lv_iconst (v := 0) S.1 S.2.1 dX22_isDone_11 rfl ?_
    exact g_zret S Z hr hlocks hw rfl (so2 h) dX22_isDone_12
def B_X23_isDone (x0 : Nat) (x1 : Nat) (x2 : Nat) (w : GS) : Option (Int32 × GS) :=
  bd1 (oI w x0 20 20 0) fun v1 =>
  bd1 (oK w x2 4 4) fun _ =>
  bd1 (B_X4_isIn x2 v1 w) fun r2 =>
  if r2 = 0 then
    some ((0 : Int32), w)
  else
    bd1 (oRn w x2 4 4 2) fun a4 =>
    bd1 (oI w x0 20 20 0) fun v5 =>
    bd1 (oRn w x1 1 1 2) fun a6 =>
    bd1 (oI w a6 3 3 4) fun v7 =>
    bd1 (xI w a4 40 v5 v7) fun w8 =>
    some ((1 : Int32), w8)
set_option maxRecDepth 100000 in
set_option maxHeartbeats 4000000 in
theorem met_B_X23_isDone (l : Launch) (E : gE) (A : Nat → Prop) (LC LS : Nat)  (x0 : Nat) (x1 : Nat) (x2 : Nat) (w : GS) (res : Int32 × GS) (h : B_X23_isDone x0 x1 x2 w = some res) : Met l yX23_isDone (ws_ yX23_isDone cX23_isDone 3 (Option.some Jvm.ClassFile.FieldType.boolean)) (gRoom 1105 33123 LC LS w) (gPc E A LC LS [.ref x0, .ref x1, .ref x2] w) (gQi E A LC LS res.1 res.2) (LC - gZ w) (LS - gN w) A := by
  refine gMet (by decide) rfl (Nat.le_of_ble_eq_true rfl) ?_
  intro p e s m below meth c R S hr hlocks hin2 X Z hF hL H ls hw hl
  replace hl : lv_has ls 3 [(0, .ref x0), (1, .ref x1), (2, .ref x2)] := hl
  unfold B_X23_isDone at h
  refine lv_aload_n S.1 S.2.1 dX23_isDone_0 rfl (lv_at hl 2 rfl) ?_
  refine lv_aload_n S.1 S.2.1 dX23_isDone_1 rfl (lv_at hl 0 rfl) ?_
  refine ggX23_7 S X hw dX23_isDone_2 h (fun v1 h => ?_)
  obtain ⟨hrc, h⟩ := oK1 h
  refine gcVri (As := [.int v1]) (rest := []) S X Z hw (b := x2) h (fun u h1 => met_B_X4_isIn l E A LC LS x2 v1 w u h1) (cb_X23_13 S.2.2.2.2 rfl rfl ⟨Nat.le_trans (Nat.le_of_ble_eq_true rfl : 0 + 1 ≤ 1105) hF, Nat.le_trans (Nat.le_of_ble_eq_true rfl : 8 + (2 + 11) + 0 ≤ 33123) hL⟩) (g_recv X hw (ci := 3) rfl (gcell_4 hrc)) rfl hl.1 rfl (lv_room (Nat.le_of_ble_eq_true rfl)) dX23_isDone_5 (fun r2 H locs h hw => ?_)
  refine lv_if_ne (tgt := 13) S.1 S.2.1 dX23_isDone_8 rfl (fun c3 => ?_) (fun c3 => ?_)
  · replace h := if_f c3 h
    refine lv_aload_n S.1 S.2.1 dX23_isDone_13 rfl (lv_at hl 2 rfl) ?_
    refine ggX23_19 S X hw dX23_isDone_14 h (fun a4 h => ?_)
    refine lv_aload_n S.1 S.2.1 dX23_isDone_17 rfl (lv_at hl 0 rfl) ?_
    refine ggX23_7 S X hw dX23_isDone_18 h (fun v5 h => ?_)
    refine lv_aload_n S.1 S.2.1 dX23_isDone_21 rfl (lv_at hl 1 rfl) ?_
    refine ggX23_23 S X hw dX23_isDone_22 h (fun a6 h => ?_)
    refine ggX23_29 S X hw dX23_isDone_25 h (fun v7 h => ?_)
    refine gast40 S X hw dX23_isDone_28 h (fun w8 H locs h hw => ?_)
    refine lv_iconst (v := 1) S.1 S.2.1 dX23_isDone_29 rfl ?_
    exact g_zret S Z hr hlocks hw rfl (so2 h) dX23_isDone_30
  · replace h := if_t c3 h
    refine lv_iconst (v := 0) S.1 S.2.1 dX23_isDone_11 rfl ?_
    exact g_zret S Z hr hlocks hw rfl (so2 h) dX23_isDone_12
def B_X24_isDone (x0 : Nat) (x1 : Nat) (x2 : Nat) (w : GS) : Option (Int32 × GS) :=
  bd1 (oI w x0 21 21 0) fun v1 =>
  bd1 (oI w x0 21 21 1) fun v2 =>
  bd1 (oK w x1 1 1) fun _ =>
  bd1 (B_X1_canMove x1 x2 v1 v2 w) fun r3 =>
  if r3 = 0 then
    some ((0 : Int32), w)
  else
    bd1 (oRn w x2 4 4 0) fun a5 =>
    bd1 (oI w x0 21 21 0) fun v6 =>
    bd1 (oI w x0 21 21 1) fun v7 =>
    bd1 (xI w a5 40 v6 v7) fun w8 =>
    some ((1 : Int32), w8)
set_option maxRecDepth 100000 in
set_option maxHeartbeats 4000000 in
theorem met_B_X24_isDone (l : Launch) (E : gE) (A : Nat → Prop) (LC LS : Nat)  (x0 : Nat) (x1 : Nat) (x2 : Nat) (w : GS) (res : Int32 × GS) (h : B_X24_isDone x0 x1 x2 w = some res) : Met l yX24_isDone (ws_ yX24_isDone cX24_isDone 3 (Option.some Jvm.ClassFile.FieldType.boolean)) (gRoom 1105 33123 LC LS w) (gPc E A LC LS [.ref x0, .ref x1, .ref x2] w) (gQi E A LC LS res.1 res.2) (LC - gZ w) (LS - gN w) A := by
  refine gMet (by decide) rfl (Nat.le_of_ble_eq_true rfl) ?_
  intro p e s m below meth c R S hr hlocks hin2 X Z hF hL H ls hw hl
  replace hl : lv_has ls 3 [(0, .ref x0), (1, .ref x1), (2, .ref x2)] := hl
  unfold B_X24_isDone at h
  refine lv_aload_n S.1 S.2.1 dX24_isDone_0 rfl (lv_at hl 1 rfl) ?_
  refine lv_aload_n S.1 S.2.1 dX24_isDone_1 rfl (lv_at hl 2 rfl) ?_
  refine lv_aload_n S.1 S.2.1 dX24_isDone_2 rfl (lv_at hl 0 rfl) ?_
  refine ggX24_7 S X hw dX24_isDone_3 h (fun v1 h => ?_)
  refine lv_aload_n S.1 S.2.1 dX24_isDone_6 rfl (lv_at hl 0 rfl) ?_
  refine ggX24_13 S X hw dX24_isDone_7 h (fun v2 h => ?_)
  obtain ⟨hrc, h⟩ := oK1 h
  refine gcVNri (As := [.ref x2, .int v1, .int v2]) (rest := []) S X Z hw (b := x1) h (fun u h1 => met_B_X1_canMove l E A LC LS x1 x2 v1 v2 w u h1) (cb_X24_16 S.2.2.2.2 X.2.2.2.2.2.1 rfl rfl ⟨Nat.le_trans (Nat.le_of_ble_eq_true rfl : 3 + 1 ≤ 1105) hF, Nat.le_trans (Nat.le_of_ble_eq_true rfl : 8 + (4 + 11) + 63 ≤ 33123) hL⟩) (g_recv X hw (ci := 0) rfl (gcell_1 hrc)) rfl hl.1 rfl (lv_room (Nat.le_of_ble_eq_true rfl)) dX24_isDone_10 (fun r3 H locs h hw => ?_)
  refine lv_if_ne (tgt := 18) S.1 S.2.1 dX24_isDone_13 rfl (fun c4 => ?_) (fun c4 => ?_)
  · replace h := if_f c4 h
    refine lv_aload_n S.1 S.2.1 dX24_isDone_18 rfl (lv_at hl 2 rfl) ?_
    refine ggX24_22 S X hw dX24_isDone_19 h (fun a5 h => ?_)
    refine lv_aload_n S.1 S.2.1 dX24_isDone_22 rfl (lv_at hl 0 rfl) ?_
    refine ggX24_7 S X hw dX24_isDone_23 h (fun v6 h => ?_)
    refine lv_aload_n S.1 S.2.1 dX24_isDone_26 rfl (lv_at hl 0 rfl) ?_
    refine ggX24_13 S X hw dX24_isDone_27 h (fun v7 h => ?_)
    refine gast40 S X hw dX24_isDone_30 h (fun w8 H locs h hw => ?_)
    refine lv_iconst (v := 1) S.1 S.2.1 dX24_isDone_31 rfl ?_
    exact g_zret S Z hr hlocks hw rfl (so2 h) dX24_isDone_32
  · replace h := if_t c4 h
    refine lv_iconst (v := 0) S.1 S.2.1 dX24_isDone_16 rfl ?_
    exact g_zret S Z hr hlocks hw rfl (so2 h) dX24_isDone_17
def B_X20_isDone (x0 : Nat) (x1 : Nat) (x2 : Nat) (w : GS) : Option (Int32 × GS) :=
  bd1 (oK w x1 1 1) fun _ =>
  bd2 (B_X1_collects x1 x2 w) fun r2 w1 =>
  some ((1 : Int32), w1)
set_option maxRecDepth 100000 in
set_option maxHeartbeats 4000000 in
theorem met_B_X20_isDone (l : Launch) (E : gE) (A : Nat → Prop) (LC LS : Nat)  (x0 : Nat) (x1 : Nat) (x2 : Nat) (w : GS) (res : Int32 × GS) (h : B_X20_isDone x0 x1 x2 w = some res) : Met l yX20_isDone (ws_ yX20_isDone cX20_isDone 3 (Option.some Jvm.ClassFile.FieldType.boolean)) (gRoom 1105 33123 LC LS w) (gPc E A LC LS [.ref x0, .ref x1, .ref x2] w) (gQi E A LC LS res.1 res.2) (LC - gZ w) (LS - gN w) A := by
  refine gMet (by decide) rfl (Nat.le_of_ble_eq_true rfl) ?_
  intro p e s m below meth c R S hr hlocks hin2 X Z hF hL H ls hw hl
  replace hl : lv_has ls 3 [(0, .ref x0), (1, .ref x1), (2, .ref x2)] := hl
  unfold B_X20_isDone at h
  refine lv_aload_n S.1 S.2.1 dX20_isDone_0 rfl (lv_at hl 1 rfl) ?_
  refine lv_aload_n S.1 S.2.1 dX20_isDone_1 rfl (lv_at hl 2 rfl) ?_
  obtain ⟨hrc, h⟩ := oK1 h
  refine gcVNi (As := [.ref x2]) (rest := []) S X Z hw (b := x1) h (fun u h1 => met_B_X1_collects l E A LC LS x1 x2 w u h1) (cb_X20_7 S.2.2.2.2 X.2.2.2.2.2.1 rfl rfl ⟨Nat.le_trans (Nat.le_of_ble_eq_true rfl : 1104 + 1 ≤ 1105) hF, Nat.le_trans (Nat.le_of_ble_eq_true rfl : 8 + (6 + 11) + 33098 ≤ 33123) hL⟩) (g_recv X hw (ci := 0) rfl (gcell_1 hrc)) rfl hl.1 rfl (lv_room (Nat.le_of_ble_eq_true rfl)) dX20_isDone_2 (fun r2 w1 H locs h hw => ?_)
  refine lv_pop S.1 S.2.1 dX20_isDone_5 rfl ?_
  refine lv_iconst (v := 1) S.1 S.2.1 dX20_isDone_6 rfl ?_
  exact g_zret S Z hr hlocks hw rfl (so2 h) dX20_isDone_7
def V_isDone (x0 : Nat) (x1 : Nat) (x2 : Nat) (w : GS) : Option (Int32 × GS) := if (gK w x0).1 = 17 then B_X19_isDone x0 x1 x2 w else if (gK w x0).1 = 18 then B_X21_isDone x0 x1 x2 w else if (gK w x0).1 = 19 then B_X22_isDone x0 x1 x2 w else if (gK w x0).1 = 20 then B_X23_isDone x0 x1 x2 w else if (gK w x0).1 = 21 then B_X24_isDone x0 x1 x2 w else if (gK w x0).1 = 22 then B_X20_isDone x0 x1 x2 w else none
def vt_isDone (l : Launch) (E : gE) (A : Nat → Prop) (LC LS : Nat) (x0 : Nat) (x1 : Nat) (x2 : Nat) (w : GS) (u : Int32 × GS) : Prop :=
  ((gK w x0).1 = 17 ∧ Met l yX19_isDone (ws_ yX19_isDone cX19_isDone 3 (Option.some Jvm.ClassFile.FieldType.boolean)) (gRoom 1105 33123 LC LS w) (gPc E A LC LS [.ref x0, .ref x1, .ref x2] w) (gQi E A LC LS u.1 u.2) (LC - gZ w) (LS - gN w) A) ∨
  ((gK w x0).1 = 18 ∧ Met l yX21_isDone (ws_ yX21_isDone cX21_isDone 3 (Option.some Jvm.ClassFile.FieldType.boolean)) (gRoom 1105 33123 LC LS w) (gPc E A LC LS [.ref x0, .ref x1, .ref x2] w) (gQi E A LC LS u.1 u.2) (LC - gZ w) (LS - gN w) A) ∨
  ((gK w x0).1 = 19 ∧ Met l yX22_isDone (ws_ yX22_isDone cX22_isDone 3 (Option.some Jvm.ClassFile.FieldType.boolean)) (gRoom 1105 33123 LC LS w) (gPc E A LC LS [.ref x0, .ref x1, .ref x2] w) (gQi E A LC LS u.1 u.2) (LC - gZ w) (LS - gN w) A) ∨
  ((gK w x0).1 = 20 ∧ Met l yX23_isDone (ws_ yX23_isDone cX23_isDone 3 (Option.some Jvm.ClassFile.FieldType.boolean)) (gRoom 1105 33123 LC LS w) (gPc E A LC LS [.ref x0, .ref x1, .ref x2] w) (gQi E A LC LS u.1 u.2) (LC - gZ w) (LS - gN w) A) ∨
  ((gK w x0).1 = 21 ∧ Met l yX24_isDone (ws_ yX24_isDone cX24_isDone 3 (Option.some Jvm.ClassFile.FieldType.boolean)) (gRoom 1105 33123 LC LS w) (gPc E A LC LS [.ref x0, .ref x1, .ref x2] w) (gQi E A LC LS u.1 u.2) (LC - gZ w) (LS - gN w) A) ∨
  ((gK w x0).1 = 22 ∧ Met l yX20_isDone (ws_ yX20_isDone cX20_isDone 3 (Option.some Jvm.ClassFile.FieldType.boolean)) (gRoom 1105 33123 LC LS w) (gPc E A LC LS [.ref x0, .ref x1, .ref x2] w) (gQi E A LC LS u.1 u.2) (LC - gZ w) (LS - gN w) A)
theorem dm_isDone (l : Launch) (E : gE) (A : Nat → Prop) (LC LS : Nat) (x0 : Nat) (x1 : Nat) (x2 : Nat) (w : GS) (u : Int32 × GS) (h : V_isDone x0 x1 x2 w = some u) : vt_isDone l E A LC LS x0 x1 x2 w u := by
  unfold V_isDone at h
  unfold vt_isDone
  by_cases t17 : (gK w x0).1 = 17
  · rw [if_pos t17] at h; exact Or.inl ⟨t17, met_B_X19_isDone l E A LC LS x0 x1 x2 w u h⟩
  rw [if_neg t17] at h
  by_cases t18 : (gK w x0).1 = 18
  · rw [if_pos t18] at h; exact Or.inr (Or.inl ⟨t18, met_B_X21_isDone l E A LC LS x0 x1 x2 w u h⟩)
  rw [if_neg t18] at h
  by_cases t19 : (gK w x0).1 = 19
  · rw [if_pos t19] at h; exact Or.inr (Or.inr (Or.inl ⟨t19, met_B_X22_isDone l E A LC LS x0 x1 x2 w u h⟩))
  rw [if_neg t19] at h
  by_cases t20 : (gK w x0).1 = 20
  · rw [if_pos t20] at h; exact Or.inr (Or.inr (Or.inr (Or.inl ⟨t20, met_B_X23_isDone l E A LC LS x0 x1 x2 w u h⟩)))
  rw [if_neg t20] at h
  by_cases t21 : (gK w x0).1 = 21
  · rw [if_pos t21] at h; exact Or.inr (Or.inr (Or.inr (Or.inr (Or.inl ⟨t21, met_B_X24_isDone l E A LC LS x0 x1 x2 w u h⟩))))
  rw [if_neg t21] at h
  by_cases t22 : (gK w x0).1 = 22
  · rw [if_pos t22] at h; exact Or.inr (Or.inr (Or.inr (Or.inr (Or.inr (⟨t22, met_B_X20_isDone l E A LC LS x0 x1 x2 w u h⟩)))))
  rw [if_neg t22] at h
  cases h
theorem cb_X1_101 {R : Room} {s : State} {args : Array Value} {rm : Room} {mc ms : Nat} (hts : ∀ w ∈ lw_all, w.before args s = true) (hc : rm.cells = mc) (hs : rm.slots = ms) (hR : rm.frames + 1 ≤ R.frames ∧ 8 + (4 + 11) + rm.locals ≤ R.locals) : CallW R s args RX1 RX4 101 yX4_begin cX4_begin 4 (Option.none : Option Jvm.ClassFile.FieldType) (ws_ yX4_begin cX4_begin 4 (Option.none : Option Jvm.ClassFile.FieldType)) rm mc ms 1 := cwV 1 hts (lw_V q345 q346 q347 q141 q348) rfl hc hs (by decide +kernel) hR
theorem cb_X1_312 {R : Room} {s : State} {args : Array Value} {rm : Room} {mc ms : Nat} (hts : ∀ w ∈ lw_all, w.before args s = true) (hc : rm.cells = mc) (hs : rm.slots = ms) (hR : rm.frames + 1 ≤ R.frames ∧ 8 + (1 + 11) + rm.locals ≤ R.locals) : CallB R s args RX1 312 yJ17_bitCount cJ17_bitCount 1 (Option.some Jvm.ClassFile.FieldType.int) (ws_ yJ17_bitCount cJ17_bitCount 1 (Option.some Jvm.ClassFile.FieldType.int)) rm mc ms 1 ∧ (Cond.static yJ17_bitCount).before args s = true := va_cwS 1 hts (lw_S q1521 q1522 q177 q1523) rfl hc hs (by decide +kernel) hR
section
variable {p : Program} {l : Launch} {e : Env} {R : Room} {s : State} {m : MethodId} {args : Array Value} {below : List Frame} {meth : Method} {c : Code} {H : Heap} {locs : List Loc} {cells slots : Nat} {Q : State → Prop}
variable {cc : ByteArray} {nL pc : Nat} {ls : Array Slot} {rest : List Value} {A : Nat → Prop} {E : gE} {LC LS : Nat} {g : GS} {a : Nat} {β : Type} {r : β}
theorem dv_X1_308 {b : Nat} {x1 : Nat} {x2 : Nat} {F : Int32 → GS → Option β} {o : Option (Int32 × GS)} {st : List Value} (S : CallFix p m c cc nL s args lw_all RX1) (X : gCtx E A s) (Z : gRm R s LC LS) (hw : gH E A LC LS s g H locs) (h : bd2 o F = some r) (hM : ∀ u, o = some u → vt_isDone l E A LC LS b x1 x2 g u) (hR : 1105 + 1 ≤ R.frames ∧ 8 + (3 + 11) + (33123) ≤ R.locals) (hz : ls.size = nL) (hst : st = ([.ref x1, .ref x2].reverse ++ .ref b :: rest)) (hrm : 2 * (F0 m pc ls st).monitorRoom + (rest.map fun v => v.category).sum ≤ 8) (hd : decode cc pc = .ok (.invokevirtual 308, 3)) (kk : ∀ (v : Int32) (g1 : GS) (H : Heap) (locs : List Loc), F v g1 = some r → gH E A LC LS s g1 H locs → W p l e R s m args below meth c H locs (H.size - s.heap.size) (tot H - tot s.heap) Q (F0 m (pc + 3) ls (.int v :: rest))) : W p l e R s m args below meth c H locs (H.size - s.heap.size) (tot H - tot s.heap) Q (F0 m pc ls st) := by
  obtain ⟨v0, u0, h1, h2⟩ := bd2_some h
  have hm := hM (v0, u0) h1
  unfold vt_isDone at hm
  rcases hm with ⟨ht, hm⟩ | ⟨ht, hm⟩ | ⟨ht, hm⟩ | ⟨ht, hm⟩ | ⟨ht, hm⟩ | ⟨ht, hm⟩
  · have cw : va_CU R s args RX1 RX19 "PulseRent$Line" 308 ⟨"PulseRent$Line", "isDone", "(LPulseRent;LPulseRent$State;)Z"⟩ yX19_isDone cX19_isDone 3 (Option.some Jvm.ClassFile.FieldType.boolean) (ws_ yX19_isDone cX19_isDone 3 (Option.some Jvm.ClassFile.FieldType.boolean)) (gRoom (1105) (33123) LC LS g) (LC - gZ g) (LS - gN g) 2 := va_cwA 2 S.2.2.2.2 (lw_app (by intro w hw; simp only [List.mem_cons, List.not_mem_nil, or_false] at hw; rcases hw with e | e | e | e | e <;> rw [e]; exact q1492; exact q1494; exact q1517; exact q1518; exact q171) (lw_meth q1519)) rfl rfl rfl (X.2.2.2.2.2.1 _ q1493 rfl) (by decide +kernel) ⟨hR.1, Nat.le_trans (Nat.add_le_add_right (Nat.le_of_ble_eq_true rfl : 8 + (3 + 11) ≤ 8 + (3 + 11)) _) hR.2⟩
    exact gcHi (As := [.ref x1, .ref x2]) (rest := rest) S X Z hw h (fun u1 e1 => by rw [h1] at e1; cases e1; exact hm) cw (g_recv X hw (ci := 16) rfl (gcell_17 ht)) rfl hz hst hrm hd kk
  · have cw : va_CU R s args RX1 RX21 "PulseRent$Line" 308 ⟨"PulseRent$Line", "isDone", "(LPulseRent;LPulseRent$State;)Z"⟩ yX21_isDone cX21_isDone 3 (Option.some Jvm.ClassFile.FieldType.boolean) (ws_ yX21_isDone cX21_isDone 3 (Option.some Jvm.ClassFile.FieldType.boolean)) (gRoom (1105) (33123) LC LS g) (LC - gZ g) (LS - gN g) 2 := va_cwA 2 S.2.2.2.2 (lw_app (by intro w hw; simp only [List.mem_cons, List.not_mem_nil, or_false] at hw; rcases hw with e | e | e | e | e <;> rw [e]; exact q1492; exact q1494; exact q1495; exact q1496; exact q173) (lw_meth q1497)) rfl rfl rfl (X.2.2.2.2.2.1 _ q1493 rfl) (by decide +kernel) ⟨hR.1, Nat.le_trans (Nat.add_le_add_right (Nat.le_of_ble_eq_true rfl : 8 + (3 + 11) ≤ 8 + (3 + 11)) _) hR.2⟩
    exact gcHi (As := [.ref x1, .ref x2]) (rest := rest) S X Z hw h (fun u1 e1 => by rw [h1] at e1; cases e1; exact hm) cw (g_recv X hw (ci := 17) rfl (gcell_18 ht)) rfl hz hst hrm hd kk
  · have cw : va_CU R s args RX1 RX22 "PulseRent$Line" 308 ⟨"PulseRent$Line", "isDone", "(LPulseRent;LPulseRent$State;)Z"⟩ yX22_isDone cX22_isDone 3 (Option.some Jvm.ClassFile.FieldType.boolean) (ws_ yX22_isDone cX22_isDone 3 (Option.some Jvm.ClassFile.FieldType.boolean)) (gRoom (1105) (33123) LC LS g) (LC - gZ g) (LS - gN g) 2 := va_cwA 2 S.2.2.2.2 (lw_app (by intro w hw; simp only [List.mem_cons, List.not_mem_nil, or_false] at hw; rcases hw with e | e | e | e | e <;> rw [e]; exact q1492; exact q1494; exact q1504; exact q1505; exact q174) (lw_meth q1506)) rfl rfl rfl (X.2.2.2.2.2.1 _ q1493 rfl) (by decide +kernel) ⟨hR.1, Nat.le_trans (Nat.add_le_add_right (Nat.le_of_ble_eq_true rfl : 8 + (3 + 11) ≤ 8 + (3 + 11)) _) hR.2⟩
    exact gcHi (As := [.ref x1, .ref x2]) (rest := rest) S X Z hw h (fun u1 e1 => by rw [h1] at e1; cases e1; exact hm) cw (g_recv X hw (ci := 18) rfl (gcell_19 ht)) rfl hz hst hrm hd kk
  · have cw : va_CU R s args RX1 RX23 "PulseRent$Line" 308 ⟨"PulseRent$Line", "isDone", "(LPulseRent;LPulseRent$State;)Z"⟩ yX23_isDone cX23_isDone 3 (Option.some Jvm.ClassFile.FieldType.boolean) (ws_ yX23_isDone cX23_isDone 3 (Option.some Jvm.ClassFile.FieldType.boolean)) (gRoom (1105) (33123) LC LS g) (LC - gZ g) (LS - gN g) 2 := va_cwA 2 S.2.2.2.2 (lw_app (by intro w hw; simp only [List.mem_cons, List.not_mem_nil, or_false] at hw; rcases hw with e | e | e | e | e <;> rw [e]; exact q1492; exact q1494; exact q1500; exact q1501; exact q175) (lw_meth q1502)) rfl rfl rfl (X.2.2.2.2.2.1 _ q1493 rfl) (by decide +kernel) ⟨hR.1, Nat.le_trans (Nat.add_le_add_right (Nat.le_of_ble_eq_true rfl : 8 + (3 + 11) ≤ 8 + (3 + 11)) _) hR.2⟩
    exact gcHi (As := [.ref x1, .ref x2]) (rest := rest) S X Z hw h (fun u1 e1 => by rw [h1] at e1; cases e1; exact hm) cw (g_recv X hw (ci := 19) rfl (gcell_20 ht)) rfl hz hst hrm hd kk
  · have cw : va_CU R s args RX1 RX24 "PulseRent$Line" 308 ⟨"PulseRent$Line", "isDone", "(LPulseRent;LPulseRent$State;)Z"⟩ yX24_isDone cX24_isDone 3 (Option.some Jvm.ClassFile.FieldType.boolean) (ws_ yX24_isDone cX24_isDone 3 (Option.some Jvm.ClassFile.FieldType.boolean)) (gRoom (1105) (33123) LC LS g) (LC - gZ g) (LS - gN g) 2 := va_cwA 2 S.2.2.2.2 (lw_app (by intro w hw; simp only [List.mem_cons, List.not_mem_nil, or_false] at hw; rcases hw with e | e | e | e | e <;> rw [e]; exact q1492; exact q1494; exact q1509; exact q1510; exact q176) (lw_meth q1511)) rfl rfl rfl (X.2.2.2.2.2.1 _ q1493 rfl) (by decide +kernel) ⟨hR.1, Nat.le_trans (Nat.add_le_add_right (Nat.le_of_ble_eq_true rfl : 8 + (3 + 11) ≤ 8 + (3 + 11)) _) hR.2⟩
    exact gcHi (As := [.ref x1, .ref x2]) (rest := rest) S X Z hw h (fun u1 e1 => by rw [h1] at e1; cases e1; exact hm) cw (g_recv X hw (ci := 20) rfl (gcell_21 ht)) rfl hz hst hrm hd kk
  · have cw : va_CU R s args RX1 RX20 "PulseRent$Line" 308 ⟨"PulseRent$Line", "isDone", "(LPulseRent;LPulseRent$State;)Z"⟩ yX20_isDone cX20_isDone 3 (Option.some Jvm.ClassFile.FieldType.boolean) (ws_ yX20_isDone cX20_isDone 3 (Option.some Jvm.ClassFile.FieldType.boolean)) (gRoom (1105) (33123) LC LS g) (LC - gZ g) (LS - gN g) 2 := va_cwA 2 S.2.2.2.2 (lw_app (by intro w hw; simp only [List.mem_cons, List.not_mem_nil, or_false] at hw; rcases hw with e | e | e | e | e <;> rw [e]; exact q1492; exact q1494; exact q1513; exact q1514; exact q172) (lw_meth q1515)) rfl rfl rfl (X.2.2.2.2.2.1 _ q1493 rfl) (by decide +kernel) ⟨hR.1, Nat.le_trans (Nat.add_le_add_right (Nat.le_of_ble_eq_true rfl : 8 + (3 + 11) ≤ 8 + (3 + 11)) _) hR.2⟩
    exact gcHi (As := [.ref x1, .ref x2]) (rest := rest) S X Z hw h (fun u1 e1 => by rw [h1] at e1; cases e1; exact hm) cw (g_recv X hw (ci := 27) rfl (gcell_22 ht)) rfl hz hst hrm hd kk
end
def B_X1_judged_p72 (k30 : Nat → Int32 → Int32 → Int32 → Int32 → GS → Option (Int32 × GS)) (x0 : Nat) (x1 : Int32) (x2 : Int32) (x3 : Int32) (x4 : Int32) (w : GS) : Option (Int32 × GS) :=
  bd1 (oRn w x0 1 1 5) fun a18 =>
  bd1 (oI w a18 4 4 7) fun v19 =>
  if v19 = 0 then
    k30 x0 x1 x2 x3 (x4 + (1 : Int32)) w
  else
    if 0 ≤ x3 then
      k30 x0 x1 x2 x3 (x4 + (1 : Int32)) w
    else
      k30 x0 x1 x2 x4 (x4 + (1 : Int32)) w
def B_X1_judged_p30 : Nat → Nat → Int32 → Int32 → Int32 → Int32 → GS → Option (Int32 × GS)
  | 0, _, _, _, _, _, _ => none
  | n + 1, x0, x1, x2, x3, x4, w =>
    bd1 (oRn w x0 1 1 3) fun a5 =>
    bd1 (oK w a5 23 23) fun _ =>
    bd1 (B_J2_size a5 w) fun r6 =>
    if r6 ≤ x4 then
      if x1 = 0 then
        some (x2, w)
      else
        if x1 = (1 : Int32) then
          some (x3, w)
        else
          bd1 (oRn w x0 1 1 5) fun a10 =>
          bd1 (oI w a10 4 4 7) fun v11 =>
          some (B_J17_bitCount v11, w)
    else
      bd1 (oRn w x0 1 1 3) fun a12 =>
      bd1 (oK w a12 23 23) fun _ =>
      bd1 (B_J2_get a12 x4 w) fun a13 =>
      bd1 (oK w a13 17 22) fun _ =>
      bd1 (oRn w x0 1 1 5) fun a14 =>
      bd2 (V_isDone a13 x0 a14 w) fun r15 w16 =>
      if r15 = 0 then
        if 0 ≤ x2 then
          B_X1_judged_p72 (B_X1_judged_p30 n) x0 x1 x2 x3 x4 w16
        else
          B_X1_judged_p72 (B_X1_judged_p30 n) x0 x1 x4 x3 x4 w16
      else
        B_X1_judged_p72 (B_X1_judged_p30 n) x0 x1 x2 x3 x4 w16
def B_X1_judged (x0 : Nat) (x1 : Int32) (w : GS) : Option (Int32 × GS) :=
  if (B_X1_in x1 (0 : Int32) (2 : Int32)) = 0 then
    some ((-2 : Int32), w)
  else
    bd1 (oRn w x0 1 1 5) fun a2 =>
    bd1 (oRn w x0 1 1 2) fun a3 =>
    bd1 (oK w a2 4 4) fun _ =>
    bd1 (B_X4_begin a2 a3 w) fun w4 =>
    B_X1_judged_p30 FU x0 x1 (-1 : Int32) (-1 : Int32) (0 : Int32) w4
set_option maxRecDepth 100000 in
set_option maxHeartbeats 4000000 in
theorem wk_B_X1_judged_p72 {p : Program} {l : Launch} {e : Env} {R : Room} {s : State} {m : MethodId} {args : Array Value} {below : List Frame} {meth : Method} {c : Code} {E : gE} {A : Nat → Prop} {LC LS : Nat} (S : CallFix p m c cX1_judged 5 s args lw_all RX1) (X : gCtx E A s) (Z : gRm R s LC LS) (hF : 1106 ≤ R.frames) (hL : 33145 ≤ R.locals) (hr : meth.sig.returnType = (Option.some Jvm.ClassFile.FieldType.int)) (hlocks : meth.locks = false) {res : Int32 × GS}  {k30 : Nat → Int32 → Int32 → Int32 → Int32 → GS → Option (Int32 × GS)} (hk30 : ∀ (x0 : Nat) (x1 : Int32) (x2 : Int32) (x3 : Int32) (x4 : Int32) (w : GS) (H : Heap) (locs : List Loc) (ls : Array Slot), k30 x0 x1 x2 x3 x4 w = some res → gH E A LC LS s w H locs → lv_has ls 5 [(0, .ref x0), (1, .int x1), (2, .int x2), (3, .int x3), (4, .int x4)] → W p l e R s m args below meth c H locs (H.size - s.heap.size) (tot H - tot s.heap) (MQ below (gQi E A LC LS res.1 res.2) args s R.cells R.slots A) (F0 m 30 ls [])) : ∀ (x0 : Nat) (x1 : Int32) (x2 : Int32) (x3 : Int32) (x4 : Int32) (w : GS) (H : Heap) (locs : List Loc) (ls : Array Slot), B_X1_judged_p72 k30 x0 x1 x2 x3 x4 w = some res → gH E A LC LS s w H locs → lv_has ls 5 [(0, .ref x0), (1, .int x1), (2, .int x2), (3, .int x3), (4, .int x4)] → W p l e R s m args below meth c H locs (H.size - s.heap.size) (tot H - tot s.heap) (MQ below (gQi E A LC LS res.1 res.2) args s R.cells R.slots A) (F0 m 72 ls []) := by
  intro x0 x1 x2 x3 x4 w H locs ls h hw hl
  unfold B_X1_judged_p72 at h
  refine lv_aload_n S.1 S.2.1 dX1_judged_72 rfl (lv_at hl 0 rfl) ?_
  refine ggX1_55 S X hw dX1_judged_73 h (fun a18 h => ?_)
  refine ggX1_249 S X hw dX1_judged_76 h (fun v19 h => ?_)
  refine lv_if_eq (tgt := 89) S.1 S.2.1 dX1_judged_79 rfl (fun c20 => ?_) (fun c20 => ?_)
  · replace h := if_t c20 h
    refine lv_iinc (v := x4 + (1 : Int32)) (lv' := [(4, .int (x4 + (1 : Int32))), (0, .ref x0), (1, .int x1), (2, .int x2), (3, .int x3)]) S.1 S.2.1 dX1_judged_89 hl (k := 4) rfl rfl (by decide) rfl (fun ls hl => ?_)
    refine lv_goto (tgt := 30) S.1 S.2.1 dX1_judged_92 rfl ?_
    exact hk30 _ _ _ _ _ _ _ _ _ h hw (lv_sub hl [1, 2, 3, 4, 0] rfl)
  · replace h := if_f c20 h
    refine lv_iload_n S.1 S.2.1 dX1_judged_82 rfl (lv_at hl 3 rfl) ?_
    refine lv_if_ge (tgt := 89) S.1 S.2.1 dX1_judged_83 rfl (fun c21 => ?_) (fun c21 => ?_)
    · replace h := if_t c21 h
      refine lv_iinc (v := x4 + (1 : Int32)) (lv' := [(4, .int (x4 + (1 : Int32))), (0, .ref x0), (1, .int x1), (2, .int x2), (3, .int x3)]) S.1 S.2.1 dX1_judged_89 hl (k := 4) rfl rfl (by decide) rfl (fun ls hl => ?_)
      refine lv_goto (tgt := 30) S.1 S.2.1 dX1_judged_92 rfl ?_
      exact hk30 _ _ _ _ _ _ _ _ _ h hw (lv_sub hl [1, 2, 3, 4, 0] rfl)
    · replace h := if_f c21 h
      refine lv_iload S.1 S.2.1 dX1_judged_86 (lv_at hl 4 rfl) ?_
      refine lv_istore_n (lv' := [(3, .int x4), (0, .ref x0), (1, .int x1), (2, .int x2), (4, .int x4)]) S.1 S.2.1 dX1_judged_88 rfl hl (by decide) rfl (fun ls hl => ?_)
      refine lv_iinc (v := x4 + (1 : Int32)) (lv' := [(4, .int (x4 + (1 : Int32))), (3, .int x4), (0, .ref x0), (1, .int x1), (2, .int x2)]) S.1 S.2.1 dX1_judged_89 hl (k := 4) rfl rfl (by decide) rfl (fun ls hl => ?_)
      refine lv_goto (tgt := 30) S.1 S.2.1 dX1_judged_92 rfl ?_
      exact hk30 _ _ _ _ _ _ _ _ _ h hw (lv_sub hl [2, 3, 4, 1, 0] rfl)
set_option maxRecDepth 100000 in
set_option maxHeartbeats 4000000 in
theorem wk_B_X1_judged_p30 {p : Program} {l : Launch} {e : Env} {R : Room} {s : State} {m : MethodId} {args : Array Value} {below : List Frame} {meth : Method} {c : Code} {E : gE} {A : Nat → Prop} {LC LS : Nat} (S : CallFix p m c cX1_judged 5 s args lw_all RX1) (X : gCtx E A s) (Z : gRm R s LC LS) (hF : 1106 ≤ R.frames) (hL : 33145 ≤ R.locals) (hr : meth.sig.returnType = (Option.some Jvm.ClassFile.FieldType.int)) (hlocks : meth.locks = false) {res : Int32 × GS}  : ∀ n : Nat, ∀ (x0 : Nat) (x1 : Int32) (x2 : Int32) (x3 : Int32) (x4 : Int32) (w : GS) (H : Heap) (locs : List Loc) (ls : Array Slot), B_X1_judged_p30 n x0 x1 x2 x3 x4 w = some res → gH E A LC LS s w H locs → lv_has ls 5 [(0, .ref x0), (1, .int x1), (2, .int x2), (3, .int x3), (4, .int x4)] → W p l e R s m args below meth c H locs (H.size - s.heap.size) (tot H - tot s.heap) (MQ below (gQi E A LC LS res.1 res.2) args s R.cells R.slots A) (F0 m 30 ls []) := by
  intro n
  induction n with
  | zero => intro x0 x1 x2 x3 x4 w H locs ls h; cases (show (none : Option (Int32 × GS)) = some res from h)
  | succ n ih =>
    intro x0 x1 x2 x3 x4 w H locs ls h hw hl
    rw [B_X1_judged_p30] at h
    refine lv_iload S.1 S.2.1 dX1_judged_30 (lv_at hl 4 rfl) ?_
    refine lv_aload_n S.1 S.2.1 dX1_judged_32 rfl (lv_at hl 0 rfl) ?_
    refine ggX1_44 S X hw dX1_judged_33 h (fun a5 h => ?_)
    obtain ⟨hrc, h⟩ := oK1 h
    refine gcVri (As := []) (rest := [.int x4]) S X Z hw (b := a5) h (fun u h1 => met_B_J2_size l E A LC LS a5 w u h1) (cb_X1_136 S.2.2.2.2 rfl rfl ⟨Nat.le_trans (Nat.le_of_ble_eq_true rfl : 0 + 1 ≤ 1106) hF, Nat.le_trans (Nat.le_of_ble_eq_true rfl : 8 + (1 + 11) + 0 ≤ 33145) hL⟩) (g_recv X hw (ci := 22) rfl (gcell_23 hrc)) rfl hl.1 rfl (lv_room (Nat.le_of_ble_eq_true rfl)) dX1_judged_36 (fun r6 H locs h hw => ?_)
    refine lv_icmp_ge (tgt := 95) S.1 S.2.1 dX1_judged_39 rfl (fun c7 => ?_) (fun c7 => ?_)
    · replace h := if_t c7 h
      refine lv_iload_n S.1 S.2.1 dX1_judged_95 rfl (lv_at hl 1 rfl) ?_
      refine lv_if_ne (tgt := 103) S.1 S.2.1 dX1_judged_96 rfl (fun c8 => ?_) (fun c8 => ?_)
      · replace h := if_f c8 h
        refine lv_iload_n S.1 S.2.1 dX1_judged_103 rfl (lv_at hl 1 rfl) ?_
        refine lv_iconst (v := 1) S.1 S.2.1 dX1_judged_104 rfl ?_
        refine lv_icmp_ne (tgt := 112) S.1 S.2.1 dX1_judged_105 rfl (fun c9 => ?_) (fun c9 => ?_)
        · replace h := if_f c9 h
          refine lv_aload_n S.1 S.2.1 dX1_judged_112 rfl (lv_at hl 0 rfl) ?_
          refine ggX1_55 S X hw dX1_judged_113 h (fun a10 h => ?_)
          refine ggX1_249 S X hw dX1_judged_116 h (fun v11 h => ?_)
          refine gcSti (As := [.int v11]) (rest := []) S X Z hw (met_B_J17_bitCount l E A LC LS v11 w _ rfl) (cb_X1_312 S.2.2.2.2 rfl rfl ⟨Nat.le_trans (Nat.le_of_ble_eq_true rfl : 0 + 1 ≤ 1106) hF, Nat.le_trans (Nat.le_of_ble_eq_true rfl : 8 + (1 + 11) + 0 ≤ 33145) hL⟩) rfl hl.1 rfl (lv_room (Nat.le_of_ble_eq_true rfl)) dX1_judged_119 (fun H locs hw => ?_)
          exact g_iret S Z hr hlocks hw (so2 h) dX1_judged_122
        · replace h := if_t c9 h
          refine lv_iload_n S.1 S.2.1 dX1_judged_108 rfl (lv_at hl 3 rfl) ?_
          refine lv_goto (tgt := 122) S.1 S.2.1 dX1_judged_109 rfl ?_
          exact g_iret S Z hr hlocks hw (so2 h) dX1_judged_122
      · replace h := if_t c8 h
        refine lv_iload_n S.1 S.2.1 dX1_judged_99 rfl (lv_at hl 2 rfl) ?_
        refine lv_goto (tgt := 122) S.1 S.2.1 dX1_judged_100 rfl ?_
        exact g_iret S Z hr hlocks hw (so2 h) dX1_judged_122
    · replace h := if_f c7 h
      refine lv_aload_n S.1 S.2.1 dX1_judged_42 rfl (lv_at hl 0 rfl) ?_
      refine ggX1_44 S X hw dX1_judged_43 h (fun a12 h => ?_)
      refine lv_iload S.1 S.2.1 dX1_judged_46 (lv_at hl 4 rfl) ?_
      obtain ⟨hrc, h⟩ := oK1 h
      refine gcVrr (As := [.int x4]) (rest := []) S X Z hw (b := a12) h (fun u h1 => met_B_J2_get l E A LC LS a12 x4 w u h1) (cb_X1_140 S.2.2.2.2 rfl rfl ⟨Nat.le_trans (Nat.le_of_ble_eq_true rfl : 2 + 1 ≤ 1106) hF, Nat.le_trans (Nat.le_of_ble_eq_true rfl : 8 + (2 + 11) + 43 ≤ 33145) hL⟩) (g_recv X hw (ci := 22) rfl (gcell_23 hrc)) rfl hl.1 rfl (lv_room (Nat.le_of_ble_eq_true rfl)) dX1_judged_48 (fun a13 H locs h hw => ?_)
      refine gckX1_306 S X hw dX1_judged_51 h (fun _ h => ?_)
      refine lv_aload_n S.1 S.2.1 dX1_judged_54 rfl (lv_at hl 0 rfl) ?_
      refine lv_aload_n S.1 S.2.1 dX1_judged_55 rfl (lv_at hl 0 rfl) ?_
      refine ggX1_55 S X hw dX1_judged_56 h (fun a14 h => ?_)
      refine dv_X1_308  (rest := []) S X Z hw h (fun u h1 => dm_isDone l E A LC LS a13 x0 a14 w u h1) ⟨Nat.le_trans (Nat.le_of_ble_eq_true rfl : 1105 + 1 ≤ 1106) hF, Nat.le_trans (Nat.le_of_ble_eq_true rfl : 8 + (3 + 11) + 33123 ≤ 33145) hL⟩ hl.1 rfl (lv_room (Nat.le_of_ble_eq_true rfl)) dX1_judged_59 (fun r15 w16 H locs h hw => ?_)
      refine lv_if_ne (tgt := 72) S.1 S.2.1 dX1_judged_62 rfl (fun c17 => ?_) (fun c17 => ?_)
      · replace h := if_f c17 h
        exact wk_B_X1_judged_p72 S X Z hF hL hr hlocks  ih _ _ _ _ _ _ _ _ _ h hw (lv_sub hl [0, 1, 2, 3, 4] rfl)
      · replace h := if_t c17 h
        refine lv_iload_n S.1 S.2.1 dX1_judged_65 rfl (lv_at hl 2 rfl) ?_
        refine lv_if_ge (tgt := 72) S.1 S.2.1 dX1_judged_66 rfl (fun c22 => ?_) (fun c22 => ?_)
        · replace h := if_t c22 h
          exact wk_B_X1_judged_p72 S X Z hF hL hr hlocks  ih _ _ _ _ _ _ _ _ _ h hw (lv_sub hl [0, 1, 2, 3, 4] rfl)
        · replace h := if_f c22 h
          refine lv_iload S.1 S.2.1 dX1_judged_69 (lv_at hl 4 rfl) ?_
          refine lv_istore_n (lv' := [(2, .int x4), (0, .ref x0), (1, .int x1), (3, .int x3), (4, .int x4)]) S.1 S.2.1 dX1_judged_71 rfl hl (by decide) rfl (fun ls hl => ?_)
          exact wk_B_X1_judged_p72 S X Z hF hL hr hlocks  ih _ _ _ _ _ _ _ _ _ h hw (lv_sub hl [1, 2, 0, 3, 4] rfl)
set_option maxRecDepth 100000 in
set_option maxHeartbeats 4000000 in
theorem met_B_X1_judged (l : Launch) (E : gE) (A : Nat → Prop) (LC LS : Nat)  (x0 : Nat) (x1 : Int32) (w : GS) (res : Int32 × GS) (h : B_X1_judged x0 x1 w = some res) : Met l yX1_judged (ws_ yX1_judged cX1_judged 5 (Option.some Jvm.ClassFile.FieldType.int)) (gRoom 1106 33145 LC LS w) (gPc E A LC LS [.ref x0, .int x1] w) (gQi E A LC LS res.1 res.2) (LC - gZ w) (LS - gN w) A := by
  refine gMet (by decide) rfl (Nat.le_of_ble_eq_true rfl) ?_
  intro p e s m below meth c R S hr hlocks hin2 X Z hF hL H ls hw hl
  replace hl : lv_has ls 5 [(0, .ref x0), (1, .int x1)] := hl
  unfold B_X1_judged at h
  refine lv_iload_n S.1 S.2.1 dX1_judged_0 rfl (lv_at hl 1 rfl) ?_
  refine lv_iconst (v := 0) S.1 S.2.1 dX1_judged_1 rfl ?_
  refine lv_iconst (v := 2) S.1 S.2.1 dX1_judged_2 rfl ?_
  refine gcSti (As := [.int x1, .int (0 : Int32), .int (2 : Int32)]) (rest := []) S X Z hw (met_B_X1_in l E A LC LS x1 (0 : Int32) (2 : Int32) w _ rfl) (cb_X1_153 S.2.2.2.2 rfl rfl ⟨Nat.le_trans (Nat.le_of_ble_eq_true rfl : 0 + 1 ≤ 1106) hF, Nat.le_trans (Nat.le_of_ble_eq_true rfl : 8 + (3 + 11) + 0 ≤ 33145) hL⟩) rfl hl.1 rfl (lv_room (Nat.le_of_ble_eq_true rfl)) dX1_judged_3 (fun H locs hw => ?_)
  refine lv_if_ne (tgt := 12) S.1 S.2.1 dX1_judged_6 rfl (fun c1 => ?_) (fun c1 => ?_)
  · replace h := if_f c1 h
    refine lv_aload_n S.1 S.2.1 dX1_judged_12 rfl (lv_at hl 0 rfl) ?_
    refine ggX1_55 S X hw dX1_judged_13 h (fun a2 h => ?_)
    refine lv_aload_n S.1 S.2.1 dX1_judged_16 rfl (lv_at hl 0 rfl) ?_
    refine ggX1_35 S X hw dX1_judged_17 h (fun a3 h => ?_)
    obtain ⟨hrc, h⟩ := oK1 h
    refine gcVv (As := [.ref a3]) (rest := []) S X Z hw (b := a2) h (fun u h1 => met_B_X4_begin l E A LC LS a2 a3 w u h1) (cb_X1_101 S.2.2.2.2 rfl rfl ⟨Nat.le_trans (Nat.le_of_ble_eq_true rfl : 3 + 1 ≤ 1106) hF, Nat.le_trans (Nat.le_of_ble_eq_true rfl : 8 + (4 + 11) + 64 ≤ 33145) hL⟩) (g_recv X hw (ci := 3) rfl (gcell_4 hrc)) rfl hl.1 rfl (lv_room (Nat.le_of_ble_eq_true rfl)) dX1_judged_20 (fun w4 H locs h hw => ?_)
    refine lv_iconst (v := -1) S.1 S.2.1 dX1_judged_23 rfl ?_
    refine lv_istore_n (lv' := [(2, .int (-1 : Int32)), (0, .ref x0), (1, .int x1)]) S.1 S.2.1 dX1_judged_24 rfl hl (by decide) rfl (fun ls hl => ?_)
    refine lv_iconst (v := -1) S.1 S.2.1 dX1_judged_25 rfl ?_
    refine lv_istore_n (lv' := [(3, .int (-1 : Int32)), (2, .int (-1 : Int32)), (0, .ref x0), (1, .int x1)]) S.1 S.2.1 dX1_judged_26 rfl hl (by decide) rfl (fun ls hl => ?_)
    refine lv_iconst (v := 0) S.1 S.2.1 dX1_judged_27 rfl ?_
    refine lv_istore (lv' := [(4, .int (0 : Int32)), (3, .int (-1 : Int32)), (2, .int (-1 : Int32)), (0, .ref x0), (1, .int x1)]) S.1 S.2.1 dX1_judged_28 hl (by decide) rfl (fun ls hl => ?_)
    exact wk_B_X1_judged_p30 S X Z hF hL hr hlocks  FU _ _ _ _ _ _ _ _ _ h hw (lv_sub hl [3, 4, 2, 1, 0] rfl)
  · replace h := if_t c1 h
    refine lv_bipush (v := -2) S.1 S.2.1 dX1_judged_9 rfl ?_
    exact g_iret S Z hr hlocks hw (so2 h) dX1_judged_11
def B_X1_owed (x0 : Nat) (x1 : Int32) (w : GS) : Option (Int32 × GS) :=
  bd1 (oK w x0 1 1) fun _ =>
  bd1 (B_X1_isHome x0 x1 w) fun r1 =>
  if r1 = 0 then
    some ((-1 : Int32), w)
  else
    bd1 (oRn w x0 1 1 4) fun a3 =>
    bd1 (oK w x0 1 1) fun _ =>
    bd2 (B_X1_due x0 a3 x1 w) fun r5 w4 =>
    some (r5, w4)
set_option maxRecDepth 100000 in
set_option maxHeartbeats 4000000 in
theorem met_B_X1_owed (l : Launch) (E : gE) (A : Nat → Prop) (LC LS : Nat)  (x0 : Nat) (x1 : Int32) (w : GS) (res : Int32 × GS) (h : B_X1_owed x0 x1 w = some res) : Met l yX1_owed (ws_ yX1_owed cX1_owed 2 (Option.some Jvm.ClassFile.FieldType.int)) (gRoom 1104 33098 LC LS w) (gPc E A LC LS [.ref x0, .int x1] w) (gQi E A LC LS res.1 res.2) (LC - gZ w) (LS - gN w) A := by
  refine gMet (by decide) rfl (Nat.le_of_ble_eq_true rfl) ?_
  intro p e s m below meth c R S hr hlocks hin2 X Z hF hL H ls hw hl
  replace hl : lv_has ls 2 [(0, .ref x0), (1, .int x1)] := hl
  unfold B_X1_owed at h
  refine lv_aload_n S.1 S.2.1 dX1_owed_0 rfl (lv_at hl 0 rfl) ?_
  refine lv_iload_n S.1 S.2.1 dX1_owed_1 rfl (lv_at hl 1 rfl) ?_
  obtain ⟨hrc, h⟩ := oK1 h
  refine gcVri (As := [.int x1]) (rest := []) S X Z hw (b := x0) h (fun u h1 => met_B_X1_isHome l E A LC LS x0 x1 w u h1) (cb_X1_273 S.2.2.2.2 rfl rfl ⟨Nat.le_trans (Nat.le_of_ble_eq_true rfl : 3 + 1 ≤ 1104) hF, Nat.le_trans (Nat.le_of_ble_eq_true rfl : 8 + (2 + 11) + 61 ≤ 33098) hL⟩) (g_recv X hw (ci := 0) rfl (gcell_1 hrc)) rfl hl.1 rfl (lv_room (Nat.le_of_ble_eq_true rfl)) dX1_owed_2 (fun r1 H locs h hw => ?_)
  refine lv_if_eq (tgt := 20) S.1 S.2.1 dX1_owed_5 rfl (fun c2 => ?_) (fun c2 => ?_)
  · replace h := if_t c2 h
    refine lv_iconst (v := -1) S.1 S.2.1 dX1_owed_20 rfl ?_
    exact g_iret S Z hr hlocks hw (so2 h) dX1_owed_21
  · replace h := if_f c2 h
    refine lv_aload_n S.1 S.2.1 dX1_owed_8 rfl (lv_at hl 0 rfl) ?_
    refine lv_aload_n S.1 S.2.1 dX1_owed_9 rfl (lv_at hl 0 rfl) ?_
    refine ggX1_51 S X hw dX1_owed_10 h (fun a3 h => ?_)
    refine lv_iload_n S.1 S.2.1 dX1_owed_13 rfl (lv_at hl 1 rfl) ?_
    obtain ⟨hrc, h⟩ := oK1 h
    refine gcVi (As := [.ref a3, .int x1]) (rest := []) S X Z hw (b := x0) h (fun u h1 => met_B_X1_due l E A LC LS x0 a3 x1 w u h1) (cb_X1_240 S.2.2.2.2 rfl rfl ⟨Nat.le_trans (Nat.le_of_ble_eq_true rfl : 1103 + 1 ≤ 1104) hF, Nat.le_trans (Nat.le_of_ble_eq_true rfl : 8 + (3 + 11) + 33076 ≤ 33098) hL⟩) (g_recv X hw (ci := 0) rfl (gcell_1 hrc)) rfl hl.1 rfl (lv_room (Nat.le_of_ble_eq_true rfl)) dX1_owed_14 (fun r5 w4 H locs h hw => ?_)
    refine lv_goto (tgt := 21) S.1 S.2.1 dX1_owed_17 rfl ?_
    exact g_iret S Z hr hlocks hw (so2 h) dX1_owed_21
def B_X1_will (x0 : Nat) (x1 : Int32) (x2 : Int32) (w : GS) : Option (Int32 × GS) :=
  bd1 (oK w x0 1 1) fun _ =>
  bd1 (B_X1_isHome x0 x1 w) fun r1 =>
  if r1 = 0 then
    some ((-1 : Int32), w)
  else
    if (B_X1_in x2 (0 : Int32) (240 : Int32)) = 0 then
      some ((-1 : Int32), w)
    else
      bd1 (oRn w x0 1 1 5) fun a4 =>
      bd1 (oRn w x0 1 1 4) fun a5 =>
      bd1 (oK w a4 4 4) fun _ =>
      bd1 (B_X4_be a4 a5 w) fun w6 =>
      bd1 (oRn w6 x0 1 1 5) fun a7 =>
      bd1 (oK w6 x0 1 1) fun _ =>
      bd1 (B_X1_pass x0 a7 x2 w6) fun w8 =>
      bd1 (oRn w8 x0 1 1 5) fun a9 =>
      bd1 (oRn w8 a9 4 4 4) fun a10 =>
      bd1 (aI w8 a10 40 x1) fun v11 =>
      some (v11, w8)
set_option maxRecDepth 100000 in
set_option maxHeartbeats 4000000 in
theorem met_B_X1_will (l : Launch) (E : gE) (A : Nat → Prop) (LC LS : Nat)  (x0 : Nat) (x1 : Int32) (x2 : Int32) (w : GS) (res : Int32 × GS) (h : B_X1_will x0 x1 x2 w = some res) : Met l yX1_will (ws_ yX1_will cX1_will 3 (Option.some Jvm.ClassFile.FieldType.int)) (gRoom 7 157 LC LS w) (gPc E A LC LS [.ref x0, .int x1, .int x2] w) (gQi E A LC LS res.1 res.2) (LC - gZ w) (LS - gN w) A := by
  refine gMet (by decide) rfl (Nat.le_of_ble_eq_true rfl) ?_
  intro p e s m below meth c R S hr hlocks hin2 X Z hF hL H ls hw hl
  replace hl : lv_has ls 3 [(0, .ref x0), (1, .int x1), (2, .int x2)] := hl
  unfold B_X1_will at h
  refine lv_aload_n S.1 S.2.1 dX1_will_0 rfl (lv_at hl 0 rfl) ?_
  refine lv_iload_n S.1 S.2.1 dX1_will_1 rfl (lv_at hl 1 rfl) ?_
  obtain ⟨hrc, h⟩ := oK1 h
  refine gcVri (As := [.int x1]) (rest := []) S X Z hw (b := x0) h (fun u h1 => met_B_X1_isHome l E A LC LS x0 x1 w u h1) (cb_X1_273 S.2.2.2.2 rfl rfl ⟨Nat.le_trans (Nat.le_of_ble_eq_true rfl : 3 + 1 ≤ 7) hF, Nat.le_trans (Nat.le_of_ble_eq_true rfl : 8 + (2 + 11) + 61 ≤ 157) hL⟩) (g_recv X hw (ci := 0) rfl (gcell_1 hrc)) rfl hl.1 rfl (lv_room (Nat.le_of_ble_eq_true rfl)) dX1_will_2 (fun r1 H locs h hw => ?_)
  refine lv_if_eq (tgt := 19) S.1 S.2.1 dX1_will_5 rfl (fun c2 => ?_) (fun c2 => ?_)
  · replace h := if_t c2 h
    refine lv_iconst (v := -1) S.1 S.2.1 dX1_will_19 rfl ?_
    exact g_iret S Z hr hlocks hw (so2 h) dX1_will_20
  · replace h := if_f c2 h
    refine lv_iload_n S.1 S.2.1 dX1_will_8 rfl (lv_at hl 2 rfl) ?_
    refine lv_iconst (v := 0) S.1 S.2.1 dX1_will_9 rfl ?_
    refine lv_sipush (v := 240) S.1 S.2.1 dX1_will_10 rfl ?_
    refine gcSti (As := [.int x2, .int (0 : Int32), .int (240 : Int32)]) (rest := []) S X Z hw (met_B_X1_in l E A LC LS x2 (0 : Int32) (240 : Int32) w _ rfl) (cb_X1_153 S.2.2.2.2 rfl rfl ⟨Nat.le_trans (Nat.le_of_ble_eq_true rfl : 0 + 1 ≤ 7) hF, Nat.le_trans (Nat.le_of_ble_eq_true rfl : 8 + (3 + 11) + 0 ≤ 157) hL⟩) rfl hl.1 rfl (lv_room (Nat.le_of_ble_eq_true rfl)) dX1_will_13 (fun H locs hw => ?_)
    refine lv_if_ne (tgt := 21) S.1 S.2.1 dX1_will_16 rfl (fun c3 => ?_) (fun c3 => ?_)
    · replace h := if_f c3 h
      refine lv_aload_n S.1 S.2.1 dX1_will_21 rfl (lv_at hl 0 rfl) ?_
      refine ggX1_55 S X hw dX1_will_22 h (fun a4 h => ?_)
      refine lv_aload_n S.1 S.2.1 dX1_will_25 rfl (lv_at hl 0 rfl) ?_
      refine ggX1_51 S X hw dX1_will_26 h (fun a5 h => ?_)
      obtain ⟨hrc, h⟩ := oK1 h
      refine gcVv (As := [.ref a5]) (rest := []) S X Z hw (b := a4) h (fun u h1 => met_B_X4_be l E A LC LS a4 a5 w u h1) (cb_X1_276 S.2.2.2.2 rfl rfl ⟨Nat.le_trans (Nat.le_of_ble_eq_true rfl : 1 + 1 ≤ 7) hF, Nat.le_trans (Nat.le_of_ble_eq_true rfl : 8 + (2 + 11) + 22 ≤ 157) hL⟩) (g_recv X hw (ci := 3) rfl (gcell_4 hrc)) rfl hl.1 rfl (lv_room (Nat.le_of_ble_eq_true rfl)) dX1_will_29 (fun w6 H locs h hw => ?_)
      refine lv_aload_n S.1 S.2.1 dX1_will_32 rfl (lv_at hl 0 rfl) ?_
      refine lv_aload_n S.1 S.2.1 dX1_will_33 rfl (lv_at hl 0 rfl) ?_
      refine ggX1_55 S X hw dX1_will_34 h (fun a7 h => ?_)
      refine lv_iload_n S.1 S.2.1 dX1_will_37 rfl (lv_at hl 2 rfl) ?_
      obtain ⟨hrc, h⟩ := oK1 h
      refine gcVv (As := [.ref a7, .int x2]) (rest := []) S X Z hw (b := x0) h (fun u h1 => met_B_X1_pass l E A LC LS x0 a7 x2 w6 u h1) (cb_X1_295 S.2.2.2.2 rfl rfl ⟨Nat.le_trans (Nat.le_of_ble_eq_true rfl : 6 + 1 ≤ 7) hF, Nat.le_trans (Nat.le_of_ble_eq_true rfl : 8 + (4 + 11) + 134 ≤ 157) hL⟩) (g_recv X hw (ci := 0) rfl (gcell_1 hrc)) rfl hl.1 rfl (lv_room (Nat.le_of_ble_eq_true rfl)) dX1_will_38 (fun w8 H locs h hw => ?_)
      refine lv_aload_n S.1 S.2.1 dX1_will_41 rfl (lv_at hl 0 rfl) ?_
      refine ggX1_55 S X hw dX1_will_42 h (fun a9 h => ?_)
      refine ggX1_199 S X hw dX1_will_45 h (fun a10 h => ?_)
      refine lv_iload_n S.1 S.2.1 dX1_will_48 rfl (lv_at hl 1 rfl) ?_
      refine gald40 S X hw dX1_will_49 h (fun v11 h => ?_)
      exact g_iret S Z hr hlocks hw (so2 h) dX1_will_50
    · replace h := if_t c3 h
      refine lv_iconst (v := -1) S.1 S.2.1 dX1_will_19 rfl ?_
      exact g_iret S Z hr hlocks hw (so2 h) dX1_will_20
def B_X1_last_p34 : Nat → Nat → Int32 → Int32 → Int32 → GS → Option (Int32 × GS)
  | 0, _, _, _, _, _ => none
  | n + 1, x0, x1, x2, x3, w =>
    if (20 : Int32) ≤ x3 then
      some (x3, w)
    else
      bd1 (oRn w x0 1 1 5) fun a8 =>
      bd1 (oK w x0 1 1) fun _ =>
      bd1 (B_X1_pass x0 a8 x2 w) fun w9 =>
      bd1 (oRn w9 x0 1 1 5) fun a10 =>
      bd1 (oK w9 x0 1 1) fun _ =>
      bd2 (B_X1_collects x0 a10 w9) fun r12 w11 =>
      bd1 (oRn w11 x0 1 1 5) fun a13 =>
      bd1 (oK w11 a13 4 4) fun _ =>
      bd1 (B_X4_isIn a13 x1 w11) fun r14 =>
      if r14 = 0 then
        some (x3, w11)
      else
        (B_X1_last_p34 n) x0 x1 x2 (x3 + (1 : Int32)) w11
def B_X1_last (x0 : Nat) (x1 : Int32) (x2 : Int32) (w : GS) : Option (Int32 × GS) :=
  bd1 (oK w x0 1 1) fun _ =>
  bd1 (B_X1_isHome x0 x1 w) fun r1 =>
  if r1 = 0 then
    some ((-1 : Int32), w)
  else
    if (B_X1_in x2 (1 : Int32) (240 : Int32)) = 0 then
      some ((-1 : Int32), w)
    else
      bd1 (oRn w x0 1 1 5) fun a4 =>
      bd1 (oRn w x0 1 1 4) fun a5 =>
      bd1 (oK w a4 4 4) fun _ =>
      bd1 (B_X4_be a4 a5 w) fun w6 =>
      B_X1_last_p34 FU x0 x1 x2 (0 : Int32) w6
set_option maxRecDepth 100000 in
set_option maxHeartbeats 4000000 in
theorem wk_B_X1_last_p34 {p : Program} {l : Launch} {e : Env} {R : Room} {s : State} {m : MethodId} {args : Array Value} {below : List Frame} {meth : Method} {c : Code} {E : gE} {A : Nat → Prop} {LC LS : Nat} (S : CallFix p m c cX1_last 4 s args lw_all RX1) (X : gCtx E A s) (Z : gRm R s LC LS) (hF : 1105 ≤ R.frames) (hL : 33123 ≤ R.locals) (hr : meth.sig.returnType = (Option.some Jvm.ClassFile.FieldType.int)) (hlocks : meth.locks = false) {res : Int32 × GS}  : ∀ n : Nat, ∀ (x0 : Nat) (x1 : Int32) (x2 : Int32) (x3 : Int32) (w : GS) (H : Heap) (locs : List Loc) (ls : Array Slot), B_X1_last_p34 n x0 x1 x2 x3 w = some res → gH E A LC LS s w H locs → lv_has ls 4 [(0, .ref x0), (1, .int x1), (2, .int x2), (3, .int x3)] → W p l e R s m args below meth c H locs (H.size - s.heap.size) (tot H - tot s.heap) (MQ below (gQi E A LC LS res.1 res.2) args s R.cells R.slots A) (F0 m 34 ls []) := by
  intro n
  induction n with
  | zero => intro x0 x1 x2 x3 w H locs ls h; cases (show (none : Option (Int32 × GS)) = some res from h)
  | succ n ih =>
    intro x0 x1 x2 x3 w H locs ls h hw hl
    rw [B_X1_last_p34] at h
    refine lv_iload_n S.1 S.2.1 dX1_last_34 rfl (lv_at hl 3 rfl) ?_
    refine lv_bipush (v := 20) S.1 S.2.1 dX1_last_35 rfl ?_
    refine lv_icmp_ge (tgt := 77) S.1 S.2.1 dX1_last_37 rfl (fun c7 => ?_) (fun c7 => ?_)
    · replace h := if_t c7 h
      refine lv_iload_n S.1 S.2.1 dX1_last_77 rfl (lv_at hl 3 rfl) ?_
      exact g_iret S Z hr hlocks hw (so2 h) dX1_last_78
    · replace h := if_f c7 h
      refine lv_aload_n S.1 S.2.1 dX1_last_40 rfl (lv_at hl 0 rfl) ?_
      refine lv_aload_n S.1 S.2.1 dX1_last_41 rfl (lv_at hl 0 rfl) ?_
      refine ggX1_55 S X hw dX1_last_42 h (fun a8 h => ?_)
      refine lv_iload_n S.1 S.2.1 dX1_last_45 rfl (lv_at hl 2 rfl) ?_
      obtain ⟨hrc, h⟩ := oK1 h
      refine gcVv (As := [.ref a8, .int x2]) (rest := []) S X Z hw (b := x0) h (fun u h1 => met_B_X1_pass l E A LC LS x0 a8 x2 w u h1) (cb_X1_295 S.2.2.2.2 rfl rfl ⟨Nat.le_trans (Nat.le_of_ble_eq_true rfl : 6 + 1 ≤ 1105) hF, Nat.le_trans (Nat.le_of_ble_eq_true rfl : 8 + (4 + 11) + 134 ≤ 33123) hL⟩) (g_recv X hw (ci := 0) rfl (gcell_1 hrc)) rfl hl.1 rfl (lv_room (Nat.le_of_ble_eq_true rfl)) dX1_last_46 (fun w9 H locs h hw => ?_)
      refine lv_aload_n S.1 S.2.1 dX1_last_49 rfl (lv_at hl 0 rfl) ?_
      refine lv_aload_n S.1 S.2.1 dX1_last_50 rfl (lv_at hl 0 rfl) ?_
      refine ggX1_55 S X hw dX1_last_51 h (fun a10 h => ?_)
      obtain ⟨hrc, h⟩ := oK1 h
      refine gcVi (As := [.ref a10]) (rest := []) S X Z hw (b := x0) h (fun u h1 => met_B_X1_collects l E A LC LS x0 a10 w9 u h1) (cb_X1_298 S.2.2.2.2 rfl rfl ⟨Nat.le_trans (Nat.le_of_ble_eq_true rfl : 1104 + 1 ≤ 1105) hF, Nat.le_trans (Nat.le_of_ble_eq_true rfl : 8 + (6 + 11) + 33098 ≤ 33123) hL⟩) (g_recv X hw (ci := 0) rfl (gcell_1 hrc)) rfl hl.1 rfl (lv_room (Nat.le_of_ble_eq_true rfl)) dX1_last_54 (fun r12 w11 H locs h hw => ?_)
      refine lv_pop S.1 S.2.1 dX1_last_57 rfl ?_
      refine lv_aload_n S.1 S.2.1 dX1_last_58 rfl (lv_at hl 0 rfl) ?_
      refine ggX1_55 S X hw dX1_last_59 h (fun a13 h => ?_)
      refine lv_iload_n S.1 S.2.1 dX1_last_62 rfl (lv_at hl 1 rfl) ?_
      obtain ⟨hrc, h⟩ := oK1 h
      refine gcVri (As := [.int x1]) (rest := []) S X Z hw (b := a13) h (fun u h1 => met_B_X4_isIn l E A LC LS a13 x1 w11 u h1) (cb_X1_163 S.2.2.2.2 rfl rfl ⟨Nat.le_trans (Nat.le_of_ble_eq_true rfl : 0 + 1 ≤ 1105) hF, Nat.le_trans (Nat.le_of_ble_eq_true rfl : 8 + (2 + 11) + 0 ≤ 33123) hL⟩) (g_recv X hw (ci := 3) rfl (gcell_4 hrc)) rfl hl.1 rfl (lv_room (Nat.le_of_ble_eq_true rfl)) dX1_last_63 (fun r14 H locs h hw => ?_)
      refine lv_if_ne (tgt := 71) S.1 S.2.1 dX1_last_66 rfl (fun c15 => ?_) (fun c15 => ?_)
      · replace h := if_f c15 h
        refine lv_iinc (v := x3 + (1 : Int32)) (lv' := [(3, .int (x3 + (1 : Int32))), (0, .ref x0), (1, .int x1), (2, .int x2)]) S.1 S.2.1 dX1_last_71 hl (k := 3) rfl rfl (by decide) rfl (fun ls hl => ?_)
        refine lv_goto (tgt := 34) S.1 S.2.1 dX1_last_74 rfl ?_
        exact ih _ _ _ _ _ _ _ _ h hw (lv_sub hl [1, 2, 3, 0] rfl)
      · replace h := if_t c15 h
        refine lv_iload_n S.1 S.2.1 dX1_last_69 rfl (lv_at hl 3 rfl) ?_
        exact g_iret S Z hr hlocks hw (so2 h) dX1_last_70
set_option maxRecDepth 100000 in
set_option maxHeartbeats 4000000 in
theorem met_B_X1_last (l : Launch) (E : gE) (A : Nat → Prop) (LC LS : Nat)  (x0 : Nat) (x1 : Int32) (x2 : Int32) (w : GS) (res : Int32 × GS) (h : B_X1_last x0 x1 x2 w = some res) : Met l yX1_last (ws_ yX1_last cX1_last 4 (Option.some Jvm.ClassFile.FieldType.int)) (gRoom 1105 33123 LC LS w) (gPc E A LC LS [.ref x0, .int x1, .int x2] w) (gQi E A LC LS res.1 res.2) (LC - gZ w) (LS - gN w) A := by
  refine gMet (by decide) rfl (Nat.le_of_ble_eq_true rfl) ?_
  intro p e s m below meth c R S hr hlocks hin2 X Z hF hL H ls hw hl
  replace hl : lv_has ls 4 [(0, .ref x0), (1, .int x1), (2, .int x2)] := hl
  unfold B_X1_last at h
  refine lv_aload_n S.1 S.2.1 dX1_last_0 rfl (lv_at hl 0 rfl) ?_
  refine lv_iload_n S.1 S.2.1 dX1_last_1 rfl (lv_at hl 1 rfl) ?_
  obtain ⟨hrc, h⟩ := oK1 h
  refine gcVri (As := [.int x1]) (rest := []) S X Z hw (b := x0) h (fun u h1 => met_B_X1_isHome l E A LC LS x0 x1 w u h1) (cb_X1_273 S.2.2.2.2 rfl rfl ⟨Nat.le_trans (Nat.le_of_ble_eq_true rfl : 3 + 1 ≤ 1105) hF, Nat.le_trans (Nat.le_of_ble_eq_true rfl : 8 + (2 + 11) + 61 ≤ 33123) hL⟩) (g_recv X hw (ci := 0) rfl (gcell_1 hrc)) rfl hl.1 rfl (lv_room (Nat.le_of_ble_eq_true rfl)) dX1_last_2 (fun r1 H locs h hw => ?_)
  refine lv_if_eq (tgt := 19) S.1 S.2.1 dX1_last_5 rfl (fun c2 => ?_) (fun c2 => ?_)
  · replace h := if_t c2 h
    refine lv_iconst (v := -1) S.1 S.2.1 dX1_last_19 rfl ?_
    exact g_iret S Z hr hlocks hw (so2 h) dX1_last_20
  · replace h := if_f c2 h
    refine lv_iload_n S.1 S.2.1 dX1_last_8 rfl (lv_at hl 2 rfl) ?_
    refine lv_iconst (v := 1) S.1 S.2.1 dX1_last_9 rfl ?_
    refine lv_sipush (v := 240) S.1 S.2.1 dX1_last_10 rfl ?_
    refine gcSti (As := [.int x2, .int (1 : Int32), .int (240 : Int32)]) (rest := []) S X Z hw (met_B_X1_in l E A LC LS x2 (1 : Int32) (240 : Int32) w _ rfl) (cb_X1_153 S.2.2.2.2 rfl rfl ⟨Nat.le_trans (Nat.le_of_ble_eq_true rfl : 0 + 1 ≤ 1105) hF, Nat.le_trans (Nat.le_of_ble_eq_true rfl : 8 + (3 + 11) + 0 ≤ 33123) hL⟩) rfl hl.1 rfl (lv_room (Nat.le_of_ble_eq_true rfl)) dX1_last_13 (fun H locs hw => ?_)
    refine lv_if_ne (tgt := 21) S.1 S.2.1 dX1_last_16 rfl (fun c3 => ?_) (fun c3 => ?_)
    · replace h := if_f c3 h
      refine lv_aload_n S.1 S.2.1 dX1_last_21 rfl (lv_at hl 0 rfl) ?_
      refine ggX1_55 S X hw dX1_last_22 h (fun a4 h => ?_)
      refine lv_aload_n S.1 S.2.1 dX1_last_25 rfl (lv_at hl 0 rfl) ?_
      refine ggX1_51 S X hw dX1_last_26 h (fun a5 h => ?_)
      obtain ⟨hrc, h⟩ := oK1 h
      refine gcVv (As := [.ref a5]) (rest := []) S X Z hw (b := a4) h (fun u h1 => met_B_X4_be l E A LC LS a4 a5 w u h1) (cb_X1_276 S.2.2.2.2 rfl rfl ⟨Nat.le_trans (Nat.le_of_ble_eq_true rfl : 1 + 1 ≤ 1105) hF, Nat.le_trans (Nat.le_of_ble_eq_true rfl : 8 + (2 + 11) + 22 ≤ 33123) hL⟩) (g_recv X hw (ci := 3) rfl (gcell_4 hrc)) rfl hl.1 rfl (lv_room (Nat.le_of_ble_eq_true rfl)) dX1_last_29 (fun w6 H locs h hw => ?_)
      refine lv_iconst (v := 0) S.1 S.2.1 dX1_last_32 rfl ?_
      refine lv_istore_n (lv' := [(3, .int (0 : Int32)), (0, .ref x0), (1, .int x1), (2, .int x2)]) S.1 S.2.1 dX1_last_33 rfl hl (by decide) rfl (fun ls hl => ?_)
      exact wk_B_X1_last_p34 S X Z hF hL hr hlocks  FU _ _ _ _ _ _ _ _ h hw (lv_sub hl [1, 2, 3, 0] rfl)
    · replace h := if_t c3 h
      refine lv_iconst (v := -1) S.1 S.2.1 dX1_last_19 rfl ?_
      exact g_iret S Z hr hlocks hw (so2 h) dX1_last_20
section
variable {p : Program} {l : Launch} {e : Env} {R : Room} {s : State} {m : MethodId} {args : Array Value} {below : List Frame} {meth : Method} {c : Code} {H : Heap} {locs : List Loc} {cells slots : Nat} {Q : State → Prop}
variable {cc : ByteArray} {nL pc : Nat} {ls : Array Slot} {rest : List Value} {A : Nat → Prop} {E : gE} {LC LS : Nat} {g : GS} {a : Nat} {β : Type} {r : β}
theorem dv_X1_345 {b : Nat} {x1 : Nat} {F : Int32 → Option β} {o : Option (Int32)} {st : List Value} (S : CallFix p m c cc nL s args lw_all RX1) (X : gCtx E A s) (Z : gRm R s LC LS) (hw : gH E A LC LS s g H locs) (h : bd1 o F = some r) (hM : ∀ u, o = some u → vt_wish l E A LC LS b x1 g u) (hR : 0 + 1 ≤ R.frames ∧ 8 + (2 + 11) + (0) ≤ R.locals) (hz : ls.size = nL) (hst : st = ([.ref x1].reverse ++ .ref b :: rest)) (hrm : 2 * (F0 m pc ls st).monitorRoom + (rest.map fun v => v.category).sum ≤ 8) (hd : decode cc pc = .ok (.invokevirtual 345, 3)) (kk : ∀ (v : Int32) (H : Heap) (locs : List Loc), F v = some r → gH E A LC LS s g H locs → W p l e R s m args below meth c H locs (H.size - s.heap.size) (tot H - tot s.heap) Q (F0 m (pc + 3) ls (.int v :: rest))) : W p l e R s m args below meth c H locs (H.size - s.heap.size) (tot H - tot s.heap) Q (F0 m pc ls st) := by
  obtain ⟨u, h1, h2⟩ := bd1_some h
  have hm := hM u h1
  unfold vt_wish at hm
  rcases hm with ⟨ht, hm⟩ | ⟨ht, hm⟩ | ⟨ht, hm⟩ | ⟨ht, hm⟩
  · have cw : va_CU R s args RX1 RX8 "PulseRent$Tenant" 345 yX8_wish yX8_wish cX8_wish 2 (Option.some Jvm.ClassFile.FieldType.int) (ws_ yX8_wish cX8_wish 2 (Option.some Jvm.ClassFile.FieldType.int)) (gRoom (0) (0) LC LS g) (LC - gZ g) (LS - gN g) 1 := va_cwU 1 S.2.2.2.2 (lw_app (by intro w hw; simp only [List.mem_cons, List.not_mem_nil, or_false] at hw; rcases hw with e | e | e | e | e <;> rw [e]; exact q1565; exact q1568; exact q1567; exact q1566; exact q160) (lw_meth q1574)) rfl rfl rfl rfl (by decide +kernel) ⟨hR.1, Nat.le_trans (Nat.add_le_add_right (Nat.le_of_ble_eq_true rfl : 8 + (2 + 11) ≤ 8 + (2 + 11)) _) hR.2⟩
    exact gcHri (As := [.ref x1]) (rest := rest) S X Z hw h (fun u1 e1 => by rw [h1] at e1; cases e1; exact hm) cw (g_recv X hw (ci := 7) rfl (gcell_8 ht)) rfl hz hst hrm hd kk
  · have cw : va_CU R s args RX1 RX9 "PulseRent$Tenant" 345 yX8_wish yX8_wish cX8_wish 2 (Option.some Jvm.ClassFile.FieldType.int) (ws_ yX8_wish cX8_wish 2 (Option.some Jvm.ClassFile.FieldType.int)) (gRoom (0) (0) LC LS g) (LC - gZ g) (LS - gN g) 1 := va_cwU 1 S.2.2.2.2 (lw_app (by intro w hw; simp only [List.mem_cons, List.not_mem_nil, or_false] at hw; rcases hw with e | e | e | e | e <;> rw [e]; exact q1565; exact q1568; exact q1569; exact q1566; exact q160) (lw_meth q1574)) rfl rfl rfl rfl (by decide +kernel) ⟨hR.1, Nat.le_trans (Nat.add_le_add_right (Nat.le_of_ble_eq_true rfl : 8 + (2 + 11) ≤ 8 + (2 + 11)) _) hR.2⟩
    exact gcHri (As := [.ref x1]) (rest := rest) S X Z hw h (fun u1 e1 => by rw [h1] at e1; cases e1; exact hm) cw (g_recv X hw (ci := 8) rfl (gcell_9 ht)) rfl hz hst hrm hd kk
  · have cw : va_CU R s args RX1 RX10 "PulseRent$Tenant" 345 yX8_wish yX10_wish cX10_wish 2 (Option.some Jvm.ClassFile.FieldType.int) (ws_ yX10_wish cX10_wish 2 (Option.some Jvm.ClassFile.FieldType.int)) (gRoom (0) (0) LC LS g) (LC - gZ g) (LS - gN g) 1 := va_cwO 1 S.2.2.2.2 (lw_app (by intro w hw; simp only [List.mem_cons, List.not_mem_nil, or_false] at hw; rcases hw with e | e | e | e | e | e <;> rw [e]; exact q1565; exact q1568; exact q1566; exact q1570; exact q1571; exact q162) (lw_meth q1572)) rfl rfl rfl q1574 (by decide +kernel) ⟨hR.1, Nat.le_trans (Nat.add_le_add_right (Nat.le_of_ble_eq_true rfl : 8 + (2 + 11) ≤ 8 + (2 + 11)) _) hR.2⟩
    exact gcHri (As := [.ref x1]) (rest := rest) S X Z hw h (fun u1 e1 => by rw [h1] at e1; cases e1; exact hm) cw (g_recv X hw (ci := 9) rfl (gcell_10 ht)) rfl hz hst hrm hd kk
  · have cw : va_CU R s args RX1 RX11 "PulseRent$Tenant" 345 yX8_wish yX8_wish cX8_wish 2 (Option.some Jvm.ClassFile.FieldType.int) (ws_ yX8_wish cX8_wish 2 (Option.some Jvm.ClassFile.FieldType.int)) (gRoom (0) (0) LC LS g) (LC - gZ g) (LS - gN g) 1 := va_cwU 1 S.2.2.2.2 (lw_app (by intro w hw; simp only [List.mem_cons, List.not_mem_nil, or_false] at hw; rcases hw with e | e | e | e | e <;> rw [e]; exact q1565; exact q1568; exact q1573; exact q1566; exact q160) (lw_meth q1574)) rfl rfl rfl rfl (by decide +kernel) ⟨hR.1, Nat.le_trans (Nat.add_le_add_right (Nat.le_of_ble_eq_true rfl : 8 + (2 + 11) ≤ 8 + (2 + 11)) _) hR.2⟩
    exact gcHri (As := [.ref x1]) (rest := rest) S X Z hw h (fun u1 e1 => by rw [h1] at e1; cases e1; exact hm) cw (g_recv X hw (ci := 10) rfl (gcell_11 ht)) rfl hz hst hrm hd kk
end
def B_X1_wish (x0 : Nat) (x1 : Int32) (x2 : Int32) (w : GS) : Option (Int32 × GS) :=
  bd1 (oRn w x0 1 1 2) fun a1 =>
  bd1 (oR w a1 3 3 7) fun a2 =>
  bq a2 (
    bd1 (oK w x0 1 1) fun _ =>
    bd1 (B_X1_tenant_2 x0 x1 w) fun a3 =>
    bd1 (oK w x0 1 1) fun _ =>
    bd1 (B_X1_room_2 x0 x2 w) fun a4 =>
    bd1 (V_wish a3 a4 w) fun r5 =>
    some (r5, w)) fun _ =>
  bd1 (oRn w x0 1 1 6) fun a6 =>
  bd1 (oK w x0 1 1) fun _ =>
  bd1 (B_X1_room_2 x0 x2 w) fun a7 =>
  bd1 (oI w a7 7 7 1) fun v8 =>
  bd1 (xI w a6 40 (0 : Int32) v8) fun w9 =>
  bd1 (oRn w9 x0 1 1 6) fun a10 =>
  bd1 (oK w9 x0 1 1) fun _ =>
  bd1 (B_X1_room_2 x0 x2 w9) fun a11 =>
  bd1 (oI w9 a11 7 7 2) fun v12 =>
  bd1 (xI w9 a10 40 (1 : Int32) v12) fun w13 =>
  bd1 (oRn w13 x0 1 1 6) fun a14 =>
  bd1 (oK w13 x0 1 1) fun _ =>
  bd1 (B_X1_room_2 x0 x2 w13) fun a15 =>
  bd1 (oI w13 a15 7 7 3) fun v16 =>
  bd1 (xI w13 a14 40 (2 : Int32) v16) fun w17 =>
  bd1 (oRn w17 x0 1 1 6) fun a18 =>
  bd1 (oK w17 x0 1 1) fun _ =>
  bd1 (B_X1_tenant_2 x0 x1 w17) fun a19 =>
  bd1 (V_kind a19 w17) fun r20 =>
  bd1 (xI w17 a18 40 (3 : Int32) r20) fun w21 =>
  bd1 (oRn w21 x0 1 1 2) fun a22 =>
  bd1 (oRn w21 a22 3 3 7) fun a23 =>
  bd1 (oRn w21 x0 1 1 6) fun a24 =>
  bd1 (V_worked 1100 a23 a24 w21) fun r25 =>
  some (r25, w21)
set_option maxRecDepth 100000 in
set_option maxHeartbeats 4000000 in
theorem met_B_X1_wish (l : Launch) (E : gE) (A : Nat → Prop) (LC LS : Nat)  (x0 : Nat) (x1 : Int32) (x2 : Int32) (w : GS) (res : Int32 × GS) (h : B_X1_wish x0 x1 x2 w = some res) : Met l yX1_wish (ws_ yX1_wish cX1_wish 3 (Option.some Jvm.ClassFile.FieldType.int)) (gRoom 1102 33053 LC LS w) (gPc E A LC LS [.ref x0, .int x1, .int x2] w) (gQi E A LC LS res.1 res.2) (LC - gZ w) (LS - gN w) A := by
  refine gMet (by decide) rfl (Nat.le_of_ble_eq_true rfl) ?_
  intro p e s m below meth c R S hr hlocks hin2 X Z hF hL H ls hw hl
  replace hl : lv_has ls 3 [(0, .ref x0), (1, .int x1), (2, .int x2)] := hl
  unfold B_X1_wish at h
  refine lv_aload_n S.1 S.2.1 dX1_wish_0 rfl (lv_at hl 0 rfl) ?_
  refine ggX1_35 S X hw dX1_wish_1 h (fun a1 h => ?_)
  refine ggX1_342q S X hw dX1_wish_4 h (fun a2 h => ?_)
  refine g_ifnonnull (tgt := 24) S.1 S.2.1 dX1_wish_7 rfl h (fun h => ?_) (fun _ h => ?_)
  · refine lv_aload_n S.1 S.2.1 dX1_wish_10 rfl (lv_at hl 0 rfl) ?_
    refine lv_iload_n S.1 S.2.1 dX1_wish_11 rfl (lv_at hl 1 rfl) ?_
    obtain ⟨hrc, h⟩ := oK1 h
    refine gcVrr (As := [.int x1]) (rest := []) S X Z hw (b := x0) h (fun u h1 => met_B_X1_tenant_2 l E A LC LS x0 x1 w u h1) (cb_X1_166 S.2.2.2.2 rfl rfl ⟨Nat.le_trans (Nat.le_of_ble_eq_true rfl : 3 + 1 ≤ 1102) hF, Nat.le_trans (Nat.le_of_ble_eq_true rfl : 8 + (2 + 11) + 64 ≤ 33053) hL⟩) (g_recv X hw (ci := 0) rfl (gcell_1 hrc)) rfl hl.1 rfl (lv_room (Nat.le_of_ble_eq_true rfl)) dX1_wish_12 (fun a3 H locs h hw => ?_)
    refine lv_aload_n S.1 S.2.1 dX1_wish_15 rfl (lv_at hl 0 rfl) ?_
    refine lv_iload_n S.1 S.2.1 dX1_wish_16 rfl (lv_at hl 2 rfl) ?_
    obtain ⟨hrc, h⟩ := oK1 h
    refine gcVrr (As := [.int x2]) (rest := [.ref a3]) S X Z hw (b := x0) h (fun u h1 => met_B_X1_room_2 l E A LC LS x0 x2 w u h1) (cb_X1_179 S.2.2.2.2 rfl rfl ⟨Nat.le_trans (Nat.le_of_ble_eq_true rfl : 3 + 1 ≤ 1102) hF, Nat.le_trans (Nat.le_of_ble_eq_true rfl : 8 + (2 + 11) + 64 ≤ 33053) hL⟩) (g_recv X hw (ci := 0) rfl (gcell_1 hrc)) rfl hl.1 rfl (lv_room (Nat.le_of_ble_eq_true rfl)) dX1_wish_17 (fun a4 H locs h hw => ?_)
    refine dv_X1_345  (rest := []) S X Z hw h (fun u h1 => dm_wish l E A LC LS a3 a4 w u h1) ⟨Nat.le_trans (Nat.le_of_ble_eq_true rfl : 0 + 1 ≤ 1102) hF, Nat.le_trans (Nat.le_of_ble_eq_true rfl : 8 + (2 + 11) + 0 ≤ 33053) hL⟩ hl.1 rfl (lv_room (Nat.le_of_ble_eq_true rfl)) dX1_wish_20 (fun r5 H locs h hw => ?_)
    exact g_iret S Z hr hlocks hw (so2 h) dX1_wish_23
  · refine lv_aload_n S.1 S.2.1 dX1_wish_24 rfl (lv_at hl 0 rfl) ?_
    refine ggX1_58 S X hw dX1_wish_25 h (fun a6 h => ?_)
    refine lv_iconst (v := 0) S.1 S.2.1 dX1_wish_28 rfl ?_
    refine lv_aload_n S.1 S.2.1 dX1_wish_29 rfl (lv_at hl 0 rfl) ?_
    refine lv_iload_n S.1 S.2.1 dX1_wish_30 rfl (lv_at hl 2 rfl) ?_
    obtain ⟨hrc, h⟩ := oK1 h
    refine gcVrr (As := [.int x2]) (rest := [.int (0 : Int32), .ref a6]) S X Z hw (b := x0) h (fun u h1 => met_B_X1_room_2 l E A LC LS x0 x2 w u h1) (cb_X1_179 S.2.2.2.2 rfl rfl ⟨Nat.le_trans (Nat.le_of_ble_eq_true rfl : 3 + 1 ≤ 1102) hF, Nat.le_trans (Nat.le_of_ble_eq_true rfl : 8 + (2 + 11) + 64 ≤ 33053) hL⟩) (g_recv X hw (ci := 0) rfl (gcell_1 hrc)) rfl hl.1 rfl (lv_room (Nat.le_of_ble_eq_true rfl)) dX1_wish_31 (fun a7 H locs h hw => ?_)
    refine ggX1_258 S X hw dX1_wish_34 h (fun v8 h => ?_)
    refine gast40 S X hw dX1_wish_37 h (fun w9 H locs h hw => ?_)
    refine lv_aload_n S.1 S.2.1 dX1_wish_38 rfl (lv_at hl 0 rfl) ?_
    refine ggX1_58 S X hw dX1_wish_39 h (fun a10 h => ?_)
    refine lv_iconst (v := 1) S.1 S.2.1 dX1_wish_42 rfl ?_
    refine lv_aload_n S.1 S.2.1 dX1_wish_43 rfl (lv_at hl 0 rfl) ?_
    refine lv_iload_n S.1 S.2.1 dX1_wish_44 rfl (lv_at hl 2 rfl) ?_
    obtain ⟨hrc, h⟩ := oK1 h
    refine gcVrr (As := [.int x2]) (rest := [.int (1 : Int32), .ref a10]) S X Z hw (b := x0) h (fun u h1 => met_B_X1_room_2 l E A LC LS x0 x2 w9 u h1) (cb_X1_179 S.2.2.2.2 rfl rfl ⟨Nat.le_trans (Nat.le_of_ble_eq_true rfl : 3 + 1 ≤ 1102) hF, Nat.le_trans (Nat.le_of_ble_eq_true rfl : 8 + (2 + 11) + 64 ≤ 33053) hL⟩) (g_recv X hw (ci := 0) rfl (gcell_1 hrc)) rfl hl.1 rfl (lv_room (Nat.le_of_ble_eq_true rfl)) dX1_wish_45 (fun a11 H locs h hw => ?_)
    refine ggX1_182 S X hw dX1_wish_48 h (fun v12 h => ?_)
    refine gast40 S X hw dX1_wish_51 h (fun w13 H locs h hw => ?_)
    refine lv_aload_n S.1 S.2.1 dX1_wish_52 rfl (lv_at hl 0 rfl) ?_
    refine ggX1_58 S X hw dX1_wish_53 h (fun a14 h => ?_)
    refine lv_iconst (v := 2) S.1 S.2.1 dX1_wish_56 rfl ?_
    refine lv_aload_n S.1 S.2.1 dX1_wish_57 rfl (lv_at hl 0 rfl) ?_
    refine lv_iload_n S.1 S.2.1 dX1_wish_58 rfl (lv_at hl 2 rfl) ?_
    obtain ⟨hrc, h⟩ := oK1 h
    refine gcVrr (As := [.int x2]) (rest := [.int (2 : Int32), .ref a14]) S X Z hw (b := x0) h (fun u h1 => met_B_X1_room_2 l E A LC LS x0 x2 w13 u h1) (cb_X1_179 S.2.2.2.2 rfl rfl ⟨Nat.le_trans (Nat.le_of_ble_eq_true rfl : 3 + 1 ≤ 1102) hF, Nat.le_trans (Nat.le_of_ble_eq_true rfl : 8 + (2 + 11) + 64 ≤ 33053) hL⟩) (g_recv X hw (ci := 0) rfl (gcell_1 hrc)) rfl hl.1 rfl (lv_room (Nat.le_of_ble_eq_true rfl)) dX1_wish_59 (fun a15 H locs h hw => ?_)
    refine ggX1_231 S X hw dX1_wish_62 h (fun v16 h => ?_)
    refine gast40 S X hw dX1_wish_65 h (fun w17 H locs h hw => ?_)
    refine lv_aload_n S.1 S.2.1 dX1_wish_66 rfl (lv_at hl 0 rfl) ?_
    refine ggX1_58 S X hw dX1_wish_67 h (fun a18 h => ?_)
    refine lv_iconst (v := 3) S.1 S.2.1 dX1_wish_70 rfl ?_
    refine lv_aload_n S.1 S.2.1 dX1_wish_71 rfl (lv_at hl 0 rfl) ?_
    refine lv_iload_n S.1 S.2.1 dX1_wish_72 rfl (lv_at hl 1 rfl) ?_
    obtain ⟨hrc, h⟩ := oK1 h
    refine gcVrr (As := [.int x1]) (rest := [.int (3 : Int32), .ref a18]) S X Z hw (b := x0) h (fun u h1 => met_B_X1_tenant_2 l E A LC LS x0 x1 w17 u h1) (cb_X1_166 S.2.2.2.2 rfl rfl ⟨Nat.le_trans (Nat.le_of_ble_eq_true rfl : 3 + 1 ≤ 1102) hF, Nat.le_trans (Nat.le_of_ble_eq_true rfl : 8 + (2 + 11) + 64 ≤ 33053) hL⟩) (g_recv X hw (ci := 0) rfl (gcell_1 hrc)) rfl hl.1 rfl (lv_room (Nat.le_of_ble_eq_true rfl)) dX1_wish_73 (fun a19 H locs h hw => ?_)
    refine dv_X1_234  (rest := [.int (3 : Int32), .ref a18]) S X Z hw h (fun u h1 => dm_kind l E A LC LS a19 w17 u h1) ⟨Nat.le_trans (Nat.le_of_ble_eq_true rfl : 0 + 1 ≤ 1102) hF, Nat.le_trans (Nat.le_of_ble_eq_true rfl : 8 + (1 + 11) + 0 ≤ 33053) hL⟩ hl.1 rfl (lv_room (Nat.le_of_ble_eq_true rfl)) dX1_wish_76 (fun r20 H locs h hw => ?_)
    refine gast40 S X hw dX1_wish_79 h (fun w21 H locs h hw => ?_)
    refine lv_aload_n S.1 S.2.1 dX1_wish_80 rfl (lv_at hl 0 rfl) ?_
    refine ggX1_35 S X hw dX1_wish_81 h (fun a22 h => ?_)
    refine ggX1_342 S X hw dX1_wish_84 h (fun a23 h => ?_)
    refine lv_aload_n S.1 S.2.1 dX1_wish_87 rfl (lv_at hl 0 rfl) ?_
    refine ggX1_58 S X hw dX1_wish_88 h (fun a24 h => ?_)
    refine dv_X1_225 (d := 1100) (rest := []) S X Z hw h (fun u h1 => dm_worked l E A LC LS 1100 a23 a24 w21 u h1) ⟨Nat.le_trans (Nat.le_of_ble_eq_true rfl : 1101 + 1 ≤ 1102) hF, Nat.le_trans (Nat.le_of_ble_eq_true rfl : 8 + (4 + 11) + 33030 ≤ 33053) hL⟩ hl.1 rfl (lv_room (Nat.le_of_ble_eq_true rfl)) dX1_wish_91 (fun r25 H locs h hw => ?_)
    exact g_iret S Z hr hlocks hw (so2 h) dX1_wish_94
