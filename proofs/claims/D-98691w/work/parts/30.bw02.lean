/-! walks over the plain heap, printed by gen/bgen.py -/
set_option maxRecDepth 100000
theorem cb_X2_25 {R : Room} {s : State} {args : Array Value} {rm : Room} {mc ms : Nat} (hts : ∀ w ∈ lw_all, w.before args s = true) (hc : rm.cells = mc) (hs : rm.slots = ms) (hR : rm.frames + 1 ≤ R.frames ∧ 8 + (1 + 11) + rm.locals ≤ R.locals) : CallW R s args RX2 RX2 25 yX2_next cX2_next 1 (Option.none : Option Jvm.ClassFile.FieldType) (ws_ yX2_next cX2_next 1 (Option.none : Option Jvm.ClassFile.FieldType)) rm mc ms 0 := cwV 0 hts (lw_V q462 q464 qs1 q136 q465) rfl hc hs (by decide +kernel) hR
def B_X2_begin (x0 : Nat) (x1 : Nat) (x2 : Int32) (w : GS) : Option GS :=
  bd1 (pR w x0 2 2 0 (some x1)) fun w1 =>
  bd1 (pI w1 x0 2 2 1 x2) fun w2 =>
  bd1 (pI w2 x0 2 2 2 (0 : Int32)) fun w3 =>
  bd1 (pI w3 x0 2 2 6 (0 : Int32)) fun w4 =>
  bd1 (oK w4 x0 2 2) fun _ =>
  bd1 (B_X2_next x0 w4) fun w5 =>
  some w5
set_option maxRecDepth 100000 in
set_option maxHeartbeats 4000000 in
theorem met_B_X2_begin (l : Launch) (E : gE) (A : Nat → Prop) (LC LS : Nat)  (x0 : Nat) (x1 : Nat) (x2 : Int32) (w : GS) (res : GS) (h : B_X2_begin x0 x1 x2 w = some res) : Met l yX2_begin (ws_ yX2_begin cX2_begin 3 (Option.none : Option Jvm.ClassFile.FieldType)) (gRoom 5 111 LC LS w) (gPc E A LC LS [.ref x0, .ref x1, .int x2] w) (gQv E A LC LS res) (LC - gZ w) (LS - gN w) A := by
  refine gMet (by decide) rfl (Nat.le_of_ble_eq_true rfl) ?_
  intro p e s m below meth c R S hr hlocks hin2 X Z hF hL H ls hw hl
  replace hl : lv_has ls 3 [(0, .ref x0), (1, .ref x1), (2, .int x2)] := hl
  unfold B_X2_begin at h
  refine lv_aload_n S.1 S.2.1 dX2_begin_0 rfl (lv_at hl 0 rfl) ?_
  refine lv_aload_n S.1 S.2.1 dX2_begin_1 rfl (lv_at hl 1 rfl) ?_
  refine gpX2_9 (v := some x1) S X hw dX2_begin_2 h (fun w1 H locs h hw => ?_)
  refine lv_aload_n S.1 S.2.1 dX2_begin_5 rfl (lv_at hl 0 rfl) ?_
  refine lv_iload_n S.1 S.2.1 dX2_begin_6 rfl (lv_at hl 2 rfl) ?_
  refine gpX2_15 S X hw dX2_begin_7 h (fun w2 H locs h hw => ?_)
  refine lv_aload_n S.1 S.2.1 dX2_begin_10 rfl (lv_at hl 0 rfl) ?_
  refine lv_iconst (v := 0) S.1 S.2.1 dX2_begin_11 rfl ?_
  refine gpX2_19 S X hw dX2_begin_12 h (fun w3 H locs h hw => ?_)
  refine lv_aload_n S.1 S.2.1 dX2_begin_15 rfl (lv_at hl 0 rfl) ?_
  refine lv_iconst (v := 0) S.1 S.2.1 dX2_begin_16 rfl ?_
  refine gpX2_22 S X hw dX2_begin_17 h (fun w4 H locs h hw => ?_)
  refine lv_aload_n S.1 S.2.1 dX2_begin_20 rfl (lv_at hl 0 rfl) ?_
  obtain ⟨hrc, h⟩ := oK1 h
  refine gcVv (As := []) (rest := []) S X Z hw (b := x0) h (fun u h1 => met_B_X2_next l E A LC LS x0 w4 u h1) (cb_X2_25 S.2.2.2.2 rfl rfl ⟨Nat.le_trans (Nat.le_of_ble_eq_true rfl : 4 + 1 ≤ 5) hF, Nat.le_trans (Nat.le_of_ble_eq_true rfl : 8 + (1 + 11) + 91 ≤ 111) hL⟩) (g_recv X hw (ci := 1) rfl (gcell_2 hrc)) rfl hl.1 rfl (lv_room (Nat.le_of_ble_eq_true rfl)) dX2_begin_21 (fun w5 H locs h hw => ?_)
  exact g_vret S Z hr hlocks hw (so1 h) dX2_begin_24
theorem cb_X2_57 {R : Room} {s : State} {args : Array Value} {rm : Room} {mc ms : Nat} (hts : ∀ w ∈ lw_all, w.before args s = true) (hc : rm.cells = mc) (hs : rm.slots = ms) (hR : rm.frames + 1 ≤ R.frames ∧ 8 + (3 + 11) + rm.locals ≤ R.locals) : CallB R s args RX2 57 yX6_init cX6_init 3 none (ws_ yX6_init cX6_init 3 (Option.none : Option Jvm.ClassFile.FieldType)) rm mc ms 2 ∧ yX6_init.name = "<init>" ∧ (Cond.instanceMethod yX6_init).before args s = true := cwI 2 hts (lw_meth q640) rfl hc hs (hts _ q153) (hts _ q638) (hts _ q639) rfl (by decide +kernel) hR
def B_X2_wrong (x0 : Nat) (x1 : Int32) (w : GS) : Option (Nat × GS) :=
  bd1 (onw w 6 0 7) fun w1 =>
  bd1 (oI w1 x0 2 2 4) fun v2 =>
  bd1 (B_X6_init (gZ w) x1 v2 w1) fun w3 =>
  some (gZ w, w3)
set_option maxRecDepth 100000 in
set_option maxHeartbeats 4000000 in
theorem met_B_X2_wrong (l : Launch) (E : gE) (A : Nat → Prop) (LC LS : Nat)  (x0 : Nat) (x1 : Int32) (w : GS) (res : Nat × GS) (h : B_X2_wrong x0 x1 w = some res) : Met l yX2_wrong (ws_ yX2_wrong cX2_wrong 2 (Option.some (Jvm.ClassFile.FieldType.object "PulseRent$Wrong"))) (gRoom 5 114 LC LS w) (gPc E A LC LS [.ref x0, .int x1] w) (gQr E A LC LS res.1 res.2) (LC - gZ w) (LS - gN w) A := by
  refine gMet (by decide) rfl (Nat.le_of_ble_eq_true rfl) ?_
  intro p e s m below meth c R S hr hlocks hin2 X Z hF hL H ls hw hl
  replace hl : lv_has ls 2 [(0, .ref x0), (1, .int x1)] := hl
  unfold B_X2_wrong at h
  refine gnX2_55 S X Z hw dX2_wrong_0 h (fun w1 H h hw => ?_)
  refine lv_dup S.1 S.2.1 dX2_wrong_3 rfl ?_
  refine lv_iload_n S.1 S.2.1 dX2_wrong_4 rfl (lv_at hl 1 rfl) ?_
  refine lv_aload_n S.1 S.2.1 dX2_wrong_5 rfl (lv_at hl 0 rfl) ?_
  refine ggX2_28 S X hw dX2_wrong_6 h (fun v2 h => ?_)
  refine gcIv (As := [.int x1, .int v2]) (rest := [.ref (gZ w)]) S X Z hw (b := (gZ w)) h (fun u h1 => met_B_X6_init l E A LC LS (gZ w) x1 v2 w1 u h1) (cb_X2_57 S.2.2.2.2 rfl rfl ⟨Nat.le_trans (Nat.le_of_ble_eq_true rfl : 4 + 1 ≤ 5) hF, Nat.le_trans (Nat.le_of_ble_eq_true rfl : 8 + (3 + 11) + 92 ≤ 114) hL⟩) rfl hl.1 rfl (lv_room (Nat.le_of_ble_eq_true rfl)) dX2_wrong_9 (fun w3 H locs h hw => ?_)
  exact g_aret S Z hr (Or.inl ⟨_, rfl⟩) hlocks hw (so2 h) dX2_wrong_12
theorem cb_X2_60 {R : Room} {s : State} {args : Array Value} {rm : Room} {mc ms : Nat} (hts : ∀ w ∈ lw_all, w.before args s = true) (hc : rm.cells = mc) (hs : rm.slots = ms) (hR : rm.frames + 1 ≤ R.frames ∧ 8 + (1 + 11) + rm.locals ≤ R.locals) : CallW R s args RX2 RJ5 60 yJ5_length cJ5_length 1 (Option.some Jvm.ClassFile.FieldType.int) (ws_ yJ5_length cJ5_length 1 (Option.some Jvm.ClassFile.FieldType.int)) rm mc ms 0 := cwV 0 hts (lw_V q574 q492 q493 q145 q494) rfl hc hs (by decide +kernel) hR
theorem cb_X2_64 {R : Room} {s : State} {args : Array Value} {rm : Room} {mc ms : Nat} (hts : ∀ w ∈ lw_all, w.before args s = true) (hc : rm.cells = mc) (hs : rm.slots = ms) (hR : rm.frames + 1 ≤ R.frames ∧ 8 + (3 + 11) + rm.locals ≤ R.locals) : CallW R s args RX2 RJ5 64 yJ5_indexOf_2 cJ5_indexOf_2 3 (Option.some Jvm.ClassFile.FieldType.int) (ws_ yJ5_indexOf_2 cJ5_indexOf_2 3 (Option.some Jvm.ClassFile.FieldType.int)) rm mc ms 2 := cwV 2 hts (lw_V q575 q482 q483 q145 q484) rfl hc hs (by decide +kernel) hR
theorem cb_X2_67 {R : Room} {s : State} {args : Array Value} {rm : Room} {mc ms : Nat} (hts : ∀ w ∈ lw_all, w.before args s = true) (hc : rm.cells = mc) (hs : rm.slots = ms) (hR : rm.frames + 1 ≤ R.frames ∧ 8 + (2 + 11) + rm.locals ≤ R.locals) : CallW R s args RX2 RJ5 67 yJ5_charAt cJ5_charAt 2 (Option.some Jvm.ClassFile.FieldType.char) (ws_ yJ5_charAt cJ5_charAt 2 (Option.some Jvm.ClassFile.FieldType.char)) rm mc ms 1 := cwV 1 hts (lw_V q576 q577 q578 q145 q579) rfl hc hs (by decide +kernel) hR
def B_X2_which_p103 (k4 : Nat → Nat → Int32 → Int32 → GS → Option (Int32 × GS)) (x0 : Nat) (x1 : Nat) (x2 : Int32) (x3 : Int32) (x4 : Int32) (x5 : Int32) (w : GS) : Option (Int32 × GS) :=
  if x5 = 0 then
    bdp (x3 + (x4 + (1 : Int32))) fun y12 =>
    k4 x0 x1 (x2 + (1 : Int32)) y12 w
  else
    some (x2, w)
def B_X2_which_p55 (k4 : Nat → Nat → Int32 → Int32 → GS → Option (Int32 × GS)) : Nat → Nat → Nat → Int32 → Int32 → Int32 → Int32 → Int32 → GS → Option (Int32 × GS)
  | 0, _, _, _, _, _, _, _, _ => none
  | n + 1, x0, x1, x2, x3, x4, x5, x6, w =>
    if x5 = 0 then
      B_X2_which_p103 k4 x0 x1 x2 x3 x4 x5 w
    else
      if x4 ≤ x6 then
        B_X2_which_p103 k4 x0 x1 x2 x3 x4 x5 w
      else
        bd1 (oRn w x0 2 2 0) fun a14 =>
        bd1 (oI w x0 2 2 4) fun v15 =>
        bd1 (aIb w a14 (v15 + x6)) fun v16 =>
        bd1 (oK w x1 30 31) fun _ =>
        bd2 (B_J5_charAt x1 (x3 + x6) w) fun r18 w17 =>
        if v16 = r18 then
          (B_X2_which_p55 k4 n) x0 x1 x2 x3 x4 (1 : Int32) (x6 + (1 : Int32)) w17
        else
          (B_X2_which_p55 k4 n) x0 x1 x2 x3 x4 (0 : Int32) (x6 + (1 : Int32)) w17
def B_X2_which_p4 : Nat → Nat → Nat → Int32 → Int32 → GS → Option (Int32 × GS)
  | 0, _, _, _, _, _ => none
  | n + 1, x0, x1, x2, x3, w =>
    bd1 (oK w x1 30 31) fun _ =>
    bd1 (B_J5_length x1 w) fun r1 =>
    if r1 ≤ x3 then
      some ((-1 : Int32), w)
    else
      bd1 (oI w x0 2 2 3) fun v3 =>
      if v3 = (1 : Int32) then
        bd1 (oK w x1 30 31) fun _ =>
        bd1 (B_J5_indexOf_2 x1 (32 : Int32) x3 w) fun r5 =>
        bdp (r5 - x3) fun y6 =>
        bd1 (oI w x0 2 2 2) fun v7 =>
        bd1 (oI w x0 2 2 4) fun v8 =>
        if (v7 - v8) = y6 then
          B_X2_which_p55 (B_X2_which_p4 n) FU x0 x1 x2 x3 y6 (1 : Int32) (0 : Int32) w
        else
          B_X2_which_p55 (B_X2_which_p4 n) FU x0 x1 x2 x3 y6 (0 : Int32) (0 : Int32) w
      else
        some ((-1 : Int32), w)
def B_X2_which (x0 : Nat) (x1 : Nat) (w : GS) : Option (Int32 × GS) :=
  B_X2_which_p4 FU x0 x1 (0 : Int32) (0 : Int32) w
set_option maxRecDepth 100000 in
set_option maxHeartbeats 4000000 in
theorem wk_B_X2_which_p103 {p : Program} {l : Launch} {e : Env} {R : Room} {s : State} {m : MethodId} {args : Array Value} {below : List Frame} {meth : Method} {c : Code} {E : gE} {A : Nat → Prop} {LC LS : Nat} (S : CallFix p m c cX2_which 7 s args lw_all RX2) (X : gCtx E A s) (Z : gRm R s LC LS) (hF : 4 ≤ R.frames) (hL : 85 ≤ R.locals) (hr : meth.sig.returnType = (Option.some Jvm.ClassFile.FieldType.int)) (hlocks : meth.locks = false) {res : Int32 × GS}  {k4 : Nat → Nat → Int32 → Int32 → GS → Option (Int32 × GS)} (hk4 : ∀ (x0 : Nat) (x1 : Nat) (x2 : Int32) (x3 : Int32) (w : GS) (H : Heap) (locs : List Loc) (ls : Array Slot), k4 x0 x1 x2 x3 w = some res → gH E A LC LS s w H locs → lv_has ls 7 [(0, .ref x0), (1, .ref x1), (2, .int x2), (3, .int x3)] → W p l e R s m args below meth c H locs (H.size - s.heap.size) (tot H - tot s.heap) (MQ below (gQi E A LC LS res.1 res.2) args s R.cells R.slots A) (F0 m 4 ls [])) : ∀ (x0 : Nat) (x1 : Nat) (x2 : Int32) (x3 : Int32) (x4 : Int32) (x5 : Int32) (w : GS) (H : Heap) (locs : List Loc) (ls : Array Slot), B_X2_which_p103 k4 x0 x1 x2 x3 x4 x5 w = some res → gH E A LC LS s w H locs → lv_has ls 7 [(0, .ref x0), (1, .ref x1), (2, .int x2), (3, .int x3), (4, .int x4), (5, .int x5)] → W p l e R s m args below meth c H locs (H.size - s.heap.size) (tot H - tot s.heap) (MQ below (gQi E A LC LS res.1 res.2) args s R.cells R.slots A) (F0 m 103 ls []) := by
  intro x0 x1 x2 x3 x4 x5 w H locs ls h hw hl
  unfold B_X2_which_p103 at h
  refine lv_iload S.1 S.2.1 dX2_which_103 (lv_at hl 5 rfl) ?_
  refine lv_if_eq (tgt := 110) S.1 S.2.1 dX2_which_105 rfl (fun c11 => ?_) (fun c11 => ?_)
  · replace h := if_t c11 h
    refine lv_iload_n S.1 S.2.1 dX2_which_110 rfl (lv_at hl 3 rfl) ?_
    refine lv_iload S.1 S.2.1 dX2_which_111 (lv_at hl 4 rfl) ?_
    refine lv_iconst (v := 1) S.1 S.2.1 dX2_which_113 rfl ?_
    refine lv_iadd S.1 S.2.1 dX2_which_114 ?_
    refine lv_iadd S.1 S.2.1 dX2_which_115 ?_
    refine lv_topi (fun y12 ey => ?_)
    replace h := bdp_e ey h
    refine lv_istore_n (lv' := [(3, .int y12), (0, .ref x0), (1, .ref x1), (2, .int x2), (4, .int x4), (5, .int x5)]) S.1 S.2.1 dX2_which_116 rfl hl (by decide) rfl (fun ls hl => ?_)
    refine lv_iinc (v := x2 + (1 : Int32)) (lv' := [(2, .int (x2 + (1 : Int32))), (3, .int y12), (0, .ref x0), (1, .ref x1), (4, .int x4), (5, .int x5)]) S.1 S.2.1 dX2_which_117 hl (k := 3) rfl rfl (by decide) rfl (fun ls hl => ?_)
    refine lv_goto (tgt := 4) S.1 S.2.1 dX2_which_120 rfl ?_
    exact hk4 _ _ _ _ _ _ _ _ h hw (lv_sub hl [2, 3, 0, 1] rfl)
  · replace h := if_f c11 h
    refine lv_iload_n S.1 S.2.1 dX2_which_108 rfl (lv_at hl 2 rfl) ?_
    exact g_iret S Z hr hlocks hw (so2 h) dX2_which_109
set_option maxRecDepth 100000 in
set_option maxHeartbeats 4000000 in
theorem wk_B_X2_which_p55 {p : Program} {l : Launch} {e : Env} {R : Room} {s : State} {m : MethodId} {args : Array Value} {below : List Frame} {meth : Method} {c : Code} {E : gE} {A : Nat → Prop} {LC LS : Nat} (S : CallFix p m c cX2_which 7 s args lw_all RX2) (X : gCtx E A s) (Z : gRm R s LC LS) (hF : 4 ≤ R.frames) (hL : 85 ≤ R.locals) (hr : meth.sig.returnType = (Option.some Jvm.ClassFile.FieldType.int)) (hlocks : meth.locks = false) {res : Int32 × GS}  {k4 : Nat → Nat → Int32 → Int32 → GS → Option (Int32 × GS)} (hk4 : ∀ (x0 : Nat) (x1 : Nat) (x2 : Int32) (x3 : Int32) (w : GS) (H : Heap) (locs : List Loc) (ls : Array Slot), k4 x0 x1 x2 x3 w = some res → gH E A LC LS s w H locs → lv_has ls 7 [(0, .ref x0), (1, .ref x1), (2, .int x2), (3, .int x3)] → W p l e R s m args below meth c H locs (H.size - s.heap.size) (tot H - tot s.heap) (MQ below (gQi E A LC LS res.1 res.2) args s R.cells R.slots A) (F0 m 4 ls [])) : ∀ n : Nat, ∀ (x0 : Nat) (x1 : Nat) (x2 : Int32) (x3 : Int32) (x4 : Int32) (x5 : Int32) (x6 : Int32) (w : GS) (H : Heap) (locs : List Loc) (ls : Array Slot), B_X2_which_p55 k4 n x0 x1 x2 x3 x4 x5 x6 w = some res → gH E A LC LS s w H locs → lv_has ls 7 [(0, .ref x0), (1, .ref x1), (2, .int x2), (3, .int x3), (4, .int x4), (5, .int x5), (6, .int x6)] → W p l e R s m args below meth c H locs (H.size - s.heap.size) (tot H - tot s.heap) (MQ below (gQi E A LC LS res.1 res.2) args s R.cells R.slots A) (F0 m 55 ls []) := by
  intro n
  induction n with
  | zero => intro x0 x1 x2 x3 x4 x5 x6 w H locs ls h; cases (show (none : Option (Int32 × GS)) = some res from h)
  | succ n ih =>
    intro x0 x1 x2 x3 x4 x5 x6 w H locs ls h hw hl
    rw [B_X2_which_p55] at h
    refine lv_iload S.1 S.2.1 dX2_which_55 (lv_at hl 5 rfl) ?_
    refine lv_if_eq (tgt := 103) S.1 S.2.1 dX2_which_57 rfl (fun c10 => ?_) (fun c10 => ?_)
    · replace h := if_t c10 h
      exact wk_B_X2_which_p103 S X Z hF hL hr hlocks  hk4 _ _ _ _ _ _ _ _ _ _ h hw (lv_sub hl [0, 1, 2, 3, 4, 5] rfl)
    · replace h := if_f c10 h
      refine lv_iload S.1 S.2.1 dX2_which_60 (lv_at hl 6 rfl) ?_
      refine lv_iload S.1 S.2.1 dX2_which_62 (lv_at hl 4 rfl) ?_
      refine lv_icmp_ge (tgt := 103) S.1 S.2.1 dX2_which_64 rfl (fun c13 => ?_) (fun c13 => ?_)
      · replace h := if_t c13 h
        exact wk_B_X2_which_p103 S X Z hF hL hr hlocks  hk4 _ _ _ _ _ _ _ _ _ _ h hw (lv_sub hl [0, 1, 2, 3, 4, 5] rfl)
      · replace h := if_f c13 h
        refine lv_aload_n S.1 S.2.1 dX2_which_67 rfl (lv_at hl 0 rfl) ?_
        refine ggX2_9 S X hw dX2_which_68 h (fun a14 h => ?_)
        refine lv_aload_n S.1 S.2.1 dX2_which_71 rfl (lv_at hl 0 rfl) ?_
        refine ggX2_28 S X hw dX2_which_72 h (fun v15 h => ?_)
        refine lv_iload S.1 S.2.1 dX2_which_75 (lv_at hl 6 rfl) ?_
        refine lv_iadd S.1 S.2.1 dX2_which_77 ?_
        refine galdb S X hw dX2_which_78 h (fun v16 h => ?_)
        refine lv_aload_n S.1 S.2.1 dX2_which_79 rfl (lv_at hl 1 rfl) ?_
        refine lv_iload_n S.1 S.2.1 dX2_which_80 rfl (lv_at hl 3 rfl) ?_
        refine lv_iload S.1 S.2.1 dX2_which_81 (lv_at hl 6 rfl) ?_
        refine lv_iadd S.1 S.2.1 dX2_which_83 ?_
        obtain ⟨hrc, h⟩ := oKS h
        refine gcVi (As := [.int (x3 + x6)]) (rest := [.int v16]) S X Z hw (b := x1) h (fun u h1 => met_B_J5_charAt l E A LC LS x1 (x3 + x6) w u h1) (cb_X2_67 S.2.2.2.2 rfl rfl ⟨Nat.le_trans (Nat.le_of_ble_eq_true rfl : 3 + 1 ≤ 4) hF, Nat.le_trans (Nat.le_of_ble_eq_true rfl : 8 + (2 + 11) + 64 ≤ 85) hL⟩) (g_recvS X hw hrc) rfl hl.1 rfl (lv_room (Nat.le_of_ble_eq_true rfl)) dX2_which_84 (fun r18 w17 H locs h hw => ?_)
        refine lv_icmp_ne (tgt := 94) S.1 S.2.1 dX2_which_87 rfl (fun c19 => ?_) (fun c19 => ?_)
        · replace h := if_f c19 h
          refine lv_iconst (v := 0) S.1 S.2.1 dX2_which_94 rfl ?_
          refine lv_istore (lv' := [(5, .int (0 : Int32)), (0, .ref x0), (1, .ref x1), (2, .int x2), (3, .int x3), (4, .int x4), (6, .int x6)]) S.1 S.2.1 dX2_which_95 hl (by decide) rfl (fun ls hl => ?_)
          refine lv_iinc (v := x6 + (1 : Int32)) (lv' := [(6, .int (x6 + (1 : Int32))), (5, .int (0 : Int32)), (0, .ref x0), (1, .ref x1), (2, .int x2), (3, .int x3), (4, .int x4)]) S.1 S.2.1 dX2_which_97 hl (k := 6) rfl rfl (by decide) rfl (fun ls hl => ?_)
          refine lv_goto (tgt := 55) S.1 S.2.1 dX2_which_100 rfl ?_
          exact ih _ _ _ _ _ _ _ _ _ _ _ h hw (lv_sub hl [2, 3, 4, 5, 6, 1, 0] rfl)
        · replace h := if_t c19 h
          refine lv_iconst (v := 1) S.1 S.2.1 dX2_which_90 rfl ?_
          refine lv_goto (tgt := 95) S.1 S.2.1 dX2_which_91 rfl ?_
          refine lv_istore (lv' := [(5, .int (1 : Int32)), (0, .ref x0), (1, .ref x1), (2, .int x2), (3, .int x3), (4, .int x4), (6, .int x6)]) S.1 S.2.1 dX2_which_95 hl (by decide) rfl (fun ls hl => ?_)
          refine lv_iinc (v := x6 + (1 : Int32)) (lv' := [(6, .int (x6 + (1 : Int32))), (5, .int (1 : Int32)), (0, .ref x0), (1, .ref x1), (2, .int x2), (3, .int x3), (4, .int x4)]) S.1 S.2.1 dX2_which_97 hl (k := 6) rfl rfl (by decide) rfl (fun ls hl => ?_)
          refine lv_goto (tgt := 55) S.1 S.2.1 dX2_which_100 rfl ?_
          exact ih _ _ _ _ _ _ _ _ _ _ _ h hw (lv_sub hl [2, 3, 4, 5, 6, 1, 0] rfl)
set_option maxRecDepth 100000 in
set_option maxHeartbeats 4000000 in
theorem wk_B_X2_which_p4 {p : Program} {l : Launch} {e : Env} {R : Room} {s : State} {m : MethodId} {args : Array Value} {below : List Frame} {meth : Method} {c : Code} {E : gE} {A : Nat → Prop} {LC LS : Nat} (S : CallFix p m c cX2_which 7 s args lw_all RX2) (X : gCtx E A s) (Z : gRm R s LC LS) (hF : 4 ≤ R.frames) (hL : 85 ≤ R.locals) (hr : meth.sig.returnType = (Option.some Jvm.ClassFile.FieldType.int)) (hlocks : meth.locks = false) {res : Int32 × GS}  : ∀ n : Nat, ∀ (x0 : Nat) (x1 : Nat) (x2 : Int32) (x3 : Int32) (w : GS) (H : Heap) (locs : List Loc) (ls : Array Slot), B_X2_which_p4 n x0 x1 x2 x3 w = some res → gH E A LC LS s w H locs → lv_has ls 7 [(0, .ref x0), (1, .ref x1), (2, .int x2), (3, .int x3)] → W p l e R s m args below meth c H locs (H.size - s.heap.size) (tot H - tot s.heap) (MQ below (gQi E A LC LS res.1 res.2) args s R.cells R.slots A) (F0 m 4 ls []) := by
  intro n
  induction n with
  | zero => intro x0 x1 x2 x3 w H locs ls h; cases (show (none : Option (Int32 × GS)) = some res from h)
  | succ n ih =>
    intro x0 x1 x2 x3 w H locs ls h hw hl
    rw [B_X2_which_p4] at h
    refine lv_iload_n S.1 S.2.1 dX2_which_4 rfl (lv_at hl 3 rfl) ?_
    refine lv_aload_n S.1 S.2.1 dX2_which_5 rfl (lv_at hl 1 rfl) ?_
    obtain ⟨hrc, h⟩ := oKS h
    refine gcVri (As := []) (rest := [.int x3]) S X Z hw (b := x1) h (fun u h1 => met_B_J5_length l E A LC LS x1 w u h1) (cb_X2_60 S.2.2.2.2 rfl rfl ⟨Nat.le_trans (Nat.le_of_ble_eq_true rfl : 1 + 1 ≤ 4) hF, Nat.le_trans (Nat.le_of_ble_eq_true rfl : 8 + (1 + 11) + 20 ≤ 85) hL⟩) (g_recvS X hw hrc) rfl hl.1 rfl (lv_room (Nat.le_of_ble_eq_true rfl)) dX2_which_6 (fun r1 H locs h hw => ?_)
    refine lv_icmp_ge (tgt := 123) S.1 S.2.1 dX2_which_9 rfl (fun c2 => ?_) (fun c2 => ?_)
    · replace h := if_t c2 h
      refine lv_iconst (v := -1) S.1 S.2.1 dX2_which_123 rfl ?_
      exact g_iret S Z hr hlocks hw (so2 h) dX2_which_124
    · replace h := if_f c2 h
      refine lv_aload_n S.1 S.2.1 dX2_which_12 rfl (lv_at hl 0 rfl) ?_
      refine ggX2_31 S X hw dX2_which_13 h (fun v3 h => ?_)
      refine lv_iconst (v := 1) S.1 S.2.1 dX2_which_16 rfl ?_
      refine lv_icmp_ne (tgt := 123) S.1 S.2.1 dX2_which_17 rfl (fun c4 => ?_) (fun c4 => ?_)
      · replace h := if_f c4 h
        refine lv_iconst (v := -1) S.1 S.2.1 dX2_which_123 rfl ?_
        exact g_iret S Z hr hlocks hw (so2 h) dX2_which_124
      · replace h := if_t c4 h
        refine lv_aload_n S.1 S.2.1 dX2_which_20 rfl (lv_at hl 1 rfl) ?_
        refine lv_bipush (v := 32) S.1 S.2.1 dX2_which_21 rfl ?_
        refine lv_iload_n S.1 S.2.1 dX2_which_23 rfl (lv_at hl 3 rfl) ?_
        obtain ⟨hrc, h⟩ := oKS h
        refine gcVri (As := [.int (32 : Int32), .int x3]) (rest := []) S X Z hw (b := x1) h (fun u h1 => met_B_J5_indexOf_2 l E A LC LS x1 (32 : Int32) x3 w u h1) (cb_X2_64 S.2.2.2.2 rfl rfl ⟨Nat.le_trans (Nat.le_of_ble_eq_true rfl : 2 + 1 ≤ 4) hF, Nat.le_trans (Nat.le_of_ble_eq_true rfl : 8 + (3 + 11) + 48 ≤ 85) hL⟩) (g_recvS X hw hrc) rfl hl.1 rfl (lv_room (Nat.le_of_ble_eq_true rfl)) dX2_which_24 (fun r5 H locs h hw => ?_)
        refine lv_iload_n S.1 S.2.1 dX2_which_27 rfl (lv_at hl 3 rfl) ?_
        refine lv_isub S.1 S.2.1 dX2_which_28 ?_
        refine lv_topi (fun y6 ey => ?_)
        replace h := bdp_e ey h
        refine lv_istore (lv' := [(4, .int y6), (0, .ref x0), (1, .ref x1), (2, .int x2), (3, .int x3)]) S.1 S.2.1 dX2_which_29 hl (by decide) rfl (fun ls hl => ?_)
        refine lv_aload_n S.1 S.2.1 dX2_which_31 rfl (lv_at hl 1 rfl) ?_
        refine ggX2_19 S X hw dX2_which_32 h (fun v7 h => ?_)
        refine lv_aload_n S.1 S.2.1 dX2_which_35 rfl (lv_at hl 1 rfl) ?_
        refine ggX2_28 S X hw dX2_which_36 h (fun v8 h => ?_)
        refine lv_isub S.1 S.2.1 dX2_which_39 ?_
        refine lv_iload S.1 S.2.1 dX2_which_40 (lv_at hl 0 rfl) ?_
        refine lv_icmp_ne (tgt := 49) S.1 S.2.1 dX2_which_42 rfl (fun c9 => ?_) (fun c9 => ?_)
        · replace h := if_f c9 h
          refine lv_iconst (v := 0) S.1 S.2.1 dX2_which_49 rfl ?_
          refine lv_istore (lv' := [(5, .int (0 : Int32)), (4, .int y6), (0, .ref x0), (1, .ref x1), (2, .int x2), (3, .int x3)]) S.1 S.2.1 dX2_which_50 hl (by decide) rfl (fun ls hl => ?_)
          refine lv_iconst (v := 0) S.1 S.2.1 dX2_which_52 rfl ?_
          refine lv_istore (lv' := [(6, .int (0 : Int32)), (5, .int (0 : Int32)), (4, .int y6), (0, .ref x0), (1, .ref x1), (2, .int x2), (3, .int x3)]) S.1 S.2.1 dX2_which_53 hl (by decide) rfl (fun ls hl => ?_)
          exact wk_B_X2_which_p55 S X Z hF hL hr hlocks  ih FU _ _ _ _ _ _ _ _ _ _ _ h hw (lv_sub hl [3, 4, 5, 6, 2, 1, 0] rfl)
        · replace h := if_t c9 h
          refine lv_iconst (v := 1) S.1 S.2.1 dX2_which_45 rfl ?_
          refine lv_goto (tgt := 50) S.1 S.2.1 dX2_which_46 rfl ?_
          refine lv_istore (lv' := [(5, .int (1 : Int32)), (4, .int y6), (0, .ref x0), (1, .ref x1), (2, .int x2), (3, .int x3)]) S.1 S.2.1 dX2_which_50 hl (by decide) rfl (fun ls hl => ?_)
          refine lv_iconst (v := 0) S.1 S.2.1 dX2_which_52 rfl ?_
          refine lv_istore (lv' := [(6, .int (0 : Int32)), (5, .int (1 : Int32)), (4, .int y6), (0, .ref x0), (1, .ref x1), (2, .int x2), (3, .int x3)]) S.1 S.2.1 dX2_which_53 hl (by decide) rfl (fun ls hl => ?_)
          exact wk_B_X2_which_p55 S X Z hF hL hr hlocks  ih FU _ _ _ _ _ _ _ _ _ _ _ h hw (lv_sub hl [3, 4, 5, 6, 2, 1, 0] rfl)
set_option maxRecDepth 100000 in
set_option maxHeartbeats 4000000 in
theorem met_B_X2_which (l : Launch) (E : gE) (A : Nat → Prop) (LC LS : Nat)  (x0 : Nat) (x1 : Nat) (w : GS) (res : Int32 × GS) (h : B_X2_which x0 x1 w = some res) : Met l yX2_which (ws_ yX2_which cX2_which 7 (Option.some Jvm.ClassFile.FieldType.int)) (gRoom 4 85 LC LS w) (gPc E A LC LS [.ref x0, .ref x1] w) (gQi E A LC LS res.1 res.2) (LC - gZ w) (LS - gN w) A := by
  refine gMet (by decide) rfl (Nat.le_of_ble_eq_true rfl) ?_
  intro p e s m below meth c R S hr hlocks hin2 X Z hF hL H ls hw hl
  replace hl : lv_has ls 7 [(0, .ref x0), (1, .ref x1)] := hl
  unfold B_X2_which at h
  refine lv_iconst (v := 0) S.1 S.2.1 dX2_which_0 rfl ?_
  refine lv_istore_n (lv' := [(2, .int (0 : Int32)), (0, .ref x0), (1, .ref x1)]) S.1 S.2.1 dX2_which_1 rfl hl (by decide) rfl (fun ls hl => ?_)
  refine lv_iconst (v := 0) S.1 S.2.1 dX2_which_2 rfl ?_
  refine lv_istore_n (lv' := [(3, .int (0 : Int32)), (2, .int (0 : Int32)), (0, .ref x0), (1, .ref x1)]) S.1 S.2.1 dX2_which_3 rfl hl (by decide) rfl (fun ls hl => ?_)
  exact wk_B_X2_which_p4 S X Z hF hL hr hlocks  FU _ _ _ _ _ _ _ _ h hw (lv_sub hl [2, 3, 1, 0] rfl)
theorem cb_X2_71 {R : Room} {s : State} {args : Array Value} {rm : Room} {mc ms : Nat} (hts : ∀ w ∈ lw_all, w.before args s = true) (hc : rm.cells = mc) (hs : rm.slots = ms) (hR : rm.frames + 1 ≤ R.frames ∧ 8 + (7 + 11) + rm.locals ≤ R.locals) : CallW R s args RX2 RX2 71 yX2_which cX2_which 7 (Option.some Jvm.ClassFile.FieldType.int) (ws_ yX2_which cX2_which 7 (Option.some Jvm.ClassFile.FieldType.int)) rm mc ms 1 := cwV 1 hts (lw_V q570 q572 qs3 q136 q573) rfl hc hs (by decide +kernel) hR
theorem cb_X2_75 {R : Room} {s : State} {args : Array Value} {rm : Room} {mc ms : Nat} (hts : ∀ w ∈ lw_all, w.before args s = true) (hc : rm.cells = mc) (hs : rm.slots = ms) (hR : rm.frames + 1 ≤ R.frames ∧ 8 + (2 + 11) + rm.locals ≤ R.locals) : CallW R s args RX2 RX2 75 yX2_wrong cX2_wrong 2 (Option.some (Jvm.ClassFile.FieldType.object "PulseRent$Wrong")) (ws_ yX2_wrong cX2_wrong 2 (Option.some (Jvm.ClassFile.FieldType.object "PulseRent$Wrong"))) rm mc ms 1 := cwV 1 hts (lw_V q594 q596 qs4 q136 q597) rfl hc hs (by decide +kernel) hR
def B_X2_need (x0 : Nat) (x1 : Nat) (w : GS) : Option ((Unit ⊕ Nat) × GS) :=
  bd1 (oK w x0 2 2) fun _ =>
  bd2 (B_X2_which x0 x1 w) fun r2 w1 =>
  if 0 ≤ r2 then
    bd1 (oK w1 x0 2 2) fun _ =>
    bd1 (B_X2_next x0 w1) fun w4 =>
    some (.inl (), w4)
  else
    bd1 (oK w1 x0 2 2) fun _ =>
    bd2 (B_X2_wrong x0 (1 : Int32) w1) fun a6 w5 =>
    bd1 (oK w5 a6 6 6) fun _ => some (.inr a6, w5)
set_option maxRecDepth 100000 in
set_option maxHeartbeats 4000000 in
theorem met_B_X2_need (l : Launch) (E : gE) (A : Nat → Prop) (LC LS : Nat)  (x0 : Nat) (x1 : Nat) (w : GS) (res : (Unit ⊕ Nat) × GS) (h : B_X2_need x0 x1 w = some res) : vx_Met l yX2_need (ws_ yX2_need cX2_need 2 (Option.none : Option Jvm.ClassFile.FieldType)) (gRoom 6 135 LC LS w) (gPc E A LC LS [.ref x0, .ref x1] w) (gXv E A LC LS res) (gXX E A LC LS res) (LC - gZ w) (LS - gN w) A := by
  refine gMetx (by decide) rfl (Nat.le_of_ble_eq_true rfl) ?_
  intro p e s m below meth c R S hr hlocks hno X Z hF hL H ls hw hl
  replace hl : lv_has ls 2 [(0, .ref x0), (1, .ref x1)] := hl
  unfold B_X2_need at h
  refine lv_aload_n S.1 S.2.1 dX2_need_0 rfl (lv_at hl 0 rfl) ?_
  refine lv_aload_n S.1 S.2.1 dX2_need_1 rfl (lv_at hl 1 rfl) ?_
  obtain ⟨hrc, h⟩ := oK1 h
  refine gcVi (As := [.ref x1]) (rest := []) S X Z hw (b := x0) h (fun u h1 => met_B_X2_which l E A LC LS x0 x1 w u h1) (cb_X2_71 S.2.2.2.2 rfl rfl ⟨Nat.le_trans (Nat.le_of_ble_eq_true rfl : 4 + 1 ≤ 6) hF, Nat.le_trans (Nat.le_of_ble_eq_true rfl : 8 + (7 + 11) + 85 ≤ 135) hL⟩) (g_recv X hw (ci := 1) rfl (gcell_2 hrc)) rfl hl.1 rfl (lv_room (Nat.le_of_ble_eq_true rfl)) dX2_need_2 (fun r2 w1 H locs h hw => ?_)
  refine lv_if_ge (tgt := 14) S.1 S.2.1 dX2_need_5 rfl (fun c3 => ?_) (fun c3 => ?_)
  · replace h := if_t c3 h
    refine lv_aload_n S.1 S.2.1 dX2_need_14 rfl (lv_at hl 0 rfl) ?_
    obtain ⟨hrc, h⟩ := oK1 h
    refine gcVv (As := []) (rest := []) S X Z hw (b := x0) h (fun u h1 => met_B_X2_next l E A LC LS x0 w1 u h1) (cb_X2_25 S.2.2.2.2 rfl rfl ⟨Nat.le_trans (Nat.le_of_ble_eq_true rfl : 4 + 1 ≤ 6) hF, Nat.le_trans (Nat.le_of_ble_eq_true rfl : 8 + (1 + 11) + 91 ≤ 135) hL⟩) (g_recv X hw (ci := 1) rfl (gcell_2 hrc)) rfl hl.1 rfl (lv_room (Nat.le_of_ble_eq_true rfl)) dX2_need_15 (fun w4 H locs h hw => ?_)
    exact x_vret S Z hr hlocks hw (so1 h) dX2_need_18
  · replace h := if_f c3 h
    refine lv_aload_n S.1 S.2.1 dX2_need_8 rfl (lv_at hl 0 rfl) ?_
    refine lv_iconst (v := 1) S.1 S.2.1 dX2_need_9 rfl ?_
    obtain ⟨hrc, h⟩ := oK1 h
    refine gcVr (As := [.int (1 : Int32)]) (rest := []) S X Z hw (b := x0) h (fun u h1 => met_B_X2_wrong l E A LC LS x0 (1 : Int32) w1 u h1) (cb_X2_75 S.2.2.2.2 rfl rfl ⟨Nat.le_trans (Nat.le_of_ble_eq_true rfl : 5 + 1 ≤ 6) hF, Nat.le_trans (Nat.le_of_ble_eq_true rfl : 8 + (2 + 11) + 114 ≤ 135) hL⟩) (g_recv X hw (ci := 1) rfl (gcell_2 hrc)) rfl hl.1 rfl (lv_room (Nat.le_of_ble_eq_true rfl)) dX2_need_10 (fun a6 w5 H locs h hw => ?_)
    exact x_throw S X hno hlocks Z hw dX2_need_13 h
def B_X2_isSign (x0 : Nat) (x1 : Int32) (w : GS) : Option Int32 :=
  bd1 (oI w x0 2 2 3) fun v1 =>
  if v1 = (3 : Int32) then
    bd1 (oRn w x0 2 2 0) fun a3 =>
    bd1 (oI w x0 2 2 4) fun v4 =>
    bd1 (aIb w a3 v4) fun v5 =>
    if v5 = x1 then
      some (1 : Int32)
    else
      some (0 : Int32)
  else
    some (0 : Int32)
set_option maxRecDepth 100000 in
set_option maxHeartbeats 4000000 in
theorem met_B_X2_isSign (l : Launch) (E : gE) (A : Nat → Prop) (LC LS : Nat)  (x0 : Nat) (x1 : Int32) (w : GS) (res : Int32) (h : B_X2_isSign x0 x1 w = some res) : Met l yX2_isSign (ws_ yX2_isSign cX2_isSign 2 (Option.some Jvm.ClassFile.FieldType.boolean)) (gRoom 0 0 LC LS w) (gPc E A LC LS [.ref x0, .int x1] w) (gQi E A LC LS res w) (LC - gZ w) (LS - gN w) A := by
  refine gMet (by decide) rfl (Nat.le_of_ble_eq_true rfl) ?_
  intro p e s m below meth c R S hr hlocks hin2 X Z hF hL H ls hw hl
  replace hl : lv_has ls 2 [(0, .ref x0), (1, .int x1)] := hl
  unfold B_X2_isSign at h
  refine lv_aload_n S.1 S.2.1 dX2_isSign_0 rfl (lv_at hl 0 rfl) ?_
  refine ggX2_31 S X hw dX2_isSign_1 h (fun v1 h => ?_)
  refine lv_iconst (v := 3) S.1 S.2.1 dX2_isSign_4 rfl ?_
  refine lv_icmp_ne (tgt := 25) S.1 S.2.1 dX2_isSign_5 rfl (fun c2 => ?_) (fun c2 => ?_)
  · replace h := if_f c2 h
    refine lv_iconst (v := 0) S.1 S.2.1 dX2_isSign_25 rfl ?_
    exact g_zret S Z hr hlocks hw rfl ⟨so1 h, rfl⟩ dX2_isSign_26
  · replace h := if_t c2 h
    refine lv_aload_n S.1 S.2.1 dX2_isSign_8 rfl (lv_at hl 0 rfl) ?_
    refine ggX2_9 S X hw dX2_isSign_9 h (fun a3 h => ?_)
    refine lv_aload_n S.1 S.2.1 dX2_isSign_12 rfl (lv_at hl 0 rfl) ?_
    refine ggX2_28 S X hw dX2_isSign_13 h (fun v4 h => ?_)
    refine galdb S X hw dX2_isSign_16 h (fun v5 h => ?_)
    refine lv_iload_n S.1 S.2.1 dX2_isSign_17 rfl (lv_at hl 1 rfl) ?_
    refine lv_icmp_ne (tgt := 25) S.1 S.2.1 dX2_isSign_18 rfl (fun c6 => ?_) (fun c6 => ?_)
    · replace h := if_f c6 h
      refine lv_iconst (v := 0) S.1 S.2.1 dX2_isSign_25 rfl ?_
      exact g_zret S Z hr hlocks hw rfl ⟨so1 h, rfl⟩ dX2_isSign_26
    · replace h := if_t c6 h
      refine lv_iconst (v := 1) S.1 S.2.1 dX2_isSign_21 rfl ?_
      refine lv_goto (tgt := 26) S.1 S.2.1 dX2_isSign_22 rfl ?_
      exact g_zret S Z hr hlocks hw rfl ⟨so1 h, rfl⟩ dX2_isSign_26
theorem cb_X2_79 {R : Room} {s : State} {args : Array Value} {rm : Room} {mc ms : Nat} (hts : ∀ w ∈ lw_all, w.before args s = true) (hc : rm.cells = mc) (hs : rm.slots = ms) (hR : rm.frames + 1 ≤ R.frames ∧ 8 + (2 + 11) + rm.locals ≤ R.locals) : CallW R s args RX2 RX2 79 yX2_isSign cX2_isSign 2 (Option.some Jvm.ClassFile.FieldType.boolean) (ws_ yX2_isSign cX2_isSign 2 (Option.some Jvm.ClassFile.FieldType.boolean)) rm mc ms 1 := cwV 1 hts (lw_V q1127 q1129 qs26 q136 q1130) rfl hc hs (by decide +kernel) hR
def B_X2_need_2 (x0 : Nat) (x1 : Int32) (w : GS) : Option ((Unit ⊕ Nat) × GS) :=
  bd1 (oK w x0 2 2) fun _ =>
  bd1 (B_X2_isSign x0 x1 w) fun r1 =>
  if r1 = 0 then
    bd1 (oK w x0 2 2) fun _ =>
    bd2 (B_X2_wrong x0 (1 : Int32) w) fun a5 w4 =>
    bd1 (oK w4 a5 6 6) fun _ => some (.inr a5, w4)
  else
    bd1 (oK w x0 2 2) fun _ =>
    bd1 (B_X2_next x0 w) fun w3 =>
    some (.inl (), w3)
set_option maxRecDepth 100000 in
set_option maxHeartbeats 4000000 in
theorem met_B_X2_need_2 (l : Launch) (E : gE) (A : Nat → Prop) (LC LS : Nat)  (x0 : Nat) (x1 : Int32) (w : GS) (res : (Unit ⊕ Nat) × GS) (h : B_X2_need_2 x0 x1 w = some res) : vx_Met l yX2_need_2 (ws_ yX2_need_2 cX2_need_2 2 (Option.none : Option Jvm.ClassFile.FieldType)) (gRoom 6 135 LC LS w) (gPc E A LC LS [.ref x0, .int x1] w) (gXv E A LC LS res) (gXX E A LC LS res) (LC - gZ w) (LS - gN w) A := by
  refine gMetx (by decide) rfl (Nat.le_of_ble_eq_true rfl) ?_
  intro p e s m below meth c R S hr hlocks hno X Z hF hL H ls hw hl
  replace hl : lv_has ls 2 [(0, .ref x0), (1, .int x1)] := hl
  unfold B_X2_need_2 at h
  refine lv_aload_n S.1 S.2.1 dX2_need_2_0 rfl (lv_at hl 0 rfl) ?_
  refine lv_iload_n S.1 S.2.1 dX2_need_2_1 rfl (lv_at hl 1 rfl) ?_
  obtain ⟨hrc, h⟩ := oK1 h
  refine gcVri (As := [.int x1]) (rest := []) S X Z hw (b := x0) h (fun u h1 => met_B_X2_isSign l E A LC LS x0 x1 w u h1) (cb_X2_79 S.2.2.2.2 rfl rfl ⟨Nat.le_trans (Nat.le_of_ble_eq_true rfl : 0 + 1 ≤ 6) hF, Nat.le_trans (Nat.le_of_ble_eq_true rfl : 8 + (2 + 11) + 0 ≤ 135) hL⟩) (g_recv X hw (ci := 1) rfl (gcell_2 hrc)) rfl hl.1 rfl (lv_room (Nat.le_of_ble_eq_true rfl)) dX2_need_2_2 (fun r1 H locs h hw => ?_)
  refine lv_if_ne (tgt := 14) S.1 S.2.1 dX2_need_2_5 rfl (fun c2 => ?_) (fun c2 => ?_)
  · replace h := if_f c2 h
    refine lv_aload_n S.1 S.2.1 dX2_need_2_14 rfl (lv_at hl 0 rfl) ?_
    obtain ⟨hrc, h⟩ := oK1 h
    refine gcVv (As := []) (rest := []) S X Z hw (b := x0) h (fun u h1 => met_B_X2_next l E A LC LS x0 w u h1) (cb_X2_25 S.2.2.2.2 rfl rfl ⟨Nat.le_trans (Nat.le_of_ble_eq_true rfl : 4 + 1 ≤ 6) hF, Nat.le_trans (Nat.le_of_ble_eq_true rfl : 8 + (1 + 11) + 91 ≤ 135) hL⟩) (g_recv X hw (ci := 1) rfl (gcell_2 hrc)) rfl hl.1 rfl (lv_room (Nat.le_of_ble_eq_true rfl)) dX2_need_2_15 (fun w3 H locs h hw => ?_)
    exact x_vret S Z hr hlocks hw (so1 h) dX2_need_2_18
  · replace h := if_t c2 h
    refine lv_aload_n S.1 S.2.1 dX2_need_2_8 rfl (lv_at hl 0 rfl) ?_
    refine lv_iconst (v := 1) S.1 S.2.1 dX2_need_2_9 rfl ?_
    obtain ⟨hrc, h⟩ := oK1 h
    refine gcVr (As := [.int (1 : Int32)]) (rest := []) S X Z hw (b := x0) h (fun u h1 => met_B_X2_wrong l E A LC LS x0 (1 : Int32) w u h1) (cb_X2_75 S.2.2.2.2 rfl rfl ⟨Nat.le_trans (Nat.le_of_ble_eq_true rfl : 5 + 1 ≤ 6) hF, Nat.le_trans (Nat.le_of_ble_eq_true rfl : 8 + (2 + 11) + 114 ≤ 135) hL⟩) (g_recv X hw (ci := 1) rfl (gcell_2 hrc)) rfl hl.1 rfl (lv_room (Nat.le_of_ble_eq_true rfl)) dX2_need_2_10 (fun a5 w4 H locs h hw => ?_)
    exact x_throw S X hno hlocks Z hw dX2_need_2_13 h
def B_X2_number_2_p30 (x0 : Nat) (w : GS) : Option ((Int32 ⊕ Nat) × GS) :=
  bd1 (oK w x0 2 2) fun _ =>
  bd2 (B_X2_wrong x0 (4 : Int32) w) fun a6 w5 =>
  bd1 (oK w5 a6 6 6) fun _ => some (.inr a6, w5)
def B_X2_number_2 (x0 : Nat) (x1 : Int32) (x2 : Int32) (w : GS) : Option ((Int32 ⊕ Nat) × GS) :=
  bd1 (oI w x0 2 2 3) fun v1 =>
  if v1 = (2 : Int32) then
    bd1 (oI w x0 2 2 5) fun v3 =>
    if v3 < x1 then
      B_X2_number_2_p30 x0 w
    else
      bd1 (oI w x0 2 2 5) fun v7 =>
      if v7 ≤ x2 then
        bd1 (oI w x0 2 2 5) fun v9 =>
        bd1 (oK w x0 2 2) fun _ =>
        bd1 (B_X2_next x0 w) fun w10 =>
        some (.inl v9, w10)
      else
        B_X2_number_2_p30 x0 w
  else
    bd1 (oK w x0 2 2) fun _ =>
    bd2 (B_X2_wrong x0 (1 : Int32) w) fun a12 w11 =>
    bd1 (oK w11 a12 6 6) fun _ => some (.inr a12, w11)
set_option maxRecDepth 100000 in
set_option maxHeartbeats 4000000 in
theorem wk_B_X2_number_2_p30 {p : Program} {l : Launch} {e : Env} {R : Room} {s : State} {m : MethodId} {args : Array Value} {below : List Frame} {meth : Method} {c : Code} {E : gE} {A : Nat → Prop} {LC LS : Nat} (S : CallFix p m c cX2_number_2 4 s args lw_all RX2) (X : gCtx E A s) (Z : gRm R s LC LS) (hF : 6 ≤ R.frames) (hL : 135 ≤ R.locals) (hr : meth.sig.returnType = (Option.some Jvm.ClassFile.FieldType.int)) (hlocks : meth.locks = false) (hno : ∀ x ∈ c.exceptionTable.toList, False) {res : (Int32 ⊕ Nat) × GS}  : ∀ (x0 : Nat) (w : GS) (H : Heap) (locs : List Loc) (ls : Array Slot), B_X2_number_2_p30 x0 w = some res → gH E A LC LS s w H locs → lv_has ls 4 [(0, .ref x0)] → W p l e R s m args below meth c H locs (H.size - s.heap.size) (tot H - tot s.heap) (vx_MQ below (gXi E A LC LS res) (gXX E A LC LS res) args s R.cells R.slots A) (F0 m 30 ls []) := by
  intro x0 w H locs ls h hw hl
  unfold B_X2_number_2_p30 at h
  refine lv_aload_n S.1 S.2.1 dX2_number_2_30 rfl (lv_at hl 0 rfl) ?_
  refine lv_iconst (v := 4) S.1 S.2.1 dX2_number_2_31 rfl ?_
  obtain ⟨hrc, h⟩ := oK1 h
  refine gcVr (As := [.int (4 : Int32)]) (rest := []) S X Z hw (b := x0) h (fun u h1 => met_B_X2_wrong l E A LC LS x0 (4 : Int32) w u h1) (cb_X2_75 S.2.2.2.2 rfl rfl ⟨Nat.le_trans (Nat.le_of_ble_eq_true rfl : 5 + 1 ≤ 6) hF, Nat.le_trans (Nat.le_of_ble_eq_true rfl : 8 + (2 + 11) + 114 ≤ 135) hL⟩) (g_recv X hw (ci := 1) rfl (gcell_2 hrc)) rfl hl.1 rfl (lv_room (Nat.le_of_ble_eq_true rfl)) dX2_number_2_32 (fun a6 w5 H locs h hw => ?_)
  exact x_throw S X hno hlocks Z hw dX2_number_2_35 h
set_option maxRecDepth 100000 in
set_option maxHeartbeats 4000000 in
theorem met_B_X2_number_2 (l : Launch) (E : gE) (A : Nat → Prop) (LC LS : Nat)  (x0 : Nat) (x1 : Int32) (x2 : Int32) (w : GS) (res : (Int32 ⊕ Nat) × GS) (h : B_X2_number_2 x0 x1 x2 w = some res) : vx_Met l yX2_number_2 (ws_ yX2_number_2 cX2_number_2 4 (Option.some Jvm.ClassFile.FieldType.int)) (gRoom 6 135 LC LS w) (gPc E A LC LS [.ref x0, .int x1, .int x2] w) (gXi E A LC LS res) (gXX E A LC LS res) (LC - gZ w) (LS - gN w) A := by
  refine gMetx (by decide) rfl (Nat.le_of_ble_eq_true rfl) ?_
  intro p e s m below meth c R S hr hlocks hno X Z hF hL H ls hw hl
  replace hl : lv_has ls 4 [(0, .ref x0), (1, .int x1), (2, .int x2)] := hl
  unfold B_X2_number_2 at h
  refine lv_aload_n S.1 S.2.1 dX2_number_2_0 rfl (lv_at hl 0 rfl) ?_
  refine ggX2_31 S X hw dX2_number_2_1 h (fun v1 h => ?_)
  refine lv_iconst (v := 2) S.1 S.2.1 dX2_number_2_4 rfl ?_
  refine lv_icmp_eq (tgt := 14) S.1 S.2.1 dX2_number_2_5 rfl (fun c2 => ?_) (fun c2 => ?_)
  · replace h := if_t c2 h
    refine lv_aload_n S.1 S.2.1 dX2_number_2_14 rfl (lv_at hl 0 rfl) ?_
    refine ggX2_45 S X hw dX2_number_2_15 h (fun v3 h => ?_)
    refine lv_iload_n S.1 S.2.1 dX2_number_2_18 rfl (lv_at hl 1 rfl) ?_
    refine lv_icmp_lt (tgt := 30) S.1 S.2.1 dX2_number_2_19 rfl (fun c4 => ?_) (fun c4 => ?_)
    · replace h := if_t c4 h
      exact wk_B_X2_number_2_p30 S X Z hF hL hr hlocks hno _ _ _ _ _ h hw (lv_sub hl [0] rfl)
    · replace h := if_f c4 h
      refine lv_aload_n S.1 S.2.1 dX2_number_2_22 rfl (lv_at hl 0 rfl) ?_
      refine ggX2_45 S X hw dX2_number_2_23 h (fun v7 h => ?_)
      refine lv_iload_n S.1 S.2.1 dX2_number_2_26 rfl (lv_at hl 2 rfl) ?_
      refine lv_icmp_le (tgt := 36) S.1 S.2.1 dX2_number_2_27 rfl (fun c8 => ?_) (fun c8 => ?_)
      · replace h := if_t c8 h
        refine lv_aload_n S.1 S.2.1 dX2_number_2_36 rfl (lv_at hl 0 rfl) ?_
        refine ggX2_45 S X hw dX2_number_2_37 h (fun v9 h => ?_)
        refine lv_istore_n (lv' := [(3, .int v9), (0, .ref x0), (1, .int x1), (2, .int x2)]) S.1 S.2.1 dX2_number_2_40 rfl hl (by decide) rfl (fun ls hl => ?_)
        refine lv_aload_n S.1 S.2.1 dX2_number_2_41 rfl (lv_at hl 1 rfl) ?_
        obtain ⟨hrc, h⟩ := oK1 h
        refine gcVv (As := []) (rest := []) S X Z hw (b := x0) h (fun u h1 => met_B_X2_next l E A LC LS x0 w u h1) (cb_X2_25 S.2.2.2.2 rfl rfl ⟨Nat.le_trans (Nat.le_of_ble_eq_true rfl : 4 + 1 ≤ 6) hF, Nat.le_trans (Nat.le_of_ble_eq_true rfl : 8 + (1 + 11) + 91 ≤ 135) hL⟩) (g_recv X hw (ci := 1) rfl (gcell_2 hrc)) rfl hl.1 rfl (lv_room (Nat.le_of_ble_eq_true rfl)) dX2_number_2_42 (fun w10 H locs h hw => ?_)
        refine lv_iload_n S.1 S.2.1 dX2_number_2_45 rfl (lv_at hl 0 rfl) ?_
        exact x_iret S Z hr hlocks hw (so1 h) dX2_number_2_46
      · replace h := if_f c8 h
        exact wk_B_X2_number_2_p30 S X Z hF hL hr hlocks hno _ _ _ _ _ h hw (lv_sub hl [0] rfl)
  · replace h := if_f c2 h
    refine lv_aload_n S.1 S.2.1 dX2_number_2_8 rfl (lv_at hl 0 rfl) ?_
    refine lv_iconst (v := 1) S.1 S.2.1 dX2_number_2_9 rfl ?_
    obtain ⟨hrc, h⟩ := oK1 h
    refine gcVr (As := [.int (1 : Int32)]) (rest := []) S X Z hw (b := x0) h (fun u h1 => met_B_X2_wrong l E A LC LS x0 (1 : Int32) w u h1) (cb_X2_75 S.2.2.2.2 rfl rfl ⟨Nat.le_trans (Nat.le_of_ble_eq_true rfl : 5 + 1 ≤ 6) hF, Nat.le_trans (Nat.le_of_ble_eq_true rfl : 8 + (2 + 11) + 114 ≤ 135) hL⟩) (g_recv X hw (ci := 1) rfl (gcell_2 hrc)) rfl hl.1 rfl (lv_room (Nat.le_of_ble_eq_true rfl)) dX2_number_2_10 (fun a12 w11 H locs h hw => ?_)
    exact x_throw S X hno hlocks Z hw dX2_number_2_13 h
theorem cb_X2_117 {R : Room} {s : State} {args : Array Value} {rm : Room} {mc ms : Nat} (hts : ∀ w ∈ lw_all, w.before args s = true) (hc : rm.cells = mc) (hs : rm.slots = ms) (hR : rm.frames + 1 ≤ R.frames ∧ 8 + (2 + 11) + rm.locals ≤ R.locals) : CallW R s args RX2 RX2 117 yX2_need cX2_need 2 (Option.none : Option Jvm.ClassFile.FieldType) (ws_ yX2_need cX2_need 2 (Option.none : Option Jvm.ClassFile.FieldType)) rm mc ms 1 := cwV 1 hts (lw_V q869 q871 qs10 q136 q872) rfl hc hs (by decide +kernel) hR
theorem cb_X2_121 {R : Room} {s : State} {args : Array Value} {rm : Room} {mc ms : Nat} (hts : ∀ w ∈ lw_all, w.before args s = true) (hc : rm.cells = mc) (hs : rm.slots = ms) (hR : rm.frames + 1 ≤ R.frames ∧ 8 + (4 + 11) + rm.locals ≤ R.locals) : CallW R s args RX2 RX2 121 yX2_number_2 cX2_number_2 4 (Option.some Jvm.ClassFile.FieldType.int) (ws_ yX2_number_2 cX2_number_2 4 (Option.some Jvm.ClassFile.FieldType.int)) rm mc ms 2 := cwV 2 hts (lw_V q873 q875 qs11 q136 q876) rfl hc hs (by decide +kernel) hR
def B_X2_number (x0 : Nat) (x1 : Nat) (x2 : Int32) (x3 : Int32) (w : GS) : Option ((Int32 ⊕ Nat) × GS) :=
  bd1 (oK w x0 2 2) fun _ =>
  bdx (B_X2_need x0 x1 w) fun _ w1 =>
  bd1 (oK w1 x0 2 2) fun _ =>
  bdx (B_X2_number_2 x0 x2 x3 w1) fun r3 w2 =>
  some (.inl r3, w2)
set_option maxRecDepth 100000 in
set_option maxHeartbeats 4000000 in
theorem met_B_X2_number (l : Launch) (E : gE) (A : Nat → Prop) (LC LS : Nat)  (x0 : Nat) (x1 : Nat) (x2 : Int32) (x3 : Int32) (w : GS) (res : (Int32 ⊕ Nat) × GS) (h : B_X2_number x0 x1 x2 x3 w = some res) : vx_Met l yX2_number (ws_ yX2_number cX2_number 4 (Option.some Jvm.ClassFile.FieldType.int)) (gRoom 7 158 LC LS w) (gPc E A LC LS [.ref x0, .ref x1, .int x2, .int x3] w) (gXi E A LC LS res) (gXX E A LC LS res) (LC - gZ w) (LS - gN w) A := by
  refine gMetx (by decide) rfl (Nat.le_of_ble_eq_true rfl) ?_
  intro p e s m below meth c R S hr hlocks hno X Z hF hL H ls hw hl
  replace hl : lv_has ls 4 [(0, .ref x0), (1, .ref x1), (2, .int x2), (3, .int x3)] := hl
  unfold B_X2_number at h
  refine lv_aload_n S.1 S.2.1 dX2_number_0 rfl (lv_at hl 0 rfl) ?_
  refine lv_aload_n S.1 S.2.1 dX2_number_1 rfl (lv_at hl 1 rfl) ?_
  obtain ⟨hrc, h⟩ := oK1 h
  refine gxVv (As := [.ref x1]) (rest := []) S X Z hw (b := x0) hno hlocks h (fun u h1 => met_B_X2_need l E A LC LS x0 x1 w u h1) (cb_X2_117 S.2.2.2.2 rfl rfl ⟨Nat.le_trans (Nat.le_of_ble_eq_true rfl : 6 + 1 ≤ 7) hF, Nat.le_trans (Nat.le_of_ble_eq_true rfl : 8 + (2 + 11) + 135 ≤ 158) hL⟩) (g_recv X hw (ci := 1) rfl (gcell_2 hrc)) rfl hl.1 rfl (lv_room (Nat.le_of_ble_eq_true rfl)) dX2_number_2 (fun _ w1 H locs h hw => ?_)
  refine lv_aload_n S.1 S.2.1 dX2_number_5 rfl (lv_at hl 0 rfl) ?_
  refine lv_iload_n S.1 S.2.1 dX2_number_6 rfl (lv_at hl 2 rfl) ?_
  refine lv_iload_n S.1 S.2.1 dX2_number_7 rfl (lv_at hl 3 rfl) ?_
  obtain ⟨hrc, h⟩ := oK1 h
  refine gxVi (As := [.int x2, .int x3]) (rest := []) S X Z hw (b := x0) hno hlocks h (fun u h1 => met_B_X2_number_2 l E A LC LS x0 x2 x3 w1 u h1) (cb_X2_121 S.2.2.2.2 rfl rfl ⟨Nat.le_trans (Nat.le_of_ble_eq_true rfl : 6 + 1 ≤ 7) hF, Nat.le_trans (Nat.le_of_ble_eq_true rfl : 8 + (4 + 11) + 135 ≤ 158) hL⟩) (g_recv X hw (ci := 1) rfl (gcell_2 hrc)) rfl hl.1 rfl (lv_room (Nat.le_of_ble_eq_true rfl)) dX2_number_8 (fun r3 w2 H locs h hw => ?_)
  exact x_iret S Z hr hlocks hw (so1 h) dX2_number_11
def B_X2_one (x0 : Nat) (x1 : Nat) (w : GS) : Option ((Int32 ⊕ Nat) × GS) :=
  bd1 (oK w x0 2 2) fun _ =>
  bd2 (B_X2_which x0 x1 w) fun r2 w1 =>
  if 0 ≤ r2 then
    bd1 (oK w1 x0 2 2) fun _ =>
    bd1 (B_X2_next x0 w1) fun w4 =>
    some (.inl r2, w4)
  else
    bd1 (oK w1 x0 2 2) fun _ =>
    bd2 (B_X2_wrong x0 (1 : Int32) w1) fun a6 w5 =>
    bd1 (oK w5 a6 6 6) fun _ => some (.inr a6, w5)
set_option maxRecDepth 100000 in
set_option maxHeartbeats 4000000 in
theorem met_B_X2_one (l : Launch) (E : gE) (A : Nat → Prop) (LC LS : Nat)  (x0 : Nat) (x1 : Nat) (w : GS) (res : (Int32 ⊕ Nat) × GS) (h : B_X2_one x0 x1 w = some res) : vx_Met l yX2_one (ws_ yX2_one cX2_one 3 (Option.some Jvm.ClassFile.FieldType.int)) (gRoom 6 135 LC LS w) (gPc E A LC LS [.ref x0, .ref x1] w) (gXi E A LC LS res) (gXX E A LC LS res) (LC - gZ w) (LS - gN w) A := by
  refine gMetx (by decide) rfl (Nat.le_of_ble_eq_true rfl) ?_
  intro p e s m below meth c R S hr hlocks hno X Z hF hL H ls hw hl
  replace hl : lv_has ls 3 [(0, .ref x0), (1, .ref x1)] := hl
  unfold B_X2_one at h
  refine lv_aload_n S.1 S.2.1 dX2_one_0 rfl (lv_at hl 0 rfl) ?_
  refine lv_aload_n S.1 S.2.1 dX2_one_1 rfl (lv_at hl 1 rfl) ?_
  obtain ⟨hrc, h⟩ := oK1 h
  refine gcVi (As := [.ref x1]) (rest := []) S X Z hw (b := x0) h (fun u h1 => met_B_X2_which l E A LC LS x0 x1 w u h1) (cb_X2_71 S.2.2.2.2 rfl rfl ⟨Nat.le_trans (Nat.le_of_ble_eq_true rfl : 4 + 1 ≤ 6) hF, Nat.le_trans (Nat.le_of_ble_eq_true rfl : 8 + (7 + 11) + 85 ≤ 135) hL⟩) (g_recv X hw (ci := 1) rfl (gcell_2 hrc)) rfl hl.1 rfl (lv_room (Nat.le_of_ble_eq_true rfl)) dX2_one_2 (fun r2 w1 H locs h hw => ?_)
  refine lv_istore_n (lv' := [(2, .int r2), (0, .ref x0), (1, .ref x1)]) S.1 S.2.1 dX2_one_5 rfl hl (by decide) rfl (fun ls hl => ?_)
  refine lv_iload_n S.1 S.2.1 dX2_one_6 rfl (lv_at hl 0 rfl) ?_
  refine lv_if_ge (tgt := 16) S.1 S.2.1 dX2_one_7 rfl (fun c3 => ?_) (fun c3 => ?_)
  · replace h := if_t c3 h
    refine lv_aload_n S.1 S.2.1 dX2_one_16 rfl (lv_at hl 1 rfl) ?_
    obtain ⟨hrc, h⟩ := oK1 h
    refine gcVv (As := []) (rest := []) S X Z hw (b := x0) h (fun u h1 => met_B_X2_next l E A LC LS x0 w1 u h1) (cb_X2_25 S.2.2.2.2 rfl rfl ⟨Nat.le_trans (Nat.le_of_ble_eq_true rfl : 4 + 1 ≤ 6) hF, Nat.le_trans (Nat.le_of_ble_eq_true rfl : 8 + (1 + 11) + 91 ≤ 135) hL⟩) (g_recv X hw (ci := 1) rfl (gcell_2 hrc)) rfl hl.1 rfl (lv_room (Nat.le_of_ble_eq_true rfl)) dX2_one_17 (fun w4 H locs h hw => ?_)
    refine lv_iload_n S.1 S.2.1 dX2_one_20 rfl (lv_at hl 0 rfl) ?_
    exact x_iret S Z hr hlocks hw (so1 h) dX2_one_21
  · replace h := if_f c3 h
    refine lv_aload_n S.1 S.2.1 dX2_one_10 rfl (lv_at hl 1 rfl) ?_
    refine lv_iconst (v := 1) S.1 S.2.1 dX2_one_11 rfl ?_
    obtain ⟨hrc, h⟩ := oK1 h
    refine gcVr (As := [.int (1 : Int32)]) (rest := []) S X Z hw (b := x0) h (fun u h1 => met_B_X2_wrong l E A LC LS x0 (1 : Int32) w1 u h1) (cb_X2_75 S.2.2.2.2 rfl rfl ⟨Nat.le_trans (Nat.le_of_ble_eq_true rfl : 5 + 1 ≤ 6) hF, Nat.le_trans (Nat.le_of_ble_eq_true rfl : 8 + (2 + 11) + 114 ≤ 135) hL⟩) (g_recv X hw (ci := 1) rfl (gcell_2 hrc)) rfl hl.1 rfl (lv_room (Nat.le_of_ble_eq_true rfl)) dX2_one_12 (fun a6 w5 H locs h hw => ?_)
    exact x_throw S X hno hlocks Z hw dX2_one_15 h
def B_J15_newLength_p21 (x0 : Int32) (x1 : Int32) (w : GS) : Option Int32 :=
  none
def B_J15_newLength (x0 : Int32) (x1 : Int32) (x2 : Int32) (w : GS) : Option Int32 :=
  bdp (x0 + (if x1 < x2 then x2 else x1)) fun y1 =>
  if y1 ≤ (0 : Int32) then
    B_J15_newLength_p21 x0 x1 w
  else
    if (2147483639 : Int32) < y1 then
      B_J15_newLength_p21 x0 x1 w
    else
      some y1
set_option maxRecDepth 100000 in
set_option maxHeartbeats 4000000 in
theorem wk_B_J15_newLength_p21 {p : Program} {l : Launch} {e : Env} {R : Room} {s : State} {m : MethodId} {args : Array Value} {below : List Frame} {meth : Method} {c : Code} {E : gE} {A : Nat → Prop} {LC LS : Nat} (S : CallFix p m c cJ15_newLength 4 s args lw_all RJ15) (X : gCtx E A s) (Z : gRm R s LC LS) (hF : 1 ≤ R.frames) (hL : 21 ≤ R.locals) (hr : meth.sig.returnType = (Option.some Jvm.ClassFile.FieldType.int)) (hlocks : meth.locks = false) {res : Int32}  : ∀ (x0 : Int32) (x1 : Int32) (w : GS) (H : Heap) (locs : List Loc) (ls : Array Slot), B_J15_newLength_p21 x0 x1 w = some res → gH E A LC LS s w H locs → lv_has ls 4 [(0, .int x0), (1, .int x1)] → W p l e R s m args below meth c H locs (H.size - s.heap.size) (tot H - tot s.heap) (MQ below (gQi E A LC LS res w) args s R.cells R.slots A) (F0 m 21 ls []) := by
  intro x0 x1 w H locs ls h hw hl
  unfold B_J15_newLength_p21 at h
  refine lv_iload_n S.1 S.2.1 dJ15_newLength_21 rfl (lv_at hl 0 rfl) ?_
  refine lv_iload_n S.1 S.2.1 dJ15_newLength_22 rfl (lv_at hl 1 rfl) ?_
  cases h
set_option maxRecDepth 100000 in
set_option maxHeartbeats 4000000 in
theorem met_B_J15_newLength (l : Launch) (E : gE) (A : Nat → Prop) (LC LS : Nat)  (x0 : Int32) (x1 : Int32) (x2 : Int32) (w : GS) (res : Int32) (h : B_J15_newLength x0 x1 x2 w = some res) : Met l yJ15_newLength (ws_ yJ15_newLength cJ15_newLength 4 (Option.some Jvm.ClassFile.FieldType.int)) (gRoom 1 21 LC LS w) (gPc E A LC LS [.int x0, .int x1, .int x2] w) (gQi E A LC LS res w) (LC - gZ w) (LS - gN w) A := by
  refine gMet (by decide) rfl (Nat.le_of_ble_eq_true rfl) ?_
  intro p e s m below meth c R S hr hlocks hin2 X Z hF hL H ls hw hl
  replace hl : lv_has ls 4 [(0, .int x0), (1, .int x1), (2, .int x2)] := hl
  unfold B_J15_newLength at h
  refine lv_iload_n S.1 S.2.1 dJ15_newLength_0 rfl (lv_at hl 0 rfl) ?_
  refine lv_iload_n S.1 S.2.1 dJ15_newLength_1 rfl (lv_at hl 1 rfl) ?_
  refine lv_iload_n S.1 S.2.1 dJ15_newLength_2 rfl (lv_at hl 2 rfl) ?_
  refine va_mmax (x := x1) (y := x2) (rest := [.int x0]) S.1 S.2.1 (S.2.2.1.trans hl.1.symm) S.2.2.2.1 (S.2.2.2.2 _ q729) (S.2.2.2.2 _ q506) (S.2.2.2.2 _ q147) (S.2.2.2.2 _ q507) (Nat.le_trans (Nat.le_of_ble_eq_true rfl) hF) (Nat.le_trans (Nat.le_of_ble_eq_true rfl : (([.int x0] : List Value).map fun v : Value => v.category).sum + 13 ≤ 21) (Nat.le_trans (Nat.le_of_ble_eq_true rfl) hL)) (gRm_le Z hw).1 (gRm_le Z hw).2 dJ15_newLength_3 ?_
  refine lv_iadd S.1 S.2.1 dJ15_newLength_6 ?_
  refine lv_topi (fun y1 ey => ?_)
  replace h := bdp_e ey h
  refine lv_istore_n (lv' := [(3, .int y1), (0, .int x0), (1, .int x1), (2, .int x2)]) S.1 S.2.1 dJ15_newLength_7 rfl hl (by decide) rfl (fun ls hl => ?_)
  refine lv_iconst (v := 0) S.1 S.2.1 dJ15_newLength_8 rfl ?_
  refine lv_iload_n S.1 S.2.1 dJ15_newLength_9 rfl (lv_at hl 0 rfl) ?_
  refine lv_icmp_ge (tgt := 21) S.1 S.2.1 dJ15_newLength_10 rfl (fun c2 => ?_) (fun c2 => ?_)
  · replace h := if_t c2 h
    exact wk_B_J15_newLength_p21 S X Z hF hL hr hlocks  _ _ _ _ _ _ h hw (lv_sub hl [1, 2] rfl)
  · replace h := if_f c2 h
    refine lv_iload_n S.1 S.2.1 dJ15_newLength_13 rfl (lv_at hl 0 rfl) ?_
    refine lv_ldc (v := 2147483639) S.1 S.2.1 S.2.2.2.1 (S.2.2.2.2 _ q730) dJ15_newLength_14 ?_
    refine lv_icmp_gt (tgt := 21) S.1 S.2.1 dJ15_newLength_16 rfl (fun c3 => ?_) (fun c3 => ?_)
    · replace h := if_t c3 h
      exact wk_B_J15_newLength_p21 S X Z hF hL hr hlocks  _ _ _ _ _ _ h hw (lv_sub hl [1, 2] rfl)
    · replace h := if_f c3 h
      refine lv_iload_n S.1 S.2.1 dJ15_newLength_19 rfl (lv_at hl 0 rfl) ?_
      exact g_iret S Z hr hlocks hw ⟨so1 h, rfl⟩ dJ15_newLength_20
def B_J16_copyOf_3_p24 (x0 : Nat) (x1 : Int32) (t0 : Nat) (w : GS) : Option (Nat × GS) :=
  bd1 (aLen w x0 43) fun v4 =>
  bd1 (cpR w x0 (0 : Int32) t0 (0 : Int32) (if x1 < v4 then x1 else v4)) fun w5 =>
  some (t0, w5)
def B_J16_copyOf_3 (x0 : Nat) (x1 : Int32) (x2 : Nat) (w : GS) : Option (Nat × GS) :=
  bd1 (gT w 9) fun a1 =>
  if ((some x2) : Option Nat) = (some a1) then
    bd1 (onA w 43 x1) fun w3 =>
    B_J16_copyOf_3_p24 x0 x1 (gZ w) w3
  else
    none
set_option maxRecDepth 100000 in
set_option maxHeartbeats 4000000 in
theorem wk_B_J16_copyOf_3_p24 {p : Program} {l : Launch} {e : Env} {R : Room} {s : State} {m : MethodId} {args : Array Value} {below : List Frame} {meth : Method} {c : Code} {E : gE} {A : Nat → Prop} {LC LS : Nat} (S : CallFix p m c cJ16_copyOf_3 4 s args lw_all RJ16) (X : gCtx E A s) (Z : gRm R s LC LS) (hF : 1 ≤ R.frames) (hL : 40 ≤ R.locals) (hr : meth.sig.returnType = (Option.some (Jvm.ClassFile.FieldType.array (Jvm.ClassFile.FieldType.object "java/lang/Object")))) (hlocks : meth.locks = false) {res : Nat × GS}  : ∀ (x0 : Nat) (x1 : Int32) (t0 : Nat) (w : GS) (H : Heap) (locs : List Loc) (ls : Array Slot), B_J16_copyOf_3_p24 x0 x1 t0 w = some res → gH E A LC LS s w H locs → lv_has ls 4 [(0, .ref x0), (1, .int x1)] → W p l e R s m args below meth c H locs (H.size - s.heap.size) (tot H - tot s.heap) (MQ below (gQr E A LC LS res.1 res.2) args s R.cells R.slots A) (F0 m 24 ls [.ref t0]) := by
  intro x0 x1 t0 w H locs ls h hw hl
  unfold B_J16_copyOf_3_p24 at h
  refine lv_astore_n (lv' := [(3, .ref t0), (0, .ref x0), (1, .int x1)]) S.1 S.2.1 dJ16_copyOf_3_24 rfl hl (by decide) rfl (fun ls hl => ?_)
  refine lv_aload_n S.1 S.2.1 dJ16_copyOf_3_25 rfl (lv_at hl 1 rfl) ?_
  refine lv_iconst (v := 0) S.1 S.2.1 dJ16_copyOf_3_26 rfl ?_
  refine lv_aload_n S.1 S.2.1 dJ16_copyOf_3_27 rfl (lv_at hl 0 rfl) ?_
  refine lv_iconst (v := 0) S.1 S.2.1 dJ16_copyOf_3_28 rfl ?_
  refine lv_aload_n S.1 S.2.1 dJ16_copyOf_3_29 rfl (lv_at hl 1 rfl) ?_
  refine galen43 S X hw dJ16_copyOf_3_30 h (fun v4 h => ?_)
  refine lv_iload_n S.1 S.2.1 dJ16_copyOf_3_31 rfl (lv_at hl 2 rfl) ?_
  refine va_mmin (x := v4) (y := x1) (rest := [.int (0 : Int32), .ref t0, .int (0 : Int32), .ref x0]) S.1 S.2.1 (S.2.2.1.trans hl.1.symm) S.2.2.2.1 (S.2.2.2.2 _ q745) (S.2.2.2.2 _ q509) (S.2.2.2.2 _ q147) (S.2.2.2.2 _ q510) (Nat.le_trans (Nat.le_of_ble_eq_true rfl) hF) (Nat.le_trans (Nat.le_of_ble_eq_true rfl : (([.int (0 : Int32), .ref t0, .int (0 : Int32), .ref x0] : List Value).map fun v : Value => v.category).sum + 13 ≤ 21) (Nat.le_trans (Nat.le_of_ble_eq_true rfl) hL)) (gRm_le Z hw).1 (gRm_le Z hw).2 dJ16_copyOf_3_32 ?_
  refine gcopyR (rest := []) S X hw hl.1 (Nat.le_trans (Nat.le_of_ble_eq_true rfl) hF) (Nat.le_trans (Nat.le_of_ble_eq_true rfl) hL) (Nat.le_of_ble_eq_true rfl) dJ16_copyOf_3_35 h (fun w5 H locs h hw => ?_)
  refine lv_aload_n S.1 S.2.1 dJ16_copyOf_3_38 rfl (lv_at hl 0 rfl) ?_
  exact g_aret S Z hr (Or.inr ⟨_, rfl⟩) hlocks hw (so2 h) dJ16_copyOf_3_39
set_option maxRecDepth 100000 in
set_option maxHeartbeats 4000000 in
theorem met_B_J16_copyOf_3 (l : Launch) (E : gE) (A : Nat → Prop) (LC LS : Nat)  (x0 : Nat) (x1 : Int32) (x2 : Nat) (w : GS) (res : Nat × GS) (h : B_J16_copyOf_3 x0 x1 x2 w = some res) : Met l yJ16_copyOf_3 (ws_ yJ16_copyOf_3 cJ16_copyOf_3 4 (Option.some (Jvm.ClassFile.FieldType.array (Jvm.ClassFile.FieldType.object "java/lang/Object")))) (gRoom 1 40 LC LS w) (gPc E A LC LS [.ref x0, .int x1, .ref x2] w) (gQr E A LC LS res.1 res.2) (LC - gZ w) (LS - gN w) A := by
  refine gMet (by decide) rfl (Nat.le_of_ble_eq_true rfl) ?_
  intro p e s m below meth c R S hr hlocks hin2 X Z hF hL H ls hw hl
  replace hl : lv_has ls 4 [(0, .ref x0), (1, .int x1), (2, .ref x2)] := hl
  unfold B_J16_copyOf_3 at h
  refine lv_aload_n S.1 S.2.1 dJ16_copyOf_3_0 rfl (lv_at hl 2 rfl) ?_
  refine gldcM S X hw dJ16_copyOf_3_1 h (fun a1 h => ?_)
  refine lv_acmp_ne (rx := (some x2)) (ry := (some a1)) (tgt := 13) S.1 S.2.1 dJ16_copyOf_3_3 rfl (fun c2 => ?_) (fun c2 => ?_)
  · replace h := if_f c2 h
    refine lv_aload_n S.1 S.2.1 dJ16_copyOf_3_13 rfl (lv_at hl 2 rfl) ?_
    cases h
  · replace h := if_t c2 h
    refine lv_iload_n S.1 S.2.1 dJ16_copyOf_3_6 rfl (lv_at hl 1 rfl) ?_
    refine gnqJ16_2 S X Z hw dJ16_copyOf_3_7 h (fun w3 H h hw => ?_)
    refine lv_goto (tgt := 24) S.1 S.2.1 dJ16_copyOf_3_10 rfl ?_
    exact wk_B_J16_copyOf_3_p24 S X Z hF hL hr hlocks  _ _ _ _ _ _ _ h hw (lv_sub hl [0, 1] rfl)
theorem cb_J16_300 {R : Room} {s : State} {args : Array Value} {rm : Room} {mc ms : Nat} (hts : ∀ w ∈ lw_all, w.before args s = true) (hc : rm.cells = mc) (hs : rm.slots = ms) (hR : rm.frames + 1 ≤ R.frames ∧ 8 + (4 + 11) + rm.locals ≤ R.locals) : CallB R s args RJ16 300 yJ16_copyOf_3 cJ16_copyOf_3 4 (Option.some (Jvm.ClassFile.FieldType.array (Jvm.ClassFile.FieldType.object "java/lang/Object"))) (ws_ yJ16_copyOf_3 cJ16_copyOf_3 4 (Option.some (Jvm.ClassFile.FieldType.array (Jvm.ClassFile.FieldType.object "java/lang/Object")))) rm mc ms 3 ∧ (Cond.static yJ16_copyOf_3).before args s = true := va_cwS 3 hts (lw_S q960 q961 q157 q962) rfl hc hs (by decide +kernel) hR
def B_J16_copyOf_2 (x0 : Nat) (x1 : Int32) (w : GS) : Option (Nat × GS) :=
  bd1 (oK w x0 43 43) fun _ =>
  bd1 (gT w 9) fun a1 =>
  bd2 (B_J16_copyOf_3 x0 x1 a1 w) fun a3 w2 =>
  some (a3, w2)
set_option maxRecDepth 100000 in
set_option maxHeartbeats 4000000 in
theorem met_B_J16_copyOf_2 (l : Launch) (E : gE) (A : Nat → Prop) (LC LS : Nat)  (x0 : Nat) (x1 : Int32) (w : GS) (res : Nat × GS) (h : B_J16_copyOf_2 x0 x1 w = some res) : Met l yJ16_copyOf_2 (ws_ yJ16_copyOf_2 cJ16_copyOf_2 2 (Option.some (Jvm.ClassFile.FieldType.array (Jvm.ClassFile.FieldType.object "java/lang/Object")))) (gRoom 2 63 LC LS w) (gPc E A LC LS [.ref x0, .int x1] w) (gQr E A LC LS res.1 res.2) (LC - gZ w) (LS - gN w) A := by
  refine gMet (by decide) rfl (Nat.le_of_ble_eq_true rfl) ?_
  intro p e s m below meth c R S hr hlocks hin2 X Z hF hL H ls hw hl
  replace hl : lv_has ls 2 [(0, .ref x0), (1, .int x1)] := hl
  unfold B_J16_copyOf_2 at h
  refine lv_aload_n S.1 S.2.1 dJ16_copyOf_2_0 rfl (lv_at hl 0 rfl) ?_
  refine lv_iload_n S.1 S.2.1 dJ16_copyOf_2_1 rfl (lv_at hl 1 rfl) ?_
  refine lv_aload_n S.1 S.2.1 dJ16_copyOf_2_2 rfl (lv_at hl 0 rfl) ?_
  refine ggetC (rest := [.int x1, .ref x0]) S X hw hl.1 (Nat.le_trans (Nat.le_of_ble_eq_true rfl) hF) (Nat.le_trans (Nat.le_of_ble_eq_true rfl) hL) (Nat.le_of_ble_eq_true rfl) dJ16_copyOf_2_3 h (fun a1 h => ?_)
  refine gcSr (As := [.ref x0, .int x1, .ref a1]) (rest := []) S X Z hw h (fun u h1 => met_B_J16_copyOf_3 l E A LC LS x0 x1 a1 w u h1) (cb_J16_300 S.2.2.2.2 rfl rfl ⟨Nat.le_trans (Nat.le_of_ble_eq_true rfl : 1 + 1 ≤ 2) hF, Nat.le_trans (Nat.le_of_ble_eq_true rfl : 8 + (4 + 11) + 40 ≤ 63) hL⟩) rfl hl.1 rfl (lv_room (Nat.le_of_ble_eq_true rfl)) dJ16_copyOf_2_6 (fun a3 w2 H locs h hw => ?_)
  exact g_aret S Z hr (Or.inr ⟨_, rfl⟩) hlocks hw (so2 h) dJ16_copyOf_2_9
theorem cb_J2_73 {R : Room} {s : State} {args : Array Value} {rm : Room} {mc ms : Nat} (hts : ∀ w ∈ lw_all, w.before args s = true) (hc : rm.cells = mc) (hs : rm.slots = ms) (hR : rm.frames + 1 ≤ R.frames ∧ 8 + (4 + 11) + rm.locals ≤ R.locals) : CallB R s args RJ2 73 yJ15_newLength cJ15_newLength 4 (Option.some Jvm.ClassFile.FieldType.int) (ws_ yJ15_newLength cJ15_newLength 4 (Option.some Jvm.ClassFile.FieldType.int)) rm mc ms 3 ∧ (Cond.static yJ15_newLength).before args s = true := va_cwS 3 hts (lw_S q925 q727 q156 q728) rfl hc hs (by decide +kernel) hR
theorem cb_J2_66 {R : Room} {s : State} {args : Array Value} {rm : Room} {mc ms : Nat} (hts : ∀ w ∈ lw_all, w.before args s = true) (hc : rm.cells = mc) (hs : rm.slots = ms) (hR : rm.frames + 1 ≤ R.frames ∧ 8 + (2 + 11) + rm.locals ≤ R.locals) : CallB R s args RJ2 66 yJ16_copyOf_2 cJ16_copyOf_2 2 (Option.some (Jvm.ClassFile.FieldType.array (Jvm.ClassFile.FieldType.object "java/lang/Object"))) (ws_ yJ16_copyOf_2 cJ16_copyOf_2 2 (Option.some (Jvm.ClassFile.FieldType.array (Jvm.ClassFile.FieldType.object "java/lang/Object")))) rm mc ms 2 ∧ (Cond.static yJ16_copyOf_2).before args s = true := va_cwS 2 hts (lw_S q926 q927 q157 q928) rfl hc hs (by decide +kernel) hR
def B_J2_grow_2_p20 (x0 : Nat) (x1 : Int32) (x2 : Int32) (w : GS) : Option (Nat × GS) :=
  bd1 (B_J15_newLength x2 (x1 - x2) (x2 >>> ((1 : Int32) &&& 31)) w) fun r4 =>
  bd1 (oRn w x0 23 23 1) fun a5 =>
  bd2 (B_J16_copyOf_2 a5 r4 w) fun a7 w6 =>
  bd1 (pR w6 x0 23 23 1 (some a7)) fun w8 =>
  some (a7, w8)
def B_J2_grow_2 (x0 : Nat) (x1 : Int32) (w : GS) : Option (Nat × GS) :=
  bd1 (oRn w x0 23 23 1) fun a1 =>
  bd1 (aLen w a1 43) fun v2 =>
  if 0 < v2 then
    B_J2_grow_2_p20 x0 x1 v2 w
  else
    bd1 (oRn w x0 23 23 1) fun a9 =>
    none
set_option maxRecDepth 100000 in
set_option maxHeartbeats 4000000 in
theorem wk_B_J2_grow_2_p20 {p : Program} {l : Launch} {e : Env} {R : Room} {s : State} {m : MethodId} {args : Array Value} {below : List Frame} {meth : Method} {c : Code} {E : gE} {A : Nat → Prop} {LC LS : Nat} (S : CallFix p m c cJ2_grow_2 4 s args lw_all RJ2) (X : gCtx E A s) (Z : gRm R s LC LS) (hF : 3 ≤ R.frames) (hL : 84 ≤ R.locals) (hr : meth.sig.returnType = (Option.some (Jvm.ClassFile.FieldType.array (Jvm.ClassFile.FieldType.object "java/lang/Object")))) (hlocks : meth.locks = false) {res : Nat × GS}  : ∀ (x0 : Nat) (x1 : Int32) (x2 : Int32) (w : GS) (H : Heap) (locs : List Loc) (ls : Array Slot), B_J2_grow_2_p20 x0 x1 x2 w = some res → gH E A LC LS s w H locs → lv_has ls 4 [(0, .ref x0), (1, .int x1), (2, .int x2)] → W p l e R s m args below meth c H locs (H.size - s.heap.size) (tot H - tot s.heap) (MQ below (gQr E A LC LS res.1 res.2) args s R.cells R.slots A) (F0 m 20 ls []) := by
  intro x0 x1 x2 w H locs ls h hw hl
  unfold B_J2_grow_2_p20 at h
  refine lv_iload_n S.1 S.2.1 dJ2_grow_2_20 rfl (lv_at hl 2 rfl) ?_
  refine lv_iload_n S.1 S.2.1 dJ2_grow_2_21 rfl (lv_at hl 1 rfl) ?_
  refine lv_iload_n S.1 S.2.1 dJ2_grow_2_22 rfl (lv_at hl 2 rfl) ?_
  refine lv_isub S.1 S.2.1 dJ2_grow_2_23 ?_
  refine lv_iload_n S.1 S.2.1 dJ2_grow_2_24 rfl (lv_at hl 2 rfl) ?_
  refine lv_iconst (v := 1) S.1 S.2.1 dJ2_grow_2_25 rfl ?_
  refine lv_ishr S.1 S.2.1 dJ2_grow_2_26 ?_
  refine gcSri (As := [.int x2, .int (x1 - x2), .int (x2 >>> ((1 : Int32) &&& 31))]) (rest := []) S X Z hw h (fun u h1 => met_B_J15_newLength l E A LC LS x2 (x1 - x2) (x2 >>> ((1 : Int32) &&& 31)) w u h1) (cb_J2_73 S.2.2.2.2 rfl rfl ⟨Nat.le_trans (Nat.le_of_ble_eq_true rfl : 1 + 1 ≤ 3) hF, Nat.le_trans (Nat.le_of_ble_eq_true rfl : 8 + (4 + 11) + 21 ≤ 84) hL⟩) rfl hl.1 rfl (lv_room (Nat.le_of_ble_eq_true rfl)) dJ2_grow_2_27 (fun r4 H locs h hw => ?_)
  refine lv_istore_n (lv' := [(3, .int r4), (0, .ref x0), (1, .int x1), (2, .int x2)]) S.1 S.2.1 dJ2_grow_2_30 rfl hl (by decide) rfl (fun ls hl => ?_)
  refine lv_aload_n S.1 S.2.1 dJ2_grow_2_31 rfl (lv_at hl 1 rfl) ?_
  refine lv_aload_n S.1 S.2.1 dJ2_grow_2_32 rfl (lv_at hl 1 rfl) ?_
  refine ggJ2_9 S X hw dJ2_grow_2_33 h (fun a5 h => ?_)
  refine lv_iload_n S.1 S.2.1 dJ2_grow_2_36 rfl (lv_at hl 0 rfl) ?_
  refine gcSr (As := [.ref a5, .int r4]) (rest := [.ref x0]) S X Z hw h (fun u h1 => met_B_J16_copyOf_2 l E A LC LS a5 r4 w u h1) (cb_J2_66 S.2.2.2.2 rfl rfl ⟨Nat.le_trans (Nat.le_of_ble_eq_true rfl : 2 + 1 ≤ 3) hF, Nat.le_trans (Nat.le_of_ble_eq_true rfl : 8 + (2 + 11) + 63 ≤ 84) hL⟩) rfl hl.1 rfl (lv_room (Nat.le_of_ble_eq_true rfl)) dJ2_grow_2_37 (fun a7 w6 H locs h hw => ?_)
  refine lv_dup_x1 S.1 S.2.1 dJ2_grow_2_40 rfl rfl ?_
  refine gpJ2_9 (v := some a7) S X hw dJ2_grow_2_41 h (fun w8 H locs h hw => ?_)
  exact g_aret S Z hr (Or.inr ⟨_, rfl⟩) hlocks hw (so2 h) dJ2_grow_2_44
set_option maxRecDepth 100000 in
set_option maxHeartbeats 4000000 in
theorem met_B_J2_grow_2 (l : Launch) (E : gE) (A : Nat → Prop) (LC LS : Nat)  (x0 : Nat) (x1 : Int32) (w : GS) (res : Nat × GS) (h : B_J2_grow_2 x0 x1 w = some res) : Met l yJ2_grow_2 (ws_ yJ2_grow_2 cJ2_grow_2 4 (Option.some (Jvm.ClassFile.FieldType.array (Jvm.ClassFile.FieldType.object "java/lang/Object")))) (gRoom 3 84 LC LS w) (gPc E A LC LS [.ref x0, .int x1] w) (gQr E A LC LS res.1 res.2) (LC - gZ w) (LS - gN w) A := by
  refine gMet (by decide) rfl (Nat.le_of_ble_eq_true rfl) ?_
  intro p e s m below meth c R S hr hlocks hin2 X Z hF hL H ls hw hl
  replace hl : lv_has ls 4 [(0, .ref x0), (1, .int x1)] := hl
  unfold B_J2_grow_2 at h
  refine lv_aload_n S.1 S.2.1 dJ2_grow_2_0 rfl (lv_at hl 0 rfl) ?_
  refine ggJ2_9 S X hw dJ2_grow_2_1 h (fun a1 h => ?_)
  refine galen43 S X hw dJ2_grow_2_4 h (fun v2 h => ?_)
  refine lv_istore_n (lv' := [(2, .int v2), (0, .ref x0), (1, .int x1)]) S.1 S.2.1 dJ2_grow_2_5 rfl hl (by decide) rfl (fun ls hl => ?_)
  refine lv_iload_n S.1 S.2.1 dJ2_grow_2_6 rfl (lv_at hl 0 rfl) ?_
  refine lv_if_gt (tgt := 20) S.1 S.2.1 dJ2_grow_2_7 rfl (fun c3 => ?_) (fun c3 => ?_)
  · replace h := if_t c3 h
    exact wk_B_J2_grow_2_p20 S X Z hF hL hr hlocks  _ _ _ _ _ _ _ h hw (lv_sub hl [1, 2, 0] rfl)
  · replace h := if_f c3 h
    refine lv_aload_n S.1 S.2.1 dJ2_grow_2_10 rfl (lv_at hl 1 rfl) ?_
    refine ggJ2_9 S X hw dJ2_grow_2_11 h (fun a9 h => ?_)
    cases h
theorem cb_J2_69 {R : Room} {s : State} {args : Array Value} {rm : Room} {mc ms : Nat} (hts : ∀ w ∈ lw_all, w.before args s = true) (hc : rm.cells = mc) (hs : rm.slots = ms) (hR : rm.frames + 1 ≤ R.frames ∧ 8 + (4 + 11) + rm.locals ≤ R.locals) : CallW R s args RJ2 RJ2 69 yJ2_grow_2 cJ2_grow_2 4 (Option.some (Jvm.ClassFile.FieldType.array (Jvm.ClassFile.FieldType.object "java/lang/Object"))) (ws_ yJ2_grow_2 cJ2_grow_2 4 (Option.some (Jvm.ClassFile.FieldType.array (Jvm.ClassFile.FieldType.object "java/lang/Object")))) rm mc ms 1 := cwV 1 hts (lw_V q919 q921 qs14 q140 q922) rfl hc hs (by decide +kernel) hR
def B_J2_grow (x0 : Nat) (w : GS) : Option (Nat × GS) :=
  bd1 (oI w x0 23 23 2) fun v1 =>
  bd1 (oK w x0 23 23) fun _ =>
  bd2 (B_J2_grow_2 x0 (v1 + (1 : Int32)) w) fun a3 w2 =>
  some (a3, w2)
set_option maxRecDepth 100000 in
set_option maxHeartbeats 4000000 in
theorem met_B_J2_grow (l : Launch) (E : gE) (A : Nat → Prop) (LC LS : Nat)  (x0 : Nat) (w : GS) (res : Nat × GS) (h : B_J2_grow x0 w = some res) : Met l yJ2_grow (ws_ yJ2_grow cJ2_grow 1 (Option.some (Jvm.ClassFile.FieldType.array (Jvm.ClassFile.FieldType.object "java/lang/Object")))) (gRoom 4 107 LC LS w) (gPc E A LC LS [.ref x0] w) (gQr E A LC LS res.1 res.2) (LC - gZ w) (LS - gN w) A := by
  refine gMet (by decide) rfl (Nat.le_of_ble_eq_true rfl) ?_
  intro p e s m below meth c R S hr hlocks hin2 X Z hF hL H ls hw hl
  replace hl : lv_has ls 1 [(0, .ref x0)] := hl
  unfold B_J2_grow at h
  refine lv_aload_n S.1 S.2.1 dJ2_grow_0 rfl (lv_at hl 0 rfl) ?_
  refine lv_aload_n S.1 S.2.1 dJ2_grow_1 rfl (lv_at hl 0 rfl) ?_
  refine ggJ2_48 S X hw dJ2_grow_2 h (fun v1 h => ?_)
  refine lv_iconst (v := 1) S.1 S.2.1 dJ2_grow_5 rfl ?_
  refine lv_iadd S.1 S.2.1 dJ2_grow_6 ?_
  obtain ⟨hrc, h⟩ := oK1 h
  refine gcVr (As := [.int (v1 + (1 : Int32))]) (rest := []) S X Z hw (b := x0) h (fun u h1 => met_B_J2_grow_2 l E A LC LS x0 (v1 + (1 : Int32)) w u h1) (cb_J2_69 S.2.2.2.2 rfl rfl ⟨Nat.le_trans (Nat.le_of_ble_eq_true rfl : 3 + 1 ≤ 4) hF, Nat.le_trans (Nat.le_of_ble_eq_true rfl : 8 + (4 + 11) + 84 ≤ 107) hL⟩) (g_recv X hw (ci := 22) rfl (gcell_23 hrc)) rfl hl.1 rfl (lv_room (Nat.le_of_ble_eq_true rfl)) dJ2_grow_7 (fun a3 w2 H locs h hw => ?_)
  exact g_aret S Z hr (Or.inr ⟨_, rfl⟩) hlocks hw (so2 h) dJ2_grow_10
theorem cb_J2_129 {R : Room} {s : State} {args : Array Value} {rm : Room} {mc ms : Nat} (hts : ∀ w ∈ lw_all, w.before args s = true) (hc : rm.cells = mc) (hs : rm.slots = ms) (hR : rm.frames + 1 ≤ R.frames ∧ 8 + (1 + 11) + rm.locals ≤ R.locals) : CallW R s args RJ2 RJ2 129 yJ2_grow cJ2_grow 1 (Option.some (Jvm.ClassFile.FieldType.array (Jvm.ClassFile.FieldType.object "java/lang/Object"))) (ws_ yJ2_grow cJ2_grow 1 (Option.some (Jvm.ClassFile.FieldType.array (Jvm.ClassFile.FieldType.object "java/lang/Object")))) rm mc ms 0 := cwV 0 hts (lw_V q915 q917 qs13 q140 q918) rfl hc hs (by decide +kernel) hR
def B_J2_add_2_p11 (x0 : Nat) (x1 : Nat) (x2 : Nat) (x3 : Int32) (w : GS) : Option GS :=
  bd1 (oEl w x1) fun _ =>
  bd1 (xR w x2 43 x3 (some x1)) fun w3 =>
  bd1 (pI w3 x0 23 23 2 (x3 + (1 : Int32))) fun w4 =>
  some w4
def B_J2_add_2 (x0 : Nat) (x1 : Nat) (x2 : Nat) (x3 : Int32) (w : GS) : Option GS :=
  bd1 (aLen w x2 43) fun v1 =>
  if x3 = v1 then
    bd1 (oK w x0 23 23) fun _ =>
    bd2 (B_J2_grow x0 w) fun a6 w5 =>
    B_J2_add_2_p11 x0 x1 a6 x3 w5
  else
    B_J2_add_2_p11 x0 x1 x2 x3 w
set_option maxRecDepth 100000 in
set_option maxHeartbeats 4000000 in
theorem wk_B_J2_add_2_p11 {p : Program} {l : Launch} {e : Env} {R : Room} {s : State} {m : MethodId} {args : Array Value} {below : List Frame} {meth : Method} {c : Code} {E : gE} {A : Nat → Prop} {LC LS : Nat} (S : CallFix p m c cJ2_add_2 4 s args lw_all RJ2) (X : gCtx E A s) (Z : gRm R s LC LS) (hF : 5 ≤ R.frames) (hL : 127 ≤ R.locals) (hr : meth.sig.returnType = (Option.none : Option Jvm.ClassFile.FieldType)) (hlocks : meth.locks = false) {res : GS}  : ∀ (x0 : Nat) (x1 : Nat) (x2 : Nat) (x3 : Int32) (w : GS) (H : Heap) (locs : List Loc) (ls : Array Slot), B_J2_add_2_p11 x0 x1 x2 x3 w = some res → gH E A LC LS s w H locs → lv_has ls 4 [(0, .ref x0), (1, .ref x1), (2, .ref x2), (3, .int x3)] → W p l e R s m args below meth c H locs (H.size - s.heap.size) (tot H - tot s.heap) (MQ below (gQv E A LC LS res) args s R.cells R.slots A) (F0 m 11 ls []) := by
  intro x0 x1 x2 x3 w H locs ls h hw hl
  unfold B_J2_add_2_p11 at h
  refine lv_aload_n S.1 S.2.1 dJ2_add_2_11 rfl (lv_at hl 2 rfl) ?_
  refine lv_iload_n S.1 S.2.1 dJ2_add_2_12 rfl (lv_at hl 3 rfl) ?_
  refine lv_aload_n S.1 S.2.1 dJ2_add_2_13 rfl (lv_at hl 1 rfl) ?_
  refine gast43c S X hw dJ2_add_2_14 h (fun w3 H locs h hw => ?_)
  refine lv_aload_n S.1 S.2.1 dJ2_add_2_15 rfl (lv_at hl 0 rfl) ?_
  refine lv_iload_n S.1 S.2.1 dJ2_add_2_16 rfl (lv_at hl 3 rfl) ?_
  refine lv_iconst (v := 1) S.1 S.2.1 dJ2_add_2_17 rfl ?_
  refine lv_iadd S.1 S.2.1 dJ2_add_2_18 ?_
  refine gpJ2_48 S X hw dJ2_add_2_19 h (fun w4 H locs h hw => ?_)
  exact g_vret S Z hr hlocks hw (so1 h) dJ2_add_2_22
set_option maxRecDepth 100000 in
set_option maxHeartbeats 4000000 in
theorem met_B_J2_add_2 (l : Launch) (E : gE) (A : Nat → Prop) (LC LS : Nat)  (x0 : Nat) (x1 : Nat) (x2 : Nat) (x3 : Int32) (w : GS) (res : GS) (h : B_J2_add_2 x0 x1 x2 x3 w = some res) : Met l yJ2_add_2 (ws_ yJ2_add_2 cJ2_add_2 4 (Option.none : Option Jvm.ClassFile.FieldType)) (gRoom 5 127 LC LS w) (gPc E A LC LS [.ref x0, .ref x1, .ref x2, .int x3] w) (gQv E A LC LS res) (LC - gZ w) (LS - gN w) A := by
  refine gMet (by decide) rfl (Nat.le_of_ble_eq_true rfl) ?_
  intro p e s m below meth c R S hr hlocks hin2 X Z hF hL H ls hw hl
  replace hl : lv_has ls 4 [(0, .ref x0), (1, .ref x1), (2, .ref x2), (3, .int x3)] := hl
  unfold B_J2_add_2 at h
  refine lv_iload_n S.1 S.2.1 dJ2_add_2_0 rfl (lv_at hl 3 rfl) ?_
  refine lv_aload_n S.1 S.2.1 dJ2_add_2_1 rfl (lv_at hl 2 rfl) ?_
  refine galen43 S X hw dJ2_add_2_2 h (fun v1 h => ?_)
  refine lv_icmp_ne (tgt := 11) S.1 S.2.1 dJ2_add_2_3 rfl (fun c2 => ?_) (fun c2 => ?_)
  · replace h := if_f c2 h
    exact wk_B_J2_add_2_p11 S X Z hF hL hr hlocks  _ _ _ _ _ _ _ _ h hw (lv_sub hl [0, 1, 2, 3] rfl)
  · replace h := if_t c2 h
    refine lv_aload_n S.1 S.2.1 dJ2_add_2_6 rfl (lv_at hl 0 rfl) ?_
    obtain ⟨hrc, h⟩ := oK1 h
    refine gcVr (As := []) (rest := []) S X Z hw (b := x0) h (fun u h1 => met_B_J2_grow l E A LC LS x0 w u h1) (cb_J2_129 S.2.2.2.2 rfl rfl ⟨Nat.le_trans (Nat.le_of_ble_eq_true rfl : 4 + 1 ≤ 5) hF, Nat.le_trans (Nat.le_of_ble_eq_true rfl : 8 + (1 + 11) + 107 ≤ 127) hL⟩) (g_recv X hw (ci := 22) rfl (gcell_23 hrc)) rfl hl.1 rfl (lv_room (Nat.le_of_ble_eq_true rfl)) dJ2_add_2_7 (fun a6 w5 H locs h hw => ?_)
    refine lv_astore_n (lv' := [(2, .ref a6), (0, .ref x0), (1, .ref x1), (3, .int x3)]) S.1 S.2.1 dJ2_add_2_10 rfl hl (by decide) rfl (fun ls hl => ?_)
    exact wk_B_J2_add_2_p11 S X Z hF hL hr hlocks  _ _ _ _ _ _ _ _ h hw (lv_sub hl [1, 2, 0, 3] rfl)
theorem cb_J2_131 {R : Room} {s : State} {args : Array Value} {rm : Room} {mc ms : Nat} (hts : ∀ w ∈ lw_all, w.before args s = true) (hc : rm.cells = mc) (hs : rm.slots = ms) (hR : rm.frames + 1 ≤ R.frames ∧ 8 + (4 + 11) + rm.locals ≤ R.locals) : CallW R s args RJ2 RJ2 131 yJ2_add_2 cJ2_add_2 4 (Option.none : Option Jvm.ClassFile.FieldType) (ws_ yJ2_add_2 cJ2_add_2 4 (Option.none : Option Jvm.ClassFile.FieldType)) rm mc ms 3 := cwV 3 hts (lw_V q911 q913 qs12 q140 q914) rfl hc hs (by decide +kernel) hR
def B_J2_add (x0 : Nat) (x1 : Nat) (w : GS) : Option (Int32 × GS) :=
  bd1 (oI w x0 23 23 0) fun v1 =>
  bd1 (pI w x0 23 23 0 (v1 + (1 : Int32))) fun w2 =>
  bd1 (oRn w2 x0 23 23 1) fun a3 =>
  bd1 (oI w2 x0 23 23 2) fun v4 =>
  bd1 (oK w2 x0 23 23) fun _ =>
  bd1 (B_J2_add_2 x0 x1 a3 v4 w2) fun w5 =>
  some ((1 : Int32), w5)
set_option maxRecDepth 100000 in
set_option maxHeartbeats 4000000 in
theorem met_B_J2_add (l : Launch) (E : gE) (A : Nat → Prop) (LC LS : Nat)  (x0 : Nat) (x1 : Nat) (w : GS) (res : Int32 × GS) (h : B_J2_add x0 x1 w = some res) : Met l yJ2_add (ws_ yJ2_add cJ2_add 2 (Option.some Jvm.ClassFile.FieldType.boolean)) (gRoom 6 150 LC LS w) (gPc E A LC LS [.ref x0, .ref x1] w) (gQi E A LC LS res.1 res.2) (LC - gZ w) (LS - gN w) A := by
  refine gMet (by decide) rfl (Nat.le_of_ble_eq_true rfl) ?_
  intro p e s m below meth c R S hr hlocks hin2 X Z hF hL H ls hw hl
  replace hl : lv_has ls 2 [(0, .ref x0), (1, .ref x1)] := hl
  unfold B_J2_add at h
  refine lv_aload_n S.1 S.2.1 dJ2_add_0 rfl (lv_at hl 0 rfl) ?_
  refine lv_dup S.1 S.2.1 dJ2_add_1 rfl ?_
  refine ggJ2_63 S X hw dJ2_add_2 h (fun v1 h => ?_)
  refine lv_iconst (v := 1) S.1 S.2.1 dJ2_add_5 rfl ?_
  refine lv_iadd S.1 S.2.1 dJ2_add_6 ?_
  refine gpJ2_63 S X hw dJ2_add_7 h (fun w2 H locs h hw => ?_)
  refine lv_aload_n S.1 S.2.1 dJ2_add_10 rfl (lv_at hl 0 rfl) ?_
  refine lv_aload_n S.1 S.2.1 dJ2_add_11 rfl (lv_at hl 1 rfl) ?_
  refine lv_aload_n S.1 S.2.1 dJ2_add_12 rfl (lv_at hl 0 rfl) ?_
  refine ggJ2_9 S X hw dJ2_add_13 h (fun a3 h => ?_)
  refine lv_aload_n S.1 S.2.1 dJ2_add_16 rfl (lv_at hl 0 rfl) ?_
  refine ggJ2_48 S X hw dJ2_add_17 h (fun v4 h => ?_)
  obtain ⟨hrc, h⟩ := oK1 h
  refine gcVv (As := [.ref x1, .ref a3, .int v4]) (rest := []) S X Z hw (b := x0) h (fun u h1 => met_B_J2_add_2 l E A LC LS x0 x1 a3 v4 w2 u h1) (cb_J2_131 S.2.2.2.2 rfl rfl ⟨Nat.le_trans (Nat.le_of_ble_eq_true rfl : 5 + 1 ≤ 6) hF, Nat.le_trans (Nat.le_of_ble_eq_true rfl : 8 + (4 + 11) + 127 ≤ 150) hL⟩) (g_recv X hw (ci := 22) rfl (gcell_23 hrc)) rfl hl.1 rfl (lv_room (Nat.le_of_ble_eq_true rfl)) dJ2_add_20 (fun w5 H locs h hw => ?_)
  refine lv_iconst (v := 1) S.1 S.2.1 dJ2_add_23 rfl ?_
  exact g_zret S Z hr hlocks hw rfl (so2 h) dJ2_add_24
def B_J16_checkLength (x0 : Int32) (x1 : Int32) (w : GS) : Option GS :=
  if x0 ≤ x1 then
    some w
  else
    none
set_option maxRecDepth 100000 in
set_option maxHeartbeats 4000000 in
theorem met_B_J16_checkLength (l : Launch) (E : gE) (A : Nat → Prop) (LC LS : Nat)  (x0 : Int32) (x1 : Int32) (w : GS) (res : GS) (h : B_J16_checkLength x0 x1 w = some res) : Met l yJ16_checkLength (ws_ yJ16_checkLength cJ16_checkLength 2 (Option.none : Option Jvm.ClassFile.FieldType)) (gRoom 0 0 LC LS w) (gPc E A LC LS [.int x0, .int x1] w) (gQv E A LC LS res) (LC - gZ w) (LS - gN w) A := by
  refine gMet (by decide) rfl (Nat.le_of_ble_eq_true rfl) ?_
  intro p e s m below meth c R S hr hlocks hin2 X Z hF hL H ls hw hl
  replace hl : lv_has ls 2 [(0, .int x0), (1, .int x1)] := hl
  unfold B_J16_checkLength at h
  refine lv_iload_n S.1 S.2.1 dJ16_checkLength_0 rfl (lv_at hl 1 rfl) ?_
  refine lv_iload_n S.1 S.2.1 dJ16_checkLength_1 rfl (lv_at hl 0 rfl) ?_
  refine lv_icmp_ge (tgt := 37) S.1 S.2.1 dJ16_checkLength_2 rfl (fun c1 => ?_) (fun c1 => ?_)
  · replace h := if_t c1 h
    exact g_vret S Z hr hlocks hw (so1 h) dJ16_checkLength_37
  · replace h := if_f c1 h
    cases h
theorem cb_J16_343 {R : Room} {s : State} {args : Array Value} {rm : Room} {mc ms : Nat} (hts : ∀ w ∈ lw_all, w.before args s = true) (hc : rm.cells = mc) (hs : rm.slots = ms) (hR : rm.frames + 1 ≤ R.frames ∧ 8 + (2 + 11) + rm.locals ≤ R.locals) : CallB R s args RJ16 343 yJ16_checkLength cJ16_checkLength 2 (Option.none : Option Jvm.ClassFile.FieldType) (ws_ yJ16_checkLength cJ16_checkLength 2 (Option.none : Option Jvm.ClassFile.FieldType)) rm mc ms 2 ∧ (Cond.static yJ16_checkLength).before args s = true := va_cwS 2 hts (lw_S q815 q816 q157 q817) rfl hc hs (by decide +kernel) hR
def B_J16_copyOfRangeByte (x0 : Nat) (x1 : Int32) (x2 : Int32) (w : GS) : Option (Nat × GS) :=
  bd1 (B_J16_checkLength x1 x2 w) fun w1 =>
  bdp (x2 - x1) fun y2 =>
  bd1 (onA w1 41 y2) fun w3 =>
  bd1 (aLenb w3 x0) fun v4 =>
  bd1 (cpB w3 x0 x1 (gZ w1) (0 : Int32) (if y2 < (v4 - x1) then y2 else (v4 - x1))) fun w5 =>
  some (gZ w1, w5)
set_option maxRecDepth 100000 in
set_option maxHeartbeats 4000000 in
theorem met_B_J16_copyOfRangeByte (l : Launch) (E : gE) (A : Nat → Prop) (LC LS : Nat)  (x0 : Nat) (x1 : Int32) (x2 : Int32) (w : GS) (res : Nat × GS) (h : B_J16_copyOfRangeByte x0 x1 x2 w = some res) : Met l yJ16_copyOfRangeByte (ws_ yJ16_copyOfRangeByte cJ16_copyOfRangeByte 5 (Option.some (Jvm.ClassFile.FieldType.array Jvm.ClassFile.FieldType.byte))) (gRoom 1 40 LC LS w) (gPc E A LC LS [.ref x0, .int x1, .int x2] w) (gQr E A LC LS res.1 res.2) (LC - gZ w) (LS - gN w) A := by
  refine gMet (by decide) rfl (Nat.le_of_ble_eq_true rfl) ?_
  intro p e s m below meth c R S hr hlocks hin2 X Z hF hL H ls hw hl
  replace hl : lv_has ls 5 [(0, .ref x0), (1, .int x1), (2, .int x2)] := hl
  unfold B_J16_copyOfRangeByte at h
  refine lv_iload_n S.1 S.2.1 dJ16_copyOfRangeByte_0 rfl (lv_at hl 1 rfl) ?_
  refine lv_iload_n S.1 S.2.1 dJ16_copyOfRangeByte_1 rfl (lv_at hl 2 rfl) ?_
  refine gcSv (As := [.int x1, .int x2]) (rest := []) S X Z hw h (fun u h1 => met_B_J16_checkLength l E A LC LS x1 x2 w u h1) (cb_J16_343 S.2.2.2.2 rfl rfl ⟨Nat.le_trans (Nat.le_of_ble_eq_true rfl : 0 + 1 ≤ 1) hF, Nat.le_trans (Nat.le_of_ble_eq_true rfl : 8 + (2 + 11) + 0 ≤ 40) hL⟩) rfl hl.1 rfl (lv_room (Nat.le_of_ble_eq_true rfl)) dJ16_copyOfRangeByte_2 (fun w1 H locs h hw => ?_)
  refine lv_iload_n S.1 S.2.1 dJ16_copyOfRangeByte_5 rfl (lv_at hl 2 rfl) ?_
  refine lv_iload_n S.1 S.2.1 dJ16_copyOfRangeByte_6 rfl (lv_at hl 1 rfl) ?_
  refine lv_isub S.1 S.2.1 dJ16_copyOfRangeByte_7 ?_
  refine lv_topi (fun y2 ey => ?_)
  replace h := bdp_e ey h
  refine lv_istore_n (lv' := [(3, .int y2), (0, .ref x0), (1, .int x1), (2, .int x2)]) S.1 S.2.1 dJ16_copyOfRangeByte_8 rfl hl (by decide) rfl (fun ls hl => ?_)
  refine lv_iload_n S.1 S.2.1 dJ16_copyOfRangeByte_9 rfl (lv_at hl 0 rfl) ?_
  refine gna_byte S X hw Z dJ16_copyOfRangeByte_10 h (fun w3 H h hw => ?_)
  refine lv_astore (lv' := [(4, .ref (gZ w1)), (3, .int y2), (0, .ref x0), (1, .int x1), (2, .int x2)]) S.1 S.2.1 dJ16_copyOfRangeByte_12 hl (by decide) rfl (fun ls hl => ?_)
  refine lv_aload_n S.1 S.2.1 dJ16_copyOfRangeByte_14 rfl (lv_at hl 2 rfl) ?_
  refine lv_iload_n S.1 S.2.1 dJ16_copyOfRangeByte_15 rfl (lv_at hl 3 rfl) ?_
  refine lv_aload S.1 S.2.1 dJ16_copyOfRangeByte_16 (lv_at hl 0 rfl) ?_
  refine lv_iconst (v := 0) S.1 S.2.1 dJ16_copyOfRangeByte_18 rfl ?_
  refine lv_aload_n S.1 S.2.1 dJ16_copyOfRangeByte_19 rfl (lv_at hl 2 rfl) ?_
  refine galenb S X hw dJ16_copyOfRangeByte_20 h (fun v4 h => ?_)
  refine lv_iload_n S.1 S.2.1 dJ16_copyOfRangeByte_21 rfl (lv_at hl 3 rfl) ?_
  refine lv_isub S.1 S.2.1 dJ16_copyOfRangeByte_22 ?_
  refine lv_iload_n S.1 S.2.1 dJ16_copyOfRangeByte_23 rfl (lv_at hl 1 rfl) ?_
  refine va_mmin (x := (v4 - x1)) (y := y2) (rest := [.int (0 : Int32), .ref (gZ w1), .int x1, .ref x0]) S.1 S.2.1 (S.2.2.1.trans hl.1.symm) S.2.2.2.1 (S.2.2.2.2 _ q745) (S.2.2.2.2 _ q509) (S.2.2.2.2 _ q147) (S.2.2.2.2 _ q510) (Nat.le_trans (Nat.le_of_ble_eq_true rfl) hF) (Nat.le_trans (Nat.le_of_ble_eq_true rfl : (([.int (0 : Int32), .ref (gZ w1), .int x1, .ref x0] : List Value).map fun v : Value => v.category).sum + 13 ≤ 21) (Nat.le_trans (Nat.le_of_ble_eq_true rfl) hL)) (gRm_le Z hw).1 (gRm_le Z hw).2 dJ16_copyOfRangeByte_24 ?_
  refine gcopyB (rest := []) S X hw hl.1 (Nat.le_trans (Nat.le_of_ble_eq_true rfl) hF) (Nat.le_trans (Nat.le_of_ble_eq_true rfl) hL) (Nat.le_of_ble_eq_true rfl) dJ16_copyOfRangeByte_27 h (fun w5 H locs h hw => ?_)
  refine lv_aload S.1 S.2.1 dJ16_copyOfRangeByte_30 (lv_at hl 0 rfl) ?_
  exact g_aret S Z hr (Or.inr ⟨_, rfl⟩) hlocks hw (so2 h) dJ16_copyOfRangeByte_32
theorem cb_J16_339 {R : Room} {s : State} {args : Array Value} {rm : Room} {mc ms : Nat} (hts : ∀ w ∈ lw_all, w.before args s = true) (hc : rm.cells = mc) (hs : rm.slots = ms) (hR : rm.frames + 1 ≤ R.frames ∧ 8 + (5 + 11) + rm.locals ≤ R.locals) : CallB R s args RJ16 339 yJ16_copyOfRangeByte cJ16_copyOfRangeByte 5 (Option.some (Jvm.ClassFile.FieldType.array Jvm.ClassFile.FieldType.byte)) (ws_ yJ16_copyOfRangeByte cJ16_copyOfRangeByte 5 (Option.some (Jvm.ClassFile.FieldType.array Jvm.ClassFile.FieldType.byte))) rm mc ms 3 ∧ (Cond.static yJ16_copyOfRangeByte).before args s = true := va_cwS 3 hts (lw_S q812 q813 q157 q814) rfl hc hs (by decide +kernel) hR
def B_J16_copyOfRange_p10 (x0 : Nat) (x1 : Int32) (x2 : Int32) (w : GS) : Option (Nat × GS) :=
  bd2 (B_J16_copyOfRangeByte x0 x1 x2 w) fun a3 w2 =>
  some (a3, w2)
def B_J16_copyOfRange (x0 : Nat) (x1 : Int32) (x2 : Int32) (w : GS) : Option (Nat × GS) :=
  if x1 = 0 then
    bd1 (aLenb w x0) fun v4 =>
    if x2 = v4 then
      bd1 (clB w x0) fun w6 =>
      bd1 (oK w6 (gZ w) 41 41) fun _ =>
      some (gZ w, w6)
    else
      B_J16_copyOfRange_p10 x0 x1 x2 w
  else
    B_J16_copyOfRange_p10 x0 x1 x2 w
set_option maxRecDepth 100000 in
set_option maxHeartbeats 4000000 in
theorem wk_B_J16_copyOfRange_p10 {p : Program} {l : Launch} {e : Env} {R : Room} {s : State} {m : MethodId} {args : Array Value} {below : List Frame} {meth : Method} {c : Code} {E : gE} {A : Nat → Prop} {LC LS : Nat} (S : CallFix p m c cJ16_copyOfRange 3 s args lw_all RJ16) (X : gCtx E A s) (Z : gRm R s LC LS) (hF : 2 ≤ R.frames) (hL : 64 ≤ R.locals) (hr : meth.sig.returnType = (Option.some (Jvm.ClassFile.FieldType.array Jvm.ClassFile.FieldType.byte))) (hlocks : meth.locks = false) {res : Nat × GS}  : ∀ (x0 : Nat) (x1 : Int32) (x2 : Int32) (w : GS) (H : Heap) (locs : List Loc) (ls : Array Slot), B_J16_copyOfRange_p10 x0 x1 x2 w = some res → gH E A LC LS s w H locs → lv_has ls 3 [(0, .ref x0), (1, .int x1), (2, .int x2)] → W p l e R s m args below meth c H locs (H.size - s.heap.size) (tot H - tot s.heap) (MQ below (gQr E A LC LS res.1 res.2) args s R.cells R.slots A) (F0 m 10 ls []) := by
  intro x0 x1 x2 w H locs ls h hw hl
  unfold B_J16_copyOfRange_p10 at h
  refine lv_aload_n S.1 S.2.1 dJ16_copyOfRange_10 rfl (lv_at hl 0 rfl) ?_
  refine lv_iload_n S.1 S.2.1 dJ16_copyOfRange_11 rfl (lv_at hl 1 rfl) ?_
  refine lv_iload_n S.1 S.2.1 dJ16_copyOfRange_12 rfl (lv_at hl 2 rfl) ?_
  refine gcSr (As := [.ref x0, .int x1, .int x2]) (rest := []) S X Z hw h (fun u h1 => met_B_J16_copyOfRangeByte l E A LC LS x0 x1 x2 w u h1) (cb_J16_339 S.2.2.2.2 rfl rfl ⟨Nat.le_trans (Nat.le_of_ble_eq_true rfl : 1 + 1 ≤ 2) hF, Nat.le_trans (Nat.le_of_ble_eq_true rfl : 8 + (5 + 11) + 40 ≤ 64) hL⟩) rfl hl.1 rfl (lv_room (Nat.le_of_ble_eq_true rfl)) dJ16_copyOfRange_13 (fun a3 w2 H locs h hw => ?_)
  exact g_aret S Z hr (Or.inr ⟨_, rfl⟩) hlocks hw (so2 h) dJ16_copyOfRange_16
set_option maxRecDepth 100000 in
set_option maxHeartbeats 4000000 in
theorem met_B_J16_copyOfRange (l : Launch) (E : gE) (A : Nat → Prop) (LC LS : Nat)  (x0 : Nat) (x1 : Int32) (x2 : Int32) (w : GS) (res : Nat × GS) (h : B_J16_copyOfRange x0 x1 x2 w = some res) : Met l yJ16_copyOfRange (ws_ yJ16_copyOfRange cJ16_copyOfRange 3 (Option.some (Jvm.ClassFile.FieldType.array Jvm.ClassFile.FieldType.byte))) (gRoom 2 64 LC LS w) (gPc E A LC LS [.ref x0, .int x1, .int x2] w) (gQr E A LC LS res.1 res.2) (LC - gZ w) (LS - gN w) A := by
  refine gMet (by decide) rfl (Nat.le_of_ble_eq_true rfl) ?_
  intro p e s m below meth c R S hr hlocks hin2 X Z hF hL H ls hw hl
  replace hl : lv_has ls 3 [(0, .ref x0), (1, .int x1), (2, .int x2)] := hl
  unfold B_J16_copyOfRange at h
  refine lv_iload_n S.1 S.2.1 dJ16_copyOfRange_0 rfl (lv_at hl 1 rfl) ?_
  refine lv_if_ne (tgt := 10) S.1 S.2.1 dJ16_copyOfRange_1 rfl (fun c1 => ?_) (fun c1 => ?_)
  · replace h := if_f c1 h
    exact wk_B_J16_copyOfRange_p10 S X Z hF hL hr hlocks  _ _ _ _ _ _ _ h hw (lv_sub hl [0, 1, 2] rfl)
  · replace h := if_t c1 h
    refine lv_iload_n S.1 S.2.1 dJ16_copyOfRange_4 rfl (lv_at hl 2 rfl) ?_
    refine lv_aload_n S.1 S.2.1 dJ16_copyOfRange_5 rfl (lv_at hl 0 rfl) ?_
    refine galenb S X hw dJ16_copyOfRange_6 h (fun v4 h => ?_)
    refine lv_icmp_eq (tgt := 17) S.1 S.2.1 dJ16_copyOfRange_7 rfl (fun c5 => ?_) (fun c5 => ?_)
    · replace h := if_t c5 h
      refine lv_aload_n S.1 S.2.1 dJ16_copyOfRange_17 rfl (lv_at hl 0 rfl) ?_
      refine gclone (rest := []) S X Z hw hl.1 (Nat.le_trans (Nat.le_of_ble_eq_true rfl) hF) (Nat.le_trans (Nat.le_of_ble_eq_true rfl) hL) (Nat.le_of_ble_eq_true rfl) dJ16_copyOfRange_18 h (fun w6 H h hw => ?_)
      refine gcastB S X hw dJ16_copyOfRange_21 h (fun _ h => ?_)
      exact g_aret S Z hr (Or.inr ⟨_, rfl⟩) hlocks hw (so2 h) dJ16_copyOfRange_24
    · replace h := if_f c5 h
      exact wk_B_J16_copyOfRange_p10 S X Z hF hL hr hlocks  _ _ _ _ _ _ _ h hw (lv_sub hl [0, 1, 2] rfl)
theorem cb_J5_552 {R : Room} {s : State} {args : Array Value} {rm : Room} {mc ms : Nat} (hts : ∀ w ∈ lw_all, w.before args s = true) (hc : rm.cells = mc) (hs : rm.slots = ms) (hR : rm.frames + 1 ≤ R.frames ∧ 8 + (1 + 11) + rm.locals ≤ R.locals) : va_CU R s args RJ5 RJ14 "java/lang/AbstractStringBuilder" 552 yJ13_getValue yJ13_getValue cJ13_getValue 1 (Option.some (Jvm.ClassFile.FieldType.array Jvm.ClassFile.FieldType.byte)) (ws_ yJ13_getValue cJ13_getValue 1 (Option.some (Jvm.ClassFile.FieldType.array Jvm.ClassFile.FieldType.byte))) rm mc ms 0 := va_cwU 0 hts (lw_app (by intro w hw; simp only [List.mem_cons, List.not_mem_nil, or_false] at hw; rcases hw with e | e | e | e | e <;> rw [e]; exact q795; exact q797; exact q798; exact q796; exact q154) (lw_meth q799)) rfl hc hs rfl (by decide +kernel) hR
theorem cb_J5_549 {R : Room} {s : State} {args : Array Value} {rm : Room} {mc ms : Nat} (hts : ∀ w ∈ lw_all, w.before args s = true) (hc : rm.cells = mc) (hs : rm.slots = ms) (hR : rm.frames + 1 ≤ R.frames ∧ 8 + (1 + 11) + rm.locals ≤ R.locals) : va_CU R s args RJ5 RJ14 "java/lang/AbstractStringBuilder" 549 yJ13_length yJ14_length cJ14_length 1 (Option.some Jvm.ClassFile.FieldType.int) (ws_ yJ14_length cJ14_length 1 (Option.some Jvm.ClassFile.FieldType.int)) rm mc ms 0 := va_cwO 0 hts (lw_app (by intro w hw; simp only [List.mem_cons, List.not_mem_nil, or_false] at hw; rcases hw with e | e | e | e | e | e <;> rw [e]; exact q800; exact q802; exact q801; exact q803; exact q804; exact q155) (lw_meth q805)) rfl hc hs q807 (by decide +kernel) hR
theorem cb_J5_1047 {R : Room} {s : State} {args : Array Value} {rm : Room} {mc ms : Nat} (hts : ∀ w ∈ lw_all, w.before args s = true) (hc : rm.cells = mc) (hs : rm.slots = ms) (hR : rm.frames + 1 ≤ R.frames ∧ 8 + (1 + 11) + rm.locals ≤ R.locals) : va_CU R s args RJ5 RJ14 "java/lang/AbstractStringBuilder" 1047 yJ13_isLatin1 yJ13_isLatin1 cJ13_isLatin1 1 (Option.some Jvm.ClassFile.FieldType.boolean) (ws_ yJ13_isLatin1 cJ13_isLatin1 1 (Option.some Jvm.ClassFile.FieldType.boolean)) rm mc ms 0 := va_cwU 0 hts (lw_app (by intro w hw; simp only [List.mem_cons, List.not_mem_nil, or_false] at hw; rcases hw with e | e | e | e | e <;> rw [e]; exact q808; exact q751; exact q752; exact q750; exact q154) (lw_meth q753)) rfl hc hs rfl (by decide +kernel) hR
theorem cb_J5_54 {R : Room} {s : State} {args : Array Value} {rm : Room} {mc ms : Nat} (hts : ∀ w ∈ lw_all, w.before args s = true) (hc : rm.cells = mc) (hs : rm.slots = ms) (hR : rm.frames + 1 ≤ R.frames ∧ 8 + (3 + 11) + rm.locals ≤ R.locals) : CallB R s args RJ5 54 yJ16_copyOfRange cJ16_copyOfRange 3 (Option.some (Jvm.ClassFile.FieldType.array Jvm.ClassFile.FieldType.byte)) (ws_ yJ16_copyOfRange cJ16_copyOfRange 3 (Option.some (Jvm.ClassFile.FieldType.array Jvm.ClassFile.FieldType.byte))) rm mc ms 3 ∧ (Cond.static yJ16_copyOfRange).before args s = true := va_cwS 3 hts (lw_S q809 q810 q157 q811) rfl hc hs (by decide +kernel) hR
def B_J5_init_2N_p79 (x0 : Nat) (x3 : Nat) (x4 : Int32) (w : GS) : Option GS :=
  bd1 (pI w x0 30 30 1 (1 : Int32)) fun w6 =>
  bd2 (B_J16_copyOfRange x3 (0 : Int32) (x4 <<< ((1 : Int32) &&& 31)) w6) fun a8 w7 =>
  bd1 (pR w7 x0 30 30 0 (some a8)) fun w9 =>
  some w9
def B_J5_init_2N (x0 : Nat) (x1 : Nat) (w : GS) : Option GS :=
  bd1 (oK w x1 26 26) fun _ =>
  bd1 (B_J13_getValue x1 w) fun a1 =>
  bd1 (oK w x1 26 26) fun _ =>
  bd1 (B_J14_length x1 w) fun r2 =>
  bd1 (oK w x1 26 26) fun _ =>
  bd1 (B_J13_isLatin1 x1 w) fun r3 =>
  if r3 = 0 then
    if (1 : Int32) = 0 then
      B_J5_init_2N_p79 x0 a1 r2 w
    else
      bd1 (oI w x1 26 26 2) fun v10 =>
      if v10 = 0 then
        B_J5_init_2N_p79 x0 a1 r2 w
      else
        none
  else
    bd1 (pI w x0 30 30 1 (0 : Int32)) fun w12 =>
    bd2 (B_J16_copyOfRange a1 (0 : Int32) r2 w12) fun a14 w13 =>
    bd1 (pR w13 x0 30 30 0 (some a14)) fun w15 =>
    some w15
set_option maxRecDepth 100000 in
set_option maxHeartbeats 4000000 in
theorem wk_B_J5_init_2N_p79 {p : Program} {l : Launch} {e : Env} {R : Room} {s : State} {m : MethodId} {args : Array Value} {below : List Frame} {meth : Method} {c : Code} {E : gE} {A : Nat → Prop} {LC LS : Nat} (S : CallFix p m c cJ5_init_2 5 s args lw_all RJ5) (X : gCtx E A s) (Z : gRm R s LC LS) (hF : 3 ≤ R.frames) (hL : 86 ≤ R.locals) (hr : meth.sig.returnType = (Option.none : Option Jvm.ClassFile.FieldType)) (hlocks : meth.locks = false) (hin2 : meth.name = "<init>") {res : GS}  : ∀ (x0 : Nat) (x3 : Nat) (x4 : Int32) (w : GS) (H : Heap) (locs : List Loc) (ls : Array Slot), B_J5_init_2N_p79 x0 x3 x4 w = some res → gH E A LC LS s w H locs → lv_has ls 5 [(0, .ref x0), (3, .ref x3), (4, .int x4)] → W p l e R s m args below meth c H locs (H.size - s.heap.size) (tot H - tot s.heap) (MQ below (gQv E A LC LS res) args s R.cells R.slots A) (F0 m 79 ls []) := by
  intro x0 x3 x4 w H locs ls h hw hl
  unfold B_J5_init_2N_p79 at h
  refine lv_aload_n S.1 S.2.1 dJ5_init_2_79 rfl (lv_at hl 0 rfl) ?_
  refine lv_iconst (v := 1) S.1 S.2.1 dJ5_init_2_80 rfl ?_
  refine gpJ5_15 S X hw hin2 dJ5_init_2_81 ⟨by decide, by decide⟩ h (fun w6 H locs h hw => ?_)
  refine lv_aload_n S.1 S.2.1 dJ5_init_2_84 rfl (lv_at hl 0 rfl) ?_
  refine lv_aload_n S.1 S.2.1 dJ5_init_2_85 rfl (lv_at hl 1 rfl) ?_
  refine lv_iconst (v := 0) S.1 S.2.1 dJ5_init_2_86 rfl ?_
  refine lv_iload S.1 S.2.1 dJ5_init_2_87 (lv_at hl 2 rfl) ?_
  refine lv_iconst (v := 1) S.1 S.2.1 dJ5_init_2_89 rfl ?_
  refine lv_ishl S.1 S.2.1 dJ5_init_2_90 ?_
  refine gcSr (As := [.ref x3, .int (0 : Int32), .int (x4 <<< ((1 : Int32) &&& 31))]) (rest := [.ref x0]) S X Z hw h (fun u h1 => met_B_J16_copyOfRange l E A LC LS x3 (0 : Int32) (x4 <<< ((1 : Int32) &&& 31)) w6 u h1) (cb_J5_54 S.2.2.2.2 rfl rfl ⟨Nat.le_trans (Nat.le_of_ble_eq_true rfl : 2 + 1 ≤ 3) hF, Nat.le_trans (Nat.le_of_ble_eq_true rfl : 8 + (3 + 11) + 64 ≤ 86) hL⟩) rfl hl.1 rfl (lv_room (Nat.le_of_ble_eq_true rfl)) dJ5_init_2_91 (fun a8 w7 H locs h hw => ?_)
  refine gpJ5_9 (v := some a8) S X hw hin2 dJ5_init_2_94 h (fun w9 H locs h hw => ?_)
  exact g_vret S Z hr hlocks hw (so1 h) dJ5_init_2_97
set_option maxRecDepth 100000 in
set_option maxHeartbeats 4000000 in
theorem met_B_J5_init_2N (l : Launch) (E : gE) (A : Nat → Prop) (LC LS : Nat)  (x0 : Nat) (x1 : Nat) (w : GS) (res : GS) (h : B_J5_init_2N x0 x1 w = some res) : Met l yJ5_init_2 (ws_ yJ5_init_2 cJ5_init_2 5 (Option.none : Option Jvm.ClassFile.FieldType)) (gRoom 3 86 LC LS w) (gPc E A LC LS [.ref x0, .ref x1, .null] w) (gQv E A LC LS res) (LC - gZ w) (LS - gN w) A := by
  refine gMet (by decide) rfl (Nat.le_of_ble_eq_true rfl) ?_
  intro p e s m below meth c R S hr hlocks hin2 X Z hF hL H ls hw hl
  replace hl : lv_has ls 5 [(0, .ref x0), (1, .ref x1), (2, .null)] := hl
  unfold B_J5_init_2N at h
  replace hin2 : meth.name = "<init>" := hin2
  refine lv_aload_n S.1 S.2.1 dJ5_init_2_0 rfl (lv_at hl 0 rfl) ?_
  refine W.objInit S.1 S.2.1 S.2.2.2.1 (S.2.2.2.2 _ q794) (S.2.2.2.2 _ q186) (S.2.2.2.2 _ q187) rfl (by rw [S.2.2.1]; exact hl.1) rfl dJ5_init_2_1 (Nat.le_trans (Nat.le_of_ble_eq_true rfl) hF) (Nat.le_trans (Nat.add_le_add_right (lv_room (st := []) (Nat.le_of_ble_eq_true rfl)) 12) (Nat.le_trans (Nat.le_of_ble_eq_true rfl) hL)) ?_
  refine W.eq (g2 := F0 m 4 ls []) rfl ?_
  refine lv_aload_n S.1 S.2.1 dJ5_init_2_4 rfl (lv_at hl 1 rfl) ?_
  obtain ⟨hrc, h⟩ := oK1 h
  refine gcHrr (As := []) (rest := []) S X Z hw (b := x1) h (fun u h1 => met_B_J13_getValue l E A LC LS x1 w u h1) (cb_J5_552 S.2.2.2.2 rfl rfl ⟨Nat.le_trans (Nat.le_of_ble_eq_true rfl : 0 + 1 ≤ 3) hF, Nat.le_trans (Nat.le_of_ble_eq_true rfl : 8 + (1 + 11) + 0 ≤ 86) hL⟩) (g_recv X hw (ci := 25) rfl (gcell_26 hrc)) rfl hl.1 rfl (lv_room (Nat.le_of_ble_eq_true rfl)) dJ5_init_2_5 (fun a1 H locs h hw => ?_)
  refine lv_astore_n (lv' := [(3, .ref a1), (0, .ref x0), (1, .ref x1), (2, .null)]) S.1 S.2.1 dJ5_init_2_8 rfl hl (by decide) rfl (fun ls hl => ?_)
  refine lv_aload_n S.1 S.2.1 dJ5_init_2_9 rfl (lv_at hl 2 rfl) ?_
  obtain ⟨hrc, h⟩ := oK1 h
  refine gcHri (As := []) (rest := []) S X Z hw (b := x1) h (fun u h1 => met_B_J14_length l E A LC LS x1 w u h1) (cb_J5_549 S.2.2.2.2 rfl rfl ⟨Nat.le_trans (Nat.le_of_ble_eq_true rfl : 1 + 1 ≤ 3) hF, Nat.le_trans (Nat.le_of_ble_eq_true rfl : 8 + (1 + 11) + 20 ≤ 86) hL⟩) (g_recv X hw (ci := 25) rfl (gcell_26 hrc)) rfl hl.1 rfl (lv_room (Nat.le_of_ble_eq_true rfl)) dJ5_init_2_10 (fun r2 H locs h hw => ?_)
  refine lv_istore (lv' := [(4, .int r2), (3, .ref a1), (0, .ref x0), (1, .ref x1), (2, .null)]) S.1 S.2.1 dJ5_init_2_13 hl (by decide) rfl (fun ls hl => ?_)
  refine lv_aload_n S.1 S.2.1 dJ5_init_2_15 rfl (lv_at hl 3 rfl) ?_
  obtain ⟨hrc, h⟩ := oK1 h
  refine gcHri (As := []) (rest := []) S X Z hw (b := x1) h (fun u h1 => met_B_J13_isLatin1 l E A LC LS x1 w u h1) (cb_J5_1047 S.2.2.2.2 rfl rfl ⟨Nat.le_trans (Nat.le_of_ble_eq_true rfl : 0 + 1 ≤ 3) hF, Nat.le_trans (Nat.le_of_ble_eq_true rfl : 8 + (1 + 11) + 0 ≤ 86) hL⟩) (g_recv X hw (ci := 25) rfl (gcell_26 hrc)) rfl hl.1 rfl (lv_room (Nat.le_of_ble_eq_true rfl)) dJ5_init_2_16 (fun r3 H locs h hw => ?_)
  refine lv_if_eq (tgt := 41) S.1 S.2.1 dJ5_init_2_19 rfl (fun c4 => ?_) (fun c4 => ?_)
  · replace h := if_t c4 h
    refine gsJ5_38 S X hw dJ5_init_2_41 ?_
    refine lv_if_eq (tgt := 79) S.1 S.2.1 dJ5_init_2_44 rfl (fun c5 => ?_) (fun c5 => ?_)
    · replace h := if_t c5 h
      exact wk_B_J5_init_2N_p79 S X Z hF hL hr hlocks hin2 _ _ _ _ _ _ _ h hw (lv_sub hl [2, 1, 0] rfl)
    · replace h := if_f c5 h
      refine lv_aload_n S.1 S.2.1 dJ5_init_2_47 rfl (lv_at hl 3 rfl) ?_
      refine ggJ5_1048 S X hw dJ5_init_2_48 h (fun v10 h => ?_)
      refine lv_if_eq (tgt := 79) S.1 S.2.1 dJ5_init_2_51 rfl (fun c11 => ?_) (fun c11 => ?_)
      · replace h := if_t c11 h
        exact wk_B_J5_init_2N_p79 S X Z hF hL hr hlocks hin2 _ _ _ _ _ _ _ h hw (lv_sub hl [2, 1, 0] rfl)
      · replace h := if_f c11 h
        refine lv_aload_n S.1 S.2.1 dJ5_init_2_54 rfl (lv_at hl 2 rfl) ?_
        refine lv_aload_n S.1 S.2.1 dJ5_init_2_55 rfl (lv_at hl 1 rfl) ?_
        refine lv_iconst (v := 0) S.1 S.2.1 dJ5_init_2_56 rfl ?_
        refine lv_iload S.1 S.2.1 dJ5_init_2_57 (lv_at hl 0 rfl) ?_
        cases h
  · replace h := if_f c4 h
    refine lv_aload_n S.1 S.2.1 dJ5_init_2_22 rfl (lv_at hl 2 rfl) ?_
    refine lv_iconst (v := 0) S.1 S.2.1 dJ5_init_2_23 rfl ?_
    refine gpJ5_15 S X hw hin2 dJ5_init_2_24 ⟨by decide, by decide⟩ h (fun w12 H locs h hw => ?_)
    refine lv_aload_n S.1 S.2.1 dJ5_init_2_27 rfl (lv_at hl 2 rfl) ?_
    refine lv_aload_n S.1 S.2.1 dJ5_init_2_28 rfl (lv_at hl 1 rfl) ?_
    refine lv_iconst (v := 0) S.1 S.2.1 dJ5_init_2_29 rfl ?_
    refine lv_iload S.1 S.2.1 dJ5_init_2_30 (lv_at hl 0 rfl) ?_
    refine gcSr (As := [.ref a1, .int (0 : Int32), .int r2]) (rest := [.ref x0]) S X Z hw h (fun u h1 => met_B_J16_copyOfRange l E A LC LS a1 (0 : Int32) r2 w12 u h1) (cb_J5_54 S.2.2.2.2 rfl rfl ⟨Nat.le_trans (Nat.le_of_ble_eq_true rfl : 2 + 1 ≤ 3) hF, Nat.le_trans (Nat.le_of_ble_eq_true rfl : 8 + (3 + 11) + 64 ≤ 86) hL⟩) rfl hl.1 rfl (lv_room (Nat.le_of_ble_eq_true rfl)) dJ5_init_2_32 (fun a14 w13 H locs h hw => ?_)
    refine gpJ5_9 (v := some a14) S X hw hin2 dJ5_init_2_35 h (fun w15 H locs h hw => ?_)
    refine lv_goto (tgt := 97) S.1 S.2.1 dJ5_init_2_38 rfl ?_
    exact g_vret S Z hr hlocks hw (so1 h) dJ5_init_2_97
