/-! walks over the plain heap, printed by gen/bgen.py -/
set_option maxRecDepth 100000
theorem cb_X25_11 {R : Room} {s : State} {args : Array Value} {rm : Room} {mc ms : Nat} (hts : ∀ w ∈ lw_all, w.before args s = true) (hN : gNw s) (hc : rm.cells = mc) (hs : rm.slots = ms) (hR : rm.frames + 1 ≤ R.frames ∧ 8 + (1 + 11) + rm.locals ≤ R.locals) : va_CN R s args RX25 11 yX4_init "PulseRent" cX4_init 1 none (ws_ yX4_init cX4_init 1 (Option.none : Option Jvm.ClassFile.FieldType)) rm mc ms 0 ∧ yX4_init.name = "<init>" ∧ (Cond.instanceMethod yX4_init).before args s = true := ⟨va_cnB 0 hts (lw_meth q302) rfl hc hs (hN _ q1655 rfl) (hts _ q141) (by decide +kernel) hR, rfl, hts _ q301⟩
def B_X25_init (x0 : Nat) (w : GS) : Option GS :=
  bd1 (onw w 4 0 8) fun w1 =>
  bd1 (B_X4_init (gZ w) w1) fun w2 =>
  bd1 (pR w2 x0 28 28 0 (some (gZ w))) fun w3 =>
  bd1 (onA w3 40 (6 : Int32)) fun w4 =>
  bd1 (pR w4 x0 28 28 1 (some (gZ w3))) fun w5 =>
  bd1 (onA w5 40 (6 : Int32)) fun w6 =>
  bd1 (pR w6 x0 28 28 2 (some (gZ w5))) fun w7 =>
  some w7
set_option maxRecDepth 100000 in
set_option maxHeartbeats 4000000 in
theorem met_B_X25_init (l : Launch) (E : gE) (A : Nat → Prop) (LC LS : Nat)  (x0 : Nat) (w : GS) (res : GS) (h : B_X25_init x0 w = some res) : Met l yX25_init (ws_ yX25_init cX25_init 1 (Option.none : Option Jvm.ClassFile.FieldType)) (gRoom 2 40 LC LS w) (gPc E A LC LS [.ref x0] w) (gQv E A LC LS res) (LC - gZ w) (LS - gN w) A := by
  refine gMet (by decide) rfl (Nat.le_of_ble_eq_true rfl) ?_
  intro p e s m below meth c R S hr hlocks hin2 X Z hF hL H ls hw hl
  replace hl : lv_has ls 1 [(0, .ref x0)] := hl
  unfold B_X25_init at h
  replace hin2 : meth.name = "<init>" := hin2
  refine lv_aload_n S.1 S.2.1 dX25_init_0 rfl (lv_at hl 0 rfl) ?_
  refine W.objInit S.1 S.2.1 S.2.2.2.1 (S.2.2.2.2 _ q1653) (S.2.2.2.2 _ q186) (S.2.2.2.2 _ q187) rfl (by rw [S.2.2.1]; exact hl.1) rfl dX25_init_1 (Nat.le_trans (Nat.le_of_ble_eq_true rfl) hF) (Nat.le_trans (Nat.add_le_add_right (lv_room (st := []) (Nat.le_of_ble_eq_true rfl)) 12) (Nat.le_trans (Nat.le_of_ble_eq_true rfl) hL)) ?_
  refine W.eq (g2 := F0 m 4 ls []) rfl ?_
  refine lv_aload_n S.1 S.2.1 dX25_init_4 rfl (lv_at hl 0 rfl) ?_
  refine gnX25_9 S X Z hw dX25_init_5 h (fun w1 H h hw => ?_)
  refine lv_dup S.1 S.2.1 dX25_init_8 rfl ?_
  refine gcINv (As := []) (rest := [.ref (gZ w), .ref x0]) S X Z hw (b := (gZ w)) h (fun u h1 => met_B_X4_init l E A LC LS (gZ w) w1 u h1) (cb_X25_11 S.2.2.2.2 X.2.2.2.2.2.1 rfl rfl ⟨Nat.le_trans (Nat.le_of_ble_eq_true rfl : 1 + 1 ≤ 2) hF, Nat.le_trans (Nat.le_of_ble_eq_true rfl : 8 + (1 + 11) + 20 ≤ 40) hL⟩) rfl hl.1 rfl (lv_room (Nat.le_of_ble_eq_true rfl)) dX25_init_9 (fun w2 H locs h hw => ?_)
  refine gpX25_12 (v := some (gZ w)) S X hw hin2 dX25_init_12 h (fun w3 H locs h hw => ?_)
  refine lv_aload_n S.1 S.2.1 dX25_init_15 rfl (lv_at hl 0 rfl) ?_
  refine lv_bipush (v := 6) S.1 S.2.1 dX25_init_16 rfl ?_
  refine gna_int S X hw Z dX25_init_18 h (fun w4 H h hw => ?_)
  refine gpX25_18 (v := some (gZ w3)) S X hw hin2 dX25_init_20 h (fun w5 H locs h hw => ?_)
  refine lv_aload_n S.1 S.2.1 dX25_init_23 rfl (lv_at hl 0 rfl) ?_
  refine lv_bipush (v := 6) S.1 S.2.1 dX25_init_24 rfl ?_
  refine gna_int S X hw Z dX25_init_26 h (fun w6 H h hw => ?_)
  refine gpX25_22 (v := some (gZ w5)) S X hw hin2 dX25_init_28 h (fun w7 H locs h hw => ?_)
  exact g_vret S Z hr hlocks hw (so1 h) dX25_init_31
theorem cb_X1_411 {R : Room} {s : State} {args : Array Value} {rm : Room} {mc ms : Nat} (hts : ∀ w ∈ lw_all, w.before args s = true) (hN : gNw s) (hc : rm.cells = mc) (hs : rm.slots = ms) (hR : rm.frames + 1 ≤ R.frames ∧ 8 + (1 + 11) + rm.locals ≤ R.locals) : va_CN R s args RX1 411 yX25_init "PulseRent" cX25_init 1 none (ws_ yX25_init cX25_init 1 (Option.none : Option Jvm.ClassFile.FieldType)) rm mc ms 0 ∧ yX25_init.name = "<init>" ∧ (Cond.instanceMethod yX25_init).before args s = true := ⟨va_cnB 0 hts (lw_meth q1652) rfl hc hs (hN _ q1650 rfl) (hts _ q179) (by decide +kernel) hR, rfl, hts _ q1651⟩
theorem cb_X1_323 {R : Room} {s : State} {args : Array Value} {rm : Room} {mc ms : Nat} (hts : ∀ w ∈ lw_all, w.before args s = true) (hc : rm.cells = mc) (hs : rm.slots = ms) (hR : rm.frames + 1 ≤ R.frames ∧ 8 + (3 + 11) + rm.locals ≤ R.locals) : CallB R s args RX1 323 yX1_copies cX1_copies 3 (Option.none : Option Jvm.ClassFile.FieldType) (ws_ yX1_copies cX1_copies 3 (Option.none : Option Jvm.ClassFile.FieldType)) rm mc ms 2 ∧ (Cond.static yX1_copies).before args s = true := va_cwS 2 hts (lw_S q1547 q1374 q135 q1375) rfl hc hs (by decide +kernel) hR
def B_X1_mark_p46 (x0 : Nat) (x1 : Int32) (x2 : Int32) (w : GS) : Option (Int32 × GS) :=
  bd1 (oRn w x0 1 1 24) fun a9 =>
  bd1 (aRn w a9 47 x1) fun a10 =>
  if x2 = 0 then
    bd1 (oRn w a10 28 28 0) fun a12 =>
    bd1 (oRn w x0 1 1 4) fun a13 =>
    bd1 (oK w a12 4 4) fun _ =>
    bd1 (B_X4_be a12 a13 w) fun w14 =>
    bd1 (oRn w14 x0 1 1 16) fun a15 =>
    bd1 (oRn w14 a10 28 28 1) fun a16 =>
    bd1 (B_X1_copies a15 a16 w14) fun w17 =>
    bd1 (oRn w17 x0 1 1 17) fun a18 =>
    bd1 (oRn w17 a10 28 28 2) fun a19 =>
    bd1 (B_X1_copies a18 a19 w17) fun w20 =>
    bd1 (oI w20 x0 1 1 18) fun v21 =>
    bd1 (pI w20 a10 28 28 3 v21) fun w22 =>
    some ((1 : Int32), w22)
  else
    bd1 (oRn w x0 1 1 4) fun a23 =>
    bd1 (oRn w a10 28 28 0) fun a24 =>
    bd1 (oK w a23 4 4) fun _ =>
    bd1 (B_X4_be a23 a24 w) fun w25 =>
    bd1 (oRn w25 a10 28 28 1) fun a26 =>
    bd1 (oRn w25 x0 1 1 16) fun a27 =>
    bd1 (B_X1_copies a26 a27 w25) fun w28 =>
    bd1 (oRn w28 a10 28 28 2) fun a29 =>
    bd1 (oRn w28 x0 1 1 17) fun a30 =>
    bd1 (B_X1_copies a29 a30 w28) fun w31 =>
    bd1 (oI w31 a10 28 28 3) fun v32 =>
    bd1 (pI w31 x0 1 1 18 v32) fun w33 =>
    bd1 (pI w33 x0 1 1 9 (0 : Int32)) fun w34 =>
    some ((1 : Int32), w34)
def B_X1_mark_p24 (x0 : Nat) (x1 : Int32) (x2 : Int32) (w : GS) : Option (Int32 × GS) :=
  bd1 (oRn w x0 1 1 24) fun a3 =>
  bd1 (aR w a3 47 x1) fun a4 =>
  bq a4 (
    bd1 (oRn w x0 1 1 24) fun a5 =>
    bd1 (onw w 28 0 4) fun w6 =>
    bd1 (B_X25_init (gZ w) w6) fun w7 =>
    bd1 (oK w7 (gZ w) 28 28) fun _ =>
    bd1 (xR w7 a5 47 x1 (some (gZ w))) fun w8 =>
    B_X1_mark_p46 x0 x1 x2 w8) fun _ =>
  B_X1_mark_p46 x0 x1 x2 w
def B_X1_mark (x0 : Nat) (x1 : Int32) (x2 : Int32) (w : GS) : Option (Int32 × GS) :=
  if (B_X1_in x1 (0 : Int32) (3 : Int32)) = 0 then
    some ((0 : Int32), w)
  else
    if x2 = 0 then
      B_X1_mark_p24 x0 x1 x2 w
    else
      bd1 (oRn w x0 1 1 24) fun a35 =>
      bd1 (aR w a35 47 x1) fun a36 =>
      bq a36 (
        some ((0 : Int32), w)) fun _ =>
      B_X1_mark_p24 x0 x1 x2 w
set_option maxRecDepth 100000 in
set_option maxHeartbeats 4000000 in
theorem wk_B_X1_mark_p46 {p : Program} {l : Launch} {e : Env} {R : Room} {s : State} {m : MethodId} {args : Array Value} {below : List Frame} {meth : Method} {c : Code} {E : gE} {A : Nat → Prop} {LC LS : Nat} (S : CallFix p m c cX1_mark 4 s args lw_all RX1) (X : gCtx E A s) (Z : gRm R s LC LS) (hF : 3 ≤ R.frames) (hL : 60 ≤ R.locals) (hr : meth.sig.returnType = (Option.some Jvm.ClassFile.FieldType.boolean)) (hlocks : meth.locks = false) {res : Int32 × GS}  : ∀ (x0 : Nat) (x1 : Int32) (x2 : Int32) (w : GS) (H : Heap) (locs : List Loc) (ls : Array Slot), B_X1_mark_p46 x0 x1 x2 w = some res → gH E A LC LS s w H locs → lv_has ls 4 [(0, .ref x0), (1, .int x1), (2, .int x2)] → W p l e R s m args below meth c H locs (H.size - s.heap.size) (tot H - tot s.heap) (MQ below (gQi E A LC LS res.1 res.2) args s R.cells R.slots A) (F0 m 46 ls []) := by
  intro x0 x1 x2 w H locs ls h hw hl
  unfold B_X1_mark_p46 at h
  refine lv_aload_n S.1 S.2.1 dX1_mark_46 rfl (lv_at hl 0 rfl) ?_
  refine ggX1_97 S X hw dX1_mark_47 h (fun a9 h => ?_)
  refine lv_iload_n S.1 S.2.1 dX1_mark_50 rfl (lv_at hl 1 rfl) ?_
  refine gald47 S X hw dX1_mark_51 h (fun a10 h => ?_)
  refine lv_astore_n (lv' := [(3, .ref a10), (0, .ref x0), (1, .int x1), (2, .int x2)]) S.1 S.2.1 dX1_mark_52 rfl hl (by decide) rfl (fun ls hl => ?_)
  refine lv_iload_n S.1 S.2.1 dX1_mark_53 rfl (lv_at hl 3 rfl) ?_
  refine lv_if_eq (tgt := 106) S.1 S.2.1 dX1_mark_54 rfl (fun c11 => ?_) (fun c11 => ?_)
  · replace h := if_t c11 h
    refine lv_aload_n S.1 S.2.1 dX1_mark_106 rfl (lv_at hl 0 rfl) ?_
    refine ggX1_412 S X hw dX1_mark_107 h (fun a12 h => ?_)
    refine lv_aload_n S.1 S.2.1 dX1_mark_110 rfl (lv_at hl 1 rfl) ?_
    refine ggX1_51 S X hw dX1_mark_111 h (fun a13 h => ?_)
    obtain ⟨hrc, h⟩ := oK1 h
    refine gcVv (As := [.ref a13]) (rest := []) S X Z hw (b := a12) h (fun u h1 => met_B_X4_be l E A LC LS a12 a13 w u h1) (cb_X1_276 S.2.2.2.2 rfl rfl ⟨Nat.le_trans (Nat.le_of_ble_eq_true rfl : 1 + 1 ≤ 3) hF, Nat.le_trans (Nat.le_of_ble_eq_true rfl : 8 + (2 + 11) + 22 ≤ 60) hL⟩) (g_recv X hw (ci := 3) rfl (gcell_4 hrc)) rfl hl.1 rfl (lv_room (Nat.le_of_ble_eq_true rfl)) dX1_mark_114 (fun w14 H locs h hw => ?_)
    refine lv_aload_n S.1 S.2.1 dX1_mark_117 rfl (lv_at hl 1 rfl) ?_
    refine ggX1_81 S X hw dX1_mark_118 h (fun a15 h => ?_)
    refine lv_aload_n S.1 S.2.1 dX1_mark_121 rfl (lv_at hl 0 rfl) ?_
    refine ggX1_413 S X hw dX1_mark_122 h (fun a16 h => ?_)
    refine gcSv (As := [.ref a15, .ref a16]) (rest := []) S X Z hw h (fun u h1 => met_B_X1_copies l E A LC LS a15 a16 w14 u h1) (cb_X1_323 S.2.2.2.2 rfl rfl ⟨Nat.le_trans (Nat.le_of_ble_eq_true rfl : 0 + 1 ≤ 3) hF, Nat.le_trans (Nat.le_of_ble_eq_true rfl : 8 + (3 + 11) + 0 ≤ 60) hL⟩) rfl hl.1 rfl (lv_room (Nat.le_of_ble_eq_true rfl)) dX1_mark_125 (fun w17 H locs h hw => ?_)
    refine lv_aload_n S.1 S.2.1 dX1_mark_128 rfl (lv_at hl 1 rfl) ?_
    refine ggX1_84 S X hw dX1_mark_129 h (fun a18 h => ?_)
    refine lv_aload_n S.1 S.2.1 dX1_mark_132 rfl (lv_at hl 0 rfl) ?_
    refine ggX1_415 S X hw dX1_mark_133 h (fun a19 h => ?_)
    refine gcSv (As := [.ref a18, .ref a19]) (rest := []) S X Z hw h (fun u h1 => met_B_X1_copies l E A LC LS a18 a19 w17 u h1) (cb_X1_323 S.2.2.2.2 rfl rfl ⟨Nat.le_trans (Nat.le_of_ble_eq_true rfl : 0 + 1 ≤ 3) hF, Nat.le_trans (Nat.le_of_ble_eq_true rfl : 8 + (3 + 11) + 0 ≤ 60) hL⟩) rfl hl.1 rfl (lv_room (Nat.le_of_ble_eq_true rfl)) dX1_mark_136 (fun w20 H locs h hw => ?_)
    refine lv_aload_n S.1 S.2.1 dX1_mark_139 rfl (lv_at hl 0 rfl) ?_
    refine lv_aload_n S.1 S.2.1 dX1_mark_140 rfl (lv_at hl 1 rfl) ?_
    refine ggX1_123 S X hw dX1_mark_141 h (fun v21 h => ?_)
    refine gpX1_418 S X hw dX1_mark_144 h (fun w22 H locs h hw => ?_)
    refine lv_iconst (v := 1) S.1 S.2.1 dX1_mark_147 rfl ?_
    exact g_zret S Z hr hlocks hw rfl (so2 h) dX1_mark_148
  · replace h := if_f c11 h
    refine lv_aload_n S.1 S.2.1 dX1_mark_57 rfl (lv_at hl 1 rfl) ?_
    refine ggX1_51 S X hw dX1_mark_58 h (fun a23 h => ?_)
    refine lv_aload_n S.1 S.2.1 dX1_mark_61 rfl (lv_at hl 0 rfl) ?_
    refine ggX1_412 S X hw dX1_mark_62 h (fun a24 h => ?_)
    obtain ⟨hrc, h⟩ := oK1 h
    refine gcVv (As := [.ref a24]) (rest := []) S X Z hw (b := a23) h (fun u h1 => met_B_X4_be l E A LC LS a23 a24 w u h1) (cb_X1_276 S.2.2.2.2 rfl rfl ⟨Nat.le_trans (Nat.le_of_ble_eq_true rfl : 1 + 1 ≤ 3) hF, Nat.le_trans (Nat.le_of_ble_eq_true rfl : 8 + (2 + 11) + 22 ≤ 60) hL⟩) (g_recv X hw (ci := 3) rfl (gcell_4 hrc)) rfl hl.1 rfl (lv_room (Nat.le_of_ble_eq_true rfl)) dX1_mark_65 (fun w25 H locs h hw => ?_)
    refine lv_aload_n S.1 S.2.1 dX1_mark_68 rfl (lv_at hl 0 rfl) ?_
    refine ggX1_413 S X hw dX1_mark_69 h (fun a26 h => ?_)
    refine lv_aload_n S.1 S.2.1 dX1_mark_72 rfl (lv_at hl 1 rfl) ?_
    refine ggX1_81 S X hw dX1_mark_73 h (fun a27 h => ?_)
    refine gcSv (As := [.ref a26, .ref a27]) (rest := []) S X Z hw h (fun u h1 => met_B_X1_copies l E A LC LS a26 a27 w25 u h1) (cb_X1_323 S.2.2.2.2 rfl rfl ⟨Nat.le_trans (Nat.le_of_ble_eq_true rfl : 0 + 1 ≤ 3) hF, Nat.le_trans (Nat.le_of_ble_eq_true rfl : 8 + (3 + 11) + 0 ≤ 60) hL⟩) rfl hl.1 rfl (lv_room (Nat.le_of_ble_eq_true rfl)) dX1_mark_76 (fun w28 H locs h hw => ?_)
    refine lv_aload_n S.1 S.2.1 dX1_mark_79 rfl (lv_at hl 0 rfl) ?_
    refine ggX1_415 S X hw dX1_mark_80 h (fun a29 h => ?_)
    refine lv_aload_n S.1 S.2.1 dX1_mark_83 rfl (lv_at hl 1 rfl) ?_
    refine ggX1_84 S X hw dX1_mark_84 h (fun a30 h => ?_)
    refine gcSv (As := [.ref a29, .ref a30]) (rest := []) S X Z hw h (fun u h1 => met_B_X1_copies l E A LC LS a29 a30 w28 u h1) (cb_X1_323 S.2.2.2.2 rfl rfl ⟨Nat.le_trans (Nat.le_of_ble_eq_true rfl : 0 + 1 ≤ 3) hF, Nat.le_trans (Nat.le_of_ble_eq_true rfl : 8 + (3 + 11) + 0 ≤ 60) hL⟩) rfl hl.1 rfl (lv_room (Nat.le_of_ble_eq_true rfl)) dX1_mark_87 (fun w31 H locs h hw => ?_)
    refine lv_aload_n S.1 S.2.1 dX1_mark_90 rfl (lv_at hl 1 rfl) ?_
    refine lv_aload_n S.1 S.2.1 dX1_mark_91 rfl (lv_at hl 0 rfl) ?_
    refine ggX1_418 S X hw dX1_mark_92 h (fun v32 h => ?_)
    refine gpX1_123 S X hw dX1_mark_95 h (fun w33 H locs h hw => ?_)
    refine lv_aload_n S.1 S.2.1 dX1_mark_98 rfl (lv_at hl 1 rfl) ?_
    refine lv_iconst (v := 0) S.1 S.2.1 dX1_mark_99 rfl ?_
    refine gpX1_126 S X hw dX1_mark_100 h (fun w34 H locs h hw => ?_)
    refine lv_goto (tgt := 147) S.1 S.2.1 dX1_mark_103 rfl ?_
    refine lv_iconst (v := 1) S.1 S.2.1 dX1_mark_147 rfl ?_
    exact g_zret S Z hr hlocks hw rfl (so2 h) dX1_mark_148
set_option maxRecDepth 100000 in
set_option maxHeartbeats 4000000 in
theorem wk_B_X1_mark_p24 {p : Program} {l : Launch} {e : Env} {R : Room} {s : State} {m : MethodId} {args : Array Value} {below : List Frame} {meth : Method} {c : Code} {E : gE} {A : Nat → Prop} {LC LS : Nat} (S : CallFix p m c cX1_mark 4 s args lw_all RX1) (X : gCtx E A s) (Z : gRm R s LC LS) (hF : 3 ≤ R.frames) (hL : 60 ≤ R.locals) (hr : meth.sig.returnType = (Option.some Jvm.ClassFile.FieldType.boolean)) (hlocks : meth.locks = false) {res : Int32 × GS}  : ∀ (x0 : Nat) (x1 : Int32) (x2 : Int32) (w : GS) (H : Heap) (locs : List Loc) (ls : Array Slot), B_X1_mark_p24 x0 x1 x2 w = some res → gH E A LC LS s w H locs → lv_has ls 4 [(0, .ref x0), (1, .int x1), (2, .int x2)] → W p l e R s m args below meth c H locs (H.size - s.heap.size) (tot H - tot s.heap) (MQ below (gQi E A LC LS res.1 res.2) args s R.cells R.slots A) (F0 m 24 ls []) := by
  intro x0 x1 x2 w H locs ls h hw hl
  unfold B_X1_mark_p24 at h
  refine lv_aload_n S.1 S.2.1 dX1_mark_24 rfl (lv_at hl 0 rfl) ?_
  refine ggX1_97 S X hw dX1_mark_25 h (fun a3 h => ?_)
  refine lv_iload_n S.1 S.2.1 dX1_mark_28 rfl (lv_at hl 1 rfl) ?_
  refine gald47q S X hw dX1_mark_29 h (fun a4 h => ?_)
  refine g_ifnonnull (tgt := 46) S.1 S.2.1 dX1_mark_30 rfl h (fun h => ?_) (fun _ h => ?_)
  · refine lv_aload_n S.1 S.2.1 dX1_mark_33 rfl (lv_at hl 0 rfl) ?_
    refine ggX1_97 S X hw dX1_mark_34 h (fun a5 h => ?_)
    refine lv_iload_n S.1 S.2.1 dX1_mark_37 rfl (lv_at hl 1 rfl) ?_
    refine gnX1_95 S X Z hw dX1_mark_38 h (fun w6 H h hw => ?_)
    refine lv_dup S.1 S.2.1 dX1_mark_41 rfl ?_
    refine gcINv (As := []) (rest := [.ref (gZ w), .int x1, .ref a5]) S X Z hw (b := (gZ w)) h (fun u h1 => met_B_X25_init l E A LC LS (gZ w) w6 u h1) (cb_X1_411 S.2.2.2.2 X.2.2.2.2.2.1 rfl rfl ⟨Nat.le_trans (Nat.le_of_ble_eq_true rfl : 2 + 1 ≤ 3) hF, Nat.le_trans (Nat.le_of_ble_eq_true rfl : 8 + (1 + 11) + 40 ≤ 60) hL⟩) rfl hl.1 rfl (lv_room (Nat.le_of_ble_eq_true rfl)) dX1_mark_42 (fun w7 H locs h hw => ?_)
    refine gast47c S X hw dX1_mark_45 h (fun w8 H locs h hw => ?_)
    exact wk_B_X1_mark_p46 S X Z hF hL hr hlocks  _ _ _ _ _ _ _ h hw (lv_sub hl [0, 1, 2] rfl)
  · exact wk_B_X1_mark_p46 S X Z hF hL hr hlocks  _ _ _ _ _ _ _ h hw (lv_sub hl [0, 1, 2] rfl)
set_option maxRecDepth 100000 in
set_option maxHeartbeats 4000000 in
theorem met_B_X1_mark (l : Launch) (E : gE) (A : Nat → Prop) (LC LS : Nat)  (x0 : Nat) (x1 : Int32) (x2 : Int32) (w : GS) (res : Int32 × GS) (h : B_X1_mark x0 x1 x2 w = some res) : Met l yX1_mark (ws_ yX1_mark cX1_mark 4 (Option.some Jvm.ClassFile.FieldType.boolean)) (gRoom 3 60 LC LS w) (gPc E A LC LS [.ref x0, .int x1, .int x2] w) (gQi E A LC LS res.1 res.2) (LC - gZ w) (LS - gN w) A := by
  refine gMet (by decide) rfl (Nat.le_of_ble_eq_true rfl) ?_
  intro p e s m below meth c R S hr hlocks hin2 X Z hF hL H ls hw hl
  replace hl : lv_has ls 4 [(0, .ref x0), (1, .int x1), (2, .int x2)] := hl
  unfold B_X1_mark at h
  refine lv_iload_n S.1 S.2.1 dX1_mark_0 rfl (lv_at hl 1 rfl) ?_
  refine lv_iconst (v := 0) S.1 S.2.1 dX1_mark_1 rfl ?_
  refine lv_iconst (v := 3) S.1 S.2.1 dX1_mark_2 rfl ?_
  refine gcSti (As := [.int x1, .int (0 : Int32), .int (3 : Int32)]) (rest := []) S X Z hw (met_B_X1_in l E A LC LS x1 (0 : Int32) (3 : Int32) w _ rfl) (cb_X1_153 S.2.2.2.2 rfl rfl ⟨Nat.le_trans (Nat.le_of_ble_eq_true rfl : 0 + 1 ≤ 3) hF, Nat.le_trans (Nat.le_of_ble_eq_true rfl : 8 + (3 + 11) + 0 ≤ 60) hL⟩) rfl hl.1 rfl (lv_room (Nat.le_of_ble_eq_true rfl)) dX1_mark_3 (fun H locs hw => ?_)
  refine lv_if_eq (tgt := 22) S.1 S.2.1 dX1_mark_6 rfl (fun c1 => ?_) (fun c1 => ?_)
  · replace h := if_t c1 h
    refine lv_iconst (v := 0) S.1 S.2.1 dX1_mark_22 rfl ?_
    exact g_zret S Z hr hlocks hw rfl (so2 h) dX1_mark_23
  · replace h := if_f c1 h
    refine lv_iload_n S.1 S.2.1 dX1_mark_9 rfl (lv_at hl 2 rfl) ?_
    refine lv_if_eq (tgt := 24) S.1 S.2.1 dX1_mark_10 rfl (fun c2 => ?_) (fun c2 => ?_)
    · replace h := if_t c2 h
      exact wk_B_X1_mark_p24 S X Z hF hL hr hlocks  _ _ _ _ _ _ _ h hw (lv_sub hl [0, 1, 2] rfl)
    · replace h := if_f c2 h
      refine lv_aload_n S.1 S.2.1 dX1_mark_13 rfl (lv_at hl 0 rfl) ?_
      refine ggX1_97 S X hw dX1_mark_14 h (fun a35 h => ?_)
      refine lv_iload_n S.1 S.2.1 dX1_mark_17 rfl (lv_at hl 1 rfl) ?_
      refine gald47q S X hw dX1_mark_18 h (fun a36 h => ?_)
      refine g_ifnonnull (tgt := 24) S.1 S.2.1 dX1_mark_19 rfl h (fun h => ?_) (fun _ h => ?_)
      · refine lv_iconst (v := 0) S.1 S.2.1 dX1_mark_22 rfl ?_
        exact g_zret S Z hr hlocks hw rfl (so2 h) dX1_mark_23
      · exact wk_B_X1_mark_p24 S X Z hF hL hr hlocks  _ _ _ _ _ _ _ h hw (lv_sub hl [0, 1, 2] rfl)
def B_X1_count (x0 : Nat) (x1 : Int32) (w : GS) : Option Int32 :=
  if x1 = (0 : Int32) then
    bd1 (oK w x0 1 1) fun _ =>
    bd1 (B_X1_rooms x0 w) fun r1 =>
    some r1
  else
    if x1 = (1 : Int32) then
      bd1 (oK w x0 1 1) fun _ =>
      bd1 (B_X1_tenants x0 w) fun r2 =>
      some r2
    else
      if x1 = (2 : Int32) then
        bd1 (oRn w x0 1 1 2) fun a3 =>
        bd1 (oRn w a3 3 3 2) fun a4 =>
        bd1 (oK w a4 23 23) fun _ =>
        bd1 (B_J2_size a4 w) fun r5 =>
        some r5
      else
        if x1 = (3 : Int32) then
          bd1 (oRn w x0 1 1 4) fun a6 =>
          bd1 (oI w a6 4 4 6) fun v7 =>
          some v7
        else
          if x1 = (4 : Int32) then
            bd1 (oRn w x0 1 1 4) fun a8 =>
            bd1 (oRn w a8 4 4 5) fun a9 =>
            bd1 (B_X1_sum a9 w) fun r10 =>
            some r10
          else
            if x1 = (5 : Int32) then
              bd1 (oRn w x0 1 1 4) fun a11 =>
              bd1 (oK w a11 4 4) fun _ =>
              bd1 (B_X4_in a11 w) fun r12 =>
              some (B_J17_bitCount r12)
            else
              if x1 = (6 : Int32) then
                bd1 (oRn w x0 1 1 4) fun a13 =>
                bd1 (oI w a13 4 4 7) fun v14 =>
                some (B_J17_bitCount v14)
              else
                if x1 = (7 : Int32) then
                  bd1 (oRn w x0 1 1 2) fun a15 =>
                  bd1 (oK w a15 3 3) fun _ =>
                  bd1 (B_X3_brew a15 w) fun r16 =>
                  some r16
                else
                  if x1 = (8 : Int32) then
                    bd1 (oRn w x0 1 1 2) fun a17 =>
                    bd1 (oK w a17 3 3) fun _ =>
                    bd1 (B_X3_every a17 w) fun r18 =>
                    some r18
                  else
                    if x1 = (9 : Int32) then
                      bd1 (oRn w x0 1 1 3) fun a19 =>
                      bd1 (oK w a19 23 23) fun _ =>
                      bd1 (B_J2_size a19 w) fun r20 =>
                      some r20
                    else
                      if x1 = (10 : Int32) then
                        bd1 (oI w x0 1 1 18) fun v21 =>
                        some v21
                      else
                        if x1 = (11 : Int32) then
                          bd1 (oI w x0 1 1 9) fun v22 =>
                          some v22
                        else
                          if x1 = (12 : Int32) then
                            bd1 (oI w x0 1 1 7) fun v23 =>
                            some v23
                          else
                            some (-1 : Int32)
set_option maxRecDepth 100000 in
set_option maxHeartbeats 4000000 in
theorem met_B_X1_count (l : Launch) (E : gE) (A : Nat → Prop) (LC LS : Nat)  (x0 : Nat) (x1 : Int32) (w : GS) (res : Int32) (h : B_X1_count x0 x1 w = some res) : Met l yX1_count (ws_ yX1_count cX1_count 2 (Option.some Jvm.ClassFile.FieldType.int)) (gRoom 2 43 LC LS w) (gPc E A LC LS [.ref x0, .int x1] w) (gQi E A LC LS res w) (LC - gZ w) (LS - gN w) A := by
  refine gMet (by decide) rfl (Nat.le_of_ble_eq_true rfl) ?_
  intro p e s m below meth c R S hr hlocks hin2 X Z hF hL H ls hw hl
  replace hl : lv_has ls 2 [(0, .ref x0), (1, .int x1)] := hl
  unfold B_X1_count at h
  refine lv_iload_n S.1 S.2.1 dX1_count_0 rfl (lv_at hl 1 rfl) ?_
  by_cases e0 : x1 = (0 : Int32)
  · replace h := if_t e0 h
    refine lv_tableIn (tgt := 68) S.1 S.2.1 dX1_count_1 (by rw [e0]; decide) (by rw [e0]; decide) (by rw [e0]; rfl) rfl ?_
    refine lv_aload_n S.1 S.2.1 dX1_count_68 rfl (lv_at hl 0 rfl) ?_
    obtain ⟨hrc, h⟩ := oK1 h
    refine gcVri (As := []) (rest := []) S X Z hw (b := x0) h (fun u h1 => met_B_X1_rooms l E A LC LS x0 w u h1) (cb_X1_151 S.2.2.2.2 rfl rfl ⟨Nat.le_trans (Nat.le_of_ble_eq_true rfl : 1 + 1 ≤ 2) hF, Nat.le_trans (Nat.le_of_ble_eq_true rfl : 8 + (1 + 11) + 20 ≤ 43) hL⟩) (g_recv X hw (ci := 0) rfl (gcell_1 hrc)) rfl hl.1 rfl (lv_room (Nat.le_of_ble_eq_true rfl)) dX1_count_69 (fun r1 H locs h hw => ?_)
    exact g_iret S Z hr hlocks hw ⟨so1 h, rfl⟩ dX1_count_72
  · replace h := if_f e0 h
    by_cases e1 : x1 = (1 : Int32)
    · replace h := if_t e1 h
      refine lv_tableIn (tgt := 73) S.1 S.2.1 dX1_count_1 (by rw [e1]; decide) (by rw [e1]; decide) (by rw [e1]; rfl) rfl ?_
      refine lv_aload_n S.1 S.2.1 dX1_count_73 rfl (lv_at hl 0 rfl) ?_
      obtain ⟨hrc, h⟩ := oK1 h
      refine gcVri (As := []) (rest := []) S X Z hw (b := x0) h (fun u h1 => met_B_X1_tenants l E A LC LS x0 w u h1) (cb_X1_157 S.2.2.2.2 rfl rfl ⟨Nat.le_trans (Nat.le_of_ble_eq_true rfl : 1 + 1 ≤ 2) hF, Nat.le_trans (Nat.le_of_ble_eq_true rfl : 8 + (1 + 11) + 20 ≤ 43) hL⟩) (g_recv X hw (ci := 0) rfl (gcell_1 hrc)) rfl hl.1 rfl (lv_room (Nat.le_of_ble_eq_true rfl)) dX1_count_74 (fun r2 H locs h hw => ?_)
      exact g_iret S Z hr hlocks hw ⟨so1 h, rfl⟩ dX1_count_77
    · replace h := if_f e1 h
      by_cases e2 : x1 = (2 : Int32)
      · replace h := if_t e2 h
        refine lv_tableIn (tgt := 78) S.1 S.2.1 dX1_count_1 (by rw [e2]; decide) (by rw [e2]; decide) (by rw [e2]; rfl) rfl ?_
        refine lv_aload_n S.1 S.2.1 dX1_count_78 rfl (lv_at hl 0 rfl) ?_
        refine ggX1_35 S X hw dX1_count_79 h (fun a3 h => ?_)
        refine ggX1_320 S X hw dX1_count_82 h (fun a4 h => ?_)
        obtain ⟨hrc, h⟩ := oK1 h
        refine gcVri (As := []) (rest := []) S X Z hw (b := a4) h (fun u h1 => met_B_J2_size l E A LC LS a4 w u h1) (cb_X1_136 S.2.2.2.2 rfl rfl ⟨Nat.le_trans (Nat.le_of_ble_eq_true rfl : 0 + 1 ≤ 2) hF, Nat.le_trans (Nat.le_of_ble_eq_true rfl : 8 + (1 + 11) + 0 ≤ 43) hL⟩) (g_recv X hw (ci := 22) rfl (gcell_23 hrc)) rfl hl.1 rfl (lv_room (Nat.le_of_ble_eq_true rfl)) dX1_count_85 (fun r5 H locs h hw => ?_)
        exact g_iret S Z hr hlocks hw ⟨so1 h, rfl⟩ dX1_count_88
      · replace h := if_f e2 h
        by_cases e3 : x1 = (3 : Int32)
        · replace h := if_t e3 h
          refine lv_tableIn (tgt := 89) S.1 S.2.1 dX1_count_1 (by rw [e3]; decide) (by rw [e3]; decide) (by rw [e3]; rfl) rfl ?_
          refine lv_aload_n S.1 S.2.1 dX1_count_89 rfl (lv_at hl 0 rfl) ?_
          refine ggX1_51 S X hw dX1_count_90 h (fun a6 h => ?_)
          refine ggX1_193 S X hw dX1_count_93 h (fun v7 h => ?_)
          exact g_iret S Z hr hlocks hw ⟨so1 h, rfl⟩ dX1_count_96
        · replace h := if_f e3 h
          by_cases e4 : x1 = (4 : Int32)
          · replace h := if_t e4 h
            refine lv_tableIn (tgt := 97) S.1 S.2.1 dX1_count_1 (by rw [e4]; decide) (by rw [e4]; decide) (by rw [e4]; rfl) rfl ?_
            refine lv_aload_n S.1 S.2.1 dX1_count_97 rfl (lv_at hl 0 rfl) ?_
            refine ggX1_51 S X hw dX1_count_98 h (fun a8 h => ?_)
            refine ggX1_243 S X hw dX1_count_101 h (fun a9 h => ?_)
            refine gcSri (As := [.ref a9]) (rest := []) S X Z hw h (fun u h1 => met_B_X1_sum l E A LC LS a9 w u h1) (cb_X1_408 S.2.2.2.2 rfl rfl ⟨Nat.le_trans (Nat.le_of_ble_eq_true rfl : 0 + 1 ≤ 2) hF, Nat.le_trans (Nat.le_of_ble_eq_true rfl : 8 + (3 + 11) + 0 ≤ 43) hL⟩) rfl hl.1 rfl (lv_room (Nat.le_of_ble_eq_true rfl)) dX1_count_104 (fun r10 H locs h hw => ?_)
            exact g_iret S Z hr hlocks hw ⟨so1 h, rfl⟩ dX1_count_107
          · replace h := if_f e4 h
            by_cases e5 : x1 = (5 : Int32)
            · replace h := if_t e5 h
              refine lv_tableIn (tgt := 108) S.1 S.2.1 dX1_count_1 (by rw [e5]; decide) (by rw [e5]; decide) (by rw [e5]; rfl) rfl ?_
              refine lv_aload_n S.1 S.2.1 dX1_count_108 rfl (lv_at hl 0 rfl) ?_
              refine ggX1_51 S X hw dX1_count_109 h (fun a11 h => ?_)
              obtain ⟨hrc, h⟩ := oK1 h
              refine gcVri (As := []) (rest := []) S X Z hw (b := a11) h (fun u h1 => met_B_X4_in l E A LC LS a11 w u h1) (cb_X1_191 S.2.2.2.2 rfl rfl ⟨Nat.le_trans (Nat.le_of_ble_eq_true rfl : 1 + 1 ≤ 2) hF, Nat.le_trans (Nat.le_of_ble_eq_true rfl : 8 + (3 + 11) + 21 ≤ 43) hL⟩) (g_recv X hw (ci := 3) rfl (gcell_4 hrc)) rfl hl.1 rfl (lv_room (Nat.le_of_ble_eq_true rfl)) dX1_count_112 (fun r12 H locs h hw => ?_)
              refine gcSti (As := [.int r12]) (rest := []) S X Z hw (met_B_J17_bitCount l E A LC LS r12 w _ rfl) (cb_X1_312 S.2.2.2.2 rfl rfl ⟨Nat.le_trans (Nat.le_of_ble_eq_true rfl : 0 + 1 ≤ 2) hF, Nat.le_trans (Nat.le_of_ble_eq_true rfl : 8 + (1 + 11) + 0 ≤ 43) hL⟩) rfl hl.1 rfl (lv_room (Nat.le_of_ble_eq_true rfl)) dX1_count_115 (fun H locs hw => ?_)
              exact g_iret S Z hr hlocks hw ⟨so1 h, rfl⟩ dX1_count_118
            · replace h := if_f e5 h
              by_cases e6 : x1 = (6 : Int32)
              · replace h := if_t e6 h
                refine lv_tableIn (tgt := 119) S.1 S.2.1 dX1_count_1 (by rw [e6]; decide) (by rw [e6]; decide) (by rw [e6]; rfl) rfl ?_
                refine lv_aload_n S.1 S.2.1 dX1_count_119 rfl (lv_at hl 0 rfl) ?_
                refine ggX1_51 S X hw dX1_count_120 h (fun a13 h => ?_)
                refine ggX1_249 S X hw dX1_count_123 h (fun v14 h => ?_)
                refine gcSti (As := [.int v14]) (rest := []) S X Z hw (met_B_J17_bitCount l E A LC LS v14 w _ rfl) (cb_X1_312 S.2.2.2.2 rfl rfl ⟨Nat.le_trans (Nat.le_of_ble_eq_true rfl : 0 + 1 ≤ 2) hF, Nat.le_trans (Nat.le_of_ble_eq_true rfl : 8 + (1 + 11) + 0 ≤ 43) hL⟩) rfl hl.1 rfl (lv_room (Nat.le_of_ble_eq_true rfl)) dX1_count_126 (fun H locs hw => ?_)
                exact g_iret S Z hr hlocks hw ⟨so1 h, rfl⟩ dX1_count_129
              · replace h := if_f e6 h
                by_cases e7 : x1 = (7 : Int32)
                · replace h := if_t e7 h
                  refine lv_tableIn (tgt := 130) S.1 S.2.1 dX1_count_1 (by rw [e7]; decide) (by rw [e7]; decide) (by rw [e7]; rfl) rfl ?_
                  refine lv_aload_n S.1 S.2.1 dX1_count_130 rfl (lv_at hl 0 rfl) ?_
                  refine ggX1_35 S X hw dX1_count_131 h (fun a15 h => ?_)
                  obtain ⟨hrc, h⟩ := oK1 h
                  refine gcVri (As := []) (rest := []) S X Z hw (b := a15) h (fun u h1 => met_B_X3_brew l E A LC LS a15 w u h1) (cb_X1_210 S.2.2.2.2 rfl rfl ⟨Nat.le_trans (Nat.le_of_ble_eq_true rfl : 0 + 1 ≤ 2) hF, Nat.le_trans (Nat.le_of_ble_eq_true rfl : 8 + (1 + 11) + 0 ≤ 43) hL⟩) (g_recv X hw (ci := 2) rfl (gcell_3 hrc)) rfl hl.1 rfl (lv_room (Nat.le_of_ble_eq_true rfl)) dX1_count_134 (fun r16 H locs h hw => ?_)
                  exact g_iret S Z hr hlocks hw ⟨so1 h, rfl⟩ dX1_count_137
                · replace h := if_f e7 h
                  by_cases e8 : x1 = (8 : Int32)
                  · replace h := if_t e8 h
                    refine lv_tableIn (tgt := 138) S.1 S.2.1 dX1_count_1 (by rw [e8]; decide) (by rw [e8]; decide) (by rw [e8]; rfl) rfl ?_
                    refine lv_aload_n S.1 S.2.1 dX1_count_138 rfl (lv_at hl 0 rfl) ?_
                    refine ggX1_35 S X hw dX1_count_139 h (fun a17 h => ?_)
                    obtain ⟨hrc, h⟩ := oK1 h
                    refine gcVri (As := []) (rest := []) S X Z hw (b := a17) h (fun u h1 => met_B_X3_every l E A LC LS a17 w u h1) (cb_X1_196 S.2.2.2.2 rfl rfl ⟨Nat.le_trans (Nat.le_of_ble_eq_true rfl : 0 + 1 ≤ 2) hF, Nat.le_trans (Nat.le_of_ble_eq_true rfl : 8 + (1 + 11) + 0 ≤ 43) hL⟩) (g_recv X hw (ci := 2) rfl (gcell_3 hrc)) rfl hl.1 rfl (lv_room (Nat.le_of_ble_eq_true rfl)) dX1_count_142 (fun r18 H locs h hw => ?_)
                    exact g_iret S Z hr hlocks hw ⟨so1 h, rfl⟩ dX1_count_145
                  · replace h := if_f e8 h
                    by_cases e9 : x1 = (9 : Int32)
                    · replace h := if_t e9 h
                      refine lv_tableIn (tgt := 146) S.1 S.2.1 dX1_count_1 (by rw [e9]; decide) (by rw [e9]; decide) (by rw [e9]; rfl) rfl ?_
                      refine lv_aload_n S.1 S.2.1 dX1_count_146 rfl (lv_at hl 0 rfl) ?_
                      refine ggX1_44 S X hw dX1_count_147 h (fun a19 h => ?_)
                      obtain ⟨hrc, h⟩ := oK1 h
                      refine gcVri (As := []) (rest := []) S X Z hw (b := a19) h (fun u h1 => met_B_J2_size l E A LC LS a19 w u h1) (cb_X1_136 S.2.2.2.2 rfl rfl ⟨Nat.le_trans (Nat.le_of_ble_eq_true rfl : 0 + 1 ≤ 2) hF, Nat.le_trans (Nat.le_of_ble_eq_true rfl : 8 + (1 + 11) + 0 ≤ 43) hL⟩) (g_recv X hw (ci := 22) rfl (gcell_23 hrc)) rfl hl.1 rfl (lv_room (Nat.le_of_ble_eq_true rfl)) dX1_count_150 (fun r20 H locs h hw => ?_)
                      exact g_iret S Z hr hlocks hw ⟨so1 h, rfl⟩ dX1_count_153
                    · replace h := if_f e9 h
                      by_cases e10 : x1 = (10 : Int32)
                      · replace h := if_t e10 h
                        refine lv_tableIn (tgt := 154) S.1 S.2.1 dX1_count_1 (by rw [e10]; decide) (by rw [e10]; decide) (by rw [e10]; rfl) rfl ?_
                        refine lv_aload_n S.1 S.2.1 dX1_count_154 rfl (lv_at hl 0 rfl) ?_
                        refine ggX1_123 S X hw dX1_count_155 h (fun v21 h => ?_)
                        exact g_iret S Z hr hlocks hw ⟨so1 h, rfl⟩ dX1_count_158
                      · replace h := if_f e10 h
                        by_cases e11 : x1 = (11 : Int32)
                        · replace h := if_t e11 h
                          refine lv_tableIn (tgt := 159) S.1 S.2.1 dX1_count_1 (by rw [e11]; decide) (by rw [e11]; decide) (by rw [e11]; rfl) rfl ?_
                          refine lv_aload_n S.1 S.2.1 dX1_count_159 rfl (lv_at hl 0 rfl) ?_
                          refine ggX1_126 S X hw dX1_count_160 h (fun v22 h => ?_)
                          exact g_iret S Z hr hlocks hw ⟨so1 h, rfl⟩ dX1_count_163
                        · replace h := if_f e11 h
                          by_cases e12 : x1 = (12 : Int32)
                          · replace h := if_t e12 h
                            refine lv_tableIn (tgt := 164) S.1 S.2.1 dX1_count_1 (by rw [e12]; decide) (by rw [e12]; decide) (by rw [e12]; rfl) rfl ?_
                            refine lv_aload_n S.1 S.2.1 dX1_count_164 rfl (lv_at hl 0 rfl) ?_
                            refine ggX1_105 S X hw dX1_count_165 h (fun v23 h => ?_)
                            exact g_iret S Z hr hlocks hw ⟨so1 h, rfl⟩ dX1_count_168
                          · replace h := if_f e12 h
                            refine lv_tableOut (tgt := 169) S.1 S.2.1 dX1_count_1 (by have z0 := ne_toInt e0 (j := 0) rfl; have z1 := ne_toInt e1 (j := 1) rfl; have z2 := ne_toInt e2 (j := 2) rfl; have z3 := ne_toInt e3 (j := 3) rfl; have z4 := ne_toInt e4 (j := 4) rfl; have z5 := ne_toInt e5 (j := 5) rfl; have z6 := ne_toInt e6 (j := 6) rfl; have z7 := ne_toInt e7 (j := 7) rfl; have z8 := ne_toInt e8 (j := 8) rfl; have z9 := ne_toInt e9 (j := 9) rfl; have z10 := ne_toInt e10 (j := 10) rfl; have z11 := ne_toInt e11 (j := 11) rfl; have z12 := ne_toInt e12 (j := 12) rfl; omega) rfl ?_
                            refine lv_iconst (v := -1) S.1 S.2.1 dX1_count_169 rfl ?_
                            exact g_iret S Z hr hlocks hw ⟨so1 h, rfl⟩ dX1_count_170
def B_X1_saved (x0 : Nat) (x1 : Int32) (x2 : Int32) (w : GS) : Option (Int32 × GS) :=
  bd1 (oRn w x0 1 1 4) fun a1 =>
  bd1 (oRn w a1 4 4 0) fun a2 =>
  bd1 (aI w a2 40 x1) fun v3 =>
  bd1 (oK w x0 1 1) fun _ =>
  bd1 (B_X1_room_2 x0 v3 w) fun a4 =>
  bd1 (oI w a4 7 7 3) fun v5 =>
  bd1 (oRn w x0 1 1 4) fun a6 =>
  bd1 (oRn w a6 4 4 0) fun a7 =>
  bd1 (aI w a7 40 x2) fun v8 =>
  bd1 (oK w x0 1 1) fun _ =>
  bd1 (B_X1_room_2 x0 v8 w) fun a9 =>
  bd1 (oI w a9 7 7 3) fun v10 =>
  bdp ((if v10 < v5 then v10 else v5)) fun y11 =>
  bd1 (oRn w x0 1 1 4) fun a12 =>
  bd1 (oK w x0 1 1) fun _ =>
  bd2 (B_X1_due x0 a12 x1 w) fun r14 w13 =>
  bd1 (oRn w13 x0 1 1 4) fun a15 =>
  bd1 (oK w13 x0 1 1) fun _ =>
  bd2 (B_X1_due x0 a15 x2 w13) fun r17 w16 =>
  bd1 (oRn w16 x0 1 1 4) fun a18 =>
  bd1 (oRn w16 a18 4 4 4) fun a19 =>
  bd1 (aI w16 a19 40 x1) fun v20 =>
  bd1 (oRn w16 x0 1 1 4) fun a21 =>
  bd1 (oRn w16 a21 4 4 4) fun a22 =>
  bd1 (aI w16 a22 40 x2) fun v23 =>
  bd1 (oK w16 x0 1 1) fun _ =>
  bd1 (B_X1_tenant_2 x0 x1 w16) fun a24 =>
  bd1 (V_kind a24 w16) fun r25 =>
  bd1 (oK w16 x0 1 1) fun _ =>
  bd2 (B_X1_dueBy x0 (v20 + v23) y11 r25 w16) fun r27 w26 =>
  some ((r14 + r17) - r27, w26)
set_option maxRecDepth 100000 in
set_option maxHeartbeats 4000000 in
theorem met_B_X1_saved (l : Launch) (E : gE) (A : Nat → Prop) (LC LS : Nat)  (x0 : Nat) (x1 : Int32) (x2 : Int32) (w : GS) (res : Int32 × GS) (h : B_X1_saved x0 x1 x2 w = some res) : Met l yX1_saved (ws_ yX1_saved cX1_saved 4 (Option.some Jvm.ClassFile.FieldType.int)) (gRoom 1104 33098 LC LS w) (gPc E A LC LS [.ref x0, .int x1, .int x2] w) (gQi E A LC LS res.1 res.2) (LC - gZ w) (LS - gN w) A := by
  refine gMet (by decide) rfl (Nat.le_of_ble_eq_true rfl) ?_
  intro p e s m below meth c R S hr hlocks hin2 X Z hF hL H ls hw hl
  replace hl : lv_has ls 4 [(0, .ref x0), (1, .int x1), (2, .int x2)] := hl
  unfold B_X1_saved at h
  refine lv_aload_n S.1 S.2.1 dX1_saved_0 rfl (lv_at hl 0 rfl) ?_
  refine lv_aload_n S.1 S.2.1 dX1_saved_1 rfl (lv_at hl 0 rfl) ?_
  refine ggX1_51 S X hw dX1_saved_2 h (fun a1 h => ?_)
  refine ggX1_176 S X hw dX1_saved_5 h (fun a2 h => ?_)
  refine lv_iload_n S.1 S.2.1 dX1_saved_8 rfl (lv_at hl 1 rfl) ?_
  refine gald40 S X hw dX1_saved_9 h (fun v3 h => ?_)
  obtain ⟨hrc, h⟩ := oK1 h
  refine gcVrr (As := [.int v3]) (rest := []) S X Z hw (b := x0) h (fun u h1 => met_B_X1_room_2 l E A LC LS x0 v3 w u h1) (cb_X1_179 S.2.2.2.2 rfl rfl ⟨Nat.le_trans (Nat.le_of_ble_eq_true rfl : 3 + 1 ≤ 1104) hF, Nat.le_trans (Nat.le_of_ble_eq_true rfl : 8 + (2 + 11) + 64 ≤ 33098) hL⟩) (g_recv X hw (ci := 0) rfl (gcell_1 hrc)) rfl hl.1 rfl (lv_room (Nat.le_of_ble_eq_true rfl)) dX1_saved_10 (fun a4 H locs h hw => ?_)
  refine ggX1_231 S X hw dX1_saved_13 h (fun v5 h => ?_)
  refine lv_aload_n S.1 S.2.1 dX1_saved_16 rfl (lv_at hl 0 rfl) ?_
  refine lv_aload_n S.1 S.2.1 dX1_saved_17 rfl (lv_at hl 0 rfl) ?_
  refine ggX1_51 S X hw dX1_saved_18 h (fun a6 h => ?_)
  refine ggX1_176 S X hw dX1_saved_21 h (fun a7 h => ?_)
  refine lv_iload_n S.1 S.2.1 dX1_saved_24 rfl (lv_at hl 2 rfl) ?_
  refine gald40 S X hw dX1_saved_25 h (fun v8 h => ?_)
  obtain ⟨hrc, h⟩ := oK1 h
  refine gcVrr (As := [.int v8]) (rest := [.int v5]) S X Z hw (b := x0) h (fun u h1 => met_B_X1_room_2 l E A LC LS x0 v8 w u h1) (cb_X1_179 S.2.2.2.2 rfl rfl ⟨Nat.le_trans (Nat.le_of_ble_eq_true rfl : 3 + 1 ≤ 1104) hF, Nat.le_trans (Nat.le_of_ble_eq_true rfl : 8 + (2 + 11) + 64 ≤ 33098) hL⟩) (g_recv X hw (ci := 0) rfl (gcell_1 hrc)) rfl hl.1 rfl (lv_room (Nat.le_of_ble_eq_true rfl)) dX1_saved_26 (fun a9 H locs h hw => ?_)
  refine ggX1_231 S X hw dX1_saved_29 h (fun v10 h => ?_)
  refine va_mmin (x := v5) (y := v10) (rest := []) S.1 S.2.1 (S.2.2.1.trans hl.1.symm) S.2.2.2.1 (S.2.2.2.2 _ q1360) (S.2.2.2.2 _ q509) (S.2.2.2.2 _ q147) (S.2.2.2.2 _ q510) (Nat.le_trans (Nat.le_of_ble_eq_true rfl) hF) (Nat.le_trans (Nat.le_of_ble_eq_true rfl : (([] : List Value).map fun v : Value => v.category).sum + 13 ≤ 21) (Nat.le_trans (Nat.le_of_ble_eq_true rfl) hL)) (gRm_le Z hw).1 (gRm_le Z hw).2 dX1_saved_32 ?_
  refine lv_topi (fun y11 ey => ?_)
  replace h := bdp_e ey h
  refine lv_istore_n (lv' := [(3, .int y11), (0, .ref x0), (1, .int x1), (2, .int x2)]) S.1 S.2.1 dX1_saved_35 rfl hl (by decide) rfl (fun ls hl => ?_)
  refine lv_aload_n S.1 S.2.1 dX1_saved_36 rfl (lv_at hl 1 rfl) ?_
  refine lv_aload_n S.1 S.2.1 dX1_saved_37 rfl (lv_at hl 1 rfl) ?_
  refine ggX1_51 S X hw dX1_saved_38 h (fun a12 h => ?_)
  refine lv_iload_n S.1 S.2.1 dX1_saved_41 rfl (lv_at hl 2 rfl) ?_
  obtain ⟨hrc, h⟩ := oK1 h
  refine gcVi (As := [.ref a12, .int x1]) (rest := []) S X Z hw (b := x0) h (fun u h1 => met_B_X1_due l E A LC LS x0 a12 x1 w u h1) (cb_X1_240 S.2.2.2.2 rfl rfl ⟨Nat.le_trans (Nat.le_of_ble_eq_true rfl : 1103 + 1 ≤ 1104) hF, Nat.le_trans (Nat.le_of_ble_eq_true rfl : 8 + (3 + 11) + 33076 ≤ 33098) hL⟩) (g_recv X hw (ci := 0) rfl (gcell_1 hrc)) rfl hl.1 rfl (lv_room (Nat.le_of_ble_eq_true rfl)) dX1_saved_42 (fun r14 w13 H locs h hw => ?_)
  refine lv_aload_n S.1 S.2.1 dX1_saved_45 rfl (lv_at hl 1 rfl) ?_
  refine lv_aload_n S.1 S.2.1 dX1_saved_46 rfl (lv_at hl 1 rfl) ?_
  refine ggX1_51 S X hw dX1_saved_47 h (fun a15 h => ?_)
  refine lv_iload_n S.1 S.2.1 dX1_saved_50 rfl (lv_at hl 3 rfl) ?_
  obtain ⟨hrc, h⟩ := oK1 h
  refine gcVi (As := [.ref a15, .int x2]) (rest := [.int r14]) S X Z hw (b := x0) h (fun u h1 => met_B_X1_due l E A LC LS x0 a15 x2 w13 u h1) (cb_X1_240 S.2.2.2.2 rfl rfl ⟨Nat.le_trans (Nat.le_of_ble_eq_true rfl : 1103 + 1 ≤ 1104) hF, Nat.le_trans (Nat.le_of_ble_eq_true rfl : 8 + (3 + 11) + 33076 ≤ 33098) hL⟩) (g_recv X hw (ci := 0) rfl (gcell_1 hrc)) rfl hl.1 rfl (lv_room (Nat.le_of_ble_eq_true rfl)) dX1_saved_51 (fun r17 w16 H locs h hw => ?_)
  refine lv_iadd S.1 S.2.1 dX1_saved_54 ?_
  refine lv_aload_n S.1 S.2.1 dX1_saved_55 rfl (lv_at hl 1 rfl) ?_
  refine lv_aload_n S.1 S.2.1 dX1_saved_56 rfl (lv_at hl 1 rfl) ?_
  refine ggX1_51 S X hw dX1_saved_57 h (fun a18 h => ?_)
  refine ggX1_199 S X hw dX1_saved_60 h (fun a19 h => ?_)
  refine lv_iload_n S.1 S.2.1 dX1_saved_63 rfl (lv_at hl 2 rfl) ?_
  refine gald40 S X hw dX1_saved_64 h (fun v20 h => ?_)
  refine lv_aload_n S.1 S.2.1 dX1_saved_65 rfl (lv_at hl 1 rfl) ?_
  refine ggX1_51 S X hw dX1_saved_66 h (fun a21 h => ?_)
  refine ggX1_199 S X hw dX1_saved_69 h (fun a22 h => ?_)
  refine lv_iload_n S.1 S.2.1 dX1_saved_72 rfl (lv_at hl 3 rfl) ?_
  refine gald40 S X hw dX1_saved_73 h (fun v23 h => ?_)
  refine lv_iadd S.1 S.2.1 dX1_saved_74 ?_
  refine lv_iload_n S.1 S.2.1 dX1_saved_75 rfl (lv_at hl 0 rfl) ?_
  refine lv_aload_n S.1 S.2.1 dX1_saved_76 rfl (lv_at hl 1 rfl) ?_
  refine lv_iload_n S.1 S.2.1 dX1_saved_77 rfl (lv_at hl 2 rfl) ?_
  obtain ⟨hrc, h⟩ := oK1 h
  refine gcVrr (As := [.int x1]) (rest := [.int y11, .int (v20 + v23), .ref x0, .int (r14 + r17)]) S X Z hw (b := x0) h (fun u h1 => met_B_X1_tenant_2 l E A LC LS x0 x1 w16 u h1) (cb_X1_166 S.2.2.2.2 rfl rfl ⟨Nat.le_trans (Nat.le_of_ble_eq_true rfl : 3 + 1 ≤ 1104) hF, Nat.le_trans (Nat.le_of_ble_eq_true rfl : 8 + (2 + 11) + 64 ≤ 33098) hL⟩) (g_recv X hw (ci := 0) rfl (gcell_1 hrc)) rfl hl.1 rfl (lv_room (Nat.le_of_ble_eq_true rfl)) dX1_saved_78 (fun a24 H locs h hw => ?_)
  refine dv_X1_234  (rest := [.int y11, .int (v20 + v23), .ref x0, .int (r14 + r17)]) S X Z hw h (fun u h1 => dm_kind l E A LC LS a24 w16 u h1) ⟨Nat.le_trans (Nat.le_of_ble_eq_true rfl : 0 + 1 ≤ 1104) hF, Nat.le_trans (Nat.le_of_ble_eq_true rfl : 8 + (1 + 11) + 0 ≤ 33098) hL⟩ hl.1 rfl (lv_room (Nat.le_of_ble_eq_true rfl)) dX1_saved_81 (fun r25 H locs h hw => ?_)
  obtain ⟨hrc, h⟩ := oK1 h
  refine gcVi (As := [.int (v20 + v23), .int y11, .int r25]) (rest := [.int (r14 + r17)]) S X Z hw (b := x0) h (fun u h1 => met_B_X1_dueBy l E A LC LS x0 (v20 + v23) y11 r25 w16 u h1) (cb_X1_237 S.2.2.2.2 rfl rfl ⟨Nat.le_trans (Nat.le_of_ble_eq_true rfl : 1102 + 1 ≤ 1104) hF, Nat.le_trans (Nat.le_of_ble_eq_true rfl : 8 + (4 + 11) + 33053 ≤ 33098) hL⟩) (g_recv X hw (ci := 0) rfl (gcell_1 hrc)) rfl hl.1 rfl (lv_room (Nat.le_of_ble_eq_true rfl)) dX1_saved_84 (fun r27 w26 H locs h hw => ?_)
  refine lv_isub S.1 S.2.1 dX1_saved_87 ?_
  exact g_iret S Z hr hlocks hw (so2 h) dX1_saved_88
theorem cb_X1_338 {R : Room} {s : State} {args : Array Value} {rm : Room} {mc ms : Nat} (hts : ∀ w ∈ lw_all, w.before args s = true) (hc : rm.cells = mc) (hs : rm.slots = ms) (hR : rm.frames + 1 ≤ R.frames ∧ 8 + (13 + 11) + rm.locals ≤ R.locals) : CallW R s args RX1 RX1 338 yX1_goes cX1_goes 13 (Option.none : Option Jvm.ClassFile.FieldType) (ws_ yX1_goes cX1_goes 13 (Option.none : Option Jvm.ClassFile.FieldType)) rm mc ms 6 := cwV 6 hts (lw_V q1543 q1545 qs47 q135 q1546) rfl hc hs (by decide +kernel) hR
def B_X1_goes_p147 (gf : Nat → Nat → Int32 → Int32 → Int32 → Int32 → Int32 → GS → Option GS) (k52 : Nat → Nat → Int32 → Int32 → Int32 → Int32 → Int32 → Int32 → GS → Option GS) : Nat → Nat → Nat → Int32 → Int32 → Int32 → Int32 → Int32 → Int32 → Nat → Int32 → Int32 → Int32 → Int32 → GS → Option GS
  | 0, _, _, _, _, _, _, _, _, _, _, _, _, _, _ => none
  | n + 1, x0, x1, x2, x3, x4, x5, x6, x7, x8, x9, x10, x11, x12, w =>
    bd1 (oI w x8 12 12 2) fun v17 =>
    if v17 ≤ x12 then
      bd1 (oRn w x0 1 1 10) fun a19 =>
      bd1 (xI w a19 40 x2 x7) fun w20 =>
      bd1 (oI w20 x8 12 12 2) fun v21 =>
      bd1 (oI w20 x8 12 12 3) fun v22 =>
      bd1 (oK w20 x0 1 1) fun _ =>
      bd1 (gf x0 x1 (x2 + (1 : Int32)) (x3 ||| ((1 : Int32) <<< (x7 &&& 31))) (x9 + v21) (if x10 < v22 then v22 else x10) x11 w20) fun w23 =>
      k52 x0 x1 x2 x3 x4 x5 x6 (x7 + (1 : Int32)) w23
    else
      bd1 (V_rest x1 w) fun r24 =>
      bd1 (oI w x8 12 12 3) fun v25 =>
      bdp (x11 + ((r24 + x10) + v25)) fun y26 =>
      bd1 (V_settles x1 x10 w) fun r27 =>
      (B_X1_goes_p147 gf k52 n) x0 x1 x2 x3 x4 x5 x6 x7 x8 x9 r27 y26 (x12 + (1 : Int32)) w
def B_X1_goes_p108 (gf : Nat → Nat → Int32 → Int32 → Int32 → Int32 → Int32 → GS → Option GS) (k52 : Nat → Nat → Int32 → Int32 → Int32 → Int32 → Int32 → Int32 → GS → Option GS) : Nat → Nat → Nat → Int32 → Int32 → Int32 → Int32 → Int32 → Int32 → Nat → Int32 → Int32 → Int32 → GS → Option GS
  | 0, _, _, _, _, _, _, _, _, _, _, _, _, _ => none
  | n + 1, x0, x1, x2, x3, x4, x5, x6, x7, x8, x9, x10, x11, w =>
    bd1 (oI w x8 12 12 1) fun v15 =>
    if v15 ≤ x9 then
      B_X1_goes_p147 gf k52 FU x0 x1 x2 x3 x4 x5 x6 x7 x8 x9 x10 x11 (0 : Int32) w
    else
      bd1 (V_rest x1 w) fun r28 =>
      bdp (x11 + (r28 + x10)) fun y29 =>
      bd1 (V_settles x1 x10 w) fun r30 =>
      (B_X1_goes_p108 gf k52 n) x0 x1 x2 x3 x4 x5 x6 x7 x8 (x9 + (1 : Int32)) r30 y29 w
def B_X1_goes_p52 (gf : Nat → Nat → Int32 → Int32 → Int32 → Int32 → Int32 → GS → Option GS) : Nat → Nat → Nat → Int32 → Int32 → Int32 → Int32 → Int32 → Int32 → GS → Option GS
  | 0, _, _, _, _, _, _, _, _, _ => none
  | n + 1, x0, x1, x2, x3, x4, x5, x6, x7, w =>
    bd1 (oRn w x0 1 1 2) fun a7 =>
    bd1 (oRn w a7 3 3 2) fun a8 =>
    bd1 (oK w a8 23 23) fun _ =>
    bd1 (B_J2_size a8 w) fun r9 =>
    if r9 ≤ x7 then
      some w
    else
      if (B_X1_isIn x3 x7) = 0 then
        bd1 (oRn w x0 1 1 2) fun a12 =>
        bd1 (oRn w a12 3 3 2) fun a13 =>
        bd1 (oK w a13 23 23) fun _ =>
        bd1 (B_J2_get a13 x7 w) fun a14 =>
        bd1 (oK w a14 12 12) fun _ =>
        B_X1_goes_p108 gf (B_X1_goes_p52 gf n) FU x0 x1 x2 x3 x4 x5 x6 x7 a14 x4 x5 x6 w
      else
        (B_X1_goes_p52 gf n) x0 x1 x2 x3 x4 x5 x6 (x7 + (1 : Int32)) w
def B_X1_goes_p17 (gf : Nat → Nat → Int32 → Int32 → Int32 → Int32 → Int32 → GS → Option GS) (x0 : Nat) (x1 : Nat) (x2 : Int32) (x3 : Int32) (x4 : Int32) (x5 : Int32) (x6 : Int32) (w : GS) : Option GS :=
  bd1 (oRn w x0 1 1 2) fun a3 =>
  bd1 (oRn w a3 3 3 2) fun a4 =>
  bd1 (oK w a4 23 23) fun _ =>
  bd1 (B_J2_size a4 w) fun r5 =>
  if x2 = r5 then
    bd1 (pI w x0 1 1 12 x6) fun w31 =>
    bd1 (oRn w31 x0 1 1 10) fun a32 =>
    bd1 (oRn w31 x0 1 1 11) fun a33 =>
    bd1 (B_X1_copies a32 a33 w31) fun w34 =>
    some w34
  else
    B_X1_goes_p52 gf FU x0 x1 x2 x3 x4 x5 x6 (0 : Int32) w
def B_X1_goesb (gf : Nat → Nat → Int32 → Int32 → Int32 → Int32 → Int32 → GS → Option GS) (x0 : Nat) (x1 : Nat) (x2 : Int32) (x3 : Int32) (x4 : Int32) (x5 : Int32) (x6 : Int32) (w : GS) : Option GS :=
  bd1 (oI w x0 1 1 12) fun v1 =>
  if v1 < 0 then
    B_X1_goes_p17 gf x0 x1 x2 x3 x4 x5 x6 w
  else
    bd1 (oI w x0 1 1 12) fun v35 =>
    if x6 < v35 then
      B_X1_goes_p17 gf x0 x1 x2 x3 x4 x5 x6 w
    else
      some w
def B_X1_goes : Nat → Nat → Nat → Int32 → Int32 → Int32 → Int32 → Int32 → GS → Option GS
  | 0 => fun _ _ _ _ _ _ _ _ => none
  | d + 1 => B_X1_goesb (B_X1_goes d)
set_option maxRecDepth 100000 in
set_option maxHeartbeats 4000000 in
theorem wk_B_X1_goes_p147 {p : Program} {l : Launch} {e : Env} {R : Room} {s : State} {m : MethodId} {args : Array Value} {below : List Frame} {meth : Method} {c : Code} {E : gE} {A : Nat → Prop} {LC LS : Nat} {d : Nat} (S : CallFix p m c cX1_goes 13 s args lw_all RX1) (X : gCtx E A s) (Z : gRm R s LC LS) (hF : (d + 1) + 6 ≤ R.frames) (hL : 60 * (d + 1) + 200 ≤ R.locals) (hr : meth.sig.returnType = (Option.none : Option Jvm.ClassFile.FieldType)) (hlocks : meth.locks = false) {res : GS} {gf : Nat → Nat → Int32 → Int32 → Int32 → Int32 → Int32 → GS → Option GS} (hgf : ∀ (x0 : Nat) (x1 : Nat) (x2 : Int32) (x3 : Int32) (x4 : Int32) (x5 : Int32) (x6 : Int32) (w : GS) (res : GS), gf x0 x1 x2 x3 x4 x5 x6 w = some res → Met l yX1_goes (ws_ yX1_goes cX1_goes 13 (Option.none : Option Jvm.ClassFile.FieldType)) (gRoom (d + 6) (60 * d + 200) LC LS w) (gPc E A LC LS [.ref x0, .ref x1, .int x2, .int x3, .int x4, .int x5, .int x6] w) (gQv E A LC LS res) (LC - gZ w) (LS - gN w) A) {k52 : Nat → Nat → Int32 → Int32 → Int32 → Int32 → Int32 → Int32 → GS → Option GS} (hk52 : ∀ (x0 : Nat) (x1 : Nat) (x2 : Int32) (x3 : Int32) (x4 : Int32) (x5 : Int32) (x6 : Int32) (x7 : Int32) (w : GS) (H : Heap) (locs : List Loc) (ls : Array Slot), k52 x0 x1 x2 x3 x4 x5 x6 x7 w = some res → gH E A LC LS s w H locs → lv_has ls 13 [(0, .ref x0), (1, .ref x1), (2, .int x2), (3, .int x3), (4, .int x4), (5, .int x5), (6, .int x6), (7, .int x7)] → W p l e R s m args below meth c H locs (H.size - s.heap.size) (tot H - tot s.heap) (MQ below (gQv E A LC LS res) args s R.cells R.slots A) (F0 m 52 ls [])) : ∀ n : Nat, ∀ (x0 : Nat) (x1 : Nat) (x2 : Int32) (x3 : Int32) (x4 : Int32) (x5 : Int32) (x6 : Int32) (x7 : Int32) (x8 : Nat) (x9 : Int32) (x10 : Int32) (x11 : Int32) (x12 : Int32) (w : GS) (H : Heap) (locs : List Loc) (ls : Array Slot), B_X1_goes_p147 gf k52 n x0 x1 x2 x3 x4 x5 x6 x7 x8 x9 x10 x11 x12 w = some res → gH E A LC LS s w H locs → lv_has ls 13 [(0, .ref x0), (1, .ref x1), (2, .int x2), (3, .int x3), (4, .int x4), (5, .int x5), (6, .int x6), (7, .int x7), (8, .ref x8), (9, .int x9), (10, .int x10), (11, .int x11), (12, .int x12)] → W p l e R s m args below meth c H locs (H.size - s.heap.size) (tot H - tot s.heap) (MQ below (gQv E A LC LS res) args s R.cells R.slots A) (F0 m 147 ls []) := by
  intro n
  induction n with
  | zero => intro x0 x1 x2 x3 x4 x5 x6 x7 x8 x9 x10 x11 x12 w H locs ls h; cases (show (none : Option GS) = some res from h)
  | succ n ih =>
    intro x0 x1 x2 x3 x4 x5 x6 x7 x8 x9 x10 x11 x12 w H locs ls h hw hl
    rw [B_X1_goes_p147] at h
    refine lv_iload S.1 S.2.1 dX1_goes_147 (lv_at hl 12 rfl) ?_
    refine lv_aload S.1 S.2.1 dX1_goes_149 (lv_at hl 8 rfl) ?_
    refine ggX1_332 S X hw dX1_goes_151 h (fun v17 h => ?_)
    refine lv_icmp_ge (tgt := 189) S.1 S.2.1 dX1_goes_154 rfl (fun c18 => ?_) (fun c18 => ?_)
    · replace h := if_t c18 h
      refine lv_aload_n S.1 S.2.1 dX1_goes_189 rfl (lv_at hl 0 rfl) ?_
      refine ggX1_66 S X hw dX1_goes_190 h (fun a19 h => ?_)
      refine lv_iload_n S.1 S.2.1 dX1_goes_193 rfl (lv_at hl 2 rfl) ?_
      refine lv_iload S.1 S.2.1 dX1_goes_194 (lv_at hl 7 rfl) ?_
      refine gast40 S X hw dX1_goes_196 h (fun w20 H locs h hw => ?_)
      refine lv_aload_n S.1 S.2.1 dX1_goes_197 rfl (lv_at hl 0 rfl) ?_
      refine lv_aload_n S.1 S.2.1 dX1_goes_198 rfl (lv_at hl 1 rfl) ?_
      refine lv_iload_n S.1 S.2.1 dX1_goes_199 rfl (lv_at hl 2 rfl) ?_
      refine lv_iconst (v := 1) S.1 S.2.1 dX1_goes_200 rfl ?_
      refine lv_iadd S.1 S.2.1 dX1_goes_201 ?_
      refine lv_iload_n S.1 S.2.1 dX1_goes_202 rfl (lv_at hl 3 rfl) ?_
      refine lv_iconst (v := 1) S.1 S.2.1 dX1_goes_203 rfl ?_
      refine lv_iload S.1 S.2.1 dX1_goes_204 (lv_at hl 7 rfl) ?_
      refine lv_ishl S.1 S.2.1 dX1_goes_206 ?_
      refine lv_ior S.1 S.2.1 dX1_goes_207 ?_
      refine lv_iload S.1 S.2.1 dX1_goes_208 (lv_at hl 9 rfl) ?_
      refine lv_aload S.1 S.2.1 dX1_goes_210 (lv_at hl 8 rfl) ?_
      refine ggX1_332 S X hw dX1_goes_212 h (fun v21 h => ?_)
      refine lv_iadd S.1 S.2.1 dX1_goes_215 ?_
      refine lv_iload S.1 S.2.1 dX1_goes_216 (lv_at hl 10 rfl) ?_
      refine lv_aload S.1 S.2.1 dX1_goes_218 (lv_at hl 8 rfl) ?_
      refine ggX1_335 S X hw dX1_goes_220 h (fun v22 h => ?_)
      refine va_mmax (x := x10) (y := v22) (rest := [.int (x9 + v21), .int (x3 ||| ((1 : Int32) <<< (x7 &&& 31))), .int (x2 + (1 : Int32)), .ref x1, .ref x0]) S.1 S.2.1 (S.2.2.1.trans hl.1.symm) S.2.2.2.1 (S.2.2.2.2 _ q1398) (S.2.2.2.2 _ q506) (S.2.2.2.2 _ q147) (S.2.2.2.2 _ q507) (Nat.le_trans (Nat.le_of_ble_eq_true rfl) hF) (Nat.le_trans (Nat.le_of_ble_eq_true rfl : (([.int (x9 + v21), .int (x3 ||| ((1 : Int32) <<< (x7 &&& 31))), .int (x2 + (1 : Int32)), .ref x1, .ref x0] : List Value).map fun v : Value => v.category).sum + 13 ≤ 21) (Nat.le_trans (Nat.le_of_ble_eq_true rfl) hL)) (gRm_le Z hw).1 (gRm_le Z hw).2 dX1_goes_223 ?_
      refine lv_iload S.1 S.2.1 dX1_goes_226 (lv_at hl 11 rfl) ?_
      obtain ⟨hrc, h⟩ := oK1 h
      refine gcVv (As := [.ref x1, .int (x2 + (1 : Int32)), .int (x3 ||| ((1 : Int32) <<< (x7 &&& 31))), .int (x9 + v21), .int (if x10 < v22 then v22 else x10), .int x11]) (rest := []) S X Z hw (b := x0) h (fun u h1 => hgf x0 x1 (x2 + (1 : Int32)) (x3 ||| ((1 : Int32) <<< (x7 &&& 31))) (x9 + v21) (if x10 < v22 then v22 else x10) x11 w20 u h1) (cb_X1_338 S.2.2.2.2 rfl rfl ⟨Nat.le_trans (show d + 6 + 1 ≤ (d + 1) + 6 by omega) hF, Nat.le_trans (show 8 + (13 + 11) + (60 * d + 200) ≤ 60 * (d + 1) + 200 by omega) hL⟩) (g_recv X hw (ci := 0) rfl (gcell_1 hrc)) rfl hl.1 rfl (lv_room (Nat.le_of_ble_eq_true rfl)) dX1_goes_228 (fun w23 H locs h hw => ?_)
      refine lv_iinc (v := x7 + (1 : Int32)) (lv' := [(7, .int (x7 + (1 : Int32))), (0, .ref x0), (1, .ref x1), (2, .int x2), (3, .int x3), (4, .int x4), (5, .int x5), (6, .int x6), (8, .ref x8), (9, .int x9), (10, .int x10), (11, .int x11), (12, .int x12)]) S.1 S.2.1 dX1_goes_231 hl (k := 7) rfl rfl (by decide) rfl (fun ls hl => ?_)
      refine lv_goto (tgt := 52) S.1 S.2.1 dX1_goes_234 rfl ?_
      exact hk52 _ _ _ _ _ _ _ _ _ _ _ _ h hw (lv_sub hl [1, 2, 3, 4, 5, 6, 7, 0] rfl)
    · replace h := if_f c18 h
      refine lv_iload S.1 S.2.1 dX1_goes_157 (lv_at hl 11 rfl) ?_
      refine lv_aload_n S.1 S.2.1 dX1_goes_159 rfl (lv_at hl 1 rfl) ?_
      refine dv_X1_170  (rest := [.int x11]) S X Z hw h (fun u h1 => dm_rest l E A LC LS x1 w u h1) ⟨Nat.le_trans (show 0 + 1 ≤ (d + 1) + 6 by omega) hF, Nat.le_trans (show 8 + (1 + 11) + (0) ≤ 60 * (d + 1) + 200 by omega) hL⟩ hl.1 rfl (lv_room (Nat.le_of_ble_eq_true rfl)) dX1_goes_160 (fun r24 H locs h hw => ?_)
      refine lv_iload S.1 S.2.1 dX1_goes_163 (lv_at hl 10 rfl) ?_
      refine lv_iadd S.1 S.2.1 dX1_goes_165 ?_
      refine lv_aload S.1 S.2.1 dX1_goes_166 (lv_at hl 8 rfl) ?_
      refine ggX1_335 S X hw dX1_goes_168 h (fun v25 h => ?_)
      refine lv_iadd S.1 S.2.1 dX1_goes_171 ?_
      refine lv_iadd S.1 S.2.1 dX1_goes_172 ?_
      refine lv_topi (fun y26 ey => ?_)
      replace h := bdp_e ey h
      refine lv_istore (lv' := [(11, .int y26), (0, .ref x0), (1, .ref x1), (2, .int x2), (3, .int x3), (4, .int x4), (5, .int x5), (6, .int x6), (7, .int x7), (8, .ref x8), (9, .int x9), (10, .int x10), (12, .int x12)]) S.1 S.2.1 dX1_goes_173 hl (by decide) rfl (fun ls hl => ?_)
      refine lv_aload_n S.1 S.2.1 dX1_goes_175 rfl (lv_at hl 2 rfl) ?_
      refine lv_iload S.1 S.2.1 dX1_goes_176 (lv_at hl 11 rfl) ?_
      refine dv_X1_206  (rest := []) S X Z hw h (fun u h1 => dm_settles l E A LC LS x1 x10 w u h1) ⟨Nat.le_trans (show 0 + 1 ≤ (d + 1) + 6 by omega) hF, Nat.le_trans (show 8 + (2 + 11) + (0) ≤ 60 * (d + 1) + 200 by omega) hL⟩ hl.1 rfl (lv_room (Nat.le_of_ble_eq_true rfl)) dX1_goes_178 (fun r27 H locs h hw => ?_)
      refine lv_istore (lv' := [(10, .int r27), (11, .int y26), (0, .ref x0), (1, .ref x1), (2, .int x2), (3, .int x3), (4, .int x4), (5, .int x5), (6, .int x6), (7, .int x7), (8, .ref x8), (9, .int x9), (12, .int x12)]) S.1 S.2.1 dX1_goes_181 hl (by decide) rfl (fun ls hl => ?_)
      refine lv_iinc (v := x12 + (1 : Int32)) (lv' := [(12, .int (x12 + (1 : Int32))), (10, .int r27), (11, .int y26), (0, .ref x0), (1, .ref x1), (2, .int x2), (3, .int x3), (4, .int x4), (5, .int x5), (6, .int x6), (7, .int x7), (8, .ref x8), (9, .int x9)]) S.1 S.2.1 dX1_goes_183 hl (k := 12) rfl rfl (by decide) rfl (fun ls hl => ?_)
      refine lv_goto (tgt := 147) S.1 S.2.1 dX1_goes_186 rfl ?_
      exact ih _ _ _ _ _ _ _ _ _ _ _ _ _ _ _ _ _ h hw (lv_sub hl [3, 4, 5, 6, 7, 8, 9, 10, 11, 12, 1, 2, 0] rfl)
set_option maxRecDepth 100000 in
set_option maxHeartbeats 4000000 in
theorem wk_B_X1_goes_p108 {p : Program} {l : Launch} {e : Env} {R : Room} {s : State} {m : MethodId} {args : Array Value} {below : List Frame} {meth : Method} {c : Code} {E : gE} {A : Nat → Prop} {LC LS : Nat} {d : Nat} (S : CallFix p m c cX1_goes 13 s args lw_all RX1) (X : gCtx E A s) (Z : gRm R s LC LS) (hF : (d + 1) + 6 ≤ R.frames) (hL : 60 * (d + 1) + 200 ≤ R.locals) (hr : meth.sig.returnType = (Option.none : Option Jvm.ClassFile.FieldType)) (hlocks : meth.locks = false) {res : GS} {gf : Nat → Nat → Int32 → Int32 → Int32 → Int32 → Int32 → GS → Option GS} (hgf : ∀ (x0 : Nat) (x1 : Nat) (x2 : Int32) (x3 : Int32) (x4 : Int32) (x5 : Int32) (x6 : Int32) (w : GS) (res : GS), gf x0 x1 x2 x3 x4 x5 x6 w = some res → Met l yX1_goes (ws_ yX1_goes cX1_goes 13 (Option.none : Option Jvm.ClassFile.FieldType)) (gRoom (d + 6) (60 * d + 200) LC LS w) (gPc E A LC LS [.ref x0, .ref x1, .int x2, .int x3, .int x4, .int x5, .int x6] w) (gQv E A LC LS res) (LC - gZ w) (LS - gN w) A) {k52 : Nat → Nat → Int32 → Int32 → Int32 → Int32 → Int32 → Int32 → GS → Option GS} (hk52 : ∀ (x0 : Nat) (x1 : Nat) (x2 : Int32) (x3 : Int32) (x4 : Int32) (x5 : Int32) (x6 : Int32) (x7 : Int32) (w : GS) (H : Heap) (locs : List Loc) (ls : Array Slot), k52 x0 x1 x2 x3 x4 x5 x6 x7 w = some res → gH E A LC LS s w H locs → lv_has ls 13 [(0, .ref x0), (1, .ref x1), (2, .int x2), (3, .int x3), (4, .int x4), (5, .int x5), (6, .int x6), (7, .int x7)] → W p l e R s m args below meth c H locs (H.size - s.heap.size) (tot H - tot s.heap) (MQ below (gQv E A LC LS res) args s R.cells R.slots A) (F0 m 52 ls [])) : ∀ n : Nat, ∀ (x0 : Nat) (x1 : Nat) (x2 : Int32) (x3 : Int32) (x4 : Int32) (x5 : Int32) (x6 : Int32) (x7 : Int32) (x8 : Nat) (x9 : Int32) (x10 : Int32) (x11 : Int32) (w : GS) (H : Heap) (locs : List Loc) (ls : Array Slot), B_X1_goes_p108 gf k52 n x0 x1 x2 x3 x4 x5 x6 x7 x8 x9 x10 x11 w = some res → gH E A LC LS s w H locs → lv_has ls 13 [(0, .ref x0), (1, .ref x1), (2, .int x2), (3, .int x3), (4, .int x4), (5, .int x5), (6, .int x6), (7, .int x7), (8, .ref x8), (9, .int x9), (10, .int x10), (11, .int x11)] → W p l e R s m args below meth c H locs (H.size - s.heap.size) (tot H - tot s.heap) (MQ below (gQv E A LC LS res) args s R.cells R.slots A) (F0 m 108 ls []) := by
  intro n
  induction n with
  | zero => intro x0 x1 x2 x3 x4 x5 x6 x7 x8 x9 x10 x11 w H locs ls h; cases (show (none : Option GS) = some res from h)
  | succ n ih =>
    intro x0 x1 x2 x3 x4 x5 x6 x7 x8 x9 x10 x11 w H locs ls h hw hl
    rw [B_X1_goes_p108] at h
    refine lv_iload S.1 S.2.1 dX1_goes_108 (lv_at hl 9 rfl) ?_
    refine lv_aload S.1 S.2.1 dX1_goes_110 (lv_at hl 8 rfl) ?_
    refine ggX1_329 S X hw dX1_goes_112 h (fun v15 h => ?_)
    refine lv_icmp_ge (tgt := 144) S.1 S.2.1 dX1_goes_115 rfl (fun c16 => ?_) (fun c16 => ?_)
    · replace h := if_t c16 h
      refine lv_iconst (v := 0) S.1 S.2.1 dX1_goes_144 rfl ?_
      refine lv_istore (lv' := [(12, .int (0 : Int32)), (0, .ref x0), (1, .ref x1), (2, .int x2), (3, .int x3), (4, .int x4), (5, .int x5), (6, .int x6), (7, .int x7), (8, .ref x8), (9, .int x9), (10, .int x10), (11, .int x11)]) S.1 S.2.1 dX1_goes_145 hl (by decide) rfl (fun ls hl => ?_)
      exact wk_B_X1_goes_p147 S X Z hF hL hr hlocks hgf hk52 FU _ _ _ _ _ _ _ _ _ _ _ _ _ _ _ _ _ h hw (lv_sub hl [1, 2, 3, 4, 5, 6, 7, 8, 9, 10, 11, 12, 0] rfl)
    · replace h := if_f c16 h
      refine lv_iload S.1 S.2.1 dX1_goes_118 (lv_at hl 11 rfl) ?_
      refine lv_aload_n S.1 S.2.1 dX1_goes_120 rfl (lv_at hl 1 rfl) ?_
      refine dv_X1_170  (rest := [.int x11]) S X Z hw h (fun u h1 => dm_rest l E A LC LS x1 w u h1) ⟨Nat.le_trans (show 0 + 1 ≤ (d + 1) + 6 by omega) hF, Nat.le_trans (show 8 + (1 + 11) + (0) ≤ 60 * (d + 1) + 200 by omega) hL⟩ hl.1 rfl (lv_room (Nat.le_of_ble_eq_true rfl)) dX1_goes_121 (fun r28 H locs h hw => ?_)
      refine lv_iload S.1 S.2.1 dX1_goes_124 (lv_at hl 10 rfl) ?_
      refine lv_iadd S.1 S.2.1 dX1_goes_126 ?_
      refine lv_iadd S.1 S.2.1 dX1_goes_127 ?_
      refine lv_topi (fun y29 ey => ?_)
      replace h := bdp_e ey h
      refine lv_istore (lv' := [(11, .int y29), (0, .ref x0), (1, .ref x1), (2, .int x2), (3, .int x3), (4, .int x4), (5, .int x5), (6, .int x6), (7, .int x7), (8, .ref x8), (9, .int x9), (10, .int x10)]) S.1 S.2.1 dX1_goes_128 hl (by decide) rfl (fun ls hl => ?_)
      refine lv_aload_n S.1 S.2.1 dX1_goes_130 rfl (lv_at hl 2 rfl) ?_
      refine lv_iload S.1 S.2.1 dX1_goes_131 (lv_at hl 11 rfl) ?_
      refine dv_X1_206  (rest := []) S X Z hw h (fun u h1 => dm_settles l E A LC LS x1 x10 w u h1) ⟨Nat.le_trans (show 0 + 1 ≤ (d + 1) + 6 by omega) hF, Nat.le_trans (show 8 + (2 + 11) + (0) ≤ 60 * (d + 1) + 200 by omega) hL⟩ hl.1 rfl (lv_room (Nat.le_of_ble_eq_true rfl)) dX1_goes_133 (fun r30 H locs h hw => ?_)
      refine lv_istore (lv' := [(10, .int r30), (11, .int y29), (0, .ref x0), (1, .ref x1), (2, .int x2), (3, .int x3), (4, .int x4), (5, .int x5), (6, .int x6), (7, .int x7), (8, .ref x8), (9, .int x9)]) S.1 S.2.1 dX1_goes_136 hl (by decide) rfl (fun ls hl => ?_)
      refine lv_iinc (v := x9 + (1 : Int32)) (lv' := [(9, .int (x9 + (1 : Int32))), (10, .int r30), (11, .int y29), (0, .ref x0), (1, .ref x1), (2, .int x2), (3, .int x3), (4, .int x4), (5, .int x5), (6, .int x6), (7, .int x7), (8, .ref x8)]) S.1 S.2.1 dX1_goes_138 hl (k := 11) rfl rfl (by decide) rfl (fun ls hl => ?_)
      refine lv_goto (tgt := 108) S.1 S.2.1 dX1_goes_141 rfl ?_
      exact ih _ _ _ _ _ _ _ _ _ _ _ _ _ _ _ _ h hw (lv_sub hl [3, 4, 5, 6, 7, 8, 9, 10, 11, 0, 1, 2] rfl)
set_option maxRecDepth 100000 in
set_option maxHeartbeats 4000000 in
theorem wk_B_X1_goes_p52 {p : Program} {l : Launch} {e : Env} {R : Room} {s : State} {m : MethodId} {args : Array Value} {below : List Frame} {meth : Method} {c : Code} {E : gE} {A : Nat → Prop} {LC LS : Nat} {d : Nat} (S : CallFix p m c cX1_goes 13 s args lw_all RX1) (X : gCtx E A s) (Z : gRm R s LC LS) (hF : (d + 1) + 6 ≤ R.frames) (hL : 60 * (d + 1) + 200 ≤ R.locals) (hr : meth.sig.returnType = (Option.none : Option Jvm.ClassFile.FieldType)) (hlocks : meth.locks = false) {res : GS} {gf : Nat → Nat → Int32 → Int32 → Int32 → Int32 → Int32 → GS → Option GS} (hgf : ∀ (x0 : Nat) (x1 : Nat) (x2 : Int32) (x3 : Int32) (x4 : Int32) (x5 : Int32) (x6 : Int32) (w : GS) (res : GS), gf x0 x1 x2 x3 x4 x5 x6 w = some res → Met l yX1_goes (ws_ yX1_goes cX1_goes 13 (Option.none : Option Jvm.ClassFile.FieldType)) (gRoom (d + 6) (60 * d + 200) LC LS w) (gPc E A LC LS [.ref x0, .ref x1, .int x2, .int x3, .int x4, .int x5, .int x6] w) (gQv E A LC LS res) (LC - gZ w) (LS - gN w) A) : ∀ n : Nat, ∀ (x0 : Nat) (x1 : Nat) (x2 : Int32) (x3 : Int32) (x4 : Int32) (x5 : Int32) (x6 : Int32) (x7 : Int32) (w : GS) (H : Heap) (locs : List Loc) (ls : Array Slot), B_X1_goes_p52 gf n x0 x1 x2 x3 x4 x5 x6 x7 w = some res → gH E A LC LS s w H locs → lv_has ls 13 [(0, .ref x0), (1, .ref x1), (2, .int x2), (3, .int x3), (4, .int x4), (5, .int x5), (6, .int x6), (7, .int x7)] → W p l e R s m args below meth c H locs (H.size - s.heap.size) (tot H - tot s.heap) (MQ below (gQv E A LC LS res) args s R.cells R.slots A) (F0 m 52 ls []) := by
  intro n
  induction n with
  | zero => intro x0 x1 x2 x3 x4 x5 x6 x7 w H locs ls h; cases (show (none : Option GS) = some res from h)
  | succ n ih =>
    intro x0 x1 x2 x3 x4 x5 x6 x7 w H locs ls h hw hl
    rw [B_X1_goes_p52] at h
    refine lv_iload S.1 S.2.1 dX1_goes_52 (lv_at hl 7 rfl) ?_
    refine lv_aload_n S.1 S.2.1 dX1_goes_54 rfl (lv_at hl 0 rfl) ?_
    refine ggX1_35 S X hw dX1_goes_55 h (fun a7 h => ?_)
    refine ggX1_320 S X hw dX1_goes_58 h (fun a8 h => ?_)
    obtain ⟨hrc, h⟩ := oK1 h
    refine gcVri (As := []) (rest := [.int x7]) S X Z hw (b := a8) h (fun u h1 => met_B_J2_size l E A LC LS a8 w u h1) (cb_X1_136 S.2.2.2.2 rfl rfl ⟨Nat.le_trans (show 0 + 1 ≤ (d + 1) + 6 by omega) hF, Nat.le_trans (show 8 + (1 + 11) + (0) ≤ 60 * (d + 1) + 200 by omega) hL⟩) (g_recv X hw (ci := 22) rfl (gcell_23 hrc)) rfl hl.1 rfl (lv_room (Nat.le_of_ble_eq_true rfl)) dX1_goes_61 (fun r9 H locs h hw => ?_)
    refine lv_icmp_ge (tgt := 237) S.1 S.2.1 dX1_goes_64 rfl (fun c10 => ?_) (fun c10 => ?_)
    · replace h := if_t c10 h
      exact g_vret S Z hr hlocks hw (so1 h) dX1_goes_237
    · replace h := if_f c10 h
      refine lv_iload_n S.1 S.2.1 dX1_goes_67 rfl (lv_at hl 3 rfl) ?_
      refine lv_iload S.1 S.2.1 dX1_goes_68 (lv_at hl 7 rfl) ?_
      refine gcSti (As := [.int x3, .int x7]) (rest := []) S X Z hw (met_B_X1_isIn l E A LC LS x3 x7 w _ rfl) (cb_X1_252 S.2.2.2.2 rfl rfl ⟨Nat.le_trans (show 0 + 1 ≤ (d + 1) + 6 by omega) hF, Nat.le_trans (show 8 + (2 + 11) + (0) ≤ 60 * (d + 1) + 200 by omega) hL⟩) rfl hl.1 rfl (lv_room (Nat.le_of_ble_eq_true rfl)) dX1_goes_70 (fun H locs hw => ?_)
      refine lv_if_eq (tgt := 79) S.1 S.2.1 dX1_goes_73 rfl (fun c11 => ?_) (fun c11 => ?_)
      · replace h := if_t c11 h
        refine lv_aload_n S.1 S.2.1 dX1_goes_79 rfl (lv_at hl 0 rfl) ?_
        refine ggX1_35 S X hw dX1_goes_80 h (fun a12 h => ?_)
        refine ggX1_320 S X hw dX1_goes_83 h (fun a13 h => ?_)
        refine lv_iload S.1 S.2.1 dX1_goes_86 (lv_at hl 7 rfl) ?_
        obtain ⟨hrc, h⟩ := oK1 h
        refine gcVrr (As := [.int x7]) (rest := []) S X Z hw (b := a13) h (fun u h1 => met_B_J2_get l E A LC LS a13 x7 w u h1) (cb_X1_140 S.2.2.2.2 rfl rfl ⟨Nat.le_trans (show 2 + 1 ≤ (d + 1) + 6 by omega) hF, Nat.le_trans (show 8 + (2 + 11) + (43) ≤ 60 * (d + 1) + 200 by omega) hL⟩) (g_recv X hw (ci := 22) rfl (gcell_23 hrc)) rfl hl.1 rfl (lv_room (Nat.le_of_ble_eq_true rfl)) dX1_goes_88 (fun a14 H locs h hw => ?_)
        refine gckX1_327 S X hw dX1_goes_91 h (fun _ h => ?_)
        refine lv_astore (lv' := [(8, .ref a14), (0, .ref x0), (1, .ref x1), (2, .int x2), (3, .int x3), (4, .int x4), (5, .int x5), (6, .int x6), (7, .int x7)]) S.1 S.2.1 dX1_goes_94 hl (by decide) rfl (fun ls hl => ?_)
        refine lv_iload S.1 S.2.1 dX1_goes_96 (lv_at hl 5 rfl) ?_
        refine lv_istore (lv' := [(9, .int x4), (8, .ref a14), (0, .ref x0), (1, .ref x1), (2, .int x2), (3, .int x3), (4, .int x4), (5, .int x5), (6, .int x6), (7, .int x7)]) S.1 S.2.1 dX1_goes_98 hl (by decide) rfl (fun ls hl => ?_)
        refine lv_iload S.1 S.2.1 dX1_goes_100 (lv_at hl 7 rfl) ?_
        refine lv_istore (lv' := [(10, .int x5), (9, .int x4), (8, .ref a14), (0, .ref x0), (1, .ref x1), (2, .int x2), (3, .int x3), (4, .int x4), (5, .int x5), (6, .int x6), (7, .int x7)]) S.1 S.2.1 dX1_goes_102 hl (by decide) rfl (fun ls hl => ?_)
        refine lv_iload S.1 S.2.1 dX1_goes_104 (lv_at hl 9 rfl) ?_
        refine lv_istore (lv' := [(11, .int x6), (10, .int x5), (9, .int x4), (8, .ref a14), (0, .ref x0), (1, .ref x1), (2, .int x2), (3, .int x3), (4, .int x4), (5, .int x5), (6, .int x6), (7, .int x7)]) S.1 S.2.1 dX1_goes_106 hl (by decide) rfl (fun ls hl => ?_)
        exact wk_B_X1_goes_p108 S X Z hF hL hr hlocks hgf ih FU _ _ _ _ _ _ _ _ _ _ _ _ _ _ _ _ h hw (lv_sub hl [4, 5, 6, 7, 8, 9, 10, 11, 3, 2, 1, 0] rfl)
      · replace h := if_f c11 h
        refine lv_goto (tgt := 231) S.1 S.2.1 dX1_goes_76 rfl ?_
        refine lv_iinc (v := x7 + (1 : Int32)) (lv' := [(7, .int (x7 + (1 : Int32))), (0, .ref x0), (1, .ref x1), (2, .int x2), (3, .int x3), (4, .int x4), (5, .int x5), (6, .int x6)]) S.1 S.2.1 dX1_goes_231 hl (k := 7) rfl rfl (by decide) rfl (fun ls hl => ?_)
        refine lv_goto (tgt := 52) S.1 S.2.1 dX1_goes_234 rfl ?_
        exact ih _ _ _ _ _ _ _ _ _ _ _ _ h hw (lv_sub hl [1, 2, 3, 4, 5, 6, 7, 0] rfl)
set_option maxRecDepth 100000 in
set_option maxHeartbeats 4000000 in
theorem wk_B_X1_goes_p17 {p : Program} {l : Launch} {e : Env} {R : Room} {s : State} {m : MethodId} {args : Array Value} {below : List Frame} {meth : Method} {c : Code} {E : gE} {A : Nat → Prop} {LC LS : Nat} {d : Nat} (S : CallFix p m c cX1_goes 13 s args lw_all RX1) (X : gCtx E A s) (Z : gRm R s LC LS) (hF : (d + 1) + 6 ≤ R.frames) (hL : 60 * (d + 1) + 200 ≤ R.locals) (hr : meth.sig.returnType = (Option.none : Option Jvm.ClassFile.FieldType)) (hlocks : meth.locks = false) {res : GS} {gf : Nat → Nat → Int32 → Int32 → Int32 → Int32 → Int32 → GS → Option GS} (hgf : ∀ (x0 : Nat) (x1 : Nat) (x2 : Int32) (x3 : Int32) (x4 : Int32) (x5 : Int32) (x6 : Int32) (w : GS) (res : GS), gf x0 x1 x2 x3 x4 x5 x6 w = some res → Met l yX1_goes (ws_ yX1_goes cX1_goes 13 (Option.none : Option Jvm.ClassFile.FieldType)) (gRoom (d + 6) (60 * d + 200) LC LS w) (gPc E A LC LS [.ref x0, .ref x1, .int x2, .int x3, .int x4, .int x5, .int x6] w) (gQv E A LC LS res) (LC - gZ w) (LS - gN w) A) : ∀ (x0 : Nat) (x1 : Nat) (x2 : Int32) (x3 : Int32) (x4 : Int32) (x5 : Int32) (x6 : Int32) (w : GS) (H : Heap) (locs : List Loc) (ls : Array Slot), B_X1_goes_p17 gf x0 x1 x2 x3 x4 x5 x6 w = some res → gH E A LC LS s w H locs → lv_has ls 13 [(0, .ref x0), (1, .ref x1), (2, .int x2), (3, .int x3), (4, .int x4), (5, .int x5), (6, .int x6)] → W p l e R s m args below meth c H locs (H.size - s.heap.size) (tot H - tot s.heap) (MQ below (gQv E A LC LS res) args s R.cells R.slots A) (F0 m 17 ls []) := by
  intro x0 x1 x2 x3 x4 x5 x6 w H locs ls h hw hl
  unfold B_X1_goes_p17 at h
  refine lv_iload_n S.1 S.2.1 dX1_goes_17 rfl (lv_at hl 2 rfl) ?_
  refine lv_aload_n S.1 S.2.1 dX1_goes_18 rfl (lv_at hl 0 rfl) ?_
  refine ggX1_35 S X hw dX1_goes_19 h (fun a3 h => ?_)
  refine ggX1_320 S X hw dX1_goes_22 h (fun a4 h => ?_)
  obtain ⟨hrc, h⟩ := oK1 h
  refine gcVri (As := []) (rest := [.int x2]) S X Z hw (b := a4) h (fun u h1 => met_B_J2_size l E A LC LS a4 w u h1) (cb_X1_136 S.2.2.2.2 rfl rfl ⟨Nat.le_trans (show 0 + 1 ≤ (d + 1) + 6 by omega) hF, Nat.le_trans (show 8 + (1 + 11) + (0) ≤ 60 * (d + 1) + 200 by omega) hL⟩) (g_recv X hw (ci := 22) rfl (gcell_23 hrc)) rfl hl.1 rfl (lv_room (Nat.le_of_ble_eq_true rfl)) dX1_goes_25 (fun r5 H locs h hw => ?_)
  refine lv_icmp_ne (tgt := 49) S.1 S.2.1 dX1_goes_28 rfl (fun c6 => ?_) (fun c6 => ?_)
  · replace h := if_f c6 h
    refine lv_iconst (v := 0) S.1 S.2.1 dX1_goes_49 rfl ?_
    refine lv_istore (lv' := [(7, .int (0 : Int32)), (0, .ref x0), (1, .ref x1), (2, .int x2), (3, .int x3), (4, .int x4), (5, .int x5), (6, .int x6)]) S.1 S.2.1 dX1_goes_50 hl (by decide) rfl (fun ls hl => ?_)
    exact wk_B_X1_goes_p52 S X Z hF hL hr hlocks hgf FU _ _ _ _ _ _ _ _ _ _ _ _ h hw (lv_sub hl [1, 2, 3, 4, 5, 6, 7, 0] rfl)
  · replace h := if_t c6 h
    refine lv_aload_n S.1 S.2.1 dX1_goes_31 rfl (lv_at hl 0 rfl) ?_
    refine lv_iload S.1 S.2.1 dX1_goes_32 (lv_at hl 6 rfl) ?_
    refine gpX1_317 S X hw dX1_goes_34 h (fun w31 H locs h hw => ?_)
    refine lv_aload_n S.1 S.2.1 dX1_goes_37 rfl (lv_at hl 0 rfl) ?_
    refine ggX1_66 S X hw dX1_goes_38 h (fun a32 h => ?_)
    refine lv_aload_n S.1 S.2.1 dX1_goes_41 rfl (lv_at hl 0 rfl) ?_
    refine ggX1_69 S X hw dX1_goes_42 h (fun a33 h => ?_)
    refine gcSv (As := [.ref a32, .ref a33]) (rest := []) S X Z hw h (fun u h1 => met_B_X1_copies l E A LC LS a32 a33 w31 u h1) (cb_X1_323 S.2.2.2.2 rfl rfl ⟨Nat.le_trans (show 0 + 1 ≤ (d + 1) + 6 by omega) hF, Nat.le_trans (show 8 + (3 + 11) + (0) ≤ 60 * (d + 1) + 200 by omega) hL⟩) rfl hl.1 rfl (lv_room (Nat.le_of_ble_eq_true rfl)) dX1_goes_45 (fun w34 H locs h hw => ?_)
    exact g_vret S Z hr hlocks hw (so1 h) dX1_goes_48
set_option maxRecDepth 100000 in
set_option maxHeartbeats 4000000 in
theorem met_B_X1_goesb (l : Launch) (E : gE) (A : Nat → Prop) (LC LS : Nat) {d : Nat} {gf : Nat → Nat → Int32 → Int32 → Int32 → Int32 → Int32 → GS → Option GS} (hgf : ∀ (x0 : Nat) (x1 : Nat) (x2 : Int32) (x3 : Int32) (x4 : Int32) (x5 : Int32) (x6 : Int32) (w : GS) (res : GS), gf x0 x1 x2 x3 x4 x5 x6 w = some res → Met l yX1_goes (ws_ yX1_goes cX1_goes 13 (Option.none : Option Jvm.ClassFile.FieldType)) (gRoom (d + 6) (60 * d + 200) LC LS w) (gPc E A LC LS [.ref x0, .ref x1, .int x2, .int x3, .int x4, .int x5, .int x6] w) (gQv E A LC LS res) (LC - gZ w) (LS - gN w) A) (x0 : Nat) (x1 : Nat) (x2 : Int32) (x3 : Int32) (x4 : Int32) (x5 : Int32) (x6 : Int32) (w : GS) (res : GS) (h : B_X1_goesb gf x0 x1 x2 x3 x4 x5 x6 w = some res) : Met l yX1_goes (ws_ yX1_goes cX1_goes 13 (Option.none : Option Jvm.ClassFile.FieldType)) (gRoom ((d + 1) + 6) (60 * (d + 1) + 200) LC LS w) (gPc E A LC LS [.ref x0, .ref x1, .int x2, .int x3, .int x4, .int x5, .int x6] w) (gQv E A LC LS res) (LC - gZ w) (LS - gN w) A := by
  refine gMet (by decide) rfl (Nat.le_of_ble_eq_true rfl) ?_
  intro p e s m below meth c R S hr hlocks hin2 X Z hF hL H ls hw hl
  replace hl : lv_has ls 13 [(0, .ref x0), (1, .ref x1), (2, .int x2), (3, .int x3), (4, .int x4), (5, .int x5), (6, .int x6)] := hl
  unfold B_X1_goesb at h
  refine lv_aload_n S.1 S.2.1 dX1_goes_0 rfl (lv_at hl 0 rfl) ?_
  refine ggX1_317 S X hw dX1_goes_1 h (fun v1 h => ?_)
  refine lv_if_lt (tgt := 17) S.1 S.2.1 dX1_goes_4 rfl (fun c2 => ?_) (fun c2 => ?_)
  · replace h := if_t c2 h
    exact wk_B_X1_goes_p17 S X Z hF hL hr hlocks hgf _ _ _ _ _ _ _ _ _ _ _ h hw (lv_sub hl [0, 1, 2, 3, 4, 5, 6] rfl)
  · replace h := if_f c2 h
    refine lv_iload S.1 S.2.1 dX1_goes_7 (lv_at hl 6 rfl) ?_
    refine lv_aload_n S.1 S.2.1 dX1_goes_9 rfl (lv_at hl 0 rfl) ?_
    refine ggX1_317 S X hw dX1_goes_10 h (fun v35 h => ?_)
    refine lv_icmp_lt (tgt := 17) S.1 S.2.1 dX1_goes_13 rfl (fun c36 => ?_) (fun c36 => ?_)
    · replace h := if_t c36 h
      exact wk_B_X1_goes_p17 S X Z hF hL hr hlocks hgf _ _ _ _ _ _ _ _ _ _ _ h hw (lv_sub hl [0, 1, 2, 3, 4, 5, 6] rfl)
    · replace h := if_f c36 h
      exact g_vret S Z hr hlocks hw (so1 h) dX1_goes_16
theorem met_B_X1_goes (l : Launch) (E : gE) (A : Nat → Prop) (LC LS : Nat) : ∀ (d : Nat) (x0 : Nat) (x1 : Nat) (x2 : Int32) (x3 : Int32) (x4 : Int32) (x5 : Int32) (x6 : Int32) (w : GS) (res : GS), B_X1_goes d x0 x1 x2 x3 x4 x5 x6 w = some res → Met l yX1_goes (ws_ yX1_goes cX1_goes 13 (Option.none : Option Jvm.ClassFile.FieldType)) (gRoom (d + 6) (60 * d + 200) LC LS w) (gPc E A LC LS [.ref x0, .ref x1, .int x2, .int x3, .int x4, .int x5, .int x6] w) (gQv E A LC LS res) (LC - gZ w) (LS - gN w) A := by
  intro d
  induction d with
  | zero => intro x0 x1 x2 x3 x4 x5 x6 w res h; cases (show (none : Option GS) = some res from h)
  | succ d ih => intro x0 x1 x2 x3 x4 x5 x6 w res h; exact met_B_X1_goesb l E A LC LS ih x0 x1 x2 x3 x4 x5 x6 w res h
def B_X1_errands (x0 : Nat) (x1 : Int32) (x2 : Int32) (w : GS) : Option (Int32 × GS) :=
  bd1 (oK w x0 1 1) fun _ =>
  bd1 (B_X1_isTenant x0 x1 w) fun r1 =>
  if r1 = 0 then
    some ((-1 : Int32), w)
  else
    bd1 (oRn w x0 1 1 2) fun a3 =>
    bd1 (oRn w a3 3 3 2) fun a4 =>
    bd1 (oK w a4 23 23) fun _ =>
    bd1 (B_J2_size a4 w) fun r5 =>
    if (B_X1_in x2 (0 : Int32) r5) = 0 then
      some ((-1 : Int32), w)
    else
      bd1 (pI w x0 1 1 12 (-1 : Int32)) fun w7 =>
      bd1 (oK w7 x0 1 1) fun _ =>
      bd1 (B_X1_tenant_2 x0 x1 w7) fun a8 =>
      bd1 (oK w7 x0 1 1) fun _ =>
      bd1 (B_X1_goes 8 x0 a8 (0 : Int32) (0 : Int32) (0 : Int32) (0 : Int32) (0 : Int32) w7) fun w9 =>
      if x2 = 0 then
        bd1 (oI w9 x0 1 1 12) fun v13 =>
        some (v13, w9)
      else
        bd1 (oRn w9 x0 1 1 11) fun a11 =>
        bd1 (aI w9 a11 40 (x2 - (1 : Int32))) fun v12 =>
        some (v12, w9)
set_option maxRecDepth 100000 in
set_option maxHeartbeats 4000000 in
theorem met_B_X1_errands (l : Launch) (E : gE) (A : Nat → Prop) (LC LS : Nat)  (x0 : Nat) (x1 : Int32) (x2 : Int32) (w : GS) (res : Int32 × GS) (h : B_X1_errands x0 x1 x2 w = some res) : Met l yX1_errands (ws_ yX1_errands cX1_errands 3 (Option.some Jvm.ClassFile.FieldType.int)) (gRoom 15 712 LC LS w) (gPc E A LC LS [.ref x0, .int x1, .int x2] w) (gQi E A LC LS res.1 res.2) (LC - gZ w) (LS - gN w) A := by
  refine gMet (by decide) rfl (Nat.le_of_ble_eq_true rfl) ?_
  intro p e s m below meth c R S hr hlocks hin2 X Z hF hL H ls hw hl
  replace hl : lv_has ls 3 [(0, .ref x0), (1, .int x1), (2, .int x2)] := hl
  unfold B_X1_errands at h
  refine lv_aload_n S.1 S.2.1 dX1_errands_0 rfl (lv_at hl 0 rfl) ?_
  refine lv_iload_n S.1 S.2.1 dX1_errands_1 rfl (lv_at hl 1 rfl) ?_
  obtain ⟨hrc, h⟩ := oK1 h
  refine gcVri (As := [.int x1]) (rest := []) S X Z hw (b := x0) h (fun u h1 => met_B_X1_isTenant l E A LC LS x0 x1 w u h1) (cb_X1_159 S.2.2.2.2 rfl rfl ⟨Nat.le_trans (Nat.le_of_ble_eq_true rfl : 2 + 1 ≤ 15) hF, Nat.le_trans (Nat.le_of_ble_eq_true rfl : 8 + (2 + 11) + 40 ≤ 712) hL⟩) (g_recv X hw (ci := 0) rfl (gcell_1 hrc)) rfl hl.1 rfl (lv_room (Nat.le_of_ble_eq_true rfl)) dX1_errands_2 (fun r1 H locs h hw => ?_)
  refine lv_if_eq (tgt := 26) S.1 S.2.1 dX1_errands_5 rfl (fun c2 => ?_) (fun c2 => ?_)
  · replace h := if_t c2 h
    refine lv_iconst (v := -1) S.1 S.2.1 dX1_errands_26 rfl ?_
    exact g_iret S Z hr hlocks hw (so2 h) dX1_errands_27
  · replace h := if_f c2 h
    refine lv_iload_n S.1 S.2.1 dX1_errands_8 rfl (lv_at hl 2 rfl) ?_
    refine lv_iconst (v := 0) S.1 S.2.1 dX1_errands_9 rfl ?_
    refine lv_aload_n S.1 S.2.1 dX1_errands_10 rfl (lv_at hl 0 rfl) ?_
    refine ggX1_35 S X hw dX1_errands_11 h (fun a3 h => ?_)
    refine ggX1_320 S X hw dX1_errands_14 h (fun a4 h => ?_)
    obtain ⟨hrc, h⟩ := oK1 h
    refine gcVri (As := []) (rest := [.int (0 : Int32), .int x2]) S X Z hw (b := a4) h (fun u h1 => met_B_J2_size l E A LC LS a4 w u h1) (cb_X1_136 S.2.2.2.2 rfl rfl ⟨Nat.le_trans (Nat.le_of_ble_eq_true rfl : 0 + 1 ≤ 15) hF, Nat.le_trans (Nat.le_of_ble_eq_true rfl : 8 + (1 + 11) + 0 ≤ 712) hL⟩) (g_recv X hw (ci := 22) rfl (gcell_23 hrc)) rfl hl.1 rfl (lv_room (Nat.le_of_ble_eq_true rfl)) dX1_errands_17 (fun r5 H locs h hw => ?_)
    refine gcSti (As := [.int x2, .int (0 : Int32), .int r5]) (rest := []) S X Z hw (met_B_X1_in l E A LC LS x2 (0 : Int32) r5 w _ rfl) (cb_X1_153 S.2.2.2.2 rfl rfl ⟨Nat.le_trans (Nat.le_of_ble_eq_true rfl : 0 + 1 ≤ 15) hF, Nat.le_trans (Nat.le_of_ble_eq_true rfl : 8 + (3 + 11) + 0 ≤ 712) hL⟩) rfl hl.1 rfl (lv_room (Nat.le_of_ble_eq_true rfl)) dX1_errands_20 (fun H locs hw => ?_)
    refine lv_if_ne (tgt := 28) S.1 S.2.1 dX1_errands_23 rfl (fun c6 => ?_) (fun c6 => ?_)
    · replace h := if_f c6 h
      refine lv_aload_n S.1 S.2.1 dX1_errands_28 rfl (lv_at hl 0 rfl) ?_
      refine lv_iconst (v := -1) S.1 S.2.1 dX1_errands_29 rfl ?_
      refine gpX1_317 S X hw dX1_errands_30 h (fun w7 H locs h hw => ?_)
      refine lv_aload_n S.1 S.2.1 dX1_errands_33 rfl (lv_at hl 0 rfl) ?_
      refine lv_aload_n S.1 S.2.1 dX1_errands_34 rfl (lv_at hl 0 rfl) ?_
      refine lv_iload_n S.1 S.2.1 dX1_errands_35 rfl (lv_at hl 1 rfl) ?_
      obtain ⟨hrc, h⟩ := oK1 h
      refine gcVrr (As := [.int x1]) (rest := [.ref x0]) S X Z hw (b := x0) h (fun u h1 => met_B_X1_tenant_2 l E A LC LS x0 x1 w7 u h1) (cb_X1_166 S.2.2.2.2 rfl rfl ⟨Nat.le_trans (Nat.le_of_ble_eq_true rfl : 3 + 1 ≤ 15) hF, Nat.le_trans (Nat.le_of_ble_eq_true rfl : 8 + (2 + 11) + 64 ≤ 712) hL⟩) (g_recv X hw (ci := 0) rfl (gcell_1 hrc)) rfl hl.1 rfl (lv_room (Nat.le_of_ble_eq_true rfl)) dX1_errands_36 (fun a8 H locs h hw => ?_)
      refine lv_iconst (v := 0) S.1 S.2.1 dX1_errands_39 rfl ?_
      refine lv_iconst (v := 0) S.1 S.2.1 dX1_errands_40 rfl ?_
      refine lv_iconst (v := 0) S.1 S.2.1 dX1_errands_41 rfl ?_
      refine lv_iconst (v := 0) S.1 S.2.1 dX1_errands_42 rfl ?_
      refine lv_iconst (v := 0) S.1 S.2.1 dX1_errands_43 rfl ?_
      obtain ⟨hrc, h⟩ := oK1 h
      refine gcVv (As := [.ref a8, .int (0 : Int32), .int (0 : Int32), .int (0 : Int32), .int (0 : Int32), .int (0 : Int32)]) (rest := []) S X Z hw (b := x0) h (fun u h1 => met_B_X1_goes l E A LC LS 8 x0 a8 (0 : Int32) (0 : Int32) (0 : Int32) (0 : Int32) (0 : Int32) w7 u h1) (cb_X1_338 S.2.2.2.2 rfl rfl ⟨Nat.le_trans (Nat.le_of_ble_eq_true rfl : 14 + 1 ≤ 15) hF, Nat.le_trans (Nat.le_of_ble_eq_true rfl : 8 + (13 + 11) + 680 ≤ 712) hL⟩) (g_recv X hw (ci := 0) rfl (gcell_1 hrc)) rfl hl.1 rfl (lv_room (Nat.le_of_ble_eq_true rfl)) dX1_errands_44 (fun w9 H locs h hw => ?_)
      refine lv_iload_n S.1 S.2.1 dX1_errands_47 rfl (lv_at hl 2 rfl) ?_
      refine lv_if_ne (tgt := 58) S.1 S.2.1 dX1_errands_48 rfl (fun c10 => ?_) (fun c10 => ?_)
      · replace h := if_f c10 h
        refine lv_aload_n S.1 S.2.1 dX1_errands_58 rfl (lv_at hl 0 rfl) ?_
        refine ggX1_69 S X hw dX1_errands_59 h (fun a11 h => ?_)
        refine lv_iload_n S.1 S.2.1 dX1_errands_62 rfl (lv_at hl 2 rfl) ?_
        refine lv_iconst (v := 1) S.1 S.2.1 dX1_errands_63 rfl ?_
        refine lv_isub S.1 S.2.1 dX1_errands_64 ?_
        refine gald40 S X hw dX1_errands_65 h (fun v12 h => ?_)
        exact g_iret S Z hr hlocks hw (so2 h) dX1_errands_66
      · replace h := if_t c10 h
        refine lv_aload_n S.1 S.2.1 dX1_errands_51 rfl (lv_at hl 0 rfl) ?_
        refine ggX1_317 S X hw dX1_errands_52 h (fun v13 h => ?_)
        refine lv_goto (tgt := 66) S.1 S.2.1 dX1_errands_55 rfl ?_
        exact g_iret S Z hr hlocks hw (so2 h) dX1_errands_66
    · replace h := if_t c6 h
      refine lv_iconst (v := -1) S.1 S.2.1 dX1_errands_26 rfl ?_
      exact g_iret S Z hr hlocks hw (so2 h) dX1_errands_27
theorem cb_X1_112 {R : Room} {s : State} {args : Array Value} {rm : Room} {mc ms : Nat} (hts : ∀ w ∈ lw_all, w.before args s = true) (hc : rm.cells = mc) (hs : rm.slots = ms) (hR : rm.frames + 1 ≤ R.frames ∧ 8 + (1 + 11) + rm.locals ≤ R.locals) : CallW R s args RX1 RX1 112 yX1_reads cX1_reads 1 (Option.none : Option Jvm.ClassFile.FieldType) (ws_ yX1_reads cX1_reads 1 (Option.none : Option Jvm.ClassFile.FieldType)) rm mc ms 0 := cwV 0 hts (lw_V q454 q456 qs0 q135 q457) rfl hc hs (by decide +kernel) hR
theorem cb_X1_115 {R : Room} {s : State} {args : Array Value} {rm : Room} {mc ms : Nat} (hts : ∀ w ∈ lw_all, w.before args s = true) (hc : rm.cells = mc) (hs : rm.slots = ms) (hR : rm.frames + 1 ≤ R.frames ∧ 8 + (2 + 11) + rm.locals ≤ R.locals) : CallW R s args RX1 RX2 115 yX2_house cX2_house 2 (Option.some (Jvm.ClassFile.FieldType.object "PulseRent$House")) (ws_ yX2_house cX2_house 2 (Option.some (Jvm.ClassFile.FieldType.object "PulseRent$House"))) rm mc ms 0 := cwV 0 hts (lw_V q563 q564 q565 q136 q566) rfl hc hs (by decide +kernel) hR
theorem cb_X1_41 {R : Room} {s : State} {args : Array Value} {rm : Room} {mc ms : Nat} (hts : ∀ w ∈ lw_all, w.before args s = true) (hc : rm.cells = mc) (hs : rm.slots = ms) (hR : rm.frames + 1 ≤ R.frames ∧ 8 + (2 + 11) + rm.locals ≤ R.locals) : CallB R s args RX1 41 yJ2_init cJ2_init 2 none (ws_ yJ2_init cJ2_init 2 (Option.none : Option Jvm.ClassFile.FieldType)) rm mc ms 1 ∧ yJ2_init.name = "<init>" ∧ (Cond.instanceMethod yJ2_init).before args s = true := cwI 1 hts (lw_meth q233) rfl hc hs (hts _ q140) (hts _ q297) (hts _ q232) rfl (by decide +kernel) hR
def B_X1_house_p59 : Nat → Nat → Int32 → GS → Option ((Int32 ⊕ Nat) × GS)
  | 0, _, _, _ => none
  | n + 1, x0, x1, w =>
    if (4 : Int32) ≤ x1 then
      some (.inl (0 : Int32), w)
    else
      bd1 (oRn w x0 1 1 24) fun a15 =>
      bd1 (xR w a15 47 x1 none) fun w16 =>
      (B_X1_house_p59 n) x0 (x1 + (1 : Int32)) w16
def B_X1_house (x0 : Nat) (w : GS) : Option ((Int32 ⊕ Nat) × GS) :=
  bd1 (oK w x0 1 1) fun _ =>
  bd1 (B_X1_reads x0 w) fun w1 =>
  bd1 (oRn w1 x0 1 1 1) fun a2 =>
  bd1 (oK w1 a2 2 2) fun _ =>
  bdc (B_X2_house a2 w1) (fun a17 w18 =>
    bd1 (oI w18 a17 6 6 6) fun v19 =>
    some (.inl v19, w18)) fun a4 w3 =>
  bd1 (pR w3 x0 1 1 2 (some a4)) fun w5 =>
  bd1 (oRn w5 x0 1 1 4) fun a6 =>
  bd1 (oRn w5 x0 1 1 2) fun a7 =>
  bd1 (oK w5 a6 4 4) fun _ =>
  bd1 (B_X4_begin a6 a7 w5) fun w8 =>
  bd1 (onw w8 23 0 3) fun w9 =>
  bd1 (B_J2_init (gZ w8) (0 : Int32) w9) fun w10 =>
  bd1 (pR w10 x0 1 1 3 (some (gZ w8))) fun w11 =>
  bd1 (pI w11 x0 1 1 18 (0 : Int32)) fun w12 =>
  bd1 (pI w12 x0 1 1 9 (0 : Int32)) fun w13 =>
  B_X1_house_p59 FU x0 (0 : Int32) w13
set_option maxRecDepth 100000 in
set_option maxHeartbeats 4000000 in
theorem wk_B_X1_house_p59 {p : Program} {l : Launch} {e : Env} {R : Room} {s : State} {m : MethodId} {args : Array Value} {below : List Frame} {meth : Method} {c : Code} {E : gE} {A : Nat → Prop} {LC LS : Nat} (S : CallFix p m c cX1_house 2 s args lw_all RX1) (X : gCtx E A s) (Z : gRm R s LC LS) (hF : 60 ≤ R.frames) (hL : 2948 ≤ R.locals) (hr : meth.sig.returnType = (Option.some Jvm.ClassFile.FieldType.int)) (hlocks : meth.locks = false) (htab : c.exceptionTable.toList = tableOf [((4 : Nat), (15 : Nat), (18 : Nat), (118 : Nat))]) {res : (Int32 ⊕ Nat) × GS}  : ∀ n : Nat, ∀ (x0 : Nat) (x1 : Int32) (w : GS) (H : Heap) (locs : List Loc) (ls : Array Slot), B_X1_house_p59 n x0 x1 w = some res → gH E A LC LS s w H locs → lv_has ls 2 [(0, .ref x0), (1, .int x1)] → W p l e R s m args below meth c H locs (H.size - s.heap.size) (tot H - tot s.heap) (vx_MQ below (gXi E A LC LS res) (gXX E A LC LS res) args s R.cells R.slots A) (F0 m 59 ls []) := by
  intro n
  induction n with
  | zero => intro x0 x1 w H locs ls h; cases (show (none : Option ((Int32 ⊕ Nat) × GS)) = some res from h)
  | succ n ih =>
    intro x0 x1 w H locs ls h hw hl
    rw [B_X1_house_p59] at h
    refine lv_iload_n S.1 S.2.1 dX1_house_59 rfl (lv_at hl 1 rfl) ?_
    refine lv_iconst (v := 4) S.1 S.2.1 dX1_house_60 rfl ?_
    refine lv_icmp_ge (tgt := 77) S.1 S.2.1 dX1_house_61 rfl (fun c14 => ?_) (fun c14 => ?_)
    · replace h := if_t c14 h
      refine lv_iconst (v := 0) S.1 S.2.1 dX1_house_77 rfl ?_
      exact x_iret S Z hr hlocks hw (so1 h) dX1_house_78
    · replace h := if_f c14 h
      refine lv_aload_n S.1 S.2.1 dX1_house_64 rfl (lv_at hl 0 rfl) ?_
      refine ggX1_97 S X hw dX1_house_65 h (fun a15 h => ?_)
      refine lv_iload_n S.1 S.2.1 dX1_house_68 rfl (lv_at hl 1 rfl) ?_
      refine lv_null S.1 S.2.1 dX1_house_69 ?_
      refine gast47N (v := ()) S X hw dX1_house_70 h (fun w16 H locs h hw => ?_)
      refine lv_iinc (v := x1 + (1 : Int32)) (lv' := [(1, .int (x1 + (1 : Int32))), (0, .ref x0)]) S.1 S.2.1 dX1_house_71 hl (k := 1) rfl rfl (by decide) rfl (fun ls hl => ?_)
      refine lv_goto (tgt := 59) S.1 S.2.1 dX1_house_74 rfl ?_
      exact ih _ _ _ _ _ _ h hw (lv_sub hl [1, 0] rfl)
set_option maxRecDepth 100000 in
set_option maxHeartbeats 4000000 in
theorem met_B_X1_house (l : Launch) (E : gE) (A : Nat → Prop) (LC LS : Nat)  (x0 : Nat) (w : GS) (res : (Int32 ⊕ Nat) × GS) (h : B_X1_house x0 w = some res) : vx_Met l yX1_house (wsW_ yX1_house cX1_house 2 (Option.some Jvm.ClassFile.FieldType.int) [((4 : Nat), (15 : Nat), (18 : Nat), (118 : Nat))]) (gRoom 60 2948 LC LS w) (gPc E A LC LS [.ref x0] w) (gXi E A LC LS res) (gXX E A LC LS res) (LC - gZ w) (LS - gN w) A := by
  refine gMetH (by decide) rfl (Nat.le_of_ble_eq_true rfl) ?_
  intro p e s m below meth c R S hr hlocks htab X Z hF hL H ls hw hl
  replace hl : lv_has ls 2 [(0, .ref x0)] := hl
  unfold B_X1_house at h
  refine lv_aload_n S.1 S.2.1 dX1_house_0 rfl (lv_at hl 0 rfl) ?_
  obtain ⟨hrc, h⟩ := oK1 h
  refine gcVv (As := []) (rest := []) S X Z hw (b := x0) h (fun u h1 => met_B_X1_reads l E A LC LS x0 w u h1) (cb_X1_112 S.2.2.2.2 rfl rfl ⟨Nat.le_trans (Nat.le_of_ble_eq_true rfl : 6 + 1 ≤ 60) hF, Nat.le_trans (Nat.le_of_ble_eq_true rfl : 8 + (1 + 11) + 133 ≤ 2948) hL⟩) (g_recv X hw (ci := 0) rfl (gcell_1 hrc)) rfl hl.1 rfl (lv_room (Nat.le_of_ble_eq_true rfl)) dX1_house_1 (fun w1 H locs h hw => ?_)
  refine lv_aload_n S.1 S.2.1 dX1_house_4 rfl (lv_at hl 0 rfl) ?_
  refine lv_aload_n S.1 S.2.1 dX1_house_5 rfl (lv_at hl 0 rfl) ?_
  refine ggX1_28 S X hw dX1_house_6 h (fun a2 h => ?_)
  obtain ⟨hrc, h⟩ := oK1 h
  refine ghVr (As := []) (rest := [.ref x0]) S X Z hw (b := a2) h (fun u h1 => met_B_X2_house l E A LC LS a2 w1 u h1) (cb_X1_115 S.2.2.2.2 rfl rfl ⟨Nat.le_trans (Nat.le_of_ble_eq_true rfl : 59 + 1 ≤ 60) hF, Nat.le_trans (Nat.le_of_ble_eq_true rfl : 8 + (2 + 11) + 2927 ≤ 2948) hL⟩) (g_recv X hw (ci := 1) rfl (gcell_2 hrc)) rfl hl.1 rfl (lv_room (Nat.le_of_ble_eq_true rfl)) dX1_house_9 htab rfl (by decide) (S.2.2.2.2 _ q453) (fun a17 w18 H locs h hw => ?_) (fun a4 w3 H locs h hw => ?_)
  · refine lv_astore_n (lv' := [(1, .ref a17), (0, .ref x0)]) S.1 S.2.1 dX1_house_18 rfl hl (by decide) rfl (fun ls hl => ?_)
    refine lv_aload_n S.1 S.2.1 dX1_house_19 rfl (lv_at hl 0 rfl) ?_
    refine ggX1_120 S X hw dX1_house_20 h (fun v19 h => ?_)
    exact x_iret S Z hr hlocks hw (so1 h) dX1_house_23
  · refine gpX1_35 (v := some a4) S X hw dX1_house_12 h (fun w5 H locs h hw => ?_)
    refine lv_goto (tgt := 24) S.1 S.2.1 dX1_house_15 rfl ?_
    refine lv_aload_n S.1 S.2.1 dX1_house_24 rfl (lv_at hl 0 rfl) ?_
    refine ggX1_51 S X hw dX1_house_25 h (fun a6 h => ?_)
    refine lv_aload_n S.1 S.2.1 dX1_house_28 rfl (lv_at hl 0 rfl) ?_
    refine ggX1_35 S X hw dX1_house_29 h (fun a7 h => ?_)
    obtain ⟨hrc, h⟩ := oK1 h
    refine gcVv (As := [.ref a7]) (rest := []) S X Z hw (b := a6) h (fun u h1 => met_B_X4_begin l E A LC LS a6 a7 w5 u h1) (cb_X1_101 S.2.2.2.2 rfl rfl ⟨Nat.le_trans (Nat.le_of_ble_eq_true rfl : 3 + 1 ≤ 60) hF, Nat.le_trans (Nat.le_of_ble_eq_true rfl : 8 + (4 + 11) + 64 ≤ 2948) hL⟩) (g_recv X hw (ci := 3) rfl (gcell_4 hrc)) rfl hl.1 rfl (lv_room (Nat.le_of_ble_eq_true rfl)) dX1_house_32 (fun w8 H locs h hw => ?_)
    refine lv_aload_n S.1 S.2.1 dX1_house_35 rfl (lv_at hl 0 rfl) ?_
    refine gnX1_39 S X Z hw dX1_house_36 h (fun w9 H h hw => ?_)
    refine lv_dup S.1 S.2.1 dX1_house_39 rfl ?_
    refine lv_iconst (v := 0) S.1 S.2.1 dX1_house_40 rfl ?_
    refine gcIv (As := [.int (0 : Int32)]) (rest := [.ref (gZ w8), .ref x0]) S X Z hw (b := (gZ w8)) h (fun u h1 => met_B_J2_init l E A LC LS (gZ w8) (0 : Int32) w9 u h1) (cb_X1_41 S.2.2.2.2 rfl rfl ⟨Nat.le_trans (Nat.le_of_ble_eq_true rfl : 3 + 1 ≤ 60) hF, Nat.le_trans (Nat.le_of_ble_eq_true rfl : 8 + (2 + 11) + 60 ≤ 2948) hL⟩) rfl hl.1 rfl (lv_room (Nat.le_of_ble_eq_true rfl)) dX1_house_41 (fun w10 H locs h hw => ?_)
    refine gpX1_44 (v := some (gZ w8)) S X hw dX1_house_44 h (fun w11 H locs h hw => ?_)
    refine lv_aload_n S.1 S.2.1 dX1_house_47 rfl (lv_at hl 0 rfl) ?_
    refine lv_iconst (v := 0) S.1 S.2.1 dX1_house_48 rfl ?_
    refine gpX1_123 S X hw dX1_house_49 h (fun w12 H locs h hw => ?_)
    refine lv_aload_n S.1 S.2.1 dX1_house_52 rfl (lv_at hl 0 rfl) ?_
    refine lv_iconst (v := 0) S.1 S.2.1 dX1_house_53 rfl ?_
    refine gpX1_126 S X hw dX1_house_54 h (fun w13 H locs h hw => ?_)
    refine lv_iconst (v := 0) S.1 S.2.1 dX1_house_57 rfl ?_
    refine lv_istore_n (lv' := [(1, .int (0 : Int32)), (0, .ref x0)]) S.1 S.2.1 dX1_house_58 rfl hl (by decide) rfl (fun ls hl => ?_)
    exact wk_B_X1_house_p59 S X Z hF hL hr hlocks htab FU _ _ _ _ _ _ h hw (lv_sub hl [1, 0] rfl)
theorem cb_X1_129 {R : Room} {s : State} {args : Array Value} {rm : Room} {mc ms : Nat} (hts : ∀ w ∈ lw_all, w.before args s = true) (hc : rm.cells = mc) (hs : rm.slots = ms) (hR : rm.frames + 1 ≤ R.frames ∧ 8 + (4 + 11) + rm.locals ≤ R.locals) : CallW R s args RX1 RX2 129 yX2_months cX2_months 4 (Option.some (Jvm.ClassFile.FieldType.object "java/util/ArrayList")) (ws_ yX2_months cX2_months 4 (Option.some (Jvm.ClassFile.FieldType.object "java/util/ArrayList"))) rm mc ms 1 := cwV 1 hts (lw_V q1190 q1191 q1192 q136 q1193) rfl hc hs (by decide +kernel) hR
def B_X1_months (x0 : Nat) (w : GS) : Option ((Int32 ⊕ Nat) × GS) :=
  bd1 (oK w x0 1 1) fun _ =>
  bd1 (B_X1_reads x0 w) fun w1 =>
  bd1 (oRn w1 x0 1 1 1) fun a2 =>
  bd1 (oRn w1 x0 1 1 2) fun a3 =>
  bd1 (oK w1 a2 2 2) fun _ =>
  bdc (B_X2_months a2 a3 w1) (fun a7 w8 =>
    bd1 (oI w8 a7 6 6 6) fun v9 =>
    some (.inl v9, w8)) fun a5 w4 =>
  bd1 (pR w4 x0 1 1 3 (some a5)) fun w6 =>
  some (.inl (0 : Int32), w6)
set_option maxRecDepth 100000 in
set_option maxHeartbeats 4000000 in
theorem met_B_X1_months (l : Launch) (E : gE) (A : Nat → Prop) (LC LS : Nat)  (x0 : Nat) (w : GS) (res : (Int32 ⊕ Nat) × GS) (h : B_X1_months x0 w = some res) : vx_Met l yX1_months (wsW_ yX1_months cX1_months 2 (Option.some Jvm.ClassFile.FieldType.int) [((4 : Nat), (19 : Nat), (22 : Nat), (118 : Nat))]) (gRoom 10 240 LC LS w) (gPc E A LC LS [.ref x0] w) (gXi E A LC LS res) (gXX E A LC LS res) (LC - gZ w) (LS - gN w) A := by
  refine gMetH (by decide) rfl (Nat.le_of_ble_eq_true rfl) ?_
  intro p e s m below meth c R S hr hlocks htab X Z hF hL H ls hw hl
  replace hl : lv_has ls 2 [(0, .ref x0)] := hl
  unfold B_X1_months at h
  refine lv_aload_n S.1 S.2.1 dX1_months_0 rfl (lv_at hl 0 rfl) ?_
  obtain ⟨hrc, h⟩ := oK1 h
  refine gcVv (As := []) (rest := []) S X Z hw (b := x0) h (fun u h1 => met_B_X1_reads l E A LC LS x0 w u h1) (cb_X1_112 S.2.2.2.2 rfl rfl ⟨Nat.le_trans (Nat.le_of_ble_eq_true rfl : 6 + 1 ≤ 10) hF, Nat.le_trans (Nat.le_of_ble_eq_true rfl : 8 + (1 + 11) + 133 ≤ 240) hL⟩) (g_recv X hw (ci := 0) rfl (gcell_1 hrc)) rfl hl.1 rfl (lv_room (Nat.le_of_ble_eq_true rfl)) dX1_months_1 (fun w1 H locs h hw => ?_)
  refine lv_aload_n S.1 S.2.1 dX1_months_4 rfl (lv_at hl 0 rfl) ?_
  refine lv_aload_n S.1 S.2.1 dX1_months_5 rfl (lv_at hl 0 rfl) ?_
  refine ggX1_28 S X hw dX1_months_6 h (fun a2 h => ?_)
  refine lv_aload_n S.1 S.2.1 dX1_months_9 rfl (lv_at hl 0 rfl) ?_
  refine ggX1_35 S X hw dX1_months_10 h (fun a3 h => ?_)
  obtain ⟨hrc, h⟩ := oK1 h
  refine ghVr (As := [.ref a3]) (rest := [.ref x0]) S X Z hw (b := a2) h (fun u h1 => met_B_X2_months l E A LC LS a2 a3 w1 u h1) (cb_X1_129 S.2.2.2.2 rfl rfl ⟨Nat.le_trans (Nat.le_of_ble_eq_true rfl : 9 + 1 ≤ 10) hF, Nat.le_trans (Nat.le_of_ble_eq_true rfl : 8 + (4 + 11) + 217 ≤ 240) hL⟩) (g_recv X hw (ci := 1) rfl (gcell_2 hrc)) rfl hl.1 rfl (lv_room (Nat.le_of_ble_eq_true rfl)) dX1_months_13 htab rfl (by decide) (S.2.2.2.2 _ q453) (fun a7 w8 H locs h hw => ?_) (fun a5 w4 H locs h hw => ?_)
  · refine lv_astore_n (lv' := [(1, .ref a7), (0, .ref x0)]) S.1 S.2.1 dX1_months_22 rfl hl (by decide) rfl (fun ls hl => ?_)
    refine lv_aload_n S.1 S.2.1 dX1_months_23 rfl (lv_at hl 0 rfl) ?_
    refine ggX1_120 S X hw dX1_months_24 h (fun v9 h => ?_)
    exact x_iret S Z hr hlocks hw (so1 h) dX1_months_27
  · refine gpX1_44 (v := some a5) S X hw dX1_months_16 h (fun w6 H locs h hw => ?_)
    refine lv_goto (tgt := 28) S.1 S.2.1 dX1_months_19 rfl ?_
    refine lv_iconst (v := 0) S.1 S.2.1 dX1_months_28 rfl ?_
    exact x_iret S Z hr hlocks hw (so1 h) dX1_months_29
