/-! walks over the plain heap, printed by gen/bgen.py -/
set_option maxRecDepth 100000
theorem cb_X1_283 {R : Room} {s : State} {args : Array Value} {rm : Room} {mc ms : Nat} (hts : ∀ w ∈ lw_all, w.before args s = true) (hc : rm.cells = mc) (hs : rm.slots = ms) (hR : rm.frames + 1 ≤ R.frames ∧ 8 + (3 + 11) + rm.locals ≤ R.locals) : CallW R s args RX1 RX1 283 yX1_keeps cX1_keeps 3 (Option.none : Option Jvm.ClassFile.FieldType) (ws_ yX1_keeps cX1_keeps 3 (Option.none : Option Jvm.ClassFile.FieldType)) rm mc ms 0 := cwV 0 hts (lw_V q1365 q1367 qs38 q135 q1368) rfl hc hs (by decide +kernel) hR
theorem cb_X1_286 {R : Room} {s : State} {args : Array Value} {rm : Room} {mc ms : Nat} (hts : ∀ w ∈ lw_all, w.before args s = true) (hc : rm.cells = mc) (hs : rm.slots = ms) (hR : rm.frames + 1 ≤ R.frames ∧ 8 + (3 + 11) + rm.locals ≤ R.locals) : CallW R s args RX1 RX1 286 yX1_climbs cX1_climbs 3 (Option.none : Option Jvm.ClassFile.FieldType) (ws_ yX1_climbs cX1_climbs 3 (Option.none : Option Jvm.ClassFile.FieldType)) rm mc ms 2 := cwV 2 hts (lw_V q1376 q1378 qs39 q135 q1379) rfl hc hs (by decide +kernel) hR
def B_X1_climb (x0 : Nat) (x1 : Int32) (w : GS) : Option (Int32 × GS) :=
  bd1 (oK w x0 1 1) fun _ =>
  bd1 (B_X1_isHome x0 x1 w) fun r1 =>
  if r1 = 0 then
    some ((-1 : Int32), w)
  else
    bd1 (oK w x0 1 1) fun _ =>
    bd1 (B_X1_keeps x0 w) fun w3 =>
    bd1 (oRn w3 x0 1 1 4) fun a4 =>
    bd1 (oK w3 x0 1 1) fun _ =>
    bd1 (B_X1_climbs x0 a4 x1 w3) fun w5 =>
    bd1 (oRn w5 x0 1 1 4) fun a6 =>
    bd1 (oRn w5 a6 4 4 1) fun a7 =>
    bd1 (aI w5 a7 40 x1) fun v8 =>
    some (v8, w5)
set_option maxRecDepth 100000 in
set_option maxHeartbeats 4000000 in
theorem met_B_X1_climb (l : Launch) (E : gE) (A : Nat → Prop) (LC LS : Nat)  (x0 : Nat) (x1 : Int32) (w : GS) (res : Int32 × GS) (h : B_X1_climb x0 x1 w = some res) : Met l yX1_climb (ws_ yX1_climb cX1_climb 2 (Option.some Jvm.ClassFile.FieldType.int)) (gRoom 5 107 LC LS w) (gPc E A LC LS [.ref x0, .int x1] w) (gQi E A LC LS res.1 res.2) (LC - gZ w) (LS - gN w) A := by
  refine gMet (by decide) rfl (Nat.le_of_ble_eq_true rfl) ?_
  intro p e s m below meth c R S hr hlocks hin2 X Z hF hL H ls hw hl
  replace hl : lv_has ls 2 [(0, .ref x0), (1, .int x1)] := hl
  unfold B_X1_climb at h
  refine lv_aload_n S.1 S.2.1 dX1_climb_0 rfl (lv_at hl 0 rfl) ?_
  refine lv_iload_n S.1 S.2.1 dX1_climb_1 rfl (lv_at hl 1 rfl) ?_
  obtain ⟨hrc, h⟩ := oK1 h
  refine gcVri (As := [.int x1]) (rest := []) S X Z hw (b := x0) h (fun u h1 => met_B_X1_isHome l E A LC LS x0 x1 w u h1) (cb_X1_273 S.2.2.2.2 rfl rfl ⟨Nat.le_trans (Nat.le_of_ble_eq_true rfl : 3 + 1 ≤ 5) hF, Nat.le_trans (Nat.le_of_ble_eq_true rfl : 8 + (2 + 11) + 61 ≤ 107) hL⟩) (g_recv X hw (ci := 0) rfl (gcell_1 hrc)) rfl hl.1 rfl (lv_room (Nat.le_of_ble_eq_true rfl)) dX1_climb_2 (fun r1 H locs h hw => ?_)
  refine lv_if_ne (tgt := 10) S.1 S.2.1 dX1_climb_5 rfl (fun c2 => ?_) (fun c2 => ?_)
  · replace h := if_f c2 h
    refine lv_aload_n S.1 S.2.1 dX1_climb_10 rfl (lv_at hl 0 rfl) ?_
    obtain ⟨hrc, h⟩ := oK1 h
    refine gcVv (As := []) (rest := []) S X Z hw (b := x0) h (fun u h1 => met_B_X1_keeps l E A LC LS x0 w u h1) (cb_X1_283 S.2.2.2.2 rfl rfl ⟨Nat.le_trans (Nat.le_of_ble_eq_true rfl : 2 + 1 ≤ 5) hF, Nat.le_trans (Nat.le_of_ble_eq_true rfl : 8 + (3 + 11) + 43 ≤ 107) hL⟩) (g_recv X hw (ci := 0) rfl (gcell_1 hrc)) rfl hl.1 rfl (lv_room (Nat.le_of_ble_eq_true rfl)) dX1_climb_11 (fun w3 H locs h hw => ?_)
    refine lv_aload_n S.1 S.2.1 dX1_climb_14 rfl (lv_at hl 0 rfl) ?_
    refine lv_aload_n S.1 S.2.1 dX1_climb_15 rfl (lv_at hl 0 rfl) ?_
    refine ggX1_51 S X hw dX1_climb_16 h (fun a4 h => ?_)
    refine lv_iload_n S.1 S.2.1 dX1_climb_19 rfl (lv_at hl 1 rfl) ?_
    obtain ⟨hrc, h⟩ := oK1 h
    refine gcVv (As := [.ref a4, .int x1]) (rest := []) S X Z hw (b := x0) h (fun u h1 => met_B_X1_climbs l E A LC LS x0 a4 x1 w3 u h1) (cb_X1_286 S.2.2.2.2 rfl rfl ⟨Nat.le_trans (Nat.le_of_ble_eq_true rfl : 4 + 1 ≤ 5) hF, Nat.le_trans (Nat.le_of_ble_eq_true rfl : 8 + (3 + 11) + 85 ≤ 107) hL⟩) (g_recv X hw (ci := 0) rfl (gcell_1 hrc)) rfl hl.1 rfl (lv_room (Nat.le_of_ble_eq_true rfl)) dX1_climb_20 (fun w5 H locs h hw => ?_)
    refine lv_aload_n S.1 S.2.1 dX1_climb_23 rfl (lv_at hl 0 rfl) ?_
    refine ggX1_51 S X hw dX1_climb_24 h (fun a6 h => ?_)
    refine ggX1_173 S X hw dX1_climb_27 h (fun a7 h => ?_)
    refine lv_iload_n S.1 S.2.1 dX1_climb_30 rfl (lv_at hl 1 rfl) ?_
    refine gald40 S X hw dX1_climb_31 h (fun v8 h => ?_)
    exact g_iret S Z hr hlocks hw (so2 h) dX1_climb_32
  · replace h := if_t c2 h
    refine lv_iconst (v := -1) S.1 S.2.1 dX1_climb_8 rfl ?_
    exact g_iret S Z hr hlocks hw (so2 h) dX1_climb_9
def B_X1_frightens (x0 : Nat) (x1 : Nat) (x2 : Int32) (x3 : Int32) (w : GS) : Option GS :=
  bd1 (oRn w x1 4 4 1) fun a1 =>
  bd1 (aI w a1 40 x2) fun v2 =>
  bd1 (oK w x0 1 1) fun _ =>
  bd1 (B_X1_tenant_2 x0 x2 w) fun a3 =>
  bd1 (oI w a3 8 11 2) fun v4 =>
  bd1 (oRn w x1 4 4 3) fun a5 =>
  bd1 (aI w a5 40 x2) fun v6 =>
  bd1 (o_idiv (if (0 : Int32) < (x3 - v4) then (x3 - v4) else (0 : Int32)) ((1 : Int32) + v6)) fun d7 =>
  bd1 (xI w a1 40 x2 (v2 + d7)) fun w8 =>
  bd1 (oRn w8 x1 4 4 3) fun a9 =>
  bd1 (aI w8 a9 40 x2) fun v10 =>
  bd1 (xI w8 a9 40 x2 (v10 + (1 : Int32))) fun w11 =>
  some w11
set_option maxRecDepth 100000 in
set_option maxHeartbeats 4000000 in
theorem met_B_X1_frightens (l : Launch) (E : gE) (A : Nat → Prop) (LC LS : Nat)  (x0 : Nat) (x1 : Nat) (x2 : Int32) (x3 : Int32) (w : GS) (res : GS) (h : B_X1_frightens x0 x1 x2 x3 w = some res) : Met l yX1_frightens (ws_ yX1_frightens cX1_frightens 4 (Option.none : Option Jvm.ClassFile.FieldType)) (gRoom 4 85 LC LS w) (gPc E A LC LS [.ref x0, .ref x1, .int x2, .int x3] w) (gQv E A LC LS res) (LC - gZ w) (LS - gN w) A := by
  refine gMet (by decide) rfl (Nat.le_of_ble_eq_true rfl) ?_
  intro p e s m below meth c R S hr hlocks hin2 X Z hF hL H ls hw hl
  replace hl : lv_has ls 4 [(0, .ref x0), (1, .ref x1), (2, .int x2), (3, .int x3)] := hl
  unfold B_X1_frightens at h
  refine lv_aload_n S.1 S.2.1 dX1_frightens_0 rfl (lv_at hl 1 rfl) ?_
  refine ggX1_173 S X hw dX1_frightens_1 h (fun a1 h => ?_)
  refine lv_iload_n S.1 S.2.1 dX1_frightens_4 rfl (lv_at hl 2 rfl) ?_
  refine lv_dup2_11 S.1 S.2.1 dX1_frightens_5 rfl rfl ?_
  refine gald40 S X hw dX1_frightens_6 h (fun v2 h => ?_)
  refine lv_iconst (v := 0) S.1 S.2.1 dX1_frightens_7 rfl ?_
  refine lv_iload_n S.1 S.2.1 dX1_frightens_8 rfl (lv_at hl 3 rfl) ?_
  refine lv_aload_n S.1 S.2.1 dX1_frightens_9 rfl (lv_at hl 0 rfl) ?_
  refine lv_iload_n S.1 S.2.1 dX1_frightens_10 rfl (lv_at hl 2 rfl) ?_
  obtain ⟨hrc, h⟩ := oK1 h
  refine gcVrr (As := [.int x2]) (rest := [.int x3, .int (0 : Int32), .int v2, .int x2, .ref a1]) S X Z hw (b := x0) h (fun u h1 => met_B_X1_tenant_2 l E A LC LS x0 x2 w u h1) (cb_X1_166 S.2.2.2.2 rfl rfl ⟨Nat.le_trans (Nat.le_of_ble_eq_true rfl : 3 + 1 ≤ 4) hF, Nat.le_trans (Nat.le_of_ble_eq_true rfl : 8 + (2 + 11) + 64 ≤ 85) hL⟩) (g_recv X hw (ci := 0) rfl (gcell_1 hrc)) rfl hl.1 rfl (lv_room (Nat.le_of_ble_eq_true rfl)) dX1_frightens_11 (fun a3 H locs h hw => ?_)
  refine ggX1_267 S X hw dX1_frightens_14 h (fun v4 h => ?_)
  refine lv_isub S.1 S.2.1 dX1_frightens_17 ?_
  refine va_mmax (x := (0 : Int32)) (y := (x3 - v4)) (rest := [.int v2, .int x2, .ref a1]) S.1 S.2.1 (S.2.2.1.trans hl.1.symm) S.2.2.2.1 (S.2.2.2.2 _ q1398) (S.2.2.2.2 _ q506) (S.2.2.2.2 _ q147) (S.2.2.2.2 _ q507) (Nat.le_trans (Nat.le_of_ble_eq_true rfl) hF) (Nat.le_trans (Nat.le_of_ble_eq_true rfl : (([.int v2, .int x2, .ref a1] : List Value).map fun v : Value => v.category).sum + 13 ≤ 21) (Nat.le_trans (Nat.le_of_ble_eq_true rfl) hL)) (gRm_le Z hw).1 (gRm_le Z hw).2 dX1_frightens_18 ?_
  refine lv_iconst (v := 1) S.1 S.2.1 dX1_frightens_21 rfl ?_
  refine lv_aload_n S.1 S.2.1 dX1_frightens_22 rfl (lv_at hl 1 rfl) ?_
  refine ggX1_270 S X hw dX1_frightens_23 h (fun a5 h => ?_)
  refine lv_iload_n S.1 S.2.1 dX1_frightens_26 rfl (lv_at hl 2 rfl) ?_
  refine gald40 S X hw dX1_frightens_27 h (fun v6 h => ?_)
  refine lv_iadd S.1 S.2.1 dX1_frightens_28 ?_
  refine r_idiv S.1 S.2.1 dX1_frightens_29 h (fun d7 h => ?_)
  refine lv_iadd S.1 S.2.1 dX1_frightens_30 ?_
  refine gast40 S X hw dX1_frightens_31 h (fun w8 H locs h hw => ?_)
  refine lv_aload_n S.1 S.2.1 dX1_frightens_32 rfl (lv_at hl 1 rfl) ?_
  refine ggX1_270 S X hw dX1_frightens_33 h (fun a9 h => ?_)
  refine lv_iload_n S.1 S.2.1 dX1_frightens_36 rfl (lv_at hl 2 rfl) ?_
  refine lv_dup2_11 S.1 S.2.1 dX1_frightens_37 rfl rfl ?_
  refine gald40 S X hw dX1_frightens_38 h (fun v10 h => ?_)
  refine lv_iconst (v := 1) S.1 S.2.1 dX1_frightens_39 rfl ?_
  refine lv_iadd S.1 S.2.1 dX1_frightens_40 ?_
  refine gast40 S X hw dX1_frightens_41 h (fun w11 H locs h hw => ?_)
  exact g_vret S Z hr hlocks hw (so1 h) dX1_frightens_42
theorem cb_X1_288 {R : Room} {s : State} {args : Array Value} {rm : Room} {mc ms : Nat} (hts : ∀ w ∈ lw_all, w.before args s = true) (hc : rm.cells = mc) (hs : rm.slots = ms) (hR : rm.frames + 1 ≤ R.frames ∧ 8 + (4 + 11) + rm.locals ≤ R.locals) : CallW R s args RX1 RX1 288 yX1_frightens cX1_frightens 4 (Option.none : Option Jvm.ClassFile.FieldType) (ws_ yX1_frightens cX1_frightens 4 (Option.none : Option Jvm.ClassFile.FieldType)) rm mc ms 3 := cwV 3 hts (lw_V q1394 q1396 qs40 q135 q1397) rfl hc hs (by decide +kernel) hR
def B_X1_fright (x0 : Nat) (x1 : Int32) (x2 : Int32) (w : GS) : Option (Int32 × GS) :=
  bd1 (oK w x0 1 1) fun _ =>
  bd1 (B_X1_isHome x0 x1 w) fun r1 =>
  if r1 = 0 then
    some ((-1 : Int32), w)
  else
    if (B_X1_in x2 (1 : Int32) (99 : Int32)) = 0 then
      some ((-1 : Int32), w)
    else
      bd1 (oK w x0 1 1) fun _ =>
      bd1 (B_X1_keeps x0 w) fun w4 =>
      bd1 (oRn w4 x0 1 1 4) fun a5 =>
      bd1 (oK w4 x0 1 1) fun _ =>
      bd1 (B_X1_frightens x0 a5 x1 x2 w4) fun w6 =>
      bd1 (oRn w6 x0 1 1 4) fun a7 =>
      bd1 (oRn w6 a7 4 4 1) fun a8 =>
      bd1 (aI w6 a8 40 x1) fun v9 =>
      some (v9, w6)
set_option maxRecDepth 100000 in
set_option maxHeartbeats 4000000 in
theorem met_B_X1_fright (l : Launch) (E : gE) (A : Nat → Prop) (LC LS : Nat)  (x0 : Nat) (x1 : Int32) (x2 : Int32) (w : GS) (res : Int32 × GS) (h : B_X1_fright x0 x1 x2 w = some res) : Met l yX1_fright (ws_ yX1_fright cX1_fright 3 (Option.some Jvm.ClassFile.FieldType.int)) (gRoom 5 108 LC LS w) (gPc E A LC LS [.ref x0, .int x1, .int x2] w) (gQi E A LC LS res.1 res.2) (LC - gZ w) (LS - gN w) A := by
  refine gMet (by decide) rfl (Nat.le_of_ble_eq_true rfl) ?_
  intro p e s m below meth c R S hr hlocks hin2 X Z hF hL H ls hw hl
  replace hl : lv_has ls 3 [(0, .ref x0), (1, .int x1), (2, .int x2)] := hl
  unfold B_X1_fright at h
  refine lv_aload_n S.1 S.2.1 dX1_fright_0 rfl (lv_at hl 0 rfl) ?_
  refine lv_iload_n S.1 S.2.1 dX1_fright_1 rfl (lv_at hl 1 rfl) ?_
  obtain ⟨hrc, h⟩ := oK1 h
  refine gcVri (As := [.int x1]) (rest := []) S X Z hw (b := x0) h (fun u h1 => met_B_X1_isHome l E A LC LS x0 x1 w u h1) (cb_X1_273 S.2.2.2.2 rfl rfl ⟨Nat.le_trans (Nat.le_of_ble_eq_true rfl : 3 + 1 ≤ 5) hF, Nat.le_trans (Nat.le_of_ble_eq_true rfl : 8 + (2 + 11) + 61 ≤ 108) hL⟩) (g_recv X hw (ci := 0) rfl (gcell_1 hrc)) rfl hl.1 rfl (lv_room (Nat.le_of_ble_eq_true rfl)) dX1_fright_2 (fun r1 H locs h hw => ?_)
  refine lv_if_eq (tgt := 18) S.1 S.2.1 dX1_fright_5 rfl (fun c2 => ?_) (fun c2 => ?_)
  · replace h := if_t c2 h
    refine lv_iconst (v := -1) S.1 S.2.1 dX1_fright_18 rfl ?_
    exact g_iret S Z hr hlocks hw (so2 h) dX1_fright_19
  · replace h := if_f c2 h
    refine lv_iload_n S.1 S.2.1 dX1_fright_8 rfl (lv_at hl 2 rfl) ?_
    refine lv_iconst (v := 1) S.1 S.2.1 dX1_fright_9 rfl ?_
    refine lv_bipush (v := 99) S.1 S.2.1 dX1_fright_10 rfl ?_
    refine gcSti (As := [.int x2, .int (1 : Int32), .int (99 : Int32)]) (rest := []) S X Z hw (met_B_X1_in l E A LC LS x2 (1 : Int32) (99 : Int32) w _ rfl) (cb_X1_153 S.2.2.2.2 rfl rfl ⟨Nat.le_trans (Nat.le_of_ble_eq_true rfl : 0 + 1 ≤ 5) hF, Nat.le_trans (Nat.le_of_ble_eq_true rfl : 8 + (3 + 11) + 0 ≤ 108) hL⟩) rfl hl.1 rfl (lv_room (Nat.le_of_ble_eq_true rfl)) dX1_fright_12 (fun H locs hw => ?_)
    refine lv_if_ne (tgt := 20) S.1 S.2.1 dX1_fright_15 rfl (fun c3 => ?_) (fun c3 => ?_)
    · replace h := if_f c3 h
      refine lv_aload_n S.1 S.2.1 dX1_fright_20 rfl (lv_at hl 0 rfl) ?_
      obtain ⟨hrc, h⟩ := oK1 h
      refine gcVv (As := []) (rest := []) S X Z hw (b := x0) h (fun u h1 => met_B_X1_keeps l E A LC LS x0 w u h1) (cb_X1_283 S.2.2.2.2 rfl rfl ⟨Nat.le_trans (Nat.le_of_ble_eq_true rfl : 2 + 1 ≤ 5) hF, Nat.le_trans (Nat.le_of_ble_eq_true rfl : 8 + (3 + 11) + 43 ≤ 108) hL⟩) (g_recv X hw (ci := 0) rfl (gcell_1 hrc)) rfl hl.1 rfl (lv_room (Nat.le_of_ble_eq_true rfl)) dX1_fright_21 (fun w4 H locs h hw => ?_)
      refine lv_aload_n S.1 S.2.1 dX1_fright_24 rfl (lv_at hl 0 rfl) ?_
      refine lv_aload_n S.1 S.2.1 dX1_fright_25 rfl (lv_at hl 0 rfl) ?_
      refine ggX1_51 S X hw dX1_fright_26 h (fun a5 h => ?_)
      refine lv_iload_n S.1 S.2.1 dX1_fright_29 rfl (lv_at hl 1 rfl) ?_
      refine lv_iload_n S.1 S.2.1 dX1_fright_30 rfl (lv_at hl 2 rfl) ?_
      obtain ⟨hrc, h⟩ := oK1 h
      refine gcVv (As := [.ref a5, .int x1, .int x2]) (rest := []) S X Z hw (b := x0) h (fun u h1 => met_B_X1_frightens l E A LC LS x0 a5 x1 x2 w4 u h1) (cb_X1_288 S.2.2.2.2 rfl rfl ⟨Nat.le_trans (Nat.le_of_ble_eq_true rfl : 4 + 1 ≤ 5) hF, Nat.le_trans (Nat.le_of_ble_eq_true rfl : 8 + (4 + 11) + 85 ≤ 108) hL⟩) (g_recv X hw (ci := 0) rfl (gcell_1 hrc)) rfl hl.1 rfl (lv_room (Nat.le_of_ble_eq_true rfl)) dX1_fright_31 (fun w6 H locs h hw => ?_)
      refine lv_aload_n S.1 S.2.1 dX1_fright_34 rfl (lv_at hl 0 rfl) ?_
      refine ggX1_51 S X hw dX1_fright_35 h (fun a7 h => ?_)
      refine ggX1_173 S X hw dX1_fright_38 h (fun a8 h => ?_)
      refine lv_iload_n S.1 S.2.1 dX1_fright_41 rfl (lv_at hl 1 rfl) ?_
      refine gald40 S X hw dX1_fright_42 h (fun v9 h => ?_)
      exact g_iret S Z hr hlocks hw (so2 h) dX1_fright_43
    · replace h := if_t c3 h
      refine lv_iconst (v := -1) S.1 S.2.1 dX1_fright_18 rfl ?_
      exact g_iret S Z hr hlocks hw (so2 h) dX1_fright_19
def B_X1_drink (x0 : Nat) (x1 : Int32) (w : GS) : Option (Int32 × GS) :=
  bd1 (oK w x0 1 1) fun _ =>
  bd1 (B_X1_isHome x0 x1 w) fun r1 =>
  if r1 = 0 then
    some ((0 : Int32), w)
  else
    bd1 (oK w x0 1 1) fun _ =>
    bd1 (B_X1_keeps x0 w) fun w3 =>
    bd1 (oRn w3 x0 1 1 4) fun a4 =>
    bd1 (oRn w3 a4 4 4 2) fun a5 =>
    bd1 (oRn w3 x0 1 1 2) fun a6 =>
    bd1 (oI w3 a6 3 3 4) fun v7 =>
    bd1 (xI w3 a5 40 x1 v7) fun w8 =>
    some ((1 : Int32), w8)
set_option maxRecDepth 100000 in
set_option maxHeartbeats 4000000 in
theorem met_B_X1_drink (l : Launch) (E : gE) (A : Nat → Prop) (LC LS : Nat)  (x0 : Nat) (x1 : Int32) (w : GS) (res : Int32 × GS) (h : B_X1_drink x0 x1 w = some res) : Met l yX1_drink (ws_ yX1_drink cX1_drink 2 (Option.some Jvm.ClassFile.FieldType.boolean)) (gRoom 4 82 LC LS w) (gPc E A LC LS [.ref x0, .int x1] w) (gQi E A LC LS res.1 res.2) (LC - gZ w) (LS - gN w) A := by
  refine gMet (by decide) rfl (Nat.le_of_ble_eq_true rfl) ?_
  intro p e s m below meth c R S hr hlocks hin2 X Z hF hL H ls hw hl
  replace hl : lv_has ls 2 [(0, .ref x0), (1, .int x1)] := hl
  unfold B_X1_drink at h
  refine lv_aload_n S.1 S.2.1 dX1_drink_0 rfl (lv_at hl 0 rfl) ?_
  refine lv_iload_n S.1 S.2.1 dX1_drink_1 rfl (lv_at hl 1 rfl) ?_
  obtain ⟨hrc, h⟩ := oK1 h
  refine gcVri (As := [.int x1]) (rest := []) S X Z hw (b := x0) h (fun u h1 => met_B_X1_isHome l E A LC LS x0 x1 w u h1) (cb_X1_273 S.2.2.2.2 rfl rfl ⟨Nat.le_trans (Nat.le_of_ble_eq_true rfl : 3 + 1 ≤ 4) hF, Nat.le_trans (Nat.le_of_ble_eq_true rfl : 8 + (2 + 11) + 61 ≤ 82) hL⟩) (g_recv X hw (ci := 0) rfl (gcell_1 hrc)) rfl hl.1 rfl (lv_room (Nat.le_of_ble_eq_true rfl)) dX1_drink_2 (fun r1 H locs h hw => ?_)
  refine lv_if_ne (tgt := 10) S.1 S.2.1 dX1_drink_5 rfl (fun c2 => ?_) (fun c2 => ?_)
  · replace h := if_f c2 h
    refine lv_aload_n S.1 S.2.1 dX1_drink_10 rfl (lv_at hl 0 rfl) ?_
    obtain ⟨hrc, h⟩ := oK1 h
    refine gcVv (As := []) (rest := []) S X Z hw (b := x0) h (fun u h1 => met_B_X1_keeps l E A LC LS x0 w u h1) (cb_X1_283 S.2.2.2.2 rfl rfl ⟨Nat.le_trans (Nat.le_of_ble_eq_true rfl : 2 + 1 ≤ 4) hF, Nat.le_trans (Nat.le_of_ble_eq_true rfl : 8 + (3 + 11) + 43 ≤ 82) hL⟩) (g_recv X hw (ci := 0) rfl (gcell_1 hrc)) rfl hl.1 rfl (lv_room (Nat.le_of_ble_eq_true rfl)) dX1_drink_11 (fun w3 H locs h hw => ?_)
    refine lv_aload_n S.1 S.2.1 dX1_drink_14 rfl (lv_at hl 0 rfl) ?_
    refine ggX1_51 S X hw dX1_drink_15 h (fun a4 h => ?_)
    refine ggX1_185 S X hw dX1_drink_18 h (fun a5 h => ?_)
    refine lv_iload_n S.1 S.2.1 dX1_drink_21 rfl (lv_at hl 1 rfl) ?_
    refine lv_aload_n S.1 S.2.1 dX1_drink_22 rfl (lv_at hl 0 rfl) ?_
    refine ggX1_35 S X hw dX1_drink_23 h (fun a6 h => ?_)
    refine ggX1_292 S X hw dX1_drink_26 h (fun v7 h => ?_)
    refine gast40 S X hw dX1_drink_29 h (fun w8 H locs h hw => ?_)
    refine lv_iconst (v := 1) S.1 S.2.1 dX1_drink_30 rfl ?_
    exact g_zret S Z hr hlocks hw rfl (so2 h) dX1_drink_31
  · replace h := if_t c2 h
    refine lv_iconst (v := 0) S.1 S.2.1 dX1_drink_8 rfl ?_
    exact g_zret S Z hr hlocks hw rfl (so2 h) dX1_drink_9
theorem cb_X1_196 {R : Room} {s : State} {args : Array Value} {rm : Room} {mc ms : Nat} (hts : ∀ w ∈ lw_all, w.before args s = true) (hc : rm.cells = mc) (hs : rm.slots = ms) (hR : rm.frames + 1 ≤ R.frames ∧ 8 + (1 + 11) + rm.locals ≤ R.locals) : CallW R s args RX1 RX3 196 yX3_every cX3_every 1 (Option.some Jvm.ClassFile.FieldType.int) (ws_ yX3_every cX3_every 1 (Option.some Jvm.ClassFile.FieldType.int)) rm mc ms 0 := cwV 0 hts (lw_V q1415 q1416 q1417 q137 q1418) rfl hc hs (by decide +kernel) hR
section
variable {p : Program} {l : Launch} {e : Env} {R : Room} {s : State} {m : MethodId} {args : Array Value} {below : List Frame} {meth : Method} {c : Code} {H : Heap} {locs : List Loc} {cells slots : Nat} {Q : State → Prop}
variable {cc : ByteArray} {nL pc : Nat} {ls : Array Slot} {rest : List Value} {A : Nat → Prop} {E : gE} {LC LS : Nat} {g : GS} {a : Nat} {β : Type} {r : β}
theorem dv_X1_206 {b : Nat} {x1 : Int32} {F : Int32 → Option β} {o : Option (Int32)} {st : List Value} (S : CallFix p m c cc nL s args lw_all RX1) (X : gCtx E A s) (Z : gRm R s LC LS) (hw : gH E A LC LS s g H locs) (h : bd1 o F = some r) (hM : ∀ u, o = some u → vt_settles l E A LC LS b x1 g u) (hR : 0 + 1 ≤ R.frames ∧ 8 + (2 + 11) + (0) ≤ R.locals) (hz : ls.size = nL) (hst : st = ([.int x1].reverse ++ .ref b :: rest)) (hrm : 2 * (F0 m pc ls st).monitorRoom + (rest.map fun v => v.category).sum ≤ 8) (hd : decode cc pc = .ok (.invokevirtual 206, 3)) (kk : ∀ (v : Int32) (H : Heap) (locs : List Loc), F v = some r → gH E A LC LS s g H locs → W p l e R s m args below meth c H locs (H.size - s.heap.size) (tot H - tot s.heap) Q (F0 m (pc + 3) ls (.int v :: rest))) : W p l e R s m args below meth c H locs (H.size - s.heap.size) (tot H - tot s.heap) Q (F0 m pc ls st) := by
  obtain ⟨u, h1, h2⟩ := bd1_some h
  have hm := hM u h1
  unfold vt_settles at hm
  rcases hm with ⟨ht, hm⟩ | ⟨ht, hm⟩ | ⟨ht, hm⟩ | ⟨ht, hm⟩
  · have cw : va_CU R s args RX1 RX8 "PulseRent$Tenant" 206 yX8_settles yX8_settles cX8_settles 2 (Option.some Jvm.ClassFile.FieldType.int) (ws_ yX8_settles cX8_settles 2 (Option.some Jvm.ClassFile.FieldType.int)) (gRoom (0) (0) LC LS g) (LC - gZ g) (LS - gN g) 1 := va_cwU 1 S.2.2.2.2 (lw_app (by intro w hw; simp only [List.mem_cons, List.not_mem_nil, or_false] at hw; rcases hw with e | e | e | e | e <;> rw [e]; exact q1419; exact q1422; exact q1421; exact q1420; exact q160) (lw_meth q1428)) rfl rfl rfl rfl (by decide +kernel) ⟨hR.1, Nat.le_trans (Nat.add_le_add_right (Nat.le_of_ble_eq_true rfl : 8 + (2 + 11) ≤ 8 + (2 + 11)) _) hR.2⟩
    exact gcHri (As := [.int x1]) (rest := rest) S X Z hw h (fun u1 e1 => by rw [h1] at e1; cases e1; exact hm) cw (g_recv X hw (ci := 7) rfl (gcell_8 ht)) rfl hz hst hrm hd kk
  · have cw : va_CU R s args RX1 RX9 "PulseRent$Tenant" 206 yX8_settles yX9_settles cX9_settles 2 (Option.some Jvm.ClassFile.FieldType.int) (ws_ yX9_settles cX9_settles 2 (Option.some Jvm.ClassFile.FieldType.int)) (gRoom (0) (0) LC LS g) (LC - gZ g) (LS - gN g) 1 := va_cwO 1 S.2.2.2.2 (lw_app (by intro w hw; simp only [List.mem_cons, List.not_mem_nil, or_false] at hw; rcases hw with e | e | e | e | e | e <;> rw [e]; exact q1419; exact q1422; exact q1420; exact q1423; exact q1424; exact q161) (lw_meth q1425)) rfl rfl rfl q1428 (by decide +kernel) ⟨hR.1, Nat.le_trans (Nat.add_le_add_right (Nat.le_of_ble_eq_true rfl : 8 + (2 + 11) ≤ 8 + (2 + 11)) _) hR.2⟩
    exact gcHri (As := [.int x1]) (rest := rest) S X Z hw h (fun u1 e1 => by rw [h1] at e1; cases e1; exact hm) cw (g_recv X hw (ci := 8) rfl (gcell_9 ht)) rfl hz hst hrm hd kk
  · have cw : va_CU R s args RX1 RX10 "PulseRent$Tenant" 206 yX8_settles yX8_settles cX8_settles 2 (Option.some Jvm.ClassFile.FieldType.int) (ws_ yX8_settles cX8_settles 2 (Option.some Jvm.ClassFile.FieldType.int)) (gRoom (0) (0) LC LS g) (LC - gZ g) (LS - gN g) 1 := va_cwU 1 S.2.2.2.2 (lw_app (by intro w hw; simp only [List.mem_cons, List.not_mem_nil, or_false] at hw; rcases hw with e | e | e | e | e <;> rw [e]; exact q1419; exact q1422; exact q1426; exact q1420; exact q160) (lw_meth q1428)) rfl rfl rfl rfl (by decide +kernel) ⟨hR.1, Nat.le_trans (Nat.add_le_add_right (Nat.le_of_ble_eq_true rfl : 8 + (2 + 11) ≤ 8 + (2 + 11)) _) hR.2⟩
    exact gcHri (As := [.int x1]) (rest := rest) S X Z hw h (fun u1 e1 => by rw [h1] at e1; cases e1; exact hm) cw (g_recv X hw (ci := 9) rfl (gcell_10 ht)) rfl hz hst hrm hd kk
  · have cw : va_CU R s args RX1 RX11 "PulseRent$Tenant" 206 yX8_settles yX8_settles cX8_settles 2 (Option.some Jvm.ClassFile.FieldType.int) (ws_ yX8_settles cX8_settles 2 (Option.some Jvm.ClassFile.FieldType.int)) (gRoom (0) (0) LC LS g) (LC - gZ g) (LS - gN g) 1 := va_cwU 1 S.2.2.2.2 (lw_app (by intro w hw; simp only [List.mem_cons, List.not_mem_nil, or_false] at hw; rcases hw with e | e | e | e | e <;> rw [e]; exact q1419; exact q1422; exact q1427; exact q1420; exact q160) (lw_meth q1428)) rfl rfl rfl rfl (by decide +kernel) ⟨hR.1, Nat.le_trans (Nat.add_le_add_right (Nat.le_of_ble_eq_true rfl : 8 + (2 + 11) ≤ 8 + (2 + 11)) _) hR.2⟩
    exact gcHri (As := [.int x1]) (rest := rest) S X Z hw h (fun u1 e1 => by rw [h1] at e1; cases e1; exact hm) cw (g_recv X hw (ci := 10) rfl (gcell_11 ht)) rfl hz hst hrm hd kk
end
def B_X1_passesOne_p81 : Nat → Nat → Nat → Int32 → GS → Option GS
  | 0, _, _, _, _ => none
  | n + 1, x0, x1, x4, w =>
    bd1 (oK w x0 1 1) fun _ =>
    bd1 (B_X1_tenants x0 w) fun r8 =>
    if r8 ≤ x4 then
      bd1 (oI w x1 4 4 6) fun v10 =>
      bd1 (pI w x1 4 4 6 (v10 + (1 : Int32))) fun w11 =>
      some w11
    else
      bd1 (oRn w x1 4 4 1) fun a12 =>
      bd1 (oK w x0 1 1) fun _ =>
      bd1 (B_X1_tenant_2 x0 x4 w) fun a13 =>
      bd1 (oRn w x1 4 4 1) fun a14 =>
      bd1 (aI w a14 40 x4) fun v15 =>
      bd1 (V_settles a13 v15 w) fun r16 =>
      bd1 (xI w a12 40 x4 r16) fun w17 =>
      bd1 (oRn w17 x1 4 4 2) fun a18 =>
      bd1 (oRn w17 x1 4 4 2) fun a19 =>
      bd1 (aI w17 a19 40 x4) fun v20 =>
      bd1 (xI w17 a18 40 x4 (if (0 : Int32) < (v20 - (1 : Int32)) then (v20 - (1 : Int32)) else (0 : Int32))) fun w21 =>
      (B_X1_passesOne_p81 n) x0 x1 (x4 + (1 : Int32)) w21
def B_X1_passesOne_p24 : Nat → Nat → Nat → Int32 → Int32 → Int32 → GS → Option GS
  | 0, _, _, _, _, _, _ => none
  | n + 1, x0, x1, x2, x3, x4, w =>
    bd1 (oK w x0 1 1) fun _ =>
    bd1 (B_X1_tenants x0 w) fun r6 =>
    if r6 ≤ x4 then
      B_X1_passesOne_p81 FU x0 x1 (0 : Int32) w
    else
      if x3 = 0 then
        B_X1_passesOne_p81 FU x0 x1 (0 : Int32) w
      else
        bd1 (oK w x1 4 4) fun _ =>
        bd1 (B_X4_isIn x1 x4 w) fun r23 =>
        if r23 = 0 then
          (B_X1_passesOne_p24 n) x0 x1 x2 x3 (x4 + (1 : Int32)) w
        else
          bd1 (oRn w x1 4 4 4) fun a25 =>
          bd1 (aI w a25 40 x4) fun v26 =>
          bd1 (oK w x0 1 1) fun _ =>
          bd1 (B_X1_pulse_2 x0 x1 x4 x2 w) fun r27 =>
          bd1 (oRn w x0 1 1 2) fun a28 =>
          bd1 (oK w a28 3 3) fun _ =>
          bd1 (B_X3_every a28 w) fun r29 =>
          bd1 (xI w a25 40 x4 (v26 + (r27 * r29))) fun w30 =>
          (B_X1_passesOne_p24 n) x0 x1 x2 x3 (x4 + (1 : Int32)) w30
def B_X1_passesOne (x0 : Nat) (x1 : Nat) (x2 : Int32) (w : GS) : Option GS :=
  bd1 (oI w x1 4 4 6) fun v1 =>
  bd1 (oRn w x0 1 1 2) fun a2 =>
  bd1 (oK w a2 3 3) fun _ =>
  bd1 (B_X3_every a2 w) fun r3 =>
  bd1 (o_irem v1 r3) fun d4 =>
  if d4 = 0 then
    B_X1_passesOne_p24 FU x0 x1 x2 (1 : Int32) (0 : Int32) w
  else
    B_X1_passesOne_p24 FU x0 x1 x2 (0 : Int32) (0 : Int32) w
set_option maxRecDepth 100000 in
set_option maxHeartbeats 4000000 in
theorem wk_B_X1_passesOne_p81 {p : Program} {l : Launch} {e : Env} {R : Room} {s : State} {m : MethodId} {args : Array Value} {below : List Frame} {meth : Method} {c : Code} {E : gE} {A : Nat → Prop} {LC LS : Nat} (S : CallFix p m c cX1_passesOne 5 s args lw_all RX1) (X : gCtx E A s) (Z : gRm R s LC LS) (hF : 5 ≤ R.frames) (hL : 110 ≤ R.locals) (hr : meth.sig.returnType = (Option.none : Option Jvm.ClassFile.FieldType)) (hlocks : meth.locks = false) {res : GS}  : ∀ n : Nat, ∀ (x0 : Nat) (x1 : Nat) (x4 : Int32) (w : GS) (H : Heap) (locs : List Loc) (ls : Array Slot), B_X1_passesOne_p81 n x0 x1 x4 w = some res → gH E A LC LS s w H locs → lv_has ls 5 [(0, .ref x0), (1, .ref x1), (4, .int x4)] → W p l e R s m args below meth c H locs (H.size - s.heap.size) (tot H - tot s.heap) (MQ below (gQv E A LC LS res) args s R.cells R.slots A) (F0 m 81 ls []) := by
  intro n
  induction n with
  | zero => intro x0 x1 x4 w H locs ls h; cases (show (none : Option GS) = some res from h)
  | succ n ih =>
    intro x0 x1 x4 w H locs ls h hw hl
    rw [B_X1_passesOne_p81] at h
    refine lv_iload S.1 S.2.1 dX1_passesOne_81 (lv_at hl 2 rfl) ?_
    refine lv_aload_n S.1 S.2.1 dX1_passesOne_83 rfl (lv_at hl 0 rfl) ?_
    obtain ⟨hrc, h⟩ := oK1 h
    refine gcVri (As := []) (rest := [.int x4]) S X Z hw (b := x0) h (fun u h1 => met_B_X1_tenants l E A LC LS x0 w u h1) (cb_X1_157 S.2.2.2.2 rfl rfl ⟨Nat.le_trans (Nat.le_of_ble_eq_true rfl : 1 + 1 ≤ 5) hF, Nat.le_trans (Nat.le_of_ble_eq_true rfl : 8 + (1 + 11) + 20 ≤ 110) hL⟩) (g_recv X hw (ci := 0) rfl (gcell_1 hrc)) rfl hl.1 rfl (lv_room (Nat.le_of_ble_eq_true rfl)) dX1_passesOne_84 (fun r8 H locs h hw => ?_)
    refine lv_icmp_ge (tgt := 139) S.1 S.2.1 dX1_passesOne_87 rfl (fun c9 => ?_) (fun c9 => ?_)
    · replace h := if_t c9 h
      refine lv_aload_n S.1 S.2.1 dX1_passesOne_139 rfl (lv_at hl 1 rfl) ?_
      refine lv_dup S.1 S.2.1 dX1_passesOne_140 rfl ?_
      refine ggX1_193 S X hw dX1_passesOne_141 h (fun v10 h => ?_)
      refine lv_iconst (v := 1) S.1 S.2.1 dX1_passesOne_144 rfl ?_
      refine lv_iadd S.1 S.2.1 dX1_passesOne_145 ?_
      refine gpX1_193 S X hw dX1_passesOne_146 h (fun w11 H locs h hw => ?_)
      exact g_vret S Z hr hlocks hw (so1 h) dX1_passesOne_149
    · replace h := if_f c9 h
      refine lv_aload_n S.1 S.2.1 dX1_passesOne_90 rfl (lv_at hl 1 rfl) ?_
      refine ggX1_173 S X hw dX1_passesOne_91 h (fun a12 h => ?_)
      refine lv_iload S.1 S.2.1 dX1_passesOne_94 (lv_at hl 2 rfl) ?_
      refine lv_aload_n S.1 S.2.1 dX1_passesOne_96 rfl (lv_at hl 0 rfl) ?_
      refine lv_iload S.1 S.2.1 dX1_passesOne_97 (lv_at hl 2 rfl) ?_
      obtain ⟨hrc, h⟩ := oK1 h
      refine gcVrr (As := [.int x4]) (rest := [.int x4, .ref a12]) S X Z hw (b := x0) h (fun u h1 => met_B_X1_tenant_2 l E A LC LS x0 x4 w u h1) (cb_X1_166 S.2.2.2.2 rfl rfl ⟨Nat.le_trans (Nat.le_of_ble_eq_true rfl : 3 + 1 ≤ 5) hF, Nat.le_trans (Nat.le_of_ble_eq_true rfl : 8 + (2 + 11) + 64 ≤ 110) hL⟩) (g_recv X hw (ci := 0) rfl (gcell_1 hrc)) rfl hl.1 rfl (lv_room (Nat.le_of_ble_eq_true rfl)) dX1_passesOne_99 (fun a13 H locs h hw => ?_)
      refine lv_aload_n S.1 S.2.1 dX1_passesOne_102 rfl (lv_at hl 1 rfl) ?_
      refine ggX1_173 S X hw dX1_passesOne_103 h (fun a14 h => ?_)
      refine lv_iload S.1 S.2.1 dX1_passesOne_106 (lv_at hl 2 rfl) ?_
      refine gald40 S X hw dX1_passesOne_108 h (fun v15 h => ?_)
      refine dv_X1_206  (rest := [.int x4, .ref a12]) S X Z hw h (fun u h1 => dm_settles l E A LC LS a13 v15 w u h1) ⟨Nat.le_trans (Nat.le_of_ble_eq_true rfl : 0 + 1 ≤ 5) hF, Nat.le_trans (Nat.le_of_ble_eq_true rfl : 8 + (2 + 11) + 0 ≤ 110) hL⟩ hl.1 rfl (lv_room (Nat.le_of_ble_eq_true rfl)) dX1_passesOne_109 (fun r16 H locs h hw => ?_)
      refine gast40 S X hw dX1_passesOne_112 h (fun w17 H locs h hw => ?_)
      refine lv_aload_n S.1 S.2.1 dX1_passesOne_113 rfl (lv_at hl 1 rfl) ?_
      refine ggX1_185 S X hw dX1_passesOne_114 h (fun a18 h => ?_)
      refine lv_iload S.1 S.2.1 dX1_passesOne_117 (lv_at hl 2 rfl) ?_
      refine lv_iconst (v := 0) S.1 S.2.1 dX1_passesOne_119 rfl ?_
      refine lv_aload_n S.1 S.2.1 dX1_passesOne_120 rfl (lv_at hl 1 rfl) ?_
      refine ggX1_185 S X hw dX1_passesOne_121 h (fun a19 h => ?_)
      refine lv_iload S.1 S.2.1 dX1_passesOne_124 (lv_at hl 2 rfl) ?_
      refine gald40 S X hw dX1_passesOne_126 h (fun v20 h => ?_)
      refine lv_iconst (v := 1) S.1 S.2.1 dX1_passesOne_127 rfl ?_
      refine lv_isub S.1 S.2.1 dX1_passesOne_128 ?_
      refine va_mmax (x := (0 : Int32)) (y := (v20 - (1 : Int32))) (rest := [.int x4, .ref a18]) S.1 S.2.1 (S.2.2.1.trans hl.1.symm) S.2.2.2.1 (S.2.2.2.2 _ q1398) (S.2.2.2.2 _ q506) (S.2.2.2.2 _ q147) (S.2.2.2.2 _ q507) (Nat.le_trans (Nat.le_of_ble_eq_true rfl) hF) (Nat.le_trans (Nat.le_of_ble_eq_true rfl : (([.int x4, .ref a18] : List Value).map fun v : Value => v.category).sum + 13 ≤ 21) (Nat.le_trans (Nat.le_of_ble_eq_true rfl) hL)) (gRm_le Z hw).1 (gRm_le Z hw).2 dX1_passesOne_129 ?_
      refine gast40 S X hw dX1_passesOne_132 h (fun w21 H locs h hw => ?_)
      refine lv_iinc (v := x4 + (1 : Int32)) (lv' := [(4, .int (x4 + (1 : Int32))), (0, .ref x0), (1, .ref x1)]) S.1 S.2.1 dX1_passesOne_133 hl (k := 2) rfl rfl (by decide) rfl (fun ls hl => ?_)
      refine lv_goto (tgt := 81) S.1 S.2.1 dX1_passesOne_136 rfl ?_
      exact ih _ _ _ _ _ _ _ h hw (lv_sub hl [1, 2, 0] rfl)
set_option maxRecDepth 100000 in
set_option maxHeartbeats 4000000 in
theorem wk_B_X1_passesOne_p24 {p : Program} {l : Launch} {e : Env} {R : Room} {s : State} {m : MethodId} {args : Array Value} {below : List Frame} {meth : Method} {c : Code} {E : gE} {A : Nat → Prop} {LC LS : Nat} (S : CallFix p m c cX1_passesOne 5 s args lw_all RX1) (X : gCtx E A s) (Z : gRm R s LC LS) (hF : 5 ≤ R.frames) (hL : 110 ≤ R.locals) (hr : meth.sig.returnType = (Option.none : Option Jvm.ClassFile.FieldType)) (hlocks : meth.locks = false) {res : GS}  : ∀ n : Nat, ∀ (x0 : Nat) (x1 : Nat) (x2 : Int32) (x3 : Int32) (x4 : Int32) (w : GS) (H : Heap) (locs : List Loc) (ls : Array Slot), B_X1_passesOne_p24 n x0 x1 x2 x3 x4 w = some res → gH E A LC LS s w H locs → lv_has ls 5 [(0, .ref x0), (1, .ref x1), (2, .int x2), (3, .int x3), (4, .int x4)] → W p l e R s m args below meth c H locs (H.size - s.heap.size) (tot H - tot s.heap) (MQ below (gQv E A LC LS res) args s R.cells R.slots A) (F0 m 24 ls []) := by
  intro n
  induction n with
  | zero => intro x0 x1 x2 x3 x4 w H locs ls h; cases (show (none : Option GS) = some res from h)
  | succ n ih =>
    intro x0 x1 x2 x3 x4 w H locs ls h hw hl
    rw [B_X1_passesOne_p24] at h
    refine lv_iload S.1 S.2.1 dX1_passesOne_24 (lv_at hl 4 rfl) ?_
    refine lv_aload_n S.1 S.2.1 dX1_passesOne_26 rfl (lv_at hl 0 rfl) ?_
    obtain ⟨hrc, h⟩ := oK1 h
    refine gcVri (As := []) (rest := [.int x4]) S X Z hw (b := x0) h (fun u h1 => met_B_X1_tenants l E A LC LS x0 w u h1) (cb_X1_157 S.2.2.2.2 rfl rfl ⟨Nat.le_trans (Nat.le_of_ble_eq_true rfl : 1 + 1 ≤ 5) hF, Nat.le_trans (Nat.le_of_ble_eq_true rfl : 8 + (1 + 11) + 20 ≤ 110) hL⟩) (g_recv X hw (ci := 0) rfl (gcell_1 hrc)) rfl hl.1 rfl (lv_room (Nat.le_of_ble_eq_true rfl)) dX1_passesOne_27 (fun r6 H locs h hw => ?_)
    refine lv_icmp_ge (tgt := 78) S.1 S.2.1 dX1_passesOne_30 rfl (fun c7 => ?_) (fun c7 => ?_)
    · replace h := if_t c7 h
      refine lv_iconst (v := 0) S.1 S.2.1 dX1_passesOne_78 rfl ?_
      refine lv_istore (lv' := [(4, .int (0 : Int32)), (0, .ref x0), (1, .ref x1), (2, .int x2), (3, .int x3)]) S.1 S.2.1 dX1_passesOne_79 hl (by decide) rfl (fun ls hl => ?_)
      exact wk_B_X1_passesOne_p81 S X Z hF hL hr hlocks  FU _ _ _ _ _ _ _ h hw (lv_sub hl [1, 2, 0] rfl)
    · replace h := if_f c7 h
      refine lv_iload_n S.1 S.2.1 dX1_passesOne_33 rfl (lv_at hl 3 rfl) ?_
      refine lv_if_eq (tgt := 78) S.1 S.2.1 dX1_passesOne_34 rfl (fun c22 => ?_) (fun c22 => ?_)
      · replace h := if_t c22 h
        refine lv_iconst (v := 0) S.1 S.2.1 dX1_passesOne_78 rfl ?_
        refine lv_istore (lv' := [(4, .int (0 : Int32)), (0, .ref x0), (1, .ref x1), (2, .int x2), (3, .int x3)]) S.1 S.2.1 dX1_passesOne_79 hl (by decide) rfl (fun ls hl => ?_)
        exact wk_B_X1_passesOne_p81 S X Z hF hL hr hlocks  FU _ _ _ _ _ _ _ h hw (lv_sub hl [1, 2, 0] rfl)
      · replace h := if_f c22 h
        refine lv_aload_n S.1 S.2.1 dX1_passesOne_37 rfl (lv_at hl 1 rfl) ?_
        refine lv_iload S.1 S.2.1 dX1_passesOne_38 (lv_at hl 4 rfl) ?_
        obtain ⟨hrc, h⟩ := oK1 h
        refine gcVri (As := [.int x4]) (rest := []) S X Z hw (b := x1) h (fun u h1 => met_B_X4_isIn l E A LC LS x1 x4 w u h1) (cb_X1_163 S.2.2.2.2 rfl rfl ⟨Nat.le_trans (Nat.le_of_ble_eq_true rfl : 0 + 1 ≤ 5) hF, Nat.le_trans (Nat.le_of_ble_eq_true rfl : 8 + (2 + 11) + 0 ≤ 110) hL⟩) (g_recv X hw (ci := 3) rfl (gcell_4 hrc)) rfl hl.1 rfl (lv_room (Nat.le_of_ble_eq_true rfl)) dX1_passesOne_40 (fun r23 H locs h hw => ?_)
        refine lv_if_eq (tgt := 72) S.1 S.2.1 dX1_passesOne_43 rfl (fun c24 => ?_) (fun c24 => ?_)
        · replace h := if_t c24 h
          refine lv_iinc (v := x4 + (1 : Int32)) (lv' := [(4, .int (x4 + (1 : Int32))), (0, .ref x0), (1, .ref x1), (2, .int x2), (3, .int x3)]) S.1 S.2.1 dX1_passesOne_72 hl (k := 4) rfl rfl (by decide) rfl (fun ls hl => ?_)
          refine lv_goto (tgt := 24) S.1 S.2.1 dX1_passesOne_75 rfl ?_
          exact ih _ _ _ _ _ _ _ _ _ h hw (lv_sub hl [1, 2, 3, 4, 0] rfl)
        · replace h := if_f c24 h
          refine lv_aload_n S.1 S.2.1 dX1_passesOne_46 rfl (lv_at hl 1 rfl) ?_
          refine ggX1_199 S X hw dX1_passesOne_47 h (fun a25 h => ?_)
          refine lv_iload S.1 S.2.1 dX1_passesOne_50 (lv_at hl 4 rfl) ?_
          refine lv_dup2_11 S.1 S.2.1 dX1_passesOne_52 rfl rfl ?_
          refine gald40 S X hw dX1_passesOne_53 h (fun v26 h => ?_)
          refine lv_aload_n S.1 S.2.1 dX1_passesOne_54 rfl (lv_at hl 0 rfl) ?_
          refine lv_aload_n S.1 S.2.1 dX1_passesOne_55 rfl (lv_at hl 1 rfl) ?_
          refine lv_iload S.1 S.2.1 dX1_passesOne_56 (lv_at hl 4 rfl) ?_
          refine lv_iload_n S.1 S.2.1 dX1_passesOne_58 rfl (lv_at hl 2 rfl) ?_
          obtain ⟨hrc, h⟩ := oK1 h
          refine gcVri (As := [.ref x1, .int x4, .int x2]) (rest := [.int v26, .int x4, .ref a25]) S X Z hw (b := x0) h (fun u h1 => met_B_X1_pulse_2 l E A LC LS x0 x1 x4 x2 w u h1) (cb_X1_202 S.2.2.2.2 rfl rfl ⟨Nat.le_trans (Nat.le_of_ble_eq_true rfl : 4 + 1 ≤ 5) hF, Nat.le_trans (Nat.le_of_ble_eq_true rfl : 8 + (6 + 11) + 85 ≤ 110) hL⟩) (g_recv X hw (ci := 0) rfl (gcell_1 hrc)) rfl hl.1 rfl (lv_room (Nat.le_of_ble_eq_true rfl)) dX1_passesOne_59 (fun r27 H locs h hw => ?_)
          refine lv_aload_n S.1 S.2.1 dX1_passesOne_62 rfl (lv_at hl 0 rfl) ?_
          refine ggX1_35 S X hw dX1_passesOne_63 h (fun a28 h => ?_)
          obtain ⟨hrc, h⟩ := oK1 h
          refine gcVri (As := []) (rest := [.int r27, .int v26, .int x4, .ref a25]) S X Z hw (b := a28) h (fun u h1 => met_B_X3_every l E A LC LS a28 w u h1) (cb_X1_196 S.2.2.2.2 rfl rfl ⟨Nat.le_trans (Nat.le_of_ble_eq_true rfl : 0 + 1 ≤ 5) hF, Nat.le_trans (Nat.le_of_ble_eq_true rfl : 8 + (1 + 11) + 0 ≤ 110) hL⟩) (g_recv X hw (ci := 2) rfl (gcell_3 hrc)) rfl hl.1 rfl (lv_room (Nat.le_of_ble_eq_true rfl)) dX1_passesOne_66 (fun r29 H locs h hw => ?_)
          refine lv_imul S.1 S.2.1 dX1_passesOne_69 ?_
          refine lv_iadd S.1 S.2.1 dX1_passesOne_70 ?_
          refine gast40 S X hw dX1_passesOne_71 h (fun w30 H locs h hw => ?_)
          refine lv_iinc (v := x4 + (1 : Int32)) (lv' := [(4, .int (x4 + (1 : Int32))), (0, .ref x0), (1, .ref x1), (2, .int x2), (3, .int x3)]) S.1 S.2.1 dX1_passesOne_72 hl (k := 4) rfl rfl (by decide) rfl (fun ls hl => ?_)
          refine lv_goto (tgt := 24) S.1 S.2.1 dX1_passesOne_75 rfl ?_
          exact ih _ _ _ _ _ _ _ _ _ h hw (lv_sub hl [1, 2, 3, 4, 0] rfl)
set_option maxRecDepth 100000 in
set_option maxHeartbeats 4000000 in
theorem met_B_X1_passesOne (l : Launch) (E : gE) (A : Nat → Prop) (LC LS : Nat)  (x0 : Nat) (x1 : Nat) (x2 : Int32) (w : GS) (res : GS) (h : B_X1_passesOne x0 x1 x2 w = some res) : Met l yX1_passesOne (ws_ yX1_passesOne cX1_passesOne 5 (Option.none : Option Jvm.ClassFile.FieldType)) (gRoom 5 110 LC LS w) (gPc E A LC LS [.ref x0, .ref x1, .int x2] w) (gQv E A LC LS res) (LC - gZ w) (LS - gN w) A := by
  refine gMet (by decide) rfl (Nat.le_of_ble_eq_true rfl) ?_
  intro p e s m below meth c R S hr hlocks hin2 X Z hF hL H ls hw hl
  replace hl : lv_has ls 5 [(0, .ref x0), (1, .ref x1), (2, .int x2)] := hl
  unfold B_X1_passesOne at h
  refine lv_aload_n S.1 S.2.1 dX1_passesOne_0 rfl (lv_at hl 1 rfl) ?_
  refine ggX1_193 S X hw dX1_passesOne_1 h (fun v1 h => ?_)
  refine lv_aload_n S.1 S.2.1 dX1_passesOne_4 rfl (lv_at hl 0 rfl) ?_
  refine ggX1_35 S X hw dX1_passesOne_5 h (fun a2 h => ?_)
  obtain ⟨hrc, h⟩ := oK1 h
  refine gcVri (As := []) (rest := [.int v1]) S X Z hw (b := a2) h (fun u h1 => met_B_X3_every l E A LC LS a2 w u h1) (cb_X1_196 S.2.2.2.2 rfl rfl ⟨Nat.le_trans (Nat.le_of_ble_eq_true rfl : 0 + 1 ≤ 5) hF, Nat.le_trans (Nat.le_of_ble_eq_true rfl : 8 + (1 + 11) + 0 ≤ 110) hL⟩) (g_recv X hw (ci := 2) rfl (gcell_3 hrc)) rfl hl.1 rfl (lv_room (Nat.le_of_ble_eq_true rfl)) dX1_passesOne_8 (fun r3 H locs h hw => ?_)
  refine r_irem S.1 S.2.1 dX1_passesOne_11 h (fun d4 h => ?_)
  refine lv_if_ne (tgt := 19) S.1 S.2.1 dX1_passesOne_12 rfl (fun c5 => ?_) (fun c5 => ?_)
  · replace h := if_f c5 h
    refine lv_iconst (v := 0) S.1 S.2.1 dX1_passesOne_19 rfl ?_
    refine lv_istore_n (lv' := [(3, .int (0 : Int32)), (0, .ref x0), (1, .ref x1), (2, .int x2)]) S.1 S.2.1 dX1_passesOne_20 rfl hl (by decide) rfl (fun ls hl => ?_)
    refine lv_iconst (v := 0) S.1 S.2.1 dX1_passesOne_21 rfl ?_
    refine lv_istore (lv' := [(4, .int (0 : Int32)), (3, .int (0 : Int32)), (0, .ref x0), (1, .ref x1), (2, .int x2)]) S.1 S.2.1 dX1_passesOne_22 hl (by decide) rfl (fun ls hl => ?_)
    exact wk_B_X1_passesOne_p24 S X Z hF hL hr hlocks  FU _ _ _ _ _ _ _ _ _ h hw (lv_sub hl [2, 3, 4, 1, 0] rfl)
  · replace h := if_t c5 h
    refine lv_iconst (v := 1) S.1 S.2.1 dX1_passesOne_15 rfl ?_
    refine lv_goto (tgt := 20) S.1 S.2.1 dX1_passesOne_16 rfl ?_
    refine lv_istore_n (lv' := [(3, .int (1 : Int32)), (0, .ref x0), (1, .ref x1), (2, .int x2)]) S.1 S.2.1 dX1_passesOne_20 rfl hl (by decide) rfl (fun ls hl => ?_)
    refine lv_iconst (v := 0) S.1 S.2.1 dX1_passesOne_21 rfl ?_
    refine lv_istore (lv' := [(4, .int (0 : Int32)), (3, .int (1 : Int32)), (0, .ref x0), (1, .ref x1), (2, .int x2)]) S.1 S.2.1 dX1_passesOne_22 hl (by decide) rfl (fun ls hl => ?_)
    exact wk_B_X1_passesOne_p24 S X Z hF hL hr hlocks  FU _ _ _ _ _ _ _ _ _ h hw (lv_sub hl [2, 3, 4, 1, 0] rfl)
theorem cb_X1_213 {R : Room} {s : State} {args : Array Value} {rm : Room} {mc ms : Nat} (hts : ∀ w ∈ lw_all, w.before args s = true) (hc : rm.cells = mc) (hs : rm.slots = ms) (hR : rm.frames + 1 ≤ R.frames ∧ 8 + (5 + 11) + rm.locals ≤ R.locals) : CallW R s args RX1 RX1 213 yX1_passesOne cX1_passesOne 5 (Option.none : Option Jvm.ClassFile.FieldType) (ws_ yX1_passesOne cX1_passesOne 5 (Option.none : Option Jvm.ClassFile.FieldType)) rm mc ms 2 := cwV 2 hts (lw_V q1411 q1413 qs42 q135 q1414) rfl hc hs (by decide +kernel) hR
def B_X1_pass_p2 : Nat → Nat → Nat → Int32 → Int32 → GS → Option GS
  | 0, _, _, _, _, _ => none
  | n + 1, x0, x1, x2, x3, w =>
    if x2 ≤ x3 then
      some w
    else
      bd1 (oRn w x0 1 1 2) fun a2 =>
      bd1 (oK w a2 3 3) fun _ =>
      bd1 (B_X3_brew a2 w) fun r3 =>
      bd1 (oK w x0 1 1) fun _ =>
      bd1 (B_X1_passesOne x0 x1 r3 w) fun w4 =>
      (B_X1_pass_p2 n) x0 x1 x2 (x3 + (1 : Int32)) w4
def B_X1_pass (x0 : Nat) (x1 : Nat) (x2 : Int32) (w : GS) : Option GS :=
  B_X1_pass_p2 FU x0 x1 x2 (0 : Int32) w
set_option maxRecDepth 100000 in
set_option maxHeartbeats 4000000 in
theorem wk_B_X1_pass_p2 {p : Program} {l : Launch} {e : Env} {R : Room} {s : State} {m : MethodId} {args : Array Value} {below : List Frame} {meth : Method} {c : Code} {E : gE} {A : Nat → Prop} {LC LS : Nat} (S : CallFix p m c cX1_pass 4 s args lw_all RX1) (X : gCtx E A s) (Z : gRm R s LC LS) (hF : 6 ≤ R.frames) (hL : 134 ≤ R.locals) (hr : meth.sig.returnType = (Option.none : Option Jvm.ClassFile.FieldType)) (hlocks : meth.locks = false) {res : GS}  : ∀ n : Nat, ∀ (x0 : Nat) (x1 : Nat) (x2 : Int32) (x3 : Int32) (w : GS) (H : Heap) (locs : List Loc) (ls : Array Slot), B_X1_pass_p2 n x0 x1 x2 x3 w = some res → gH E A LC LS s w H locs → lv_has ls 4 [(0, .ref x0), (1, .ref x1), (2, .int x2), (3, .int x3)] → W p l e R s m args below meth c H locs (H.size - s.heap.size) (tot H - tot s.heap) (MQ below (gQv E A LC LS res) args s R.cells R.slots A) (F0 m 2 ls []) := by
  intro n
  induction n with
  | zero => intro x0 x1 x2 x3 w H locs ls h; cases (show (none : Option GS) = some res from h)
  | succ n ih =>
    intro x0 x1 x2 x3 w H locs ls h hw hl
    rw [B_X1_pass_p2] at h
    refine lv_iload_n S.1 S.2.1 dX1_pass_2 rfl (lv_at hl 3 rfl) ?_
    refine lv_iload_n S.1 S.2.1 dX1_pass_3 rfl (lv_at hl 2 rfl) ?_
    refine lv_icmp_ge (tgt := 25) S.1 S.2.1 dX1_pass_4 rfl (fun c1 => ?_) (fun c1 => ?_)
    · replace h := if_t c1 h
      exact g_vret S Z hr hlocks hw (so1 h) dX1_pass_25
    · replace h := if_f c1 h
      refine lv_aload_n S.1 S.2.1 dX1_pass_7 rfl (lv_at hl 0 rfl) ?_
      refine lv_aload_n S.1 S.2.1 dX1_pass_8 rfl (lv_at hl 1 rfl) ?_
      refine lv_aload_n S.1 S.2.1 dX1_pass_9 rfl (lv_at hl 0 rfl) ?_
      refine ggX1_35 S X hw dX1_pass_10 h (fun a2 h => ?_)
      obtain ⟨hrc, h⟩ := oK1 h
      refine gcVri (As := []) (rest := [.ref x1, .ref x0]) S X Z hw (b := a2) h (fun u h1 => met_B_X3_brew l E A LC LS a2 w u h1) (cb_X1_210 S.2.2.2.2 rfl rfl ⟨Nat.le_trans (Nat.le_of_ble_eq_true rfl : 0 + 1 ≤ 6) hF, Nat.le_trans (Nat.le_of_ble_eq_true rfl : 8 + (1 + 11) + 0 ≤ 134) hL⟩) (g_recv X hw (ci := 2) rfl (gcell_3 hrc)) rfl hl.1 rfl (lv_room (Nat.le_of_ble_eq_true rfl)) dX1_pass_13 (fun r3 H locs h hw => ?_)
      obtain ⟨hrc, h⟩ := oK1 h
      refine gcVv (As := [.ref x1, .int r3]) (rest := []) S X Z hw (b := x0) h (fun u h1 => met_B_X1_passesOne l E A LC LS x0 x1 r3 w u h1) (cb_X1_213 S.2.2.2.2 rfl rfl ⟨Nat.le_trans (Nat.le_of_ble_eq_true rfl : 5 + 1 ≤ 6) hF, Nat.le_trans (Nat.le_of_ble_eq_true rfl : 8 + (5 + 11) + 110 ≤ 134) hL⟩) (g_recv X hw (ci := 0) rfl (gcell_1 hrc)) rfl hl.1 rfl (lv_room (Nat.le_of_ble_eq_true rfl)) dX1_pass_16 (fun w4 H locs h hw => ?_)
      refine lv_iinc (v := x3 + (1 : Int32)) (lv' := [(3, .int (x3 + (1 : Int32))), (0, .ref x0), (1, .ref x1), (2, .int x2)]) S.1 S.2.1 dX1_pass_19 hl (k := 3) rfl rfl (by decide) rfl (fun ls hl => ?_)
      refine lv_goto (tgt := 2) S.1 S.2.1 dX1_pass_22 rfl ?_
      exact ih _ _ _ _ _ _ _ _ h hw (lv_sub hl [1, 2, 3, 0] rfl)
set_option maxRecDepth 100000 in
set_option maxHeartbeats 4000000 in
theorem met_B_X1_pass (l : Launch) (E : gE) (A : Nat → Prop) (LC LS : Nat)  (x0 : Nat) (x1 : Nat) (x2 : Int32) (w : GS) (res : GS) (h : B_X1_pass x0 x1 x2 w = some res) : Met l yX1_pass (ws_ yX1_pass cX1_pass 4 (Option.none : Option Jvm.ClassFile.FieldType)) (gRoom 6 134 LC LS w) (gPc E A LC LS [.ref x0, .ref x1, .int x2] w) (gQv E A LC LS res) (LC - gZ w) (LS - gN w) A := by
  refine gMet (by decide) rfl (Nat.le_of_ble_eq_true rfl) ?_
  intro p e s m below meth c R S hr hlocks hin2 X Z hF hL H ls hw hl
  replace hl : lv_has ls 4 [(0, .ref x0), (1, .ref x1), (2, .int x2)] := hl
  unfold B_X1_pass at h
  refine lv_iconst (v := 0) S.1 S.2.1 dX1_pass_0 rfl ?_
  refine lv_istore_n (lv' := [(3, .int (0 : Int32)), (0, .ref x0), (1, .ref x1), (2, .int x2)]) S.1 S.2.1 dX1_pass_1 rfl hl (by decide) rfl (fun ls hl => ?_)
  exact wk_B_X1_pass_p2 S X Z hF hL hr hlocks  FU _ _ _ _ _ _ _ _ h hw (lv_sub hl [1, 2, 3, 0] rfl)
theorem cb_X1_295 {R : Room} {s : State} {args : Array Value} {rm : Room} {mc ms : Nat} (hts : ∀ w ∈ lw_all, w.before args s = true) (hc : rm.cells = mc) (hs : rm.slots = ms) (hR : rm.frames + 1 ≤ R.frames ∧ 8 + (4 + 11) + rm.locals ≤ R.locals) : CallW R s args RX1 RX1 295 yX1_pass cX1_pass 4 (Option.none : Option Jvm.ClassFile.FieldType) (ws_ yX1_pass cX1_pass 4 (Option.none : Option Jvm.ClassFile.FieldType)) rm mc ms 2 := cwV 2 hts (lw_V q1407 q1409 qs41 q135 q1410) rfl hc hs (by decide +kernel) hR
def B_X1_minutes (x0 : Nat) (x1 : Int32) (w : GS) : Option (Int32 × GS) :=
  if (B_X1_in x1 (1 : Int32) (120 : Int32)) = 0 then
    some ((-1 : Int32), w)
  else
    bd1 (oK w x0 1 1) fun _ =>
    bd1 (B_X1_keeps x0 w) fun w2 =>
    bd1 (oRn w2 x0 1 1 4) fun a3 =>
    bd1 (oK w2 x0 1 1) fun _ =>
    bd1 (B_X1_pass x0 a3 x1 w2) fun w4 =>
    bd1 (oRn w4 x0 1 1 4) fun a5 =>
    bd1 (oI w4 a5 4 4 6) fun v6 =>
    some (v6, w4)
set_option maxRecDepth 100000 in
set_option maxHeartbeats 4000000 in
theorem met_B_X1_minutes (l : Launch) (E : gE) (A : Nat → Prop) (LC LS : Nat)  (x0 : Nat) (x1 : Int32) (w : GS) (res : Int32 × GS) (h : B_X1_minutes x0 x1 w = some res) : Met l yX1_minutes (ws_ yX1_minutes cX1_minutes 2 (Option.some Jvm.ClassFile.FieldType.int)) (gRoom 7 157 LC LS w) (gPc E A LC LS [.ref x0, .int x1] w) (gQi E A LC LS res.1 res.2) (LC - gZ w) (LS - gN w) A := by
  refine gMet (by decide) rfl (Nat.le_of_ble_eq_true rfl) ?_
  intro p e s m below meth c R S hr hlocks hin2 X Z hF hL H ls hw hl
  replace hl : lv_has ls 2 [(0, .ref x0), (1, .int x1)] := hl
  unfold B_X1_minutes at h
  refine lv_iload_n S.1 S.2.1 dX1_minutes_0 rfl (lv_at hl 1 rfl) ?_
  refine lv_iconst (v := 1) S.1 S.2.1 dX1_minutes_1 rfl ?_
  refine lv_bipush (v := 120) S.1 S.2.1 dX1_minutes_2 rfl ?_
  refine gcSti (As := [.int x1, .int (1 : Int32), .int (120 : Int32)]) (rest := []) S X Z hw (met_B_X1_in l E A LC LS x1 (1 : Int32) (120 : Int32) w _ rfl) (cb_X1_153 S.2.2.2.2 rfl rfl ⟨Nat.le_trans (Nat.le_of_ble_eq_true rfl : 0 + 1 ≤ 7) hF, Nat.le_trans (Nat.le_of_ble_eq_true rfl : 8 + (3 + 11) + 0 ≤ 157) hL⟩) rfl hl.1 rfl (lv_room (Nat.le_of_ble_eq_true rfl)) dX1_minutes_4 (fun H locs hw => ?_)
  refine lv_if_ne (tgt := 12) S.1 S.2.1 dX1_minutes_7 rfl (fun c1 => ?_) (fun c1 => ?_)
  · replace h := if_f c1 h
    refine lv_aload_n S.1 S.2.1 dX1_minutes_12 rfl (lv_at hl 0 rfl) ?_
    obtain ⟨hrc, h⟩ := oK1 h
    refine gcVv (As := []) (rest := []) S X Z hw (b := x0) h (fun u h1 => met_B_X1_keeps l E A LC LS x0 w u h1) (cb_X1_283 S.2.2.2.2 rfl rfl ⟨Nat.le_trans (Nat.le_of_ble_eq_true rfl : 2 + 1 ≤ 7) hF, Nat.le_trans (Nat.le_of_ble_eq_true rfl : 8 + (3 + 11) + 43 ≤ 157) hL⟩) (g_recv X hw (ci := 0) rfl (gcell_1 hrc)) rfl hl.1 rfl (lv_room (Nat.le_of_ble_eq_true rfl)) dX1_minutes_13 (fun w2 H locs h hw => ?_)
    refine lv_aload_n S.1 S.2.1 dX1_minutes_16 rfl (lv_at hl 0 rfl) ?_
    refine lv_aload_n S.1 S.2.1 dX1_minutes_17 rfl (lv_at hl 0 rfl) ?_
    refine ggX1_51 S X hw dX1_minutes_18 h (fun a3 h => ?_)
    refine lv_iload_n S.1 S.2.1 dX1_minutes_21 rfl (lv_at hl 1 rfl) ?_
    obtain ⟨hrc, h⟩ := oK1 h
    refine gcVv (As := [.ref a3, .int x1]) (rest := []) S X Z hw (b := x0) h (fun u h1 => met_B_X1_pass l E A LC LS x0 a3 x1 w2 u h1) (cb_X1_295 S.2.2.2.2 rfl rfl ⟨Nat.le_trans (Nat.le_of_ble_eq_true rfl : 6 + 1 ≤ 7) hF, Nat.le_trans (Nat.le_of_ble_eq_true rfl : 8 + (4 + 11) + 134 ≤ 157) hL⟩) (g_recv X hw (ci := 0) rfl (gcell_1 hrc)) rfl hl.1 rfl (lv_room (Nat.le_of_ble_eq_true rfl)) dX1_minutes_22 (fun w4 H locs h hw => ?_)
    refine lv_aload_n S.1 S.2.1 dX1_minutes_25 rfl (lv_at hl 0 rfl) ?_
    refine ggX1_51 S X hw dX1_minutes_26 h (fun a5 h => ?_)
    refine ggX1_193 S X hw dX1_minutes_29 h (fun v6 h => ?_)
    exact g_iret S Z hr hlocks hw (so2 h) dX1_minutes_32
  · replace h := if_t c1 h
    refine lv_iconst (v := -1) S.1 S.2.1 dX1_minutes_10 rfl ?_
    exact g_iret S Z hr hlocks hw (so2 h) dX1_minutes_11
def B_X1_between (x0 : Int32) (x1 : Int32) (x2 : Int32) : Int32 :=
  (if x1 < (if x0 < x2 then x0 else x2) then (if x0 < x2 then x0 else x2) else x1)
set_option maxRecDepth 100000 in
set_option maxHeartbeats 4000000 in
theorem met_B_X1_between (l : Launch) (E : gE) (A : Nat → Prop) (LC LS : Nat)  (x0 : Int32) (x1 : Int32) (x2 : Int32) (w : GS) (res : Int32) (h : B_X1_between x0 x1 x2 = res) : Met l yX1_between (ws_ yX1_between cX1_between 3 (Option.some Jvm.ClassFile.FieldType.int)) (gRoom 1 21 LC LS w) (gPc E A LC LS [.int x0, .int x1, .int x2] w) (gQi E A LC LS res w) (LC - gZ w) (LS - gN w) A := by
  refine gMet (by decide) rfl (Nat.le_of_ble_eq_true rfl) ?_
  intro p e s m below meth c R S hr hlocks hin2 X Z hF hL H ls hw hl
  replace hl : lv_has ls 3 [(0, .int x0), (1, .int x1), (2, .int x2)] := hl
  unfold B_X1_between at h
  refine lv_iload_n S.1 S.2.1 dX1_between_0 rfl (lv_at hl 1 rfl) ?_
  refine lv_iload_n S.1 S.2.1 dX1_between_1 rfl (lv_at hl 2 rfl) ?_
  refine lv_iload_n S.1 S.2.1 dX1_between_2 rfl (lv_at hl 0 rfl) ?_
  refine va_mmin (x := x2) (y := x0) (rest := [.int x1]) S.1 S.2.1 (S.2.2.1.trans hl.1.symm) S.2.2.2.1 (S.2.2.2.2 _ q1360) (S.2.2.2.2 _ q509) (S.2.2.2.2 _ q147) (S.2.2.2.2 _ q510) (Nat.le_trans (Nat.le_of_ble_eq_true rfl) hF) (Nat.le_trans (Nat.le_of_ble_eq_true rfl : (([.int x1] : List Value).map fun v : Value => v.category).sum + 13 ≤ 21) (Nat.le_trans (Nat.le_of_ble_eq_true rfl) hL)) (gRm_le Z hw).1 (gRm_le Z hw).2 dX1_between_3 ?_
  refine va_mmax (x := x1) (y := (if x0 < x2 then x0 else x2)) (rest := []) S.1 S.2.1 (S.2.2.1.trans hl.1.symm) S.2.2.2.1 (S.2.2.2.2 _ q1398) (S.2.2.2.2 _ q506) (S.2.2.2.2 _ q147) (S.2.2.2.2 _ q507) (Nat.le_trans (Nat.le_of_ble_eq_true rfl) hF) (Nat.le_trans (Nat.le_of_ble_eq_true rfl : (([] : List Value).map fun v : Value => v.category).sum + 13 ≤ 21) (Nat.le_trans (Nat.le_of_ble_eq_true rfl) hL)) (gRm_le Z hw).1 (gRm_le Z hw).2 dX1_between_6 ?_
  exact g_iret S Z hr hlocks hw ⟨h, rfl⟩ dX1_between_9
theorem cb_X1_221 {R : Room} {s : State} {args : Array Value} {rm : Room} {mc ms : Nat} (hts : ∀ w ∈ lw_all, w.before args s = true) (hc : rm.cells = mc) (hs : rm.slots = ms) (hR : rm.frames + 1 ≤ R.frames ∧ 8 + (3 + 11) + rm.locals ≤ R.locals) : CallB R s args RX1 221 yX1_between cX1_between 3 (Option.some Jvm.ClassFile.FieldType.int) (ws_ yX1_between cX1_between 3 (Option.some Jvm.ClassFile.FieldType.int)) rm mc ms 3 ∧ (Cond.static yX1_between).before args s = true := va_cwS 3 hts (lw_S q1445 q1446 q135 q1447) rfl hc hs (by decide +kernel) hR
section
variable {p : Program} {l : Launch} {e : Env} {R : Room} {s : State} {m : MethodId} {args : Array Value} {below : List Frame} {meth : Method} {c : Code} {H : Heap} {locs : List Loc} {cells slots : Nat} {Q : State → Prop}
variable {cc : ByteArray} {nL pc : Nat} {ls : Array Slot} {rest : List Value} {A : Nat → Prop} {E : gE} {LC LS : Nat} {g : GS} {a : Nat} {β : Type} {r : β}
theorem dv_X1_225 {d : Nat} {b : Nat} {x1 : Nat} {F : Int32 → Option β} {o : Option (Int32)} {st : List Value} (S : CallFix p m c cc nL s args lw_all RX1) (X : gCtx E A s) (Z : gRm R s LC LS) (hw : gH E A LC LS s g H locs) (h : bd1 o F = some r) (hM : ∀ u, o = some u → vt_worked l E A LC LS d b x1 g u) (hR : d + 1 + 1 ≤ R.frames ∧ 8 + (4 + 11) + (30 * d + 30) ≤ R.locals) (hz : ls.size = nL) (hst : st = ([.ref x1].reverse ++ .ref b :: rest)) (hrm : 2 * (F0 m pc ls st).monitorRoom + (rest.map fun v => v.category).sum ≤ 8) (hd : decode cc pc = .ok (.invokevirtual 225, 3)) (kk : ∀ (v : Int32) (H : Heap) (locs : List Loc), F v = some r → gH E A LC LS s g H locs → W p l e R s m args below meth c H locs (H.size - s.heap.size) (tot H - tot s.heap) Q (F0 m (pc + 3) ls (.int v :: rest))) : W p l e R s m args below meth c H locs (H.size - s.heap.size) (tot H - tot s.heap) Q (F0 m pc ls st) := by
  obtain ⟨u, h1, h2⟩ := bd1_some h
  have hm := hM u h1
  unfold vt_worked at hm
  rcases hm with ⟨ht, hm⟩ | ⟨ht, hm⟩ | ⟨ht, hm⟩ | ⟨ht, hm⟩
  · have cw : va_CU R s args RX1 RX14 "PulseRent$Expression" 225 ⟨"PulseRent$Expression", "worked", "([I)I"⟩ yX14_worked cX14_worked 2 (Option.some Jvm.ClassFile.FieldType.int) (ws_ yX14_worked cX14_worked 2 (Option.some Jvm.ClassFile.FieldType.int)) (gRoom (d + 1) (30 * d + 30) LC LS g) (LC - gZ g) (LS - gN g) 1 := va_cwA 1 S.2.2.2.2 (lw_app (by intro w hw; simp only [List.mem_cons, List.not_mem_nil, or_false] at hw; rcases hw with e | e | e | e | e <;> rw [e]; exact q1448; exact q1450; exact q1454; exact q1455; exact q166) (lw_meth q1456)) rfl rfl rfl (X.2.2.2.2.2.1 _ q1449 rfl) (by decide +kernel) ⟨hR.1, Nat.le_trans (Nat.add_le_add_right (Nat.le_of_ble_eq_true rfl : 8 + (2 + 11) ≤ 8 + (4 + 11)) _) hR.2⟩
    exact gcHri (As := [.ref x1]) (rest := rest) S X Z hw h (fun u1 e1 => by rw [h1] at e1; cases e1; exact hm) cw (g_recv X hw (ci := 12) rfl (gcell_13 ht)) rfl hz hst hrm hd kk
  · have cw : va_CU R s args RX1 RX15 "PulseRent$Expression" 225 ⟨"PulseRent$Expression", "worked", "([I)I"⟩ yX15_worked cX15_worked 2 (Option.some Jvm.ClassFile.FieldType.int) (ws_ yX15_worked cX15_worked 2 (Option.some Jvm.ClassFile.FieldType.int)) (gRoom (d + 1) (30 * d + 30) LC LS g) (LC - gZ g) (LS - gN g) 1 := va_cwA 1 S.2.2.2.2 (lw_app (by intro w hw; simp only [List.mem_cons, List.not_mem_nil, or_false] at hw; rcases hw with e | e | e | e | e <;> rw [e]; exact q1448; exact q1450; exact q1451; exact q1452; exact q167) (lw_meth q1453)) rfl rfl rfl (X.2.2.2.2.2.1 _ q1449 rfl) (by decide +kernel) ⟨hR.1, Nat.le_trans (Nat.add_le_add_right (Nat.le_of_ble_eq_true rfl : 8 + (2 + 11) ≤ 8 + (4 + 11)) _) hR.2⟩
    exact gcHri (As := [.ref x1]) (rest := rest) S X Z hw h (fun u1 e1 => by rw [h1] at e1; cases e1; exact hm) cw (g_recv X hw (ci := 13) rfl (gcell_14 ht)) rfl hz hst hrm hd kk
  · have cw : va_CU R s args RX1 RX16 "PulseRent$Expression" 225 ⟨"PulseRent$Expression", "worked", "([I)I"⟩ yX16_worked cX16_worked 2 (Option.some Jvm.ClassFile.FieldType.int) (ws_ yX16_worked cX16_worked 2 (Option.some Jvm.ClassFile.FieldType.int)) (gRoom (d + 1) (30 * d + 30) LC LS g) (LC - gZ g) (LS - gN g) 1 := va_cwA 1 S.2.2.2.2 (lw_app (by intro w hw; simp only [List.mem_cons, List.not_mem_nil, or_false] at hw; rcases hw with e | e | e | e | e <;> rw [e]; exact q1448; exact q1450; exact q1457; exact q1458; exact q168) (lw_meth q1459)) rfl rfl rfl (X.2.2.2.2.2.1 _ q1449 rfl) (by decide +kernel) ⟨hR.1, Nat.le_trans (Nat.add_le_add_right (Nat.le_of_ble_eq_true rfl : 8 + (2 + 11) ≤ 8 + (4 + 11)) _) hR.2⟩
    exact gcHri (As := [.ref x1]) (rest := rest) S X Z hw h (fun u1 e1 => by rw [h1] at e1; cases e1; exact hm) cw (g_recv X hw (ci := 14) rfl (gcell_15 ht)) rfl hz hst hrm hd kk
  · have cw : va_CU R s args RX1 RX17 "PulseRent$Expression" 225 ⟨"PulseRent$Expression", "worked", "([I)I"⟩ yX17_worked cX17_worked 4 (Option.some Jvm.ClassFile.FieldType.int) (ws_ yX17_worked cX17_worked 4 (Option.some Jvm.ClassFile.FieldType.int)) (gRoom (d + 1) (30 * d + 30) LC LS g) (LC - gZ g) (LS - gN g) 1 := va_cwA 1 S.2.2.2.2 (lw_app (by intro w hw; simp only [List.mem_cons, List.not_mem_nil, or_false] at hw; rcases hw with e | e | e | e | e <;> rw [e]; exact q1448; exact q1450; exact q1464; exact q1461; exact q169) (lw_meth q1462)) rfl rfl rfl (X.2.2.2.2.2.1 _ q1449 rfl) (by decide +kernel) ⟨hR.1, Nat.le_trans (Nat.add_le_add_right (Nat.le_of_ble_eq_true rfl : 8 + (4 + 11) ≤ 8 + (4 + 11)) _) hR.2⟩
    exact gcHri (As := [.ref x1]) (rest := rest) S X Z hw h (fun u1 e1 => by rw [h1] at e1; cases e1; exact hm) cw (g_recv X hw (ci := 15) rfl (gcell_16 ht)) rfl hz hst hrm hd kk
end
def B_X1_dueBy (x0 : Nat) (x1 : Int32) (x2 : Int32) (x3 : Int32) (w : GS) : Option (Int32 × GS) :=
  bd1 (oRn w x0 1 1 2) fun a1 =>
  bd1 (oR w a1 3 3 6) fun a2 =>
  bq a2 (
    some (B_X1_between (x1 + x2) (0 : Int32) (9999 : Int32), w)) fun _ =>
  bd1 (oRn w x0 1 1 6) fun a3 =>
  bd1 (xI w a3 40 (0 : Int32) x1) fun w4 =>
  bd1 (oRn w4 x0 1 1 6) fun a5 =>
  bd1 (xI w4 a5 40 (1 : Int32) x2) fun w6 =>
  bd1 (oRn w6 x0 1 1 6) fun a7 =>
  bd1 (xI w6 a7 40 (2 : Int32) x3) fun w8 =>
  bd1 (oRn w8 x0 1 1 2) fun a9 =>
  bd1 (oRn w8 a9 3 3 6) fun a10 =>
  bd1 (oRn w8 x0 1 1 6) fun a11 =>
  bd1 (V_worked 1100 a10 a11 w8) fun r12 =>
  some (B_X1_between r12 (0 : Int32) (9999 : Int32), w8)
set_option maxRecDepth 100000 in
set_option maxHeartbeats 4000000 in
theorem met_B_X1_dueBy (l : Launch) (E : gE) (A : Nat → Prop) (LC LS : Nat)  (x0 : Nat) (x1 : Int32) (x2 : Int32) (x3 : Int32) (w : GS) (res : Int32 × GS) (h : B_X1_dueBy x0 x1 x2 x3 w = some res) : Met l yX1_dueBy (ws_ yX1_dueBy cX1_dueBy 4 (Option.some Jvm.ClassFile.FieldType.int)) (gRoom 1102 33053 LC LS w) (gPc E A LC LS [.ref x0, .int x1, .int x2, .int x3] w) (gQi E A LC LS res.1 res.2) (LC - gZ w) (LS - gN w) A := by
  refine gMet (by decide) rfl (Nat.le_of_ble_eq_true rfl) ?_
  intro p e s m below meth c R S hr hlocks hin2 X Z hF hL H ls hw hl
  replace hl : lv_has ls 4 [(0, .ref x0), (1, .int x1), (2, .int x2), (3, .int x3)] := hl
  unfold B_X1_dueBy at h
  refine lv_aload_n S.1 S.2.1 dX1_dueBy_0 rfl (lv_at hl 0 rfl) ?_
  refine ggX1_35 S X hw dX1_dueBy_1 h (fun a1 h => ?_)
  refine ggX1_217q S X hw dX1_dueBy_4 h (fun a2 h => ?_)
  refine g_ifnonnull (tgt := 21) S.1 S.2.1 dX1_dueBy_7 rfl h (fun h => ?_) (fun _ h => ?_)
  · refine lv_iload_n S.1 S.2.1 dX1_dueBy_10 rfl (lv_at hl 1 rfl) ?_
    refine lv_iload_n S.1 S.2.1 dX1_dueBy_11 rfl (lv_at hl 2 rfl) ?_
    refine lv_iadd S.1 S.2.1 dX1_dueBy_12 ?_
    refine lv_iconst (v := 0) S.1 S.2.1 dX1_dueBy_13 rfl ?_
    refine lv_sipush (v := 9999) S.1 S.2.1 dX1_dueBy_14 rfl ?_
    refine gcSti (As := [.int (x1 + x2), .int (0 : Int32), .int (9999 : Int32)]) (rest := []) S X Z hw (met_B_X1_between l E A LC LS (x1 + x2) (0 : Int32) (9999 : Int32) w _ rfl) (cb_X1_221 S.2.2.2.2 rfl rfl ⟨Nat.le_trans (Nat.le_of_ble_eq_true rfl : 1 + 1 ≤ 1102) hF, Nat.le_trans (Nat.le_of_ble_eq_true rfl : 8 + (3 + 11) + 21 ≤ 33053) hL⟩) rfl hl.1 rfl (lv_room (Nat.le_of_ble_eq_true rfl)) dX1_dueBy_17 (fun H locs hw => ?_)
    exact g_iret S Z hr hlocks hw (so2 h) dX1_dueBy_20
  · refine lv_aload_n S.1 S.2.1 dX1_dueBy_21 rfl (lv_at hl 0 rfl) ?_
    refine ggX1_58 S X hw dX1_dueBy_22 h (fun a3 h => ?_)
    refine lv_iconst (v := 0) S.1 S.2.1 dX1_dueBy_25 rfl ?_
    refine lv_iload_n S.1 S.2.1 dX1_dueBy_26 rfl (lv_at hl 1 rfl) ?_
    refine gast40 S X hw dX1_dueBy_27 h (fun w4 H locs h hw => ?_)
    refine lv_aload_n S.1 S.2.1 dX1_dueBy_28 rfl (lv_at hl 0 rfl) ?_
    refine ggX1_58 S X hw dX1_dueBy_29 h (fun a5 h => ?_)
    refine lv_iconst (v := 1) S.1 S.2.1 dX1_dueBy_32 rfl ?_
    refine lv_iload_n S.1 S.2.1 dX1_dueBy_33 rfl (lv_at hl 2 rfl) ?_
    refine gast40 S X hw dX1_dueBy_34 h (fun w6 H locs h hw => ?_)
    refine lv_aload_n S.1 S.2.1 dX1_dueBy_35 rfl (lv_at hl 0 rfl) ?_
    refine ggX1_58 S X hw dX1_dueBy_36 h (fun a7 h => ?_)
    refine lv_iconst (v := 2) S.1 S.2.1 dX1_dueBy_39 rfl ?_
    refine lv_iload_n S.1 S.2.1 dX1_dueBy_40 rfl (lv_at hl 3 rfl) ?_
    refine gast40 S X hw dX1_dueBy_41 h (fun w8 H locs h hw => ?_)
    refine lv_aload_n S.1 S.2.1 dX1_dueBy_42 rfl (lv_at hl 0 rfl) ?_
    refine ggX1_35 S X hw dX1_dueBy_43 h (fun a9 h => ?_)
    refine ggX1_217 S X hw dX1_dueBy_46 h (fun a10 h => ?_)
    refine lv_aload_n S.1 S.2.1 dX1_dueBy_49 rfl (lv_at hl 0 rfl) ?_
    refine ggX1_58 S X hw dX1_dueBy_50 h (fun a11 h => ?_)
    refine dv_X1_225 (d := 1100) (rest := []) S X Z hw h (fun u h1 => dm_worked l E A LC LS 1100 a10 a11 w8 u h1) ⟨Nat.le_trans (Nat.le_of_ble_eq_true rfl : 1101 + 1 ≤ 1102) hF, Nat.le_trans (Nat.le_of_ble_eq_true rfl : 8 + (4 + 11) + 33030 ≤ 33053) hL⟩ hl.1 rfl (lv_room (Nat.le_of_ble_eq_true rfl)) dX1_dueBy_53 (fun r12 H locs h hw => ?_)
    refine lv_iconst (v := 0) S.1 S.2.1 dX1_dueBy_56 rfl ?_
    refine lv_sipush (v := 9999) S.1 S.2.1 dX1_dueBy_57 rfl ?_
    refine gcSti (As := [.int r12, .int (0 : Int32), .int (9999 : Int32)]) (rest := []) S X Z hw (met_B_X1_between l E A LC LS r12 (0 : Int32) (9999 : Int32) w8 _ rfl) (cb_X1_221 S.2.2.2.2 rfl rfl ⟨Nat.le_trans (Nat.le_of_ble_eq_true rfl : 1 + 1 ≤ 1102) hF, Nat.le_trans (Nat.le_of_ble_eq_true rfl : 8 + (3 + 11) + 21 ≤ 33053) hL⟩) rfl hl.1 rfl (lv_room (Nat.le_of_ble_eq_true rfl)) dX1_dueBy_60 (fun H locs hw => ?_)
    exact g_iret S Z hr hlocks hw (so2 h) dX1_dueBy_63
theorem cb_X1_237 {R : Room} {s : State} {args : Array Value} {rm : Room} {mc ms : Nat} (hts : ∀ w ∈ lw_all, w.before args s = true) (hc : rm.cells = mc) (hs : rm.slots = ms) (hR : rm.frames + 1 ≤ R.frames ∧ 8 + (4 + 11) + rm.locals ≤ R.locals) : CallW R s args RX1 RX1 237 yX1_dueBy cX1_dueBy 4 (Option.some Jvm.ClassFile.FieldType.int) (ws_ yX1_dueBy cX1_dueBy 4 (Option.some Jvm.ClassFile.FieldType.int)) rm mc ms 3 := cwV 3 hts (lw_V q1441 q1443 qs45 q135 q1444) rfl hc hs (by decide +kernel) hR
def B_X1_due (x0 : Nat) (x1 : Nat) (x2 : Int32) (w : GS) : Option (Int32 × GS) :=
  bd1 (oRn w x1 4 4 4) fun a1 =>
  bd1 (aI w a1 40 x2) fun v2 =>
  bd1 (oRn w x1 4 4 0) fun a3 =>
  bd1 (aI w a3 40 x2) fun v4 =>
  bd1 (oK w x0 1 1) fun _ =>
  bd1 (B_X1_room_2 x0 v4 w) fun a5 =>
  bd1 (oI w a5 7 7 3) fun v6 =>
  bd1 (oK w x0 1 1) fun _ =>
  bd1 (B_X1_tenant_2 x0 x2 w) fun a7 =>
  bd1 (V_kind a7 w) fun r8 =>
  bd1 (oK w x0 1 1) fun _ =>
  bd2 (B_X1_dueBy x0 v2 v6 r8 w) fun r10 w9 =>
  some (r10, w9)
set_option maxRecDepth 100000 in
set_option maxHeartbeats 4000000 in
theorem met_B_X1_due (l : Launch) (E : gE) (A : Nat → Prop) (LC LS : Nat)  (x0 : Nat) (x1 : Nat) (x2 : Int32) (w : GS) (res : Int32 × GS) (h : B_X1_due x0 x1 x2 w = some res) : Met l yX1_due (ws_ yX1_due cX1_due 3 (Option.some Jvm.ClassFile.FieldType.int)) (gRoom 1103 33076 LC LS w) (gPc E A LC LS [.ref x0, .ref x1, .int x2] w) (gQi E A LC LS res.1 res.2) (LC - gZ w) (LS - gN w) A := by
  refine gMet (by decide) rfl (Nat.le_of_ble_eq_true rfl) ?_
  intro p e s m below meth c R S hr hlocks hin2 X Z hF hL H ls hw hl
  replace hl : lv_has ls 3 [(0, .ref x0), (1, .ref x1), (2, .int x2)] := hl
  unfold B_X1_due at h
  refine lv_aload_n S.1 S.2.1 dX1_due_0 rfl (lv_at hl 0 rfl) ?_
  refine lv_aload_n S.1 S.2.1 dX1_due_1 rfl (lv_at hl 1 rfl) ?_
  refine ggX1_199 S X hw dX1_due_2 h (fun a1 h => ?_)
  refine lv_iload_n S.1 S.2.1 dX1_due_5 rfl (lv_at hl 2 rfl) ?_
  refine gald40 S X hw dX1_due_6 h (fun v2 h => ?_)
  refine lv_aload_n S.1 S.2.1 dX1_due_7 rfl (lv_at hl 0 rfl) ?_
  refine lv_aload_n S.1 S.2.1 dX1_due_8 rfl (lv_at hl 1 rfl) ?_
  refine ggX1_176 S X hw dX1_due_9 h (fun a3 h => ?_)
  refine lv_iload_n S.1 S.2.1 dX1_due_12 rfl (lv_at hl 2 rfl) ?_
  refine gald40 S X hw dX1_due_13 h (fun v4 h => ?_)
  obtain ⟨hrc, h⟩ := oK1 h
  refine gcVrr (As := [.int v4]) (rest := [.int v2, .ref x0]) S X Z hw (b := x0) h (fun u h1 => met_B_X1_room_2 l E A LC LS x0 v4 w u h1) (cb_X1_179 S.2.2.2.2 rfl rfl ⟨Nat.le_trans (Nat.le_of_ble_eq_true rfl : 3 + 1 ≤ 1103) hF, Nat.le_trans (Nat.le_of_ble_eq_true rfl : 8 + (2 + 11) + 64 ≤ 33076) hL⟩) (g_recv X hw (ci := 0) rfl (gcell_1 hrc)) rfl hl.1 rfl (lv_room (Nat.le_of_ble_eq_true rfl)) dX1_due_14 (fun a5 H locs h hw => ?_)
  refine ggX1_231 S X hw dX1_due_17 h (fun v6 h => ?_)
  refine lv_aload_n S.1 S.2.1 dX1_due_20 rfl (lv_at hl 0 rfl) ?_
  refine lv_iload_n S.1 S.2.1 dX1_due_21 rfl (lv_at hl 2 rfl) ?_
  obtain ⟨hrc, h⟩ := oK1 h
  refine gcVrr (As := [.int x2]) (rest := [.int v6, .int v2, .ref x0]) S X Z hw (b := x0) h (fun u h1 => met_B_X1_tenant_2 l E A LC LS x0 x2 w u h1) (cb_X1_166 S.2.2.2.2 rfl rfl ⟨Nat.le_trans (Nat.le_of_ble_eq_true rfl : 3 + 1 ≤ 1103) hF, Nat.le_trans (Nat.le_of_ble_eq_true rfl : 8 + (2 + 11) + 64 ≤ 33076) hL⟩) (g_recv X hw (ci := 0) rfl (gcell_1 hrc)) rfl hl.1 rfl (lv_room (Nat.le_of_ble_eq_true rfl)) dX1_due_22 (fun a7 H locs h hw => ?_)
  refine dv_X1_234  (rest := [.int v6, .int v2, .ref x0]) S X Z hw h (fun u h1 => dm_kind l E A LC LS a7 w u h1) ⟨Nat.le_trans (Nat.le_of_ble_eq_true rfl : 0 + 1 ≤ 1103) hF, Nat.le_trans (Nat.le_of_ble_eq_true rfl : 8 + (1 + 11) + 0 ≤ 33076) hL⟩ hl.1 rfl (lv_room (Nat.le_of_ble_eq_true rfl)) dX1_due_25 (fun r8 H locs h hw => ?_)
  obtain ⟨hrc, h⟩ := oK1 h
  refine gcVi (As := [.int v2, .int v6, .int r8]) (rest := []) S X Z hw (b := x0) h (fun u h1 => met_B_X1_dueBy l E A LC LS x0 v2 v6 r8 w u h1) (cb_X1_237 S.2.2.2.2 rfl rfl ⟨Nat.le_trans (Nat.le_of_ble_eq_true rfl : 1102 + 1 ≤ 1103) hF, Nat.le_trans (Nat.le_of_ble_eq_true rfl : 8 + (4 + 11) + 33053 ≤ 33076) hL⟩) (g_recv X hw (ci := 0) rfl (gcell_1 hrc)) rfl hl.1 rfl (lv_room (Nat.le_of_ble_eq_true rfl)) dX1_due_28 (fun r10 w9 H locs h hw => ?_)
  exact g_iret S Z hr hlocks hw (so2 h) dX1_due_31
theorem cb_X1_240 {R : Room} {s : State} {args : Array Value} {rm : Room} {mc ms : Nat} (hts : ∀ w ∈ lw_all, w.before args s = true) (hc : rm.cells = mc) (hs : rm.slots = ms) (hR : rm.frames + 1 ≤ R.frames ∧ 8 + (3 + 11) + rm.locals ≤ R.locals) : CallW R s args RX1 RX1 240 yX1_due cX1_due 3 (Option.some Jvm.ClassFile.FieldType.int) (ws_ yX1_due cX1_due 3 (Option.some Jvm.ClassFile.FieldType.int)) rm mc ms 2 := cwV 2 hts (lw_V q1437 q1439 qs44 q135 q1440) rfl hc hs (by decide +kernel) hR
section
variable {p : Program} {l : Launch} {e : Env} {R : Room} {s : State} {m : MethodId} {args : Array Value} {below : List Frame} {meth : Method} {c : Code} {H : Heap} {locs : List Loc} {cells slots : Nat} {Q : State → Prop}
variable {cc : ByteArray} {nL pc : Nat} {ls : Array Slot} {rest : List Value} {A : Nat → Prop} {E : gE} {LC LS : Nat} {g : GS} {a : Nat} {β : Type} {r : β}
theorem dv_X1_246 {b : Nat} {F : Int32 → Option β} {o : Option (Int32)} {st : List Value} (S : CallFix p m c cc nL s args lw_all RX1) (X : gCtx E A s) (Z : gRm R s LC LS) (hw : gH E A LC LS s g H locs) (h : bd1 o F = some r) (hM : ∀ u, o = some u → vt_mayLack l E A LC LS b g u) (hR : 0 + 1 ≤ R.frames ∧ 8 + (1 + 11) + (0) ≤ R.locals) (hz : ls.size = nL) (hst : st = ([].reverse ++ .ref b :: rest)) (hrm : 2 * (F0 m pc ls st).monitorRoom + (rest.map fun v => v.category).sum ≤ 8) (hd : decode cc pc = .ok (.invokevirtual 246, 3)) (kk : ∀ (v : Int32) (H : Heap) (locs : List Loc), F v = some r → gH E A LC LS s g H locs → W p l e R s m args below meth c H locs (H.size - s.heap.size) (tot H - tot s.heap) Q (F0 m (pc + 3) ls (.int v :: rest))) : W p l e R s m args below meth c H locs (H.size - s.heap.size) (tot H - tot s.heap) Q (F0 m pc ls st) := by
  obtain ⟨u, h1, h2⟩ := bd1_some h
  have hm := hM u h1
  unfold vt_mayLack at hm
  rcases hm with ⟨ht, hm⟩ | ⟨ht, hm⟩ | ⟨ht, hm⟩ | ⟨ht, hm⟩
  · have cw : va_CU R s args RX1 RX8 "PulseRent$Tenant" 246 yX8_mayLack yX8_mayLack cX8_mayLack 1 (Option.some Jvm.ClassFile.FieldType.int) (ws_ yX8_mayLack cX8_mayLack 1 (Option.some Jvm.ClassFile.FieldType.int)) (gRoom (0) (0) LC LS g) (LC - gZ g) (LS - gN g) 0 := va_cwU 0 S.2.2.2.2 (lw_app (by intro w hw; simp only [List.mem_cons, List.not_mem_nil, or_false] at hw; rcases hw with e | e | e | e | e <;> rw [e]; exact q1465; exact q1468; exact q1467; exact q1466; exact q160) (lw_meth q1474)) rfl rfl rfl rfl (by decide +kernel) ⟨hR.1, Nat.le_trans (Nat.add_le_add_right (Nat.le_of_ble_eq_true rfl : 8 + (1 + 11) ≤ 8 + (1 + 11)) _) hR.2⟩
    exact gcHri (As := []) (rest := rest) S X Z hw h (fun u1 e1 => by rw [h1] at e1; cases e1; exact hm) cw (g_recv X hw (ci := 7) rfl (gcell_8 ht)) rfl hz hst hrm hd kk
  · have cw : va_CU R s args RX1 RX9 "PulseRent$Tenant" 246 yX8_mayLack yX8_mayLack cX8_mayLack 1 (Option.some Jvm.ClassFile.FieldType.int) (ws_ yX8_mayLack cX8_mayLack 1 (Option.some Jvm.ClassFile.FieldType.int)) (gRoom (0) (0) LC LS g) (LC - gZ g) (LS - gN g) 0 := va_cwU 0 S.2.2.2.2 (lw_app (by intro w hw; simp only [List.mem_cons, List.not_mem_nil, or_false] at hw; rcases hw with e | e | e | e | e <;> rw [e]; exact q1465; exact q1468; exact q1469; exact q1466; exact q160) (lw_meth q1474)) rfl rfl rfl rfl (by decide +kernel) ⟨hR.1, Nat.le_trans (Nat.add_le_add_right (Nat.le_of_ble_eq_true rfl : 8 + (1 + 11) ≤ 8 + (1 + 11)) _) hR.2⟩
    exact gcHri (As := []) (rest := rest) S X Z hw h (fun u1 e1 => by rw [h1] at e1; cases e1; exact hm) cw (g_recv X hw (ci := 8) rfl (gcell_9 ht)) rfl hz hst hrm hd kk
  · have cw : va_CU R s args RX1 RX10 "PulseRent$Tenant" 246 yX8_mayLack yX8_mayLack cX8_mayLack 1 (Option.some Jvm.ClassFile.FieldType.int) (ws_ yX8_mayLack cX8_mayLack 1 (Option.some Jvm.ClassFile.FieldType.int)) (gRoom (0) (0) LC LS g) (LC - gZ g) (LS - gN g) 0 := va_cwU 0 S.2.2.2.2 (lw_app (by intro w hw; simp only [List.mem_cons, List.not_mem_nil, or_false] at hw; rcases hw with e | e | e | e | e <;> rw [e]; exact q1465; exact q1468; exact q1470; exact q1466; exact q160) (lw_meth q1474)) rfl rfl rfl rfl (by decide +kernel) ⟨hR.1, Nat.le_trans (Nat.add_le_add_right (Nat.le_of_ble_eq_true rfl : 8 + (1 + 11) ≤ 8 + (1 + 11)) _) hR.2⟩
    exact gcHri (As := []) (rest := rest) S X Z hw h (fun u1 e1 => by rw [h1] at e1; cases e1; exact hm) cw (g_recv X hw (ci := 9) rfl (gcell_10 ht)) rfl hz hst hrm hd kk
  · have cw : va_CU R s args RX1 RX11 "PulseRent$Tenant" 246 yX8_mayLack yX11_mayLack cX11_mayLack 1 (Option.some Jvm.ClassFile.FieldType.int) (ws_ yX11_mayLack cX11_mayLack 1 (Option.some Jvm.ClassFile.FieldType.int)) (gRoom (0) (0) LC LS g) (LC - gZ g) (LS - gN g) 0 := va_cwO 0 S.2.2.2.2 (lw_app (by intro w hw; simp only [List.mem_cons, List.not_mem_nil, or_false] at hw; rcases hw with e | e | e | e | e | e <;> rw [e]; exact q1465; exact q1468; exact q1466; exact q1471; exact q1472; exact q163) (lw_meth q1473)) rfl rfl rfl q1474 (by decide +kernel) ⟨hR.1, Nat.le_trans (Nat.add_le_add_right (Nat.le_of_ble_eq_true rfl : 8 + (1 + 11) ≤ 8 + (1 + 11)) _) hR.2⟩
    exact gcHri (As := []) (rest := rest) S X Z hw h (fun u1 e1 => by rw [h1] at e1; cases e1; exact hm) cw (g_recv X hw (ci := 10) rfl (gcell_11 ht)) rfl hz hst hrm hd kk
end
def B_X1_collects_p129 (k103 : Nat → Nat → Int32 → Int32 → GS → Option (Int32 × GS)) (x0 : Nat) (x1 : Nat) (x2 : Int32) (x3 : Int32) (w : GS) : Option (Int32 × GS) :=
  bd1 (oRn w x1 4 4 4) fun a7 =>
  bd1 (xI w a7 40 x3 (0 : Int32)) fun w8 =>
  k103 x0 x1 x2 (x3 + (1 : Int32)) w8
def B_X1_collects_p103 : Nat → Nat → Nat → Int32 → Int32 → GS → Option (Int32 × GS)
  | 0, _, _, _, _, _ => none
  | n + 1, x0, x1, x2, x3, w =>
    bd1 (oK w x0 1 1) fun _ =>
    bd1 (B_X1_tenants x0 w) fun r3 =>
    if r3 ≤ x3 then
      some (x2, w)
    else
      bd1 (oI w x1 4 4 7) fun v5 =>
      if (B_X1_isIn v5 x3) = 0 then
        B_X1_collects_p129 (B_X1_collects_p103 n) x0 x1 x2 x3 w
      else
        bd1 (oRn w x1 4 4 0) fun a9 =>
        bd1 (xI w a9 40 x3 (-1 : Int32)) fun w10 =>
        B_X1_collects_p129 (B_X1_collects_p103 n) x0 x1 x2 x3 w10
def B_X1_collects_p4 : Nat → Nat → Nat → Int32 → Int32 → GS → Option (Int32 × GS)
  | 0, _, _, _, _, _ => none
  | n + 1, x0, x1, x2, x3, w =>
    bd1 (oK w x0 1 1) fun _ =>
    bd1 (B_X1_tenants x0 w) fun r1 =>
    if r1 ≤ x3 then
      B_X1_collects_p103 FU x0 x1 x2 (0 : Int32) w
    else
      bd1 (oK w x1 4 4) fun _ =>
      bd1 (B_X4_isIn x1 x3 w) fun r11 =>
      if r11 = 0 then
        (B_X1_collects_p4 n) x0 x1 x2 (x3 + (1 : Int32)) w
      else
        bd1 (oK w x0 1 1) fun _ =>
        bd2 (B_X1_due x0 x1 x3 w) fun r14 w13 =>
        bd1 (oRn w13 x1 4 4 5) fun a15 =>
        bd1 (aI w13 a15 40 x3) fun v16 =>
        bd1 (oK w13 x0 1 1) fun _ =>
        bd1 (B_X1_tenant_2 x0 x3 w13) fun a17 =>
        bd1 (V_mayLack a17 w13) fun r18 =>
        if (r14 - v16) ≤ r18 then
          bd1 (oRn w13 x1 4 4 5) fun a20 =>
          bd1 (aI w13 a20 40 x3) fun v21 =>
          bdp ((if v21 < r14 then v21 else r14)) fun y22 =>
          bd1 (oRn w13 x1 4 4 5) fun a23 =>
          bd1 (aI w13 a23 40 x3) fun v24 =>
          bd1 (xI w13 a23 40 x3 (v24 - y22)) fun w25 =>
          bdp (x2 + y22) fun y26 =>
          (B_X1_collects_p4 n) x0 x1 y26 (x3 + (1 : Int32)) w25
        else
          bd1 (oI w13 x1 4 4 7) fun v27 =>
          bd1 (pI w13 x1 4 4 7 (v27 ||| ((1 : Int32) <<< (x3 &&& 31)))) fun w28 =>
          (B_X1_collects_p4 n) x0 x1 x2 (x3 + (1 : Int32)) w28
def B_X1_collects (x0 : Nat) (x1 : Nat) (w : GS) : Option (Int32 × GS) :=
  B_X1_collects_p4 FU x0 x1 (0 : Int32) (0 : Int32) w
set_option maxRecDepth 100000 in
set_option maxHeartbeats 4000000 in
theorem wk_B_X1_collects_p129 {p : Program} {l : Launch} {e : Env} {R : Room} {s : State} {m : MethodId} {args : Array Value} {below : List Frame} {meth : Method} {c : Code} {E : gE} {A : Nat → Prop} {LC LS : Nat} (S : CallFix p m c cX1_collects 6 s args lw_all RX1) (X : gCtx E A s) (Z : gRm R s LC LS) (hF : 1104 ≤ R.frames) (hL : 33098 ≤ R.locals) (hr : meth.sig.returnType = (Option.some Jvm.ClassFile.FieldType.int)) (hlocks : meth.locks = false) {res : Int32 × GS}  {k103 : Nat → Nat → Int32 → Int32 → GS → Option (Int32 × GS)} (hk103 : ∀ (x0 : Nat) (x1 : Nat) (x2 : Int32) (x3 : Int32) (w : GS) (H : Heap) (locs : List Loc) (ls : Array Slot), k103 x0 x1 x2 x3 w = some res → gH E A LC LS s w H locs → lv_has ls 6 [(0, .ref x0), (1, .ref x1), (2, .int x2), (3, .int x3)] → W p l e R s m args below meth c H locs (H.size - s.heap.size) (tot H - tot s.heap) (MQ below (gQi E A LC LS res.1 res.2) args s R.cells R.slots A) (F0 m 103 ls [])) : ∀ (x0 : Nat) (x1 : Nat) (x2 : Int32) (x3 : Int32) (w : GS) (H : Heap) (locs : List Loc) (ls : Array Slot), B_X1_collects_p129 k103 x0 x1 x2 x3 w = some res → gH E A LC LS s w H locs → lv_has ls 6 [(0, .ref x0), (1, .ref x1), (2, .int x2), (3, .int x3)] → W p l e R s m args below meth c H locs (H.size - s.heap.size) (tot H - tot s.heap) (MQ below (gQi E A LC LS res.1 res.2) args s R.cells R.slots A) (F0 m 129 ls []) := by
  intro x0 x1 x2 x3 w H locs ls h hw hl
  unfold B_X1_collects_p129 at h
  refine lv_aload_n S.1 S.2.1 dX1_collects_129 rfl (lv_at hl 1 rfl) ?_
  refine ggX1_199 S X hw dX1_collects_130 h (fun a7 h => ?_)
  refine lv_iload_n S.1 S.2.1 dX1_collects_133 rfl (lv_at hl 3 rfl) ?_
  refine lv_iconst (v := 0) S.1 S.2.1 dX1_collects_134 rfl ?_
  refine gast40 S X hw dX1_collects_135 h (fun w8 H locs h hw => ?_)
  refine lv_iinc (v := x3 + (1 : Int32)) (lv' := [(3, .int (x3 + (1 : Int32))), (0, .ref x0), (1, .ref x1), (2, .int x2)]) S.1 S.2.1 dX1_collects_136 hl (k := 3) rfl rfl (by decide) rfl (fun ls hl => ?_)
  refine lv_goto (tgt := 103) S.1 S.2.1 dX1_collects_139 rfl ?_
  exact hk103 _ _ _ _ _ _ _ _ h hw (lv_sub hl [1, 2, 3, 0] rfl)
set_option maxRecDepth 100000 in
set_option maxHeartbeats 4000000 in
theorem wk_B_X1_collects_p103 {p : Program} {l : Launch} {e : Env} {R : Room} {s : State} {m : MethodId} {args : Array Value} {below : List Frame} {meth : Method} {c : Code} {E : gE} {A : Nat → Prop} {LC LS : Nat} (S : CallFix p m c cX1_collects 6 s args lw_all RX1) (X : gCtx E A s) (Z : gRm R s LC LS) (hF : 1104 ≤ R.frames) (hL : 33098 ≤ R.locals) (hr : meth.sig.returnType = (Option.some Jvm.ClassFile.FieldType.int)) (hlocks : meth.locks = false) {res : Int32 × GS}  : ∀ n : Nat, ∀ (x0 : Nat) (x1 : Nat) (x2 : Int32) (x3 : Int32) (w : GS) (H : Heap) (locs : List Loc) (ls : Array Slot), B_X1_collects_p103 n x0 x1 x2 x3 w = some res → gH E A LC LS s w H locs → lv_has ls 6 [(0, .ref x0), (1, .ref x1), (2, .int x2), (3, .int x3)] → W p l e R s m args below meth c H locs (H.size - s.heap.size) (tot H - tot s.heap) (MQ below (gQi E A LC LS res.1 res.2) args s R.cells R.slots A) (F0 m 103 ls []) := by
  intro n
  induction n with
  | zero => intro x0 x1 x2 x3 w H locs ls h; cases (show (none : Option (Int32 × GS)) = some res from h)
  | succ n ih =>
    intro x0 x1 x2 x3 w H locs ls h hw hl
    rw [B_X1_collects_p103] at h
    refine lv_iload_n S.1 S.2.1 dX1_collects_103 rfl (lv_at hl 3 rfl) ?_
    refine lv_aload_n S.1 S.2.1 dX1_collects_104 rfl (lv_at hl 0 rfl) ?_
    obtain ⟨hrc, h⟩ := oK1 h
    refine gcVri (As := []) (rest := [.int x3]) S X Z hw (b := x0) h (fun u h1 => met_B_X1_tenants l E A LC LS x0 w u h1) (cb_X1_157 S.2.2.2.2 rfl rfl ⟨Nat.le_trans (Nat.le_of_ble_eq_true rfl : 1 + 1 ≤ 1104) hF, Nat.le_trans (Nat.le_of_ble_eq_true rfl : 8 + (1 + 11) + 20 ≤ 33098) hL⟩) (g_recv X hw (ci := 0) rfl (gcell_1 hrc)) rfl hl.1 rfl (lv_room (Nat.le_of_ble_eq_true rfl)) dX1_collects_105 (fun r3 H locs h hw => ?_)
    refine lv_icmp_ge (tgt := 142) S.1 S.2.1 dX1_collects_108 rfl (fun c4 => ?_) (fun c4 => ?_)
    · replace h := if_t c4 h
      refine lv_iload_n S.1 S.2.1 dX1_collects_142 rfl (lv_at hl 2 rfl) ?_
      exact g_iret S Z hr hlocks hw (so2 h) dX1_collects_143
    · replace h := if_f c4 h
      refine lv_aload_n S.1 S.2.1 dX1_collects_111 rfl (lv_at hl 1 rfl) ?_
      refine ggX1_249 S X hw dX1_collects_112 h (fun v5 h => ?_)
      refine lv_iload_n S.1 S.2.1 dX1_collects_115 rfl (lv_at hl 3 rfl) ?_
      refine gcSti (As := [.int v5, .int x3]) (rest := []) S X Z hw (met_B_X1_isIn l E A LC LS v5 x3 w _ rfl) (cb_X1_252 S.2.2.2.2 rfl rfl ⟨Nat.le_trans (Nat.le_of_ble_eq_true rfl : 0 + 1 ≤ 1104) hF, Nat.le_trans (Nat.le_of_ble_eq_true rfl : 8 + (2 + 11) + 0 ≤ 33098) hL⟩) rfl hl.1 rfl (lv_room (Nat.le_of_ble_eq_true rfl)) dX1_collects_116 (fun H locs hw => ?_)
      refine lv_if_eq (tgt := 129) S.1 S.2.1 dX1_collects_119 rfl (fun c6 => ?_) (fun c6 => ?_)
      · replace h := if_t c6 h
        exact wk_B_X1_collects_p129 S X Z hF hL hr hlocks  ih _ _ _ _ _ _ _ _ h hw (lv_sub hl [0, 1, 2, 3] rfl)
      · replace h := if_f c6 h
        refine lv_aload_n S.1 S.2.1 dX1_collects_122 rfl (lv_at hl 1 rfl) ?_
        refine ggX1_176 S X hw dX1_collects_123 h (fun a9 h => ?_)
        refine lv_iload_n S.1 S.2.1 dX1_collects_126 rfl (lv_at hl 3 rfl) ?_
        refine lv_iconst (v := -1) S.1 S.2.1 dX1_collects_127 rfl ?_
        refine gast40 S X hw dX1_collects_128 h (fun w10 H locs h hw => ?_)
        exact wk_B_X1_collects_p129 S X Z hF hL hr hlocks  ih _ _ _ _ _ _ _ _ h hw (lv_sub hl [0, 1, 2, 3] rfl)
set_option maxRecDepth 100000 in
set_option maxHeartbeats 4000000 in
theorem wk_B_X1_collects_p4 {p : Program} {l : Launch} {e : Env} {R : Room} {s : State} {m : MethodId} {args : Array Value} {below : List Frame} {meth : Method} {c : Code} {E : gE} {A : Nat → Prop} {LC LS : Nat} (S : CallFix p m c cX1_collects 6 s args lw_all RX1) (X : gCtx E A s) (Z : gRm R s LC LS) (hF : 1104 ≤ R.frames) (hL : 33098 ≤ R.locals) (hr : meth.sig.returnType = (Option.some Jvm.ClassFile.FieldType.int)) (hlocks : meth.locks = false) {res : Int32 × GS}  : ∀ n : Nat, ∀ (x0 : Nat) (x1 : Nat) (x2 : Int32) (x3 : Int32) (w : GS) (H : Heap) (locs : List Loc) (ls : Array Slot), B_X1_collects_p4 n x0 x1 x2 x3 w = some res → gH E A LC LS s w H locs → lv_has ls 6 [(0, .ref x0), (1, .ref x1), (2, .int x2), (3, .int x3)] → W p l e R s m args below meth c H locs (H.size - s.heap.size) (tot H - tot s.heap) (MQ below (gQi E A LC LS res.1 res.2) args s R.cells R.slots A) (F0 m 4 ls []) := by
  intro n
  induction n with
  | zero => intro x0 x1 x2 x3 w H locs ls h; cases (show (none : Option (Int32 × GS)) = some res from h)
  | succ n ih =>
    intro x0 x1 x2 x3 w H locs ls h hw hl
    rw [B_X1_collects_p4] at h
    refine lv_iload_n S.1 S.2.1 dX1_collects_4 rfl (lv_at hl 3 rfl) ?_
    refine lv_aload_n S.1 S.2.1 dX1_collects_5 rfl (lv_at hl 0 rfl) ?_
    obtain ⟨hrc, h⟩ := oK1 h
    refine gcVri (As := []) (rest := [.int x3]) S X Z hw (b := x0) h (fun u h1 => met_B_X1_tenants l E A LC LS x0 w u h1) (cb_X1_157 S.2.2.2.2 rfl rfl ⟨Nat.le_trans (Nat.le_of_ble_eq_true rfl : 1 + 1 ≤ 1104) hF, Nat.le_trans (Nat.le_of_ble_eq_true rfl : 8 + (1 + 11) + 20 ≤ 33098) hL⟩) (g_recv X hw (ci := 0) rfl (gcell_1 hrc)) rfl hl.1 rfl (lv_room (Nat.le_of_ble_eq_true rfl)) dX1_collects_6 (fun r1 H locs h hw => ?_)
    refine lv_icmp_ge (tgt := 101) S.1 S.2.1 dX1_collects_9 rfl (fun c2 => ?_) (fun c2 => ?_)
    · replace h := if_t c2 h
      refine lv_iconst (v := 0) S.1 S.2.1 dX1_collects_101 rfl ?_
      refine lv_istore_n (lv' := [(3, .int (0 : Int32)), (0, .ref x0), (1, .ref x1), (2, .int x2)]) S.1 S.2.1 dX1_collects_102 rfl hl (by decide) rfl (fun ls hl => ?_)
      exact wk_B_X1_collects_p103 S X Z hF hL hr hlocks  FU _ _ _ _ _ _ _ _ h hw (lv_sub hl [1, 2, 3, 0] rfl)
    · replace h := if_f c2 h
      refine lv_aload_n S.1 S.2.1 dX1_collects_12 rfl (lv_at hl 1 rfl) ?_
      refine lv_iload_n S.1 S.2.1 dX1_collects_13 rfl (lv_at hl 3 rfl) ?_
      obtain ⟨hrc, h⟩ := oK1 h
      refine gcVri (As := [.int x3]) (rest := []) S X Z hw (b := x1) h (fun u h1 => met_B_X4_isIn l E A LC LS x1 x3 w u h1) (cb_X1_163 S.2.2.2.2 rfl rfl ⟨Nat.le_trans (Nat.le_of_ble_eq_true rfl : 0 + 1 ≤ 1104) hF, Nat.le_trans (Nat.le_of_ble_eq_true rfl : 8 + (2 + 11) + 0 ≤ 33098) hL⟩) (g_recv X hw (ci := 3) rfl (gcell_4 hrc)) rfl hl.1 rfl (lv_room (Nat.le_of_ble_eq_true rfl)) dX1_collects_14 (fun r11 H locs h hw => ?_)
      refine lv_if_ne (tgt := 23) S.1 S.2.1 dX1_collects_17 rfl (fun c12 => ?_) (fun c12 => ?_)
      · replace h := if_f c12 h
        refine lv_aload_n S.1 S.2.1 dX1_collects_23 rfl (lv_at hl 0 rfl) ?_
        refine lv_aload_n S.1 S.2.1 dX1_collects_24 rfl (lv_at hl 1 rfl) ?_
        refine lv_iload_n S.1 S.2.1 dX1_collects_25 rfl (lv_at hl 3 rfl) ?_
        obtain ⟨hrc, h⟩ := oK1 h
        refine gcVi (As := [.ref x1, .int x3]) (rest := []) S X Z hw (b := x0) h (fun u h1 => met_B_X1_due l E A LC LS x0 x1 x3 w u h1) (cb_X1_240 S.2.2.2.2 rfl rfl ⟨Nat.le_trans (Nat.le_of_ble_eq_true rfl : 1103 + 1 ≤ 1104) hF, Nat.le_trans (Nat.le_of_ble_eq_true rfl : 8 + (3 + 11) + 33076 ≤ 33098) hL⟩) (g_recv X hw (ci := 0) rfl (gcell_1 hrc)) rfl hl.1 rfl (lv_room (Nat.le_of_ble_eq_true rfl)) dX1_collects_26 (fun r14 w13 H locs h hw => ?_)
        refine lv_istore (lv' := [(4, .int r14), (0, .ref x0), (1, .ref x1), (2, .int x2), (3, .int x3)]) S.1 S.2.1 dX1_collects_29 hl (by decide) rfl (fun ls hl => ?_)
        refine lv_iload S.1 S.2.1 dX1_collects_31 (lv_at hl 0 rfl) ?_
        refine lv_aload_n S.1 S.2.1 dX1_collects_33 rfl (lv_at hl 2 rfl) ?_
        refine ggX1_243 S X hw dX1_collects_34 h (fun a15 h => ?_)
        refine lv_iload_n S.1 S.2.1 dX1_collects_37 rfl (lv_at hl 4 rfl) ?_
        refine gald40 S X hw dX1_collects_38 h (fun v16 h => ?_)
        refine lv_isub S.1 S.2.1 dX1_collects_39 ?_
        refine lv_aload_n S.1 S.2.1 dX1_collects_40 rfl (lv_at hl 1 rfl) ?_
        refine lv_iload_n S.1 S.2.1 dX1_collects_41 rfl (lv_at hl 4 rfl) ?_
        obtain ⟨hrc, h⟩ := oK1 h
        refine gcVrr (As := [.int x3]) (rest := [.int (r14 - v16)]) S X Z hw (b := x0) h (fun u h1 => met_B_X1_tenant_2 l E A LC LS x0 x3 w13 u h1) (cb_X1_166 S.2.2.2.2 rfl rfl ⟨Nat.le_trans (Nat.le_of_ble_eq_true rfl : 3 + 1 ≤ 1104) hF, Nat.le_trans (Nat.le_of_ble_eq_true rfl : 8 + (2 + 11) + 64 ≤ 33098) hL⟩) (g_recv X hw (ci := 0) rfl (gcell_1 hrc)) rfl hl.1 rfl (lv_room (Nat.le_of_ble_eq_true rfl)) dX1_collects_42 (fun a17 H locs h hw => ?_)
        refine dv_X1_246  (rest := [.int (r14 - v16)]) S X Z hw h (fun u h1 => dm_mayLack l E A LC LS a17 w13 u h1) ⟨Nat.le_trans (Nat.le_of_ble_eq_true rfl : 0 + 1 ≤ 1104) hF, Nat.le_trans (Nat.le_of_ble_eq_true rfl : 8 + (1 + 11) + 0 ≤ 33098) hL⟩ hl.1 rfl (lv_room (Nat.le_of_ble_eq_true rfl)) dX1_collects_45 (fun r18 H locs h hw => ?_)
        refine lv_icmp_le (tgt := 66) S.1 S.2.1 dX1_collects_48 rfl (fun c19 => ?_) (fun c19 => ?_)
        · replace h := if_t c19 h
          refine lv_iload S.1 S.2.1 dX1_collects_66 (lv_at hl 0 rfl) ?_
          refine lv_aload_n S.1 S.2.1 dX1_collects_68 rfl (lv_at hl 2 rfl) ?_
          refine ggX1_243 S X hw dX1_collects_69 h (fun a20 h => ?_)
          refine lv_iload_n S.1 S.2.1 dX1_collects_72 rfl (lv_at hl 4 rfl) ?_
          refine gald40 S X hw dX1_collects_73 h (fun v21 h => ?_)
          refine va_mmin (x := r14) (y := v21) (rest := []) S.1 S.2.1 (S.2.2.1.trans hl.1.symm) S.2.2.2.1 (S.2.2.2.2 _ q1360) (S.2.2.2.2 _ q509) (S.2.2.2.2 _ q147) (S.2.2.2.2 _ q510) (Nat.le_trans (Nat.le_of_ble_eq_true rfl) hF) (Nat.le_trans (Nat.le_of_ble_eq_true rfl : (([] : List Value).map fun v : Value => v.category).sum + 13 ≤ 21) (Nat.le_trans (Nat.le_of_ble_eq_true rfl) hL)) (gRm_le Z hw).1 (gRm_le Z hw).2 dX1_collects_74 ?_
          refine lv_topi (fun y22 ey => ?_)
          replace h := bdp_e ey h
          refine lv_istore (lv' := [(5, .int y22), (4, .int r14), (0, .ref x0), (1, .ref x1), (2, .int x2), (3, .int x3)]) S.1 S.2.1 dX1_collects_77 hl (by decide) rfl (fun ls hl => ?_)
          refine lv_aload_n S.1 S.2.1 dX1_collects_79 rfl (lv_at hl 3 rfl) ?_
          refine ggX1_243 S X hw dX1_collects_80 h (fun a23 h => ?_)
          refine lv_iload_n S.1 S.2.1 dX1_collects_83 rfl (lv_at hl 5 rfl) ?_
          refine lv_dup2_11 S.1 S.2.1 dX1_collects_84 rfl rfl ?_
          refine gald40 S X hw dX1_collects_85 h (fun v24 h => ?_)
          refine lv_iload S.1 S.2.1 dX1_collects_86 (lv_at hl 0 rfl) ?_
          refine lv_isub S.1 S.2.1 dX1_collects_88 ?_
          refine gast40 S X hw dX1_collects_89 h (fun w25 H locs h hw => ?_)
          refine lv_iload_n S.1 S.2.1 dX1_collects_90 rfl (lv_at hl 4 rfl) ?_
          refine lv_iload S.1 S.2.1 dX1_collects_91 (lv_at hl 0 rfl) ?_
          refine lv_iadd S.1 S.2.1 dX1_collects_93 ?_
          refine lv_topi (fun y26 ey => ?_)
          replace h := bdp_e ey h
          refine lv_istore_n (lv' := [(2, .int y26), (5, .int y22), (4, .int r14), (0, .ref x0), (1, .ref x1), (3, .int x3)]) S.1 S.2.1 dX1_collects_94 rfl hl (by decide) rfl (fun ls hl => ?_)
          refine lv_iinc (v := x3 + (1 : Int32)) (lv' := [(3, .int (x3 + (1 : Int32))), (2, .int y26), (5, .int y22), (4, .int r14), (0, .ref x0), (1, .ref x1)]) S.1 S.2.1 dX1_collects_95 hl (k := 5) rfl rfl (by decide) rfl (fun ls hl => ?_)
          refine lv_goto (tgt := 4) S.1 S.2.1 dX1_collects_98 rfl ?_
          exact ih _ _ _ _ _ _ _ _ h hw (lv_sub hl [4, 5, 1, 0] rfl)
        · replace h := if_f c19 h
          refine lv_aload_n S.1 S.2.1 dX1_collects_51 rfl (lv_at hl 2 rfl) ?_
          refine lv_dup S.1 S.2.1 dX1_collects_52 rfl ?_
          refine ggX1_249 S X hw dX1_collects_53 h (fun v27 h => ?_)
          refine lv_iconst (v := 1) S.1 S.2.1 dX1_collects_56 rfl ?_
          refine lv_iload_n S.1 S.2.1 dX1_collects_57 rfl (lv_at hl 4 rfl) ?_
          refine lv_ishl S.1 S.2.1 dX1_collects_58 ?_
          refine lv_ior S.1 S.2.1 dX1_collects_59 ?_
          refine gpX1_249 S X hw dX1_collects_60 h (fun w28 H locs h hw => ?_)
          refine lv_goto (tgt := 95) S.1 S.2.1 dX1_collects_63 rfl ?_
          refine lv_iinc (v := x3 + (1 : Int32)) (lv' := [(3, .int (x3 + (1 : Int32))), (4, .int r14), (0, .ref x0), (1, .ref x1), (2, .int x2)]) S.1 S.2.1 dX1_collects_95 hl (k := 4) rfl rfl (by decide) rfl (fun ls hl => ?_)
          refine lv_goto (tgt := 4) S.1 S.2.1 dX1_collects_98 rfl ?_
          exact ih _ _ _ _ _ _ _ _ h hw (lv_sub hl [2, 3, 4, 0] rfl)
      · replace h := if_t c12 h
        refine lv_goto (tgt := 95) S.1 S.2.1 dX1_collects_20 rfl ?_
        refine lv_iinc (v := x3 + (1 : Int32)) (lv' := [(3, .int (x3 + (1 : Int32))), (0, .ref x0), (1, .ref x1), (2, .int x2)]) S.1 S.2.1 dX1_collects_95 hl (k := 3) rfl rfl (by decide) rfl (fun ls hl => ?_)
        refine lv_goto (tgt := 4) S.1 S.2.1 dX1_collects_98 rfl ?_
        exact ih _ _ _ _ _ _ _ _ h hw (lv_sub hl [1, 2, 3, 0] rfl)
set_option maxRecDepth 100000 in
set_option maxHeartbeats 4000000 in
theorem met_B_X1_collects (l : Launch) (E : gE) (A : Nat → Prop) (LC LS : Nat)  (x0 : Nat) (x1 : Nat) (w : GS) (res : Int32 × GS) (h : B_X1_collects x0 x1 w = some res) : Met l yX1_collects (ws_ yX1_collects cX1_collects 6 (Option.some Jvm.ClassFile.FieldType.int)) (gRoom 1104 33098 LC LS w) (gPc E A LC LS [.ref x0, .ref x1] w) (gQi E A LC LS res.1 res.2) (LC - gZ w) (LS - gN w) A := by
  refine gMet (by decide) rfl (Nat.le_of_ble_eq_true rfl) ?_
  intro p e s m below meth c R S hr hlocks hin2 X Z hF hL H ls hw hl
  replace hl : lv_has ls 6 [(0, .ref x0), (1, .ref x1)] := hl
  unfold B_X1_collects at h
  refine lv_iconst (v := 0) S.1 S.2.1 dX1_collects_0 rfl ?_
  refine lv_istore_n (lv' := [(2, .int (0 : Int32)), (0, .ref x0), (1, .ref x1)]) S.1 S.2.1 dX1_collects_1 rfl hl (by decide) rfl (fun ls hl => ?_)
  refine lv_iconst (v := 0) S.1 S.2.1 dX1_collects_2 rfl ?_
  refine lv_istore_n (lv' := [(3, .int (0 : Int32)), (2, .int (0 : Int32)), (0, .ref x0), (1, .ref x1)]) S.1 S.2.1 dX1_collects_3 rfl hl (by decide) rfl (fun ls hl => ?_)
  exact wk_B_X1_collects_p4 S X Z hF hL hr hlocks  FU _ _ _ _ _ _ _ _ h hw (lv_sub hl [2, 3, 1, 0] rfl)
theorem cb_X1_298 {R : Room} {s : State} {args : Array Value} {rm : Room} {mc ms : Nat} (hts : ∀ w ∈ lw_all, w.before args s = true) (hc : rm.cells = mc) (hs : rm.slots = ms) (hR : rm.frames + 1 ≤ R.frames ∧ 8 + (6 + 11) + rm.locals ≤ R.locals) : CallW R s args RX1 RX1 298 yX1_collects cX1_collects 6 (Option.some Jvm.ClassFile.FieldType.int) (ws_ yX1_collects cX1_collects 6 (Option.some Jvm.ClassFile.FieldType.int)) rm mc ms 1 := cwV 1 hts (lw_V q1433 q1435 qs43 q135 q1436) rfl hc hs (by decide +kernel) hR
def B_X1_noon (x0 : Nat) (w : GS) : Option (Int32 × GS) :=
  bd1 (oK w x0 1 1) fun _ =>
  bd1 (B_X1_keeps x0 w) fun w1 =>
  bd1 (oRn w1 x0 1 1 4) fun a2 =>
  bd1 (oK w1 x0 1 1) fun _ =>
  bd2 (B_X1_collects x0 a2 w1) fun r4 w3 =>
  some (r4, w3)
set_option maxRecDepth 100000 in
set_option maxHeartbeats 4000000 in
theorem met_B_X1_noon (l : Launch) (E : gE) (A : Nat → Prop) (LC LS : Nat)  (x0 : Nat) (w : GS) (res : Int32 × GS) (h : B_X1_noon x0 w = some res) : Met l yX1_noon (ws_ yX1_noon cX1_noon 1 (Option.some Jvm.ClassFile.FieldType.int)) (gRoom 1105 33123 LC LS w) (gPc E A LC LS [.ref x0] w) (gQi E A LC LS res.1 res.2) (LC - gZ w) (LS - gN w) A := by
  refine gMet (by decide) rfl (Nat.le_of_ble_eq_true rfl) ?_
  intro p e s m below meth c R S hr hlocks hin2 X Z hF hL H ls hw hl
  replace hl : lv_has ls 1 [(0, .ref x0)] := hl
  unfold B_X1_noon at h
  refine lv_aload_n S.1 S.2.1 dX1_noon_0 rfl (lv_at hl 0 rfl) ?_
  obtain ⟨hrc, h⟩ := oK1 h
  refine gcVv (As := []) (rest := []) S X Z hw (b := x0) h (fun u h1 => met_B_X1_keeps l E A LC LS x0 w u h1) (cb_X1_283 S.2.2.2.2 rfl rfl ⟨Nat.le_trans (Nat.le_of_ble_eq_true rfl : 2 + 1 ≤ 1105) hF, Nat.le_trans (Nat.le_of_ble_eq_true rfl : 8 + (3 + 11) + 43 ≤ 33123) hL⟩) (g_recv X hw (ci := 0) rfl (gcell_1 hrc)) rfl hl.1 rfl (lv_room (Nat.le_of_ble_eq_true rfl)) dX1_noon_1 (fun w1 H locs h hw => ?_)
  refine lv_aload_n S.1 S.2.1 dX1_noon_4 rfl (lv_at hl 0 rfl) ?_
  refine lv_aload_n S.1 S.2.1 dX1_noon_5 rfl (lv_at hl 0 rfl) ?_
  refine ggX1_51 S X hw dX1_noon_6 h (fun a2 h => ?_)
  obtain ⟨hrc, h⟩ := oK1 h
  refine gcVi (As := [.ref a2]) (rest := []) S X Z hw (b := x0) h (fun u h1 => met_B_X1_collects l E A LC LS x0 a2 w1 u h1) (cb_X1_298 S.2.2.2.2 rfl rfl ⟨Nat.le_trans (Nat.le_of_ble_eq_true rfl : 1104 + 1 ≤ 1105) hF, Nat.le_trans (Nat.le_of_ble_eq_true rfl : 8 + (6 + 11) + 33098 ≤ 33123) hL⟩) (g_recv X hw (ci := 0) rfl (gcell_1 hrc)) rfl hl.1 rfl (lv_room (Nat.le_of_ble_eq_true rfl)) dX1_noon_9 (fun r4 w3 H locs h hw => ?_)
  exact g_iret S Z hr hlocks hw (so2 h) dX1_noon_12
