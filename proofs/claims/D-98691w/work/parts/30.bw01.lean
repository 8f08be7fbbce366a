/-! walks over the plain heap, printed by gen/bgen.py -/
set_option maxRecDepth 100000
theorem cb_J11_16 {R : Room} {s : State} {args : Array Value} {rm : Room} {mc ms : Nat} (hts : ∀ w ∈ lw_all, w.before args s = true) (hc : rm.cells = mc) (hs : rm.slots = ms) (hR : rm.frames + 1 ≤ R.frames ∧ 8 + (5 + 11) + rm.locals ≤ R.locals) : CallB R s args RJ11 16 yJ10_init_2 cJ10_init_2 5 none (ws_ yJ10_init_2 cJ10_init_2 5 (Option.none : Option Jvm.ClassFile.FieldType)) rm mc ms 4 ∧ yJ10_init_2.name = "<init>" ∧ (Cond.instanceMethod yJ10_init_2).before args s = true := cwI 4 hts (lw_meth q649) rfl hc hs (hts _ q150) (hts _ q647) (hts _ q648) rfl (by decide +kernel) hR
def B_J11_initN (x0 : Nat) (x3 : Int32) (x4 : Int32) (w : GS) : Option GS :=
  bd1 (B_J10_init_2N x0 x3 x4 w) fun w1 =>
  some w1
set_option maxRecDepth 100000 in
set_option maxHeartbeats 4000000 in
theorem met_B_J11_initN (l : Launch) (E : gE) (A : Nat → Prop) (LC LS : Nat)  (x0 : Nat) (x3 : Int32) (x4 : Int32) (w : GS) (res : GS) (h : B_J11_initN x0 x3 x4 w = some res) : Met l yJ11_init (ws_ yJ11_init cJ11_init 5 (Option.none : Option Jvm.ClassFile.FieldType)) (gRoom 2 44 LC LS w) (gPc E A LC LS [.ref x0, .null, .null, .int x3, .int x4] w) (gQv E A LC LS res) (LC - gZ w) (LS - gN w) A := by
  refine gMet (by decide) rfl (Nat.le_of_ble_eq_true rfl) ?_
  intro p e s m below meth c R S hr hlocks hin2 X Z hF hL H ls hw hl
  replace hl : lv_has ls 5 [(0, .ref x0), (1, .null), (2, .null), (3, .int x3), (4, .int x4)] := hl
  unfold B_J11_initN at h
  replace hin2 : meth.name = "<init>" := hin2
  refine lv_aload_n S.1 S.2.1 dJ11_init_0 rfl (lv_at hl 0 rfl) ?_
  refine lv_aload_nN S.1 S.2.1 dJ11_init_1 rfl (lv_at hl 1 rfl) ?_
  refine lv_aload_nN S.1 S.2.1 dJ11_init_2 rfl (lv_at hl 2 rfl) ?_
  refine lv_iload_n S.1 S.2.1 dJ11_init_3 rfl (lv_at hl 3 rfl) ?_
  refine lv_iload S.1 S.2.1 dJ11_init_4 (lv_at hl 4 rfl) ?_
  refine gcIv (As := [.null, .null, .int x3, .int x4]) (rest := []) S X Z hw (b := x0) h (fun u h1 => met_B_J10_init_2N l E A LC LS x0 x3 x4 w u h1) (cb_J11_16 S.2.2.2.2 rfl rfl ⟨Nat.le_trans (Nat.le_of_ble_eq_true rfl : 1 + 1 ≤ 2) hF, Nat.le_trans (Nat.le_of_ble_eq_true rfl : 8 + (5 + 11) + 20 ≤ 44) hL⟩) rfl hl.1 rfl (lv_room (Nat.le_of_ble_eq_true rfl)) dJ11_init_6 (fun w1 H locs h hw => ?_)
  exact g_vret S Z hr hlocks hw (so1 h) dJ11_init_9
theorem cb_J12_16 {R : Room} {s : State} {args : Array Value} {rm : Room} {mc ms : Nat} (hts : ∀ w ∈ lw_all, w.before args s = true) (hc : rm.cells = mc) (hs : rm.slots = ms) (hR : rm.frames + 1 ≤ R.frames ∧ 8 + (5 + 11) + rm.locals ≤ R.locals) : CallB R s args RJ12 16 yJ11_init cJ11_init 5 none (ws_ yJ11_init cJ11_init 5 (Option.none : Option Jvm.ClassFile.FieldType)) rm mc ms 4 ∧ yJ11_init.name = "<init>" ∧ (Cond.instanceMethod yJ11_init).before args s = true := cwI 4 hts (lw_meth q646) rfl hc hs (hts _ q151) (hts _ q644) (hts _ q645) rfl (by decide +kernel) hR
def B_J12_initN (x0 : Nat) (x3 : Int32) (x4 : Int32) (w : GS) : Option GS :=
  bd1 (B_J11_initN x0 x3 x4 w) fun w1 =>
  some w1
set_option maxRecDepth 100000 in
set_option maxHeartbeats 4000000 in
theorem met_B_J12_initN (l : Launch) (E : gE) (A : Nat → Prop) (LC LS : Nat)  (x0 : Nat) (x3 : Int32) (x4 : Int32) (w : GS) (res : GS) (h : B_J12_initN x0 x3 x4 w = some res) : Met l yJ12_init (ws_ yJ12_init cJ12_init 5 (Option.none : Option Jvm.ClassFile.FieldType)) (gRoom 3 68 LC LS w) (gPc E A LC LS [.ref x0, .null, .null, .int x3, .int x4] w) (gQv E A LC LS res) (LC - gZ w) (LS - gN w) A := by
  refine gMet (by decide) rfl (Nat.le_of_ble_eq_true rfl) ?_
  intro p e s m below meth c R S hr hlocks hin2 X Z hF hL H ls hw hl
  replace hl : lv_has ls 5 [(0, .ref x0), (1, .null), (2, .null), (3, .int x3), (4, .int x4)] := hl
  unfold B_J12_initN at h
  replace hin2 : meth.name = "<init>" := hin2
  refine lv_aload_n S.1 S.2.1 dJ12_init_0 rfl (lv_at hl 0 rfl) ?_
  refine lv_aload_nN S.1 S.2.1 dJ12_init_1 rfl (lv_at hl 1 rfl) ?_
  refine lv_aload_nN S.1 S.2.1 dJ12_init_2 rfl (lv_at hl 2 rfl) ?_
  refine lv_iload_n S.1 S.2.1 dJ12_init_3 rfl (lv_at hl 3 rfl) ?_
  refine lv_iload S.1 S.2.1 dJ12_init_4 (lv_at hl 4 rfl) ?_
  refine gcIv (As := [.null, .null, .int x3, .int x4]) (rest := []) S X Z hw (b := x0) h (fun u h1 => met_B_J11_initN l E A LC LS x0 x3 x4 w u h1) (cb_J12_16 S.2.2.2.2 rfl rfl ⟨Nat.le_trans (Nat.le_of_ble_eq_true rfl : 2 + 1 ≤ 3) hF, Nat.le_trans (Nat.le_of_ble_eq_true rfl : 8 + (5 + 11) + 44 ≤ 68) hL⟩) rfl hl.1 rfl (lv_room (Nat.le_of_ble_eq_true rfl)) dJ12_init_6 (fun w1 H locs h hw => ?_)
  exact g_vret S Z hr hlocks hw (so1 h) dJ12_init_9
theorem cb_X6_1 {R : Room} {s : State} {args : Array Value} {rm : Room} {mc ms : Nat} (hts : ∀ w ∈ lw_all, w.before args s = true) (hc : rm.cells = mc) (hs : rm.slots = ms) (hR : rm.frames + 1 ≤ R.frames ∧ 8 + (5 + 11) + rm.locals ≤ R.locals) : CallB R s args RX6 1 yJ12_init cJ12_init 5 none (ws_ yJ12_init cJ12_init 5 (Option.none : Option Jvm.ClassFile.FieldType)) rm mc ms 4 ∧ yJ12_init.name = "<init>" ∧ (Cond.instanceMethod yJ12_init).before args s = true := cwI 4 hts (lw_meth q643) rfl hc hs (hts _ q152) (hts _ q641) (hts _ q642) rfl (by decide +kernel) hR
def B_X6_init (x0 : Nat) (x1 : Int32) (x2 : Int32) (w : GS) : Option GS :=
  bd1 (B_J12_initN x0 (0 : Int32) (0 : Int32) w) fun w1 =>
  bd1 (pI w1 x0 6 6 6 (x1 + ((16 : Int32) * x2))) fun w2 =>
  some w2
set_option maxRecDepth 100000 in
set_option maxHeartbeats 4000000 in
theorem met_B_X6_init (l : Launch) (E : gE) (A : Nat → Prop) (LC LS : Nat)  (x0 : Nat) (x1 : Int32) (x2 : Int32) (w : GS) (res : GS) (h : B_X6_init x0 x1 x2 w = some res) : Met l yX6_init (ws_ yX6_init cX6_init 3 (Option.none : Option Jvm.ClassFile.FieldType)) (gRoom 4 92 LC LS w) (gPc E A LC LS [.ref x0, .int x1, .int x2] w) (gQv E A LC LS res) (LC - gZ w) (LS - gN w) A := by
  refine gMet (by decide) rfl (Nat.le_of_ble_eq_true rfl) ?_
  intro p e s m below meth c R S hr hlocks hin2 X Z hF hL H ls hw hl
  replace hl : lv_has ls 3 [(0, .ref x0), (1, .int x1), (2, .int x2)] := hl
  unfold B_X6_init at h
  replace hin2 : meth.name = "<init>" := hin2
  refine lv_aload_n S.1 S.2.1 dX6_init_0 rfl (lv_at hl 0 rfl) ?_
  refine lv_null S.1 S.2.1 dX6_init_1 ?_
  refine lv_null S.1 S.2.1 dX6_init_2 ?_
  refine lv_iconst (v := 0) S.1 S.2.1 dX6_init_3 rfl ?_
  refine lv_iconst (v := 0) S.1 S.2.1 dX6_init_4 rfl ?_
  refine gcIv (As := [.null, .null, .int (0 : Int32), .int (0 : Int32)]) (rest := []) S X Z hw (b := x0) h (fun u h1 => met_B_J12_initN l E A LC LS x0 (0 : Int32) (0 : Int32) w u h1) (cb_X6_1 S.2.2.2.2 rfl rfl ⟨Nat.le_trans (Nat.le_of_ble_eq_true rfl : 3 + 1 ≤ 4) hF, Nat.le_trans (Nat.le_of_ble_eq_true rfl : 8 + (5 + 11) + 68 ≤ 92) hL⟩) rfl hl.1 rfl (lv_room (Nat.le_of_ble_eq_true rfl)) dX6_init_5 (fun w1 H locs h hw => ?_)
  refine lv_aload_n S.1 S.2.1 dX6_init_8 rfl (lv_at hl 0 rfl) ?_
  refine lv_iload_n S.1 S.2.1 dX6_init_9 rfl (lv_at hl 1 rfl) ?_
  refine lv_bipush (v := 16) S.1 S.2.1 dX6_init_10 rfl ?_
  refine lv_iload_n S.1 S.2.1 dX6_init_12 rfl (lv_at hl 2 rfl) ?_
  refine lv_imul S.1 S.2.1 dX6_init_13 ?_
  refine lv_iadd S.1 S.2.1 dX6_init_14 ?_
  refine gpX6_7 S X hw hin2 dX6_init_15 h (fun w2 H locs h hw => ?_)
  exact g_vret S Z hr hlocks hw (so1 h) dX6_init_18
def B_X7_init (x0 : Nat) (x1 : Nat) (x2 : Int32) (x3 : Int32) (x4 : Int32) (w : GS) : Option GS :=
  bd1 (pR w x0 7 7 0 (some x1)) fun w1 =>
  bd1 (pI w1 x0 7 7 1 x2) fun w2 =>
  bd1 (pI w2 x0 7 7 2 x3) fun w3 =>
  bd1 (pI w3 x0 7 7 3 x4) fun w4 =>
  some w4
set_option maxRecDepth 100000 in
set_option maxHeartbeats 4000000 in
theorem met_B_X7_init (l : Launch) (E : gE) (A : Nat → Prop) (LC LS : Nat)  (x0 : Nat) (x1 : Nat) (x2 : Int32) (x3 : Int32) (x4 : Int32) (w : GS) (res : GS) (h : B_X7_init x0 x1 x2 x3 x4 w = some res) : Met l yX7_init (ws_ yX7_init cX7_init 5 (Option.none : Option Jvm.ClassFile.FieldType)) (gRoom 1 20 LC LS w) (gPc E A LC LS [.ref x0, .ref x1, .int x2, .int x3, .int x4] w) (gQv E A LC LS res) (LC - gZ w) (LS - gN w) A := by
  refine gMet (by decide) rfl (Nat.le_of_ble_eq_true rfl) ?_
  intro p e s m below meth c R S hr hlocks hin2 X Z hF hL H ls hw hl
  replace hl : lv_has ls 5 [(0, .ref x0), (1, .ref x1), (2, .int x2), (3, .int x3), (4, .int x4)] := hl
  unfold B_X7_init at h
  replace hin2 : meth.name = "<init>" := hin2
  refine lv_aload_n S.1 S.2.1 dX7_init_0 rfl (lv_at hl 0 rfl) ?_
  refine W.objInit S.1 S.2.1 S.2.2.2.1 (S.2.2.2.2 _ q884) (S.2.2.2.2 _ q186) (S.2.2.2.2 _ q187) rfl (by rw [S.2.2.1]; exact hl.1) rfl dX7_init_1 (Nat.le_trans (Nat.le_of_ble_eq_true rfl) hF) (Nat.le_trans (Nat.add_le_add_right (lv_room (st := []) (Nat.le_of_ble_eq_true rfl)) 12) (Nat.le_trans (Nat.le_of_ble_eq_true rfl) hL)) ?_
  refine W.eq (g2 := F0 m 4 ls []) rfl ?_
  refine lv_aload_n S.1 S.2.1 dX7_init_4 rfl (lv_at hl 0 rfl) ?_
  refine lv_aload_n S.1 S.2.1 dX7_init_5 rfl (lv_at hl 1 rfl) ?_
  refine gpX7_7 (v := some x1) S X hw hin2 dX7_init_6 h (fun w1 H locs h hw => ?_)
  refine lv_aload_n S.1 S.2.1 dX7_init_9 rfl (lv_at hl 0 rfl) ?_
  refine lv_iload_n S.1 S.2.1 dX7_init_10 rfl (lv_at hl 2 rfl) ?_
  refine gpX7_13 S X hw hin2 dX7_init_11 h (fun w2 H locs h hw => ?_)
  refine lv_aload_n S.1 S.2.1 dX7_init_14 rfl (lv_at hl 0 rfl) ?_
  refine lv_iload_n S.1 S.2.1 dX7_init_15 rfl (lv_at hl 3 rfl) ?_
  refine gpX7_17 S X hw hin2 dX7_init_16 h (fun w3 H locs h hw => ?_)
  refine lv_aload_n S.1 S.2.1 dX7_init_19 rfl (lv_at hl 0 rfl) ?_
  refine lv_iload S.1 S.2.1 dX7_init_20 (lv_at hl 4 rfl) ?_
  refine gpX7_20 S X hw hin2 dX7_init_22 h (fun w4 H locs h hw => ?_)
  exact g_vret S Z hr hlocks hw (so1 h) dX7_init_25
def B_X8_init (x0 : Nat) (x1 : Nat) (w : GS) : Option GS :=
  bd1 (pI w x0 8 11 4 (-1 : Int32)) fun w1 =>
  bd1 (pR w1 x0 8 11 0 (some x1)) fun w2 =>
  some w2
set_option maxRecDepth 100000 in
set_option maxHeartbeats 4000000 in
theorem met_B_X8_init (l : Launch) (E : gE) (A : Nat → Prop) (LC LS : Nat)  (x0 : Nat) (x1 : Nat) (w : GS) (res : GS) (h : B_X8_init x0 x1 w = some res) : Met l yX8_init (ws_ yX8_init cX8_init 2 (Option.none : Option Jvm.ClassFile.FieldType)) (gRoom 1 20 LC LS w) (gPc E A LC LS [.ref x0, .ref x1] w) (gQv E A LC LS res) (LC - gZ w) (LS - gN w) A := by
  refine gMet (by decide) rfl (Nat.le_of_ble_eq_true rfl) ?_
  intro p e s m below meth c R S hr hlocks hin2 X Z hF hL H ls hw hl
  replace hl : lv_has ls 2 [(0, .ref x0), (1, .ref x1)] := hl
  unfold B_X8_init at h
  replace hin2 : meth.name = "<init>" := hin2
  refine lv_aload_n S.1 S.2.1 dX8_init_0 rfl (lv_at hl 0 rfl) ?_
  refine W.objInit S.1 S.2.1 S.2.2.2.1 (S.2.2.2.2 _ q980) (S.2.2.2.2 _ q186) (S.2.2.2.2 _ q187) rfl (by rw [S.2.2.1]; exact hl.1) rfl dX8_init_1 (Nat.le_trans (Nat.le_of_ble_eq_true rfl) hF) (Nat.le_trans (Nat.add_le_add_right (lv_room (st := []) (Nat.le_of_ble_eq_true rfl)) 12) (Nat.le_trans (Nat.le_of_ble_eq_true rfl) hL)) ?_
  refine W.eq (g2 := F0 m 4 ls []) rfl ?_
  refine lv_aload_n S.1 S.2.1 dX8_init_4 rfl (lv_at hl 0 rfl) ?_
  refine lv_iconst (v := -1) S.1 S.2.1 dX8_init_5 rfl ?_
  refine gpX8_9 S X hw dX8_init_6 h (fun w1 H locs h hw => ?_)
  refine lv_aload_n S.1 S.2.1 dX8_init_9 rfl (lv_at hl 0 rfl) ?_
  refine lv_aload_n S.1 S.2.1 dX8_init_10 rfl (lv_at hl 1 rfl) ?_
  refine gpX8_15 (v := some x1) S X hw hin2 dX8_init_11 h (fun w2 H locs h hw => ?_)
  exact g_vret S Z hr hlocks hw (so1 h) dX8_init_14
theorem cb_X9_1 {R : Room} {s : State} {args : Array Value} {rm : Room} {mc ms : Nat} (hts : ∀ w ∈ lw_all, w.before args s = true) (hc : rm.cells = mc) (hs : rm.slots = ms) (hR : rm.frames + 1 ≤ R.frames ∧ 8 + (2 + 11) + rm.locals ≤ R.locals) : CallB R s args RX9 1 yX8_init cX8_init 2 none (ws_ yX8_init cX8_init 2 (Option.none : Option Jvm.ClassFile.FieldType)) rm mc ms 1 ∧ yX8_init.name = "<init>" ∧ (Cond.instanceMethod yX8_init).before args s = true := cwI 1 hts (lw_meth q979) rfl hc hs (hts _ q160) (hts _ q1016) (hts _ q978) rfl (by decide +kernel) hR
def B_X9_init (x0 : Nat) (x1 : Nat) (w : GS) : Option GS :=
  bd1 (B_X8_init x0 x1 w) fun w1 =>
  some w1
set_option maxRecDepth 100000 in
set_option maxHeartbeats 4000000 in
theorem met_B_X9_init (l : Launch) (E : gE) (A : Nat → Prop) (LC LS : Nat)  (x0 : Nat) (x1 : Nat) (w : GS) (res : GS) (h : B_X9_init x0 x1 w = some res) : Met l yX9_init (ws_ yX9_init cX9_init 2 (Option.none : Option Jvm.ClassFile.FieldType)) (gRoom 2 41 LC LS w) (gPc E A LC LS [.ref x0, .ref x1] w) (gQv E A LC LS res) (LC - gZ w) (LS - gN w) A := by
  refine gMet (by decide) rfl (Nat.le_of_ble_eq_true rfl) ?_
  intro p e s m below meth c R S hr hlocks hin2 X Z hF hL H ls hw hl
  replace hl : lv_has ls 2 [(0, .ref x0), (1, .ref x1)] := hl
  unfold B_X9_init at h
  replace hin2 : meth.name = "<init>" := hin2
  refine lv_aload_n S.1 S.2.1 dX9_init_0 rfl (lv_at hl 0 rfl) ?_
  refine lv_aload_n S.1 S.2.1 dX9_init_1 rfl (lv_at hl 1 rfl) ?_
  refine gcIv (As := [.ref x1]) (rest := []) S X Z hw (b := x0) h (fun u h1 => met_B_X8_init l E A LC LS x0 x1 w u h1) (cb_X9_1 S.2.2.2.2 rfl rfl ⟨Nat.le_trans (Nat.le_of_ble_eq_true rfl : 1 + 1 ≤ 2) hF, Nat.le_trans (Nat.le_of_ble_eq_true rfl : 8 + (2 + 11) + 20 ≤ 41) hL⟩) rfl hl.1 rfl (lv_room (Nat.le_of_ble_eq_true rfl)) dX9_init_2 (fun w1 H locs h hw => ?_)
  exact g_vret S Z hr hlocks hw (so1 h) dX9_init_5
theorem cb_X10_1 {R : Room} {s : State} {args : Array Value} {rm : Room} {mc ms : Nat} (hts : ∀ w ∈ lw_all, w.before args s = true) (hc : rm.cells = mc) (hs : rm.slots = ms) (hR : rm.frames + 1 ≤ R.frames ∧ 8 + (2 + 11) + rm.locals ≤ R.locals) : CallB R s args RX10 1 yX8_init cX8_init 2 none (ws_ yX8_init cX8_init 2 (Option.none : Option Jvm.ClassFile.FieldType)) rm mc ms 1 ∧ yX8_init.name = "<init>" ∧ (Cond.instanceMethod yX8_init).before args s = true := cwI 1 hts (lw_meth q979) rfl hc hs (hts _ q160) (hts _ q1029) (hts _ q978) rfl (by decide +kernel) hR
def B_X10_init (x0 : Nat) (x1 : Nat) (w : GS) : Option GS :=
  bd1 (B_X8_init x0 x1 w) fun w1 =>
  some w1
set_option maxRecDepth 100000 in
set_option maxHeartbeats 4000000 in
theorem met_B_X10_init (l : Launch) (E : gE) (A : Nat → Prop) (LC LS : Nat)  (x0 : Nat) (x1 : Nat) (w : GS) (res : GS) (h : B_X10_init x0 x1 w = some res) : Met l yX10_init (ws_ yX10_init cX10_init 2 (Option.none : Option Jvm.ClassFile.FieldType)) (gRoom 2 41 LC LS w) (gPc E A LC LS [.ref x0, .ref x1] w) (gQv E A LC LS res) (LC - gZ w) (LS - gN w) A := by
  refine gMet (by decide) rfl (Nat.le_of_ble_eq_true rfl) ?_
  intro p e s m below meth c R S hr hlocks hin2 X Z hF hL H ls hw hl
  replace hl : lv_has ls 2 [(0, .ref x0), (1, .ref x1)] := hl
  unfold B_X10_init at h
  replace hin2 : meth.name = "<init>" := hin2
  refine lv_aload_n S.1 S.2.1 dX10_init_0 rfl (lv_at hl 0 rfl) ?_
  refine lv_aload_n S.1 S.2.1 dX10_init_1 rfl (lv_at hl 1 rfl) ?_
  refine gcIv (As := [.ref x1]) (rest := []) S X Z hw (b := x0) h (fun u h1 => met_B_X8_init l E A LC LS x0 x1 w u h1) (cb_X10_1 S.2.2.2.2 rfl rfl ⟨Nat.le_trans (Nat.le_of_ble_eq_true rfl : 1 + 1 ≤ 2) hF, Nat.le_trans (Nat.le_of_ble_eq_true rfl : 8 + (2 + 11) + 20 ≤ 41) hL⟩) rfl hl.1 rfl (lv_room (Nat.le_of_ble_eq_true rfl)) dX10_init_2 (fun w1 H locs h hw => ?_)
  exact g_vret S Z hr hlocks hw (so1 h) dX10_init_5
theorem cb_X11_3 {R : Room} {s : State} {args : Array Value} {rm : Room} {mc ms : Nat} (hts : ∀ w ∈ lw_all, w.before args s = true) (hc : rm.cells = mc) (hs : rm.slots = ms) (hR : rm.frames + 1 ≤ R.frames ∧ 8 + (2 + 11) + rm.locals ≤ R.locals) : CallB R s args RX11 3 yX8_init cX8_init 2 none (ws_ yX8_init cX8_init 2 (Option.none : Option Jvm.ClassFile.FieldType)) rm mc ms 1 ∧ yX8_init.name = "<init>" ∧ (Cond.instanceMethod yX8_init).before args s = true := cwI 1 hts (lw_meth q979) rfl hc hs (hts _ q160) (hts _ q1042) (hts _ q978) rfl (by decide +kernel) hR
def B_X11_init (x0 : Nat) (x1 : Nat) (w : GS) : Option GS :=
  bd1 (B_X8_init x0 x1 w) fun w1 =>
  some w1
set_option maxRecDepth 100000 in
set_option maxHeartbeats 4000000 in
theorem met_B_X11_init (l : Launch) (E : gE) (A : Nat → Prop) (LC LS : Nat)  (x0 : Nat) (x1 : Nat) (w : GS) (res : GS) (h : B_X11_init x0 x1 w = some res) : Met l yX11_init (ws_ yX11_init cX11_init 2 (Option.none : Option Jvm.ClassFile.FieldType)) (gRoom 2 41 LC LS w) (gPc E A LC LS [.ref x0, .ref x1] w) (gQv E A LC LS res) (LC - gZ w) (LS - gN w) A := by
  refine gMet (by decide) rfl (Nat.le_of_ble_eq_true rfl) ?_
  intro p e s m below meth c R S hr hlocks hin2 X Z hF hL H ls hw hl
  replace hl : lv_has ls 2 [(0, .ref x0), (1, .ref x1)] := hl
  unfold B_X11_init at h
  replace hin2 : meth.name = "<init>" := hin2
  refine lv_aload_n S.1 S.2.1 dX11_init_0 rfl (lv_at hl 0 rfl) ?_
  refine lv_aload_n S.1 S.2.1 dX11_init_1 rfl (lv_at hl 1 rfl) ?_
  refine gcIv (As := [.ref x1]) (rest := []) S X Z hw (b := x0) h (fun u h1 => met_B_X8_init l E A LC LS x0 x1 w u h1) (cb_X11_3 S.2.2.2.2 rfl rfl ⟨Nat.le_trans (Nat.le_of_ble_eq_true rfl : 1 + 1 ≤ 2) hF, Nat.le_trans (Nat.le_of_ble_eq_true rfl : 8 + (2 + 11) + 20 ≤ 41) hL⟩) rfl hl.1 rfl (lv_room (Nat.le_of_ble_eq_true rfl)) dX11_init_2 (fun w1 H locs h hw => ?_)
  exact g_vret S Z hr hlocks hw (so1 h) dX11_init_5
def B_X12_init (x0 : Nat) (x1 : Nat) (x2 : Int32) (x3 : Int32) (x4 : Int32) (w : GS) : Option GS :=
  bd1 (pR w x0 12 12 0 (some x1)) fun w1 =>
  bd1 (pI w1 x0 12 12 1 x2) fun w2 =>
  bd1 (pI w2 x0 12 12 2 x3) fun w3 =>
  bd1 (pI w3 x0 12 12 3 x4) fun w4 =>
  some w4
set_option maxRecDepth 100000 in
set_option maxHeartbeats 4000000 in
theorem met_B_X12_init (l : Launch) (E : gE) (A : Nat → Prop) (LC LS : Nat)  (x0 : Nat) (x1 : Nat) (x2 : Int32) (x3 : Int32) (x4 : Int32) (w : GS) (res : GS) (h : B_X12_init x0 x1 x2 x3 x4 w = some res) : Met l yX12_init (ws_ yX12_init cX12_init 5 (Option.none : Option Jvm.ClassFile.FieldType)) (gRoom 1 20 LC LS w) (gPc E A LC LS [.ref x0, .ref x1, .int x2, .int x3, .int x4] w) (gQv E A LC LS res) (LC - gZ w) (LS - gN w) A := by
  refine gMet (by decide) rfl (Nat.le_of_ble_eq_true rfl) ?_
  intro p e s m below meth c R S hr hlocks hin2 X Z hF hL H ls hw hl
  replace hl : lv_has ls 5 [(0, .ref x0), (1, .ref x1), (2, .int x2), (3, .int x3), (4, .int x4)] := hl
  unfold B_X12_init at h
  replace hin2 : meth.name = "<init>" := hin2
  refine lv_aload_n S.1 S.2.1 dX12_init_0 rfl (lv_at hl 0 rfl) ?_
  refine W.objInit S.1 S.2.1 S.2.2.2.1 (S.2.2.2.2 _ q1082) (S.2.2.2.2 _ q186) (S.2.2.2.2 _ q187) rfl (by rw [S.2.2.1]; exact hl.1) rfl dX12_init_1 (Nat.le_trans (Nat.le_of_ble_eq_true rfl) hF) (Nat.le_trans (Nat.add_le_add_right (lv_room (st := []) (Nat.le_of_ble_eq_true rfl)) 12) (Nat.le_trans (Nat.le_of_ble_eq_true rfl) hL)) ?_
  refine W.eq (g2 := F0 m 4 ls []) rfl ?_
  refine lv_aload_n S.1 S.2.1 dX12_init_4 rfl (lv_at hl 0 rfl) ?_
  refine lv_aload_n S.1 S.2.1 dX12_init_5 rfl (lv_at hl 1 rfl) ?_
  refine gpX12_7 (v := some x1) S X hw hin2 dX12_init_6 h (fun w1 H locs h hw => ?_)
  refine lv_aload_n S.1 S.2.1 dX12_init_9 rfl (lv_at hl 0 rfl) ?_
  refine lv_iload_n S.1 S.2.1 dX12_init_10 rfl (lv_at hl 2 rfl) ?_
  refine gpX12_13 S X hw hin2 dX12_init_11 h (fun w2 H locs h hw => ?_)
  refine lv_aload_n S.1 S.2.1 dX12_init_14 rfl (lv_at hl 0 rfl) ?_
  refine lv_iload_n S.1 S.2.1 dX12_init_15 rfl (lv_at hl 3 rfl) ?_
  refine gpX12_17 S X hw hin2 dX12_init_16 h (fun w3 H locs h hw => ?_)
  refine lv_aload_n S.1 S.2.1 dX12_init_19 rfl (lv_at hl 0 rfl) ?_
  refine lv_iload S.1 S.2.1 dX12_init_20 (lv_at hl 4 rfl) ?_
  refine gpX12_20 S X hw hin2 dX12_init_22 h (fun w4 H locs h hw => ?_)
  exact g_vret S Z hr hlocks hw (so1 h) dX12_init_25
def B_X13_init (x0 : Nat) (w : GS) : Option GS :=
  some w
set_option maxRecDepth 100000 in
set_option maxHeartbeats 4000000 in
theorem met_B_X13_init (l : Launch) (E : gE) (A : Nat → Prop) (LC LS : Nat)  (x0 : Nat) (w : GS) (res : GS) (h : B_X13_init x0 w = some res) : Met l yX13_init (ws_ yX13_init cX13_init 1 (Option.none : Option Jvm.ClassFile.FieldType)) (gRoom 1 20 LC LS w) (gPc E A LC LS [.ref x0] w) (gQv E A LC LS res) (LC - gZ w) (LS - gN w) A := by
  refine gMet (by decide) rfl (Nat.le_of_ble_eq_true rfl) ?_
  intro p e s m below meth c R S hr hlocks hin2 X Z hF hL H ls hw hl
  replace hl : lv_has ls 1 [(0, .ref x0)] := hl
  unfold B_X13_init at h
  replace hin2 : meth.name = "<init>" := hin2
  refine lv_aload_n S.1 S.2.1 dX13_init_0 rfl (lv_at hl 0 rfl) ?_
  refine W.objInit S.1 S.2.1 S.2.2.2.1 (S.2.2.2.2 _ q1139) (S.2.2.2.2 _ q186) (S.2.2.2.2 _ q187) rfl (by rw [S.2.2.1]; exact hl.1) rfl dX13_init_1 (Nat.le_trans (Nat.le_of_ble_eq_true rfl) hF) (Nat.le_trans (Nat.add_le_add_right (lv_room (st := []) (Nat.le_of_ble_eq_true rfl)) 12) (Nat.le_trans (Nat.le_of_ble_eq_true rfl) hL)) ?_
  refine W.eq (g2 := F0 m 4 ls []) rfl ?_
  exact g_vret S Z hr hlocks hw (so1 h) dX13_init_4
theorem cb_X14_1 {R : Room} {s : State} {args : Array Value} {rm : Room} {mc ms : Nat} (hts : ∀ w ∈ lw_all, w.before args s = true) (hN : gNw s) (hc : rm.cells = mc) (hs : rm.slots = ms) (hR : rm.frames + 1 ≤ R.frames ∧ 8 + (1 + 11) + rm.locals ≤ R.locals) : va_CN R s args RX14 1 yX13_init "PulseRent" cX13_init 1 none (ws_ yX13_init cX13_init 1 (Option.none : Option Jvm.ClassFile.FieldType)) rm mc ms 0 ∧ yX13_init.name = "<init>" ∧ (Cond.instanceMethod yX13_init).before args s = true := ⟨va_cnB 0 hts (lw_meth q1138) rfl hc hs (hN _ q1136 rfl) (hts _ q165) (by decide +kernel) hR, rfl, hts _ q1137⟩
def B_X14_init (x0 : Nat) (x1 : Int32) (w : GS) : Option GS :=
  bd1 (B_X13_init x0 w) fun w1 =>
  bd1 (pI w1 x0 13 13 0 x1) fun w2 =>
  some w2
set_option maxRecDepth 100000 in
set_option maxHeartbeats 4000000 in
theorem met_B_X14_init (l : Launch) (E : gE) (A : Nat → Prop) (LC LS : Nat)  (x0 : Nat) (x1 : Int32) (w : GS) (res : GS) (h : B_X14_init x0 x1 w = some res) : Met l yX14_init (ws_ yX14_init cX14_init 2 (Option.none : Option Jvm.ClassFile.FieldType)) (gRoom 2 40 LC LS w) (gPc E A LC LS [.ref x0, .int x1] w) (gQv E A LC LS res) (LC - gZ w) (LS - gN w) A := by
  refine gMet (by decide) rfl (Nat.le_of_ble_eq_true rfl) ?_
  intro p e s m below meth c R S hr hlocks hin2 X Z hF hL H ls hw hl
  replace hl : lv_has ls 2 [(0, .ref x0), (1, .int x1)] := hl
  unfold B_X14_init at h
  replace hin2 : meth.name = "<init>" := hin2
  refine lv_aload_n S.1 S.2.1 dX14_init_0 rfl (lv_at hl 0 rfl) ?_
  refine gcINv (As := []) (rest := []) S X Z hw (b := x0) h (fun u h1 => met_B_X13_init l E A LC LS x0 w u h1) (cb_X14_1 S.2.2.2.2 X.2.2.2.2.2.1 rfl rfl ⟨Nat.le_trans (Nat.le_of_ble_eq_true rfl : 1 + 1 ≤ 2) hF, Nat.le_trans (Nat.le_of_ble_eq_true rfl : 8 + (1 + 11) + 20 ≤ 40) hL⟩) rfl hl.1 rfl (lv_room (Nat.le_of_ble_eq_true rfl)) dX14_init_1 (fun w1 H locs h hw => ?_)
  refine lv_aload_n S.1 S.2.1 dX14_init_4 rfl (lv_at hl 0 rfl) ?_
  refine lv_iload_n S.1 S.2.1 dX14_init_5 rfl (lv_at hl 1 rfl) ?_
  refine gpX14_7 S X hw hin2 dX14_init_6 h (fun w2 H locs h hw => ?_)
  exact g_vret S Z hr hlocks hw (so1 h) dX14_init_9
theorem cb_X15_1 {R : Room} {s : State} {args : Array Value} {rm : Room} {mc ms : Nat} (hts : ∀ w ∈ lw_all, w.before args s = true) (hN : gNw s) (hc : rm.cells = mc) (hs : rm.slots = ms) (hR : rm.frames + 1 ≤ R.frames ∧ 8 + (1 + 11) + rm.locals ≤ R.locals) : va_CN R s args RX15 1 yX13_init "PulseRent" cX13_init 1 none (ws_ yX13_init cX13_init 1 (Option.none : Option Jvm.ClassFile.FieldType)) rm mc ms 0 ∧ yX13_init.name = "<init>" ∧ (Cond.instanceMethod yX13_init).before args s = true := ⟨va_cnB 0 hts (lw_meth q1138) rfl hc hs (hN _ q1149 rfl) (hts _ q165) (by decide +kernel) hR, rfl, hts _ q1137⟩
def B_X15_init (x0 : Nat) (x1 : Int32) (w : GS) : Option GS :=
  bd1 (B_X13_init x0 w) fun w1 =>
  bd1 (pI w1 x0 14 14 0 x1) fun w2 =>
  some w2
set_option maxRecDepth 100000 in
set_option maxHeartbeats 4000000 in
theorem met_B_X15_init (l : Launch) (E : gE) (A : Nat → Prop) (LC LS : Nat)  (x0 : Nat) (x1 : Int32) (w : GS) (res : GS) (h : B_X15_init x0 x1 w = some res) : Met l yX15_init (ws_ yX15_init cX15_init 2 (Option.none : Option Jvm.ClassFile.FieldType)) (gRoom 2 40 LC LS w) (gPc E A LC LS [.ref x0, .int x1] w) (gQv E A LC LS res) (LC - gZ w) (LS - gN w) A := by
  refine gMet (by decide) rfl (Nat.le_of_ble_eq_true rfl) ?_
  intro p e s m below meth c R S hr hlocks hin2 X Z hF hL H ls hw hl
  replace hl : lv_has ls 2 [(0, .ref x0), (1, .int x1)] := hl
  unfold B_X15_init at h
  replace hin2 : meth.name = "<init>" := hin2
  refine lv_aload_n S.1 S.2.1 dX15_init_0 rfl (lv_at hl 0 rfl) ?_
  refine gcINv (As := []) (rest := []) S X Z hw (b := x0) h (fun u h1 => met_B_X13_init l E A LC LS x0 w u h1) (cb_X15_1 S.2.2.2.2 X.2.2.2.2.2.1 rfl rfl ⟨Nat.le_trans (Nat.le_of_ble_eq_true rfl : 1 + 1 ≤ 2) hF, Nat.le_trans (Nat.le_of_ble_eq_true rfl : 8 + (1 + 11) + 20 ≤ 40) hL⟩) rfl hl.1 rfl (lv_room (Nat.le_of_ble_eq_true rfl)) dX15_init_1 (fun w1 H locs h hw => ?_)
  refine lv_aload_n S.1 S.2.1 dX15_init_4 rfl (lv_at hl 0 rfl) ?_
  refine lv_iload_n S.1 S.2.1 dX15_init_5 rfl (lv_at hl 1 rfl) ?_
  refine gpX15_7 S X hw hin2 dX15_init_6 h (fun w2 H locs h hw => ?_)
  exact g_vret S Z hr hlocks hw (so1 h) dX15_init_9
theorem cb_X16_1 {R : Room} {s : State} {args : Array Value} {rm : Room} {mc ms : Nat} (hts : ∀ w ∈ lw_all, w.before args s = true) (hN : gNw s) (hc : rm.cells = mc) (hs : rm.slots = ms) (hR : rm.frames + 1 ≤ R.frames ∧ 8 + (1 + 11) + rm.locals ≤ R.locals) : va_CN R s args RX16 1 yX13_init "PulseRent" cX13_init 1 none (ws_ yX13_init cX13_init 1 (Option.none : Option Jvm.ClassFile.FieldType)) rm mc ms 0 ∧ yX13_init.name = "<init>" ∧ (Cond.instanceMethod yX13_init).before args s = true := ⟨va_cnB 0 hts (lw_meth q1138) rfl hc hs (hN _ q1159 rfl) (hts _ q165) (by decide +kernel) hR, rfl, hts _ q1137⟩
def B_X16_init (x0 : Nat) (x1 : Nat) (w : GS) : Option GS :=
  bd1 (B_X13_init x0 w) fun w1 =>
  bd1 (pR w1 x0 15 15 0 (some x1)) fun w2 =>
  some w2
set_option maxRecDepth 100000 in
set_option maxHeartbeats 4000000 in
theorem met_B_X16_init (l : Launch) (E : gE) (A : Nat → Prop) (LC LS : Nat)  (x0 : Nat) (x1 : Nat) (w : GS) (res : GS) (h : B_X16_init x0 x1 w = some res) : Met l yX16_init (ws_ yX16_init cX16_init 2 (Option.none : Option Jvm.ClassFile.FieldType)) (gRoom 2 40 LC LS w) (gPc E A LC LS [.ref x0, .ref x1] w) (gQv E A LC LS res) (LC - gZ w) (LS - gN w) A := by
  refine gMet (by decide) rfl (Nat.le_of_ble_eq_true rfl) ?_
  intro p e s m below meth c R S hr hlocks hin2 X Z hF hL H ls hw hl
  replace hl : lv_has ls 2 [(0, .ref x0), (1, .ref x1)] := hl
  unfold B_X16_init at h
  replace hin2 : meth.name = "<init>" := hin2
  refine lv_aload_n S.1 S.2.1 dX16_init_0 rfl (lv_at hl 0 rfl) ?_
  refine gcINv (As := []) (rest := []) S X Z hw (b := x0) h (fun u h1 => met_B_X13_init l E A LC LS x0 w u h1) (cb_X16_1 S.2.2.2.2 X.2.2.2.2.2.1 rfl rfl ⟨Nat.le_trans (Nat.le_of_ble_eq_true rfl : 1 + 1 ≤ 2) hF, Nat.le_trans (Nat.le_of_ble_eq_true rfl : 8 + (1 + 11) + 20 ≤ 40) hL⟩) rfl hl.1 rfl (lv_room (Nat.le_of_ble_eq_true rfl)) dX16_init_1 (fun w1 H locs h hw => ?_)
  refine lv_aload_n S.1 S.2.1 dX16_init_4 rfl (lv_at hl 0 rfl) ?_
  refine lv_aload_n S.1 S.2.1 dX16_init_5 rfl (lv_at hl 1 rfl) ?_
  refine gpX16_7 (v := some x1) S X hw hin2 dX16_init_6 h (fun w2 H locs h hw => ?_)
  exact g_vret S Z hr hlocks hw (so1 h) dX16_init_9
theorem cb_X17_1 {R : Room} {s : State} {args : Array Value} {rm : Room} {mc ms : Nat} (hts : ∀ w ∈ lw_all, w.before args s = true) (hN : gNw s) (hc : rm.cells = mc) (hs : rm.slots = ms) (hR : rm.frames + 1 ≤ R.frames ∧ 8 + (1 + 11) + rm.locals ≤ R.locals) : va_CN R s args RX17 1 yX13_init "PulseRent" cX13_init 1 none (ws_ yX13_init cX13_init 1 (Option.none : Option Jvm.ClassFile.FieldType)) rm mc ms 0 ∧ yX13_init.name = "<init>" ∧ (Cond.instanceMethod yX13_init).before args s = true := ⟨va_cnB 0 hts (lw_meth q1138) rfl hc hs (hN _ q1173 rfl) (hts _ q165) (by decide +kernel) hR, rfl, hts _ q1137⟩
def B_X17_init (x0 : Nat) (x1 : Int32) (x2 : Nat) (x3 : Nat) (w : GS) : Option GS :=
  bd1 (B_X13_init x0 w) fun w1 =>
  bd1 (zc x1 (pI w1 x0 16 16 0 x1)) fun w2 =>
  bd1 (pR w2 x0 16 16 1 (some x2)) fun w3 =>
  bd1 (pR w3 x0 16 16 2 (some x3)) fun w4 =>
  some w4
set_option maxRecDepth 100000 in
set_option maxHeartbeats 4000000 in
theorem met_B_X17_init (l : Launch) (E : gE) (A : Nat → Prop) (LC LS : Nat)  (x0 : Nat) (x1 : Int32) (x2 : Nat) (x3 : Nat) (w : GS) (res : GS) (h : B_X17_init x0 x1 x2 x3 w = some res) : Met l yX17_init (ws_ yX17_init cX17_init 4 (Option.none : Option Jvm.ClassFile.FieldType)) (gRoom 2 40 LC LS w) (gPc E A LC LS [.ref x0, .int x1, .ref x2, .ref x3] w) (gQv E A LC LS res) (LC - gZ w) (LS - gN w) A := by
  refine gMet (by decide) rfl (Nat.le_of_ble_eq_true rfl) ?_
  intro p e s m below meth c R S hr hlocks hin2 X Z hF hL H ls hw hl
  replace hl : lv_has ls 4 [(0, .ref x0), (1, .int x1), (2, .ref x2), (3, .ref x3)] := hl
  unfold B_X17_init at h
  replace hin2 : meth.name = "<init>" := hin2
  refine lv_aload_n S.1 S.2.1 dX17_init_0 rfl (lv_at hl 0 rfl) ?_
  refine gcINv (As := []) (rest := []) S X Z hw (b := x0) h (fun u h1 => met_B_X13_init l E A LC LS x0 w u h1) (cb_X17_1 S.2.2.2.2 X.2.2.2.2.2.1 rfl rfl ⟨Nat.le_trans (Nat.le_of_ble_eq_true rfl : 1 + 1 ≤ 2) hF, Nat.le_trans (Nat.le_of_ble_eq_true rfl : 8 + (1 + 11) + 20 ≤ 40) hL⟩) rfl hl.1 rfl (lv_room (Nat.le_of_ble_eq_true rfl)) dX17_init_1 (fun w1 H locs h hw => ?_)
  refine lv_aload_n S.1 S.2.1 dX17_init_4 rfl (lv_at hl 0 rfl) ?_
  refine lv_iload_n S.1 S.2.1 dX17_init_5 rfl (lv_at hl 1 rfl) ?_
  refine gpX17_7 S X hw hin2 dX17_init_6 h (fun w2 H locs h hw => ?_)
  refine lv_aload_n S.1 S.2.1 dX17_init_9 rfl (lv_at hl 0 rfl) ?_
  refine lv_aload_n S.1 S.2.1 dX17_init_10 rfl (lv_at hl 2 rfl) ?_
  refine gpX17_13 (v := some x2) S X hw hin2 dX17_init_11 h (fun w3 H locs h hw => ?_)
  refine lv_aload_n S.1 S.2.1 dX17_init_14 rfl (lv_at hl 0 rfl) ?_
  refine lv_aload_n S.1 S.2.1 dX17_init_15 rfl (lv_at hl 3 rfl) ?_
  refine gpX17_17 (v := some x3) S X hw hin2 dX17_init_16 h (fun w4 H locs h hw => ?_)
  exact g_vret S Z hr hlocks hw (so1 h) dX17_init_19
def B_X18_init (x0 : Nat) (w : GS) : Option GS :=
  some w
set_option maxRecDepth 100000 in
set_option maxHeartbeats 4000000 in
theorem met_B_X18_init (l : Launch) (E : gE) (A : Nat → Prop) (LC LS : Nat)  (x0 : Nat) (w : GS) (res : GS) (h : B_X18_init x0 w = some res) : Met l yX18_init (ws_ yX18_init cX18_init 1 (Option.none : Option Jvm.ClassFile.FieldType)) (gRoom 1 20 LC LS w) (gPc E A LC LS [.ref x0] w) (gQv E A LC LS res) (LC - gZ w) (LS - gN w) A := by
  refine gMet (by decide) rfl (Nat.le_of_ble_eq_true rfl) ?_
  intro p e s m below meth c R S hr hlocks hin2 X Z hF hL H ls hw hl
  replace hl : lv_has ls 1 [(0, .ref x0)] := hl
  unfold B_X18_init at h
  replace hin2 : meth.name = "<init>" := hin2
  refine lv_aload_n S.1 S.2.1 dX18_init_0 rfl (lv_at hl 0 rfl) ?_
  refine W.objInit S.1 S.2.1 S.2.2.2.1 (S.2.2.2.2 _ q1209) (S.2.2.2.2 _ q186) (S.2.2.2.2 _ q187) rfl (by rw [S.2.2.1]; exact hl.1) rfl dX18_init_1 (Nat.le_trans (Nat.le_of_ble_eq_true rfl) hF) (Nat.le_trans (Nat.add_le_add_right (lv_room (st := []) (Nat.le_of_ble_eq_true rfl)) 12) (Nat.le_trans (Nat.le_of_ble_eq_true rfl) hL)) ?_
  refine W.eq (g2 := F0 m 4 ls []) rfl ?_
  exact g_vret S Z hr hlocks hw (so1 h) dX18_init_4
theorem cb_X19_1 {R : Room} {s : State} {args : Array Value} {rm : Room} {mc ms : Nat} (hts : ∀ w ∈ lw_all, w.before args s = true) (hN : gNw s) (hc : rm.cells = mc) (hs : rm.slots = ms) (hR : rm.frames + 1 ≤ R.frames ∧ 8 + (1 + 11) + rm.locals ≤ R.locals) : va_CN R s args RX19 1 yX18_init "PulseRent" cX18_init 1 none (ws_ yX18_init cX18_init 1 (Option.none : Option Jvm.ClassFile.FieldType)) rm mc ms 0 ∧ yX18_init.name = "<init>" ∧ (Cond.instanceMethod yX18_init).before args s = true := ⟨va_cnB 0 hts (lw_meth q1208) rfl hc hs (hN _ q1206 rfl) (hts _ q170) (by decide +kernel) hR, rfl, hts _ q1207⟩
def B_X19_init (x0 : Nat) (x1 : Int32) (w : GS) : Option GS :=
  bd1 (B_X18_init x0 w) fun w1 =>
  bd1 (pI w1 x0 17 17 0 x1) fun w2 =>
  some w2
set_option maxRecDepth 100000 in
set_option maxHeartbeats 4000000 in
theorem met_B_X19_init (l : Launch) (E : gE) (A : Nat → Prop) (LC LS : Nat)  (x0 : Nat) (x1 : Int32) (w : GS) (res : GS) (h : B_X19_init x0 x1 w = some res) : Met l yX19_init (ws_ yX19_init cX19_init 2 (Option.none : Option Jvm.ClassFile.FieldType)) (gRoom 2 40 LC LS w) (gPc E A LC LS [.ref x0, .int x1] w) (gQv E A LC LS res) (LC - gZ w) (LS - gN w) A := by
  refine gMet (by decide) rfl (Nat.le_of_ble_eq_true rfl) ?_
  intro p e s m below meth c R S hr hlocks hin2 X Z hF hL H ls hw hl
  replace hl : lv_has ls 2 [(0, .ref x0), (1, .int x1)] := hl
  unfold B_X19_init at h
  replace hin2 : meth.name = "<init>" := hin2
  refine lv_aload_n S.1 S.2.1 dX19_init_0 rfl (lv_at hl 0 rfl) ?_
  refine gcINv (As := []) (rest := []) S X Z hw (b := x0) h (fun u h1 => met_B_X18_init l E A LC LS x0 w u h1) (cb_X19_1 S.2.2.2.2 X.2.2.2.2.2.1 rfl rfl ⟨Nat.le_trans (Nat.le_of_ble_eq_true rfl : 1 + 1 ≤ 2) hF, Nat.le_trans (Nat.le_of_ble_eq_true rfl : 8 + (1 + 11) + 20 ≤ 40) hL⟩) rfl hl.1 rfl (lv_room (Nat.le_of_ble_eq_true rfl)) dX19_init_1 (fun w1 H locs h hw => ?_)
  refine lv_aload_n S.1 S.2.1 dX19_init_4 rfl (lv_at hl 0 rfl) ?_
  refine lv_iload_n S.1 S.2.1 dX19_init_5 rfl (lv_at hl 1 rfl) ?_
  refine gpX19_7 S X hw hin2 dX19_init_6 h (fun w2 H locs h hw => ?_)
  exact g_vret S Z hr hlocks hw (so1 h) dX19_init_9
theorem cb_X20_1 {R : Room} {s : State} {args : Array Value} {rm : Room} {mc ms : Nat} (hts : ∀ w ∈ lw_all, w.before args s = true) (hN : gNw s) (hc : rm.cells = mc) (hs : rm.slots = ms) (hR : rm.frames + 1 ≤ R.frames ∧ 8 + (1 + 11) + rm.locals ≤ R.locals) : va_CN R s args RX20 1 yX18_init "PulseRent" cX18_init 1 none (ws_ yX18_init cX18_init 1 (Option.none : Option Jvm.ClassFile.FieldType)) rm mc ms 0 ∧ yX18_init.name = "<init>" ∧ (Cond.instanceMethod yX18_init).before args s = true := ⟨va_cnB 0 hts (lw_meth q1208) rfl hc hs (hN _ q1219 rfl) (hts _ q170) (by decide +kernel) hR, rfl, hts _ q1207⟩
def B_X20_init (x0 : Nat) (w : GS) : Option GS :=
  bd1 (B_X18_init x0 w) fun w1 =>
  some w1
set_option maxRecDepth 100000 in
set_option maxHeartbeats 4000000 in
theorem met_B_X20_init (l : Launch) (E : gE) (A : Nat → Prop) (LC LS : Nat)  (x0 : Nat) (w : GS) (res : GS) (h : B_X20_init x0 w = some res) : Met l yX20_init (ws_ yX20_init cX20_init 1 (Option.none : Option Jvm.ClassFile.FieldType)) (gRoom 2 40 LC LS w) (gPc E A LC LS [.ref x0] w) (gQv E A LC LS res) (LC - gZ w) (LS - gN w) A := by
  refine gMet (by decide) rfl (Nat.le_of_ble_eq_true rfl) ?_
  intro p e s m below meth c R S hr hlocks hin2 X Z hF hL H ls hw hl
  replace hl : lv_has ls 1 [(0, .ref x0)] := hl
  unfold B_X20_init at h
  replace hin2 : meth.name = "<init>" := hin2
  refine lv_aload_n S.1 S.2.1 dX20_init_0 rfl (lv_at hl 0 rfl) ?_
  refine gcINv (As := []) (rest := []) S X Z hw (b := x0) h (fun u h1 => met_B_X18_init l E A LC LS x0 w u h1) (cb_X20_1 S.2.2.2.2 X.2.2.2.2.2.1 rfl rfl ⟨Nat.le_trans (Nat.le_of_ble_eq_true rfl : 1 + 1 ≤ 2) hF, Nat.le_trans (Nat.le_of_ble_eq_true rfl : 8 + (1 + 11) + 20 ≤ 40) hL⟩) rfl hl.1 rfl (lv_room (Nat.le_of_ble_eq_true rfl)) dX20_init_1 (fun w1 H locs h hw => ?_)
  exact g_vret S Z hr hlocks hw (so1 h) dX20_init_4
theorem cb_X21_1 {R : Room} {s : State} {args : Array Value} {rm : Room} {mc ms : Nat} (hts : ∀ w ∈ lw_all, w.before args s = true) (hN : gNw s) (hc : rm.cells = mc) (hs : rm.slots = ms) (hR : rm.frames + 1 ≤ R.frames ∧ 8 + (1 + 11) + rm.locals ≤ R.locals) : va_CN R s args RX21 1 yX18_init "PulseRent" cX18_init 1 none (ws_ yX18_init cX18_init 1 (Option.none : Option Jvm.ClassFile.FieldType)) rm mc ms 0 ∧ yX18_init.name = "<init>" ∧ (Cond.instanceMethod yX18_init).before args s = true := ⟨va_cnB 0 hts (lw_meth q1208) rfl hc hs (hN _ q1226 rfl) (hts _ q170) (by decide +kernel) hR, rfl, hts _ q1207⟩
def B_X21_init (x0 : Nat) (x1 : Int32) (w : GS) : Option GS :=
  bd1 (B_X18_init x0 w) fun w1 =>
  bd1 (pI w1 x0 18 18 0 x1) fun w2 =>
  some w2
set_option maxRecDepth 100000 in
set_option maxHeartbeats 4000000 in
theorem met_B_X21_init (l : Launch) (E : gE) (A : Nat → Prop) (LC LS : Nat)  (x0 : Nat) (x1 : Int32) (w : GS) (res : GS) (h : B_X21_init x0 x1 w = some res) : Met l yX21_init (ws_ yX21_init cX21_init 2 (Option.none : Option Jvm.ClassFile.FieldType)) (gRoom 2 40 LC LS w) (gPc E A LC LS [.ref x0, .int x1] w) (gQv E A LC LS res) (LC - gZ w) (LS - gN w) A := by
  refine gMet (by decide) rfl (Nat.le_of_ble_eq_true rfl) ?_
  intro p e s m below meth c R S hr hlocks hin2 X Z hF hL H ls hw hl
  replace hl : lv_has ls 2 [(0, .ref x0), (1, .int x1)] := hl
  unfold B_X21_init at h
  replace hin2 : meth.name = "<init>" := hin2
  refine lv_aload_n S.1 S.2.1 dX21_init_0 rfl (lv_at hl 0 rfl) ?_
  refine gcINv (As := []) (rest := []) S X Z hw (b := x0) h (fun u h1 => met_B_X18_init l E A LC LS x0 w u h1) (cb_X21_1 S.2.2.2.2 X.2.2.2.2.2.1 rfl rfl ⟨Nat.le_trans (Nat.le_of_ble_eq_true rfl : 1 + 1 ≤ 2) hF, Nat.le_trans (Nat.le_of_ble_eq_true rfl : 8 + (1 + 11) + 20 ≤ 40) hL⟩) rfl hl.1 rfl (lv_room (Nat.le_of_ble_eq_true rfl)) dX21_init_1 (fun w1 H locs h hw => ?_)
  refine lv_aload_n S.1 S.2.1 dX21_init_4 rfl (lv_at hl 0 rfl) ?_
  refine lv_iload_n S.1 S.2.1 dX21_init_5 rfl (lv_at hl 1 rfl) ?_
  refine gpX21_7 S X hw hin2 dX21_init_6 h (fun w2 H locs h hw => ?_)
  exact g_vret S Z hr hlocks hw (so1 h) dX21_init_9
theorem cb_X22_1 {R : Room} {s : State} {args : Array Value} {rm : Room} {mc ms : Nat} (hts : ∀ w ∈ lw_all, w.before args s = true) (hN : gNw s) (hc : rm.cells = mc) (hs : rm.slots = ms) (hR : rm.frames + 1 ≤ R.frames ∧ 8 + (1 + 11) + rm.locals ≤ R.locals) : va_CN R s args RX22 1 yX18_init "PulseRent" cX18_init 1 none (ws_ yX18_init cX18_init 1 (Option.none : Option Jvm.ClassFile.FieldType)) rm mc ms 0 ∧ yX18_init.name = "<init>" ∧ (Cond.instanceMethod yX18_init).before args s = true := ⟨va_cnB 0 hts (lw_meth q1208) rfl hc hs (hN _ q1236 rfl) (hts _ q170) (by decide +kernel) hR, rfl, hts _ q1207⟩
def B_X22_init (x0 : Nat) (x1 : Int32) (x2 : Int32) (w : GS) : Option GS :=
  bd1 (B_X18_init x0 w) fun w1 =>
  bd1 (pI w1 x0 19 19 0 x1) fun w2 =>
  bd1 (pI w2 x0 19 19 1 x2) fun w3 =>
  some w3
set_option maxRecDepth 100000 in
set_option maxHeartbeats 4000000 in
theorem met_B_X22_init (l : Launch) (E : gE) (A : Nat → Prop) (LC LS : Nat)  (x0 : Nat) (x1 : Int32) (x2 : Int32) (w : GS) (res : GS) (h : B_X22_init x0 x1 x2 w = some res) : Met l yX22_init (ws_ yX22_init cX22_init 3 (Option.none : Option Jvm.ClassFile.FieldType)) (gRoom 2 40 LC LS w) (gPc E A LC LS [.ref x0, .int x1, .int x2] w) (gQv E A LC LS res) (LC - gZ w) (LS - gN w) A := by
  refine gMet (by decide) rfl (Nat.le_of_ble_eq_true rfl) ?_
  intro p e s m below meth c R S hr hlocks hin2 X Z hF hL H ls hw hl
  replace hl : lv_has ls 3 [(0, .ref x0), (1, .int x1), (2, .int x2)] := hl
  unfold B_X22_init at h
  replace hin2 : meth.name = "<init>" := hin2
  refine lv_aload_n S.1 S.2.1 dX22_init_0 rfl (lv_at hl 0 rfl) ?_
  refine gcINv (As := []) (rest := []) S X Z hw (b := x0) h (fun u h1 => met_B_X18_init l E A LC LS x0 w u h1) (cb_X22_1 S.2.2.2.2 X.2.2.2.2.2.1 rfl rfl ⟨Nat.le_trans (Nat.le_of_ble_eq_true rfl : 1 + 1 ≤ 2) hF, Nat.le_trans (Nat.le_of_ble_eq_true rfl : 8 + (1 + 11) + 20 ≤ 40) hL⟩) rfl hl.1 rfl (lv_room (Nat.le_of_ble_eq_true rfl)) dX22_init_1 (fun w1 H locs h hw => ?_)
  refine lv_aload_n S.1 S.2.1 dX22_init_4 rfl (lv_at hl 0 rfl) ?_
  refine lv_iload_n S.1 S.2.1 dX22_init_5 rfl (lv_at hl 1 rfl) ?_
  refine gpX22_7 S X hw hin2 dX22_init_6 h (fun w2 H locs h hw => ?_)
  refine lv_aload_n S.1 S.2.1 dX22_init_9 rfl (lv_at hl 0 rfl) ?_
  refine lv_iload_n S.1 S.2.1 dX22_init_10 rfl (lv_at hl 2 rfl) ?_
  refine gpX22_13 S X hw hin2 dX22_init_11 h (fun w3 H locs h hw => ?_)
  exact g_vret S Z hr hlocks hw (so1 h) dX22_init_14
theorem cb_X23_1 {R : Room} {s : State} {args : Array Value} {rm : Room} {mc ms : Nat} (hts : ∀ w ∈ lw_all, w.before args s = true) (hN : gNw s) (hc : rm.cells = mc) (hs : rm.slots = ms) (hR : rm.frames + 1 ≤ R.frames ∧ 8 + (1 + 11) + rm.locals ≤ R.locals) : va_CN R s args RX23 1 yX18_init "PulseRent" cX18_init 1 none (ws_ yX18_init cX18_init 1 (Option.none : Option Jvm.ClassFile.FieldType)) rm mc ms 0 ∧ yX18_init.name = "<init>" ∧ (Cond.instanceMethod yX18_init).before args s = true := ⟨va_cnB 0 hts (lw_meth q1208) rfl hc hs (hN _ q1249 rfl) (hts _ q170) (by decide +kernel) hR, rfl, hts _ q1207⟩
def B_X23_init (x0 : Nat) (x1 : Int32) (w : GS) : Option GS :=
  bd1 (B_X18_init x0 w) fun w1 =>
  bd1 (pI w1 x0 20 20 0 x1) fun w2 =>
  some w2
set_option maxRecDepth 100000 in
set_option maxHeartbeats 4000000 in
theorem met_B_X23_init (l : Launch) (E : gE) (A : Nat → Prop) (LC LS : Nat)  (x0 : Nat) (x1 : Int32) (w : GS) (res : GS) (h : B_X23_init x0 x1 w = some res) : Met l yX23_init (ws_ yX23_init cX23_init 2 (Option.none : Option Jvm.ClassFile.FieldType)) (gRoom 2 40 LC LS w) (gPc E A LC LS [.ref x0, .int x1] w) (gQv E A LC LS res) (LC - gZ w) (LS - gN w) A := by
  refine gMet (by decide) rfl (Nat.le_of_ble_eq_true rfl) ?_
  intro p e s m below meth c R S hr hlocks hin2 X Z hF hL H ls hw hl
  replace hl : lv_has ls 2 [(0, .ref x0), (1, .int x1)] := hl
  unfold B_X23_init at h
  replace hin2 : meth.name = "<init>" := hin2
  refine lv_aload_n S.1 S.2.1 dX23_init_0 rfl (lv_at hl 0 rfl) ?_
  refine gcINv (As := []) (rest := []) S X Z hw (b := x0) h (fun u h1 => met_B_X18_init l E A LC LS x0 w u h1) (cb_X23_1 S.2.2.2.2 X.2.2.2.2.2.1 rfl rfl ⟨Nat.le_trans (Nat.le_of_ble_eq_true rfl : 1 + 1 ≤ 2) hF, Nat.le_trans (Nat.le_of_ble_eq_true rfl : 8 + (1 + 11) + 20 ≤ 40) hL⟩) rfl hl.1 rfl (lv_room (Nat.le_of_ble_eq_true rfl)) dX23_init_1 (fun w1 H locs h hw => ?_)
  refine lv_aload_n S.1 S.2.1 dX23_init_4 rfl (lv_at hl 0 rfl) ?_
  refine lv_iload_n S.1 S.2.1 dX23_init_5 rfl (lv_at hl 1 rfl) ?_
  refine gpX23_7 S X hw hin2 dX23_init_6 h (fun w2 H locs h hw => ?_)
  exact g_vret S Z hr hlocks hw (so1 h) dX23_init_9
theorem cb_X24_1 {R : Room} {s : State} {args : Array Value} {rm : Room} {mc ms : Nat} (hts : ∀ w ∈ lw_all, w.before args s = true) (hN : gNw s) (hc : rm.cells = mc) (hs : rm.slots = ms) (hR : rm.frames + 1 ≤ R.frames ∧ 8 + (1 + 11) + rm.locals ≤ R.locals) : va_CN R s args RX24 1 yX18_init "PulseRent" cX18_init 1 none (ws_ yX18_init cX18_init 1 (Option.none : Option Jvm.ClassFile.FieldType)) rm mc ms 0 ∧ yX18_init.name = "<init>" ∧ (Cond.instanceMethod yX18_init).before args s = true := ⟨va_cnB 0 hts (lw_meth q1208) rfl hc hs (hN _ q1259 rfl) (hts _ q170) (by decide +kernel) hR, rfl, hts _ q1207⟩
def B_X24_init (x0 : Nat) (x1 : Int32) (x2 : Int32) (w : GS) : Option GS :=
  bd1 (B_X18_init x0 w) fun w1 =>
  bd1 (pI w1 x0 21 21 0 x1) fun w2 =>
  bd1 (pI w2 x0 21 21 1 x2) fun w3 =>
  some w3
set_option maxRecDepth 100000 in
set_option maxHeartbeats 4000000 in
theorem met_B_X24_init (l : Launch) (E : gE) (A : Nat → Prop) (LC LS : Nat)  (x0 : Nat) (x1 : Int32) (x2 : Int32) (w : GS) (res : GS) (h : B_X24_init x0 x1 x2 w = some res) : Met l yX24_init (ws_ yX24_init cX24_init 3 (Option.none : Option Jvm.ClassFile.FieldType)) (gRoom 2 40 LC LS w) (gPc E A LC LS [.ref x0, .int x1, .int x2] w) (gQv E A LC LS res) (LC - gZ w) (LS - gN w) A := by
  refine gMet (by decide) rfl (Nat.le_of_ble_eq_true rfl) ?_
  intro p e s m below meth c R S hr hlocks hin2 X Z hF hL H ls hw hl
  replace hl : lv_has ls 3 [(0, .ref x0), (1, .int x1), (2, .int x2)] := hl
  unfold B_X24_init at h
  replace hin2 : meth.name = "<init>" := hin2
  refine lv_aload_n S.1 S.2.1 dX24_init_0 rfl (lv_at hl 0 rfl) ?_
  refine gcINv (As := []) (rest := []) S X Z hw (b := x0) h (fun u h1 => met_B_X18_init l E A LC LS x0 w u h1) (cb_X24_1 S.2.2.2.2 X.2.2.2.2.2.1 rfl rfl ⟨Nat.le_trans (Nat.le_of_ble_eq_true rfl : 1 + 1 ≤ 2) hF, Nat.le_trans (Nat.le_of_ble_eq_true rfl : 8 + (1 + 11) + 20 ≤ 40) hL⟩) rfl hl.1 rfl (lv_room (Nat.le_of_ble_eq_true rfl)) dX24_init_1 (fun w1 H locs h hw => ?_)
  refine lv_aload_n S.1 S.2.1 dX24_init_4 rfl (lv_at hl 0 rfl) ?_
  refine lv_iload_n S.1 S.2.1 dX24_init_5 rfl (lv_at hl 1 rfl) ?_
  refine gpX24_7 S X hw hin2 dX24_init_6 h (fun w2 H locs h hw => ?_)
  refine lv_aload_n S.1 S.2.1 dX24_init_9 rfl (lv_at hl 0 rfl) ?_
  refine lv_iload_n S.1 S.2.1 dX24_init_10 rfl (lv_at hl 2 rfl) ?_
  refine gpX24_13 S X hw hin2 dX24_init_11 h (fun w3 H locs h hw => ?_)
  exact g_vret S Z hr hlocks hw (so1 h) dX24_init_14
theorem cb_X3_11 {R : Room} {s : State} {args : Array Value} {rm : Room} {mc ms : Nat} (hts : ∀ w ∈ lw_all, w.before args s = true) (hc : rm.cells = mc) (hs : rm.slots = ms) (hR : rm.frames + 1 ≤ R.frames ∧ 8 + (2 + 11) + rm.locals ≤ R.locals) : CallB R s args RX3 11 yJ2_init cJ2_init 2 none (ws_ yJ2_init cJ2_init 2 (Option.none : Option Jvm.ClassFile.FieldType)) rm mc ms 1 ∧ yJ2_init.name = "<init>" ∧ (Cond.instanceMethod yJ2_init).before args s = true := cwI 1 hts (lw_meth q233) rfl hc hs (hts _ q140) (hts _ q231) (hts _ q232) rfl (by decide +kernel) hR
def B_X3_init (x0 : Nat) (w : GS) : Option GS :=
  bd1 (onw w 23 0 3) fun w1 =>
  bd1 (B_J2_init (gZ w) (2 : Int32) w1) fun w2 =>
  bd1 (pR w2 x0 3 3 0 (some (gZ w))) fun w3 =>
  bd1 (onw w3 23 0 3) fun w4 =>
  bd1 (B_J2_init (gZ w3) (2 : Int32) w4) fun w5 =>
  bd1 (pR w5 x0 3 3 1 (some (gZ w3))) fun w6 =>
  bd1 (onw w6 23 0 3) fun w7 =>
  bd1 (B_J2_init (gZ w6) (2 : Int32) w7) fun w8 =>
  bd1 (pR w8 x0 3 3 2 (some (gZ w6))) fun w9 =>
  bd1 (pI w9 x0 3 3 3 (-1 : Int32)) fun w10 =>
  bd1 (pI w10 x0 3 3 4 (30 : Int32)) fun w11 =>
  bd1 (pI w11 x0 3 3 5 (-1 : Int32)) fun w12 =>
  some w12
set_option maxRecDepth 100000 in
set_option maxHeartbeats 4000000 in
theorem met_B_X3_init (l : Launch) (E : gE) (A : Nat → Prop) (LC LS : Nat)  (x0 : Nat) (w : GS) (res : GS) (h : B_X3_init x0 w = some res) : Met l yX3_init (ws_ yX3_init cX3_init 1 (Option.none : Option Jvm.ClassFile.FieldType)) (gRoom 4 81 LC LS w) (gPc E A LC LS [.ref x0] w) (gQv E A LC LS res) (LC - gZ w) (LS - gN w) A := by
  refine gMet (by decide) rfl (Nat.le_of_ble_eq_true rfl) ?_
  intro p e s m below meth c R S hr hlocks hin2 X Z hF hL H ls hw hl
  replace hl : lv_has ls 1 [(0, .ref x0)] := hl
  unfold B_X3_init at h
  replace hin2 : meth.name = "<init>" := hin2
  refine lv_aload_n S.1 S.2.1 dX3_init_0 rfl (lv_at hl 0 rfl) ?_
  refine W.objInit S.1 S.2.1 S.2.2.2.1 (S.2.2.2.2 _ q228) (S.2.2.2.2 _ q186) (S.2.2.2.2 _ q187) rfl (by rw [S.2.2.1]; exact hl.1) rfl dX3_init_1 (Nat.le_trans (Nat.le_of_ble_eq_true rfl) hF) (Nat.le_trans (Nat.add_le_add_right (lv_room (st := []) (Nat.le_of_ble_eq_true rfl)) 12) (Nat.le_trans (Nat.le_of_ble_eq_true rfl) hL)) ?_
  refine W.eq (g2 := F0 m 4 ls []) rfl ?_
  refine lv_aload_n S.1 S.2.1 dX3_init_4 rfl (lv_at hl 0 rfl) ?_
  refine gnX3_9 S X Z hw dX3_init_5 h (fun w1 H h hw => ?_)
  refine lv_dup S.1 S.2.1 dX3_init_8 rfl ?_
  refine lv_iconst (v := 2) S.1 S.2.1 dX3_init_9 rfl ?_
  refine gcIv (As := [.int (2 : Int32)]) (rest := [.ref (gZ w), .ref x0]) S X Z hw (b := (gZ w)) h (fun u h1 => met_B_J2_init l E A LC LS (gZ w) (2 : Int32) w1 u h1) (cb_X3_11 S.2.2.2.2 rfl rfl ⟨Nat.le_trans (Nat.le_of_ble_eq_true rfl : 3 + 1 ≤ 4) hF, Nat.le_trans (Nat.le_of_ble_eq_true rfl : 8 + (2 + 11) + 60 ≤ 81) hL⟩) rfl hl.1 rfl (lv_room (Nat.le_of_ble_eq_true rfl)) dX3_init_10 (fun w2 H locs h hw => ?_)
  refine gpX3_14 (v := some (gZ w)) S X hw hin2 dX3_init_13 h (fun w3 H locs h hw => ?_)
  refine lv_aload_n S.1 S.2.1 dX3_init_16 rfl (lv_at hl 0 rfl) ?_
  refine gnX3_9 S X Z hw dX3_init_17 h (fun w4 H h hw => ?_)
  refine lv_dup S.1 S.2.1 dX3_init_20 rfl ?_
  refine lv_iconst (v := 2) S.1 S.2.1 dX3_init_21 rfl ?_
  refine gcIv (As := [.int (2 : Int32)]) (rest := [.ref (gZ w3), .ref x0]) S X Z hw (b := (gZ w3)) h (fun u h1 => met_B_J2_init l E A LC LS (gZ w3) (2 : Int32) w4 u h1) (cb_X3_11 S.2.2.2.2 rfl rfl ⟨Nat.le_trans (Nat.le_of_ble_eq_true rfl : 3 + 1 ≤ 4) hF, Nat.le_trans (Nat.le_of_ble_eq_true rfl : 8 + (2 + 11) + 60 ≤ 81) hL⟩) rfl hl.1 rfl (lv_room (Nat.le_of_ble_eq_true rfl)) dX3_init_22 (fun w5 H locs h hw => ?_)
  refine gpX3_20 (v := some (gZ w3)) S X hw hin2 dX3_init_25 h (fun w6 H locs h hw => ?_)
  refine lv_aload_n S.1 S.2.1 dX3_init_28 rfl (lv_at hl 0 rfl) ?_
  refine gnX3_9 S X Z hw dX3_init_29 h (fun w7 H h hw => ?_)
  refine lv_dup S.1 S.2.1 dX3_init_32 rfl ?_
  refine lv_iconst (v := 2) S.1 S.2.1 dX3_init_33 rfl ?_
  refine gcIv (As := [.int (2 : Int32)]) (rest := [.ref (gZ w6), .ref x0]) S X Z hw (b := (gZ w6)) h (fun u h1 => met_B_J2_init l E A LC LS (gZ w6) (2 : Int32) w7 u h1) (cb_X3_11 S.2.2.2.2 rfl rfl ⟨Nat.le_trans (Nat.le_of_ble_eq_true rfl : 3 + 1 ≤ 4) hF, Nat.le_trans (Nat.le_of_ble_eq_true rfl : 8 + (2 + 11) + 60 ≤ 81) hL⟩) rfl hl.1 rfl (lv_room (Nat.le_of_ble_eq_true rfl)) dX3_init_34 (fun w8 H locs h hw => ?_)
  refine gpX3_23 (v := some (gZ w6)) S X hw hin2 dX3_init_37 h (fun w9 H locs h hw => ?_)
  refine lv_aload_n S.1 S.2.1 dX3_init_40 rfl (lv_at hl 0 rfl) ?_
  refine lv_iconst (v := -1) S.1 S.2.1 dX3_init_41 rfl ?_
  refine gpX3_26 S X hw dX3_init_42 h (fun w10 H locs h hw => ?_)
  refine lv_aload_n S.1 S.2.1 dX3_init_45 rfl (lv_at hl 0 rfl) ?_
  refine lv_bipush (v := 30) S.1 S.2.1 dX3_init_46 rfl ?_
  refine gpX3_30 S X hw dX3_init_48 h (fun w11 H locs h hw => ?_)
  refine lv_aload_n S.1 S.2.1 dX3_init_51 rfl (lv_at hl 0 rfl) ?_
  refine lv_iconst (v := -1) S.1 S.2.1 dX3_init_52 rfl ?_
  refine gpX3_33 S X hw dX3_init_53 h (fun w12 H locs h hw => ?_)
  exact g_vret S Z hr hlocks hw (so1 h) dX3_init_56
theorem cb_X3_36 {R : Room} {s : State} {args : Array Value} {rm : Room} {mc ms : Nat} (hts : ∀ w ∈ lw_all, w.before args s = true) (hc : rm.cells = mc) (hs : rm.slots = ms) (hR : rm.frames + 1 ≤ R.frames ∧ 8 + (1 + 11) + rm.locals ≤ R.locals) : CallW R s args RX3 RJ2 36 yJ2_size cJ2_size 1 (Option.some Jvm.ClassFile.FieldType.int) (ws_ yJ2_size cJ2_size 1 (Option.some Jvm.ClassFile.FieldType.int)) rm mc ms 0 := cwV 0 hts (lw_V q843 q350 q351 q140 q352) rfl hc hs (by decide +kernel) hR
theorem cb_X3_40 {R : Room} {s : State} {args : Array Value} {rm : Room} {mc ms : Nat} (hts : ∀ w ∈ lw_all, w.before args s = true) (hc : rm.cells = mc) (hs : rm.slots = ms) (hR : rm.frames + 1 ≤ R.frames ∧ 8 + (2 + 11) + rm.locals ≤ R.locals) : CallW R s args RX3 RJ2 40 yJ2_get cJ2_get 2 (Option.some (Jvm.ClassFile.FieldType.object "java/lang/Object")) (ws_ yJ2_get cJ2_get 2 (Option.some (Jvm.ClassFile.FieldType.object "java/lang/Object"))) rm mc ms 1 := cwV 1 hts (lw_V q844 q354 q355 q140 q356) rfl hc hs (by decide +kernel) hR
theorem cb_X3_50 {R : Room} {s : State} {args : Array Value} {rm : Room} {mc ms : Nat} (hts : ∀ w ∈ lw_all, w.before args s = true) (hc : rm.cells = mc) (hs : rm.slots = ms) (hR : rm.frames + 1 ≤ R.frames ∧ 8 + (3 + 11) + rm.locals ≤ R.locals) : CallW R s args RX3 RJ5 50 yJ5_equals cJ5_equals 3 (Option.some Jvm.ClassFile.FieldType.boolean) (ws_ yJ5_equals cJ5_equals 3 (Option.some Jvm.ClassFile.FieldType.boolean)) rm mc ms 1 := cwV 1 hts (lw_V q846 q847 q848 q145 q849) rfl hc hs (by decide +kernel) hR
def B_X3_room_p2 : Nat → Nat → Nat → Int32 → GS → Option Int32
  | 0, _, _, _, _ => none
  | n + 1, x0, x1, x2, w =>
    bd1 (oRn w x0 3 3 0) fun a1 =>
    bd1 (oK w a1 23 23) fun _ =>
    bd1 (B_J2_size a1 w) fun r2 =>
    if r2 ≤ x2 then
      some (-1 : Int32)
    else
      bd1 (oRn w x0 3 3 0) fun a4 =>
      bd1 (oK w a4 23 23) fun _ =>
      bd1 (B_J2_get a4 x2 w) fun a5 =>
      bd1 (oK w a5 7 7) fun _ =>
      bd1 (oRn w a5 7 7 0) fun a6 =>
      bd1 (oK w a6 30 31) fun _ =>
      bd1 (B_J5_equals a6 x1 w) fun r7 =>
      if r7 = 0 then
        (B_X3_room_p2 n) x0 x1 (x2 + (1 : Int32)) w
      else
        some x2
def B_X3_room (x0 : Nat) (x1 : Nat) (w : GS) : Option Int32 :=
  B_X3_room_p2 FU x0 x1 (0 : Int32) w
set_option maxRecDepth 100000 in
set_option maxHeartbeats 4000000 in
theorem wk_B_X3_room_p2 {p : Program} {l : Launch} {e : Env} {R : Room} {s : State} {m : MethodId} {args : Array Value} {below : List Frame} {meth : Method} {c : Code} {E : gE} {A : Nat → Prop} {LC LS : Nat} (S : CallFix p m c cX3_room 3 s args lw_all RX3) (X : gCtx E A s) (Z : gRm R s LC LS) (hF : 3 ≤ R.frames) (hL : 64 ≤ R.locals) (hr : meth.sig.returnType = (Option.some Jvm.ClassFile.FieldType.int)) (hlocks : meth.locks = false) {res : Int32}  : ∀ n : Nat, ∀ (x0 : Nat) (x1 : Nat) (x2 : Int32) (w : GS) (H : Heap) (locs : List Loc) (ls : Array Slot), B_X3_room_p2 n x0 x1 x2 w = some res → gH E A LC LS s w H locs → lv_has ls 3 [(0, .ref x0), (1, .ref x1), (2, .int x2)] → W p l e R s m args below meth c H locs (H.size - s.heap.size) (tot H - tot s.heap) (MQ below (gQi E A LC LS res w) args s R.cells R.slots A) (F0 m 2 ls []) := by
  intro n
  induction n with
  | zero => intro x0 x1 x2 w H locs ls h; cases (show (none : Option Int32) = some res from h)
  | succ n ih =>
    intro x0 x1 x2 w H locs ls h hw hl
    rw [B_X3_room_p2] at h
    refine lv_iload_n S.1 S.2.1 dX3_room_2 rfl (lv_at hl 2 rfl) ?_
    refine lv_aload_n S.1 S.2.1 dX3_room_3 rfl (lv_at hl 0 rfl) ?_
    refine ggX3_14 S X hw dX3_room_4 h (fun a1 h => ?_)
    obtain ⟨hrc, h⟩ := oK1 h
    refine gcVri (As := []) (rest := [.int x2]) S X Z hw (b := a1) h (fun u h1 => met_B_J2_size l E A LC LS a1 w u h1) (cb_X3_36 S.2.2.2.2 rfl rfl ⟨Nat.le_trans (Nat.le_of_ble_eq_true rfl : 0 + 1 ≤ 3) hF, Nat.le_trans (Nat.le_of_ble_eq_true rfl : 8 + (1 + 11) + 0 ≤ 64) hL⟩) (g_recv X hw (ci := 22) rfl (gcell_23 hrc)) rfl hl.1 rfl (lv_room (Nat.le_of_ble_eq_true rfl)) dX3_room_7 (fun r2 H locs h hw => ?_)
    refine lv_icmp_ge (tgt := 42) S.1 S.2.1 dX3_room_10 rfl (fun c3 => ?_) (fun c3 => ?_)
    · replace h := if_t c3 h
      refine lv_iconst (v := -1) S.1 S.2.1 dX3_room_42 rfl ?_
      exact g_iret S Z hr hlocks hw ⟨so1 h, rfl⟩ dX3_room_43
    · replace h := if_f c3 h
      refine lv_aload_n S.1 S.2.1 dX3_room_13 rfl (lv_at hl 0 rfl) ?_
      refine ggX3_14 S X hw dX3_room_14 h (fun a4 h => ?_)
      refine lv_iload_n S.1 S.2.1 dX3_room_17 rfl (lv_at hl 2 rfl) ?_
      obtain ⟨hrc, h⟩ := oK1 h
      refine gcVrr (As := [.int x2]) (rest := []) S X Z hw (b := a4) h (fun u h1 => met_B_J2_get l E A LC LS a4 x2 w u h1) (cb_X3_40 S.2.2.2.2 rfl rfl ⟨Nat.le_trans (Nat.le_of_ble_eq_true rfl : 2 + 1 ≤ 3) hF, Nat.le_trans (Nat.le_of_ble_eq_true rfl : 8 + (2 + 11) + 43 ≤ 64) hL⟩) (g_recv X hw (ci := 22) rfl (gcell_23 hrc)) rfl hl.1 rfl (lv_room (Nat.le_of_ble_eq_true rfl)) dX3_room_18 (fun a5 H locs h hw => ?_)
      refine gckX3_44 S X hw dX3_room_21 h (fun _ h => ?_)
      refine ggX3_46 S X hw dX3_room_24 h (fun a6 h => ?_)
      refine lv_aload_n S.1 S.2.1 dX3_room_27 rfl (lv_at hl 1 rfl) ?_
      obtain ⟨hrc, h⟩ := oKS h
      refine gcVri (As := [.ref x1]) (rest := []) S X Z hw (b := a6) h (fun u h1 => met_B_J5_equals l E A LC LS a6 x1 w u h1) (cb_X3_50 S.2.2.2.2 rfl rfl ⟨Nat.le_trans (Nat.le_of_ble_eq_true rfl : 1 + 1 ≤ 3) hF, Nat.le_trans (Nat.le_of_ble_eq_true rfl : 8 + (3 + 11) + 22 ≤ 64) hL⟩) (g_recvS X hw hrc) rfl hl.1 rfl (lv_room (Nat.le_of_ble_eq_true rfl)) dX3_room_28 (fun r7 H locs h hw => ?_)
      refine lv_if_eq (tgt := 36) S.1 S.2.1 dX3_room_31 rfl (fun c8 => ?_) (fun c8 => ?_)
      · replace h := if_t c8 h
        refine lv_iinc (v := x2 + (1 : Int32)) (lv' := [(2, .int (x2 + (1 : Int32))), (0, .ref x0), (1, .ref x1)]) S.1 S.2.1 dX3_room_36 hl (k := 2) rfl rfl (by decide) rfl (fun ls hl => ?_)
        refine lv_goto (tgt := 2) S.1 S.2.1 dX3_room_39 rfl ?_
        exact ih _ _ _ _ _ _ _ h hw (lv_sub hl [1, 2, 0] rfl)
      · replace h := if_f c8 h
        refine lv_iload_n S.1 S.2.1 dX3_room_34 rfl (lv_at hl 2 rfl) ?_
        exact g_iret S Z hr hlocks hw ⟨so1 h, rfl⟩ dX3_room_35
set_option maxRecDepth 100000 in
set_option maxHeartbeats 4000000 in
theorem met_B_X3_room (l : Launch) (E : gE) (A : Nat → Prop) (LC LS : Nat)  (x0 : Nat) (x1 : Nat) (w : GS) (res : Int32) (h : B_X3_room x0 x1 w = some res) : Met l yX3_room (ws_ yX3_room cX3_room 3 (Option.some Jvm.ClassFile.FieldType.int)) (gRoom 3 64 LC LS w) (gPc E A LC LS [.ref x0, .ref x1] w) (gQi E A LC LS res w) (LC - gZ w) (LS - gN w) A := by
  refine gMet (by decide) rfl (Nat.le_of_ble_eq_true rfl) ?_
  intro p e s m below meth c R S hr hlocks hin2 X Z hF hL H ls hw hl
  replace hl : lv_has ls 3 [(0, .ref x0), (1, .ref x1)] := hl
  unfold B_X3_room at h
  refine lv_iconst (v := 0) S.1 S.2.1 dX3_room_0 rfl ?_
  refine lv_istore_n (lv' := [(2, .int (0 : Int32)), (0, .ref x0), (1, .ref x1)]) S.1 S.2.1 dX3_room_1 rfl hl (by decide) rfl (fun ls hl => ?_)
  exact wk_B_X3_room_p2 S X Z hF hL hr hlocks  FU _ _ _ _ _ _ _ h hw (lv_sub hl [1, 2, 0] rfl)
def B_X3_tenant_p2 : Nat → Nat → Nat → Int32 → GS → Option Int32
  | 0, _, _, _, _ => none
  | n + 1, x0, x1, x2, w =>
    bd1 (oRn w x0 3 3 1) fun a1 =>
    bd1 (oK w a1 23 23) fun _ =>
    bd1 (B_J2_size a1 w) fun r2 =>
    if r2 ≤ x2 then
      some (-1 : Int32)
    else
      bd1 (oRn w x0 3 3 1) fun a4 =>
      bd1 (oK w a4 23 23) fun _ =>
      bd1 (B_J2_get a4 x2 w) fun a5 =>
      bd1 (oK w a5 8 11) fun _ =>
      bd1 (oRn w a5 8 11 0) fun a6 =>
      bd1 (oK w a6 30 31) fun _ =>
      bd1 (B_J5_equals a6 x1 w) fun r7 =>
      if r7 = 0 then
        (B_X3_tenant_p2 n) x0 x1 (x2 + (1 : Int32)) w
      else
        some x2
def B_X3_tenant (x0 : Nat) (x1 : Nat) (w : GS) : Option Int32 :=
  B_X3_tenant_p2 FU x0 x1 (0 : Int32) w
set_option maxRecDepth 100000 in
set_option maxHeartbeats 4000000 in
theorem wk_B_X3_tenant_p2 {p : Program} {l : Launch} {e : Env} {R : Room} {s : State} {m : MethodId} {args : Array Value} {below : List Frame} {meth : Method} {c : Code} {E : gE} {A : Nat → Prop} {LC LS : Nat} (S : CallFix p m c cX3_tenant 3 s args lw_all RX3) (X : gCtx E A s) (Z : gRm R s LC LS) (hF : 3 ≤ R.frames) (hL : 64 ≤ R.locals) (hr : meth.sig.returnType = (Option.some Jvm.ClassFile.FieldType.int)) (hlocks : meth.locks = false) {res : Int32}  : ∀ n : Nat, ∀ (x0 : Nat) (x1 : Nat) (x2 : Int32) (w : GS) (H : Heap) (locs : List Loc) (ls : Array Slot), B_X3_tenant_p2 n x0 x1 x2 w = some res → gH E A LC LS s w H locs → lv_has ls 3 [(0, .ref x0), (1, .ref x1), (2, .int x2)] → W p l e R s m args below meth c H locs (H.size - s.heap.size) (tot H - tot s.heap) (MQ below (gQi E A LC LS res w) args s R.cells R.slots A) (F0 m 2 ls []) := by
  intro n
  induction n with
  | zero => intro x0 x1 x2 w H locs ls h; cases (show (none : Option Int32) = some res from h)
  | succ n ih =>
    intro x0 x1 x2 w H locs ls h hw hl
    rw [B_X3_tenant_p2] at h
    refine lv_iload_n S.1 S.2.1 dX3_tenant_2 rfl (lv_at hl 2 rfl) ?_
    refine lv_aload_n S.1 S.2.1 dX3_tenant_3 rfl (lv_at hl 0 rfl) ?_
    refine ggX3_20 S X hw dX3_tenant_4 h (fun a1 h => ?_)
    obtain ⟨hrc, h⟩ := oK1 h
    refine gcVri (As := []) (rest := [.int x2]) S X Z hw (b := a1) h (fun u h1 => met_B_J2_size l E A LC LS a1 w u h1) (cb_X3_36 S.2.2.2.2 rfl rfl ⟨Nat.le_trans (Nat.le_of_ble_eq_true rfl : 0 + 1 ≤ 3) hF, Nat.le_trans (Nat.le_of_ble_eq_true rfl : 8 + (1 + 11) + 0 ≤ 64) hL⟩) (g_recv X hw (ci := 22) rfl (gcell_23 hrc)) rfl hl.1 rfl (lv_room (Nat.le_of_ble_eq_true rfl)) dX3_tenant_7 (fun r2 H locs h hw => ?_)
    refine lv_icmp_ge (tgt := 42) S.1 S.2.1 dX3_tenant_10 rfl (fun c3 => ?_) (fun c3 => ?_)
    · replace h := if_t c3 h
      refine lv_iconst (v := -1) S.1 S.2.1 dX3_tenant_42 rfl ?_
      exact g_iret S Z hr hlocks hw ⟨so1 h, rfl⟩ dX3_tenant_43
    · replace h := if_f c3 h
      refine lv_aload_n S.1 S.2.1 dX3_tenant_13 rfl (lv_at hl 0 rfl) ?_
      refine ggX3_20 S X hw dX3_tenant_14 h (fun a4 h => ?_)
      refine lv_iload_n S.1 S.2.1 dX3_tenant_17 rfl (lv_at hl 2 rfl) ?_
      obtain ⟨hrc, h⟩ := oK1 h
      refine gcVrr (As := [.int x2]) (rest := []) S X Z hw (b := a4) h (fun u h1 => met_B_J2_get l E A LC LS a4 x2 w u h1) (cb_X3_40 S.2.2.2.2 rfl rfl ⟨Nat.le_trans (Nat.le_of_ble_eq_true rfl : 2 + 1 ≤ 3) hF, Nat.le_trans (Nat.le_of_ble_eq_true rfl : 8 + (2 + 11) + 43 ≤ 64) hL⟩) (g_recv X hw (ci := 22) rfl (gcell_23 hrc)) rfl hl.1 rfl (lv_room (Nat.le_of_ble_eq_true rfl)) dX3_tenant_18 (fun a5 H locs h hw => ?_)
      refine gckX3_56 S X hw dX3_tenant_21 h (fun _ h => ?_)
      refine ggX3_58 S X hw dX3_tenant_24 h (fun a6 h => ?_)
      refine lv_aload_n S.1 S.2.1 dX3_tenant_27 rfl (lv_at hl 1 rfl) ?_
      obtain ⟨hrc, h⟩ := oKS h
      refine gcVri (As := [.ref x1]) (rest := []) S X Z hw (b := a6) h (fun u h1 => met_B_J5_equals l E A LC LS a6 x1 w u h1) (cb_X3_50 S.2.2.2.2 rfl rfl ⟨Nat.le_trans (Nat.le_of_ble_eq_true rfl : 1 + 1 ≤ 3) hF, Nat.le_trans (Nat.le_of_ble_eq_true rfl : 8 + (3 + 11) + 22 ≤ 64) hL⟩) (g_recvS X hw hrc) rfl hl.1 rfl (lv_room (Nat.le_of_ble_eq_true rfl)) dX3_tenant_28 (fun r7 H locs h hw => ?_)
      refine lv_if_eq (tgt := 36) S.1 S.2.1 dX3_tenant_31 rfl (fun c8 => ?_) (fun c8 => ?_)
      · replace h := if_t c8 h
        refine lv_iinc (v := x2 + (1 : Int32)) (lv' := [(2, .int (x2 + (1 : Int32))), (0, .ref x0), (1, .ref x1)]) S.1 S.2.1 dX3_tenant_36 hl (k := 2) rfl rfl (by decide) rfl (fun ls hl => ?_)
        refine lv_goto (tgt := 2) S.1 S.2.1 dX3_tenant_39 rfl ?_
        exact ih _ _ _ _ _ _ _ h hw (lv_sub hl [1, 2, 0] rfl)
      · replace h := if_f c8 h
        refine lv_iload_n S.1 S.2.1 dX3_tenant_34 rfl (lv_at hl 2 rfl) ?_
        exact g_iret S Z hr hlocks hw ⟨so1 h, rfl⟩ dX3_tenant_35
set_option maxRecDepth 100000 in
set_option maxHeartbeats 4000000 in
theorem met_B_X3_tenant (l : Launch) (E : gE) (A : Nat → Prop) (LC LS : Nat)  (x0 : Nat) (x1 : Nat) (w : GS) (res : Int32) (h : B_X3_tenant x0 x1 w = some res) : Met l yX3_tenant (ws_ yX3_tenant cX3_tenant 3 (Option.some Jvm.ClassFile.FieldType.int)) (gRoom 3 64 LC LS w) (gPc E A LC LS [.ref x0, .ref x1] w) (gQi E A LC LS res w) (LC - gZ w) (LS - gN w) A := by
  refine gMet (by decide) rfl (Nat.le_of_ble_eq_true rfl) ?_
  intro p e s m below meth c R S hr hlocks hin2 X Z hF hL H ls hw hl
  replace hl : lv_has ls 3 [(0, .ref x0), (1, .ref x1)] := hl
  unfold B_X3_tenant at h
  refine lv_iconst (v := 0) S.1 S.2.1 dX3_tenant_0 rfl ?_
  refine lv_istore_n (lv' := [(2, .int (0 : Int32)), (0, .ref x0), (1, .ref x1)]) S.1 S.2.1 dX3_tenant_1 rfl hl (by decide) rfl (fun ls hl => ?_)
  exact wk_B_X3_tenant_p2 S X Z hF hL hr hlocks  FU _ _ _ _ _ _ _ h hw (lv_sub hl [1, 2, 0] rfl)
def B_X3_hasErrand_p2 : Nat → Nat → Nat → Int32 → GS → Option Int32
  | 0, _, _, _, _ => none
  | n + 1, x0, x1, x2, w =>
    bd1 (oRn w x0 3 3 2) fun a1 =>
    bd1 (oK w a1 23 23) fun _ =>
    bd1 (B_J2_size a1 w) fun r2 =>
    if r2 ≤ x2 then
      some (0 : Int32)
    else
      bd1 (oRn w x0 3 3 2) fun a4 =>
      bd1 (oK w a4 23 23) fun _ =>
      bd1 (B_J2_get a4 x2 w) fun a5 =>
      bd1 (oK w a5 12 12) fun _ =>
      bd1 (oRn w a5 12 12 0) fun a6 =>
      bd1 (oK w a6 30 31) fun _ =>
      bd1 (B_J5_equals a6 x1 w) fun r7 =>
      if r7 = 0 then
        (B_X3_hasErrand_p2 n) x0 x1 (x2 + (1 : Int32)) w
      else
        some (1 : Int32)
def B_X3_hasErrand (x0 : Nat) (x1 : Nat) (w : GS) : Option Int32 :=
  B_X3_hasErrand_p2 FU x0 x1 (0 : Int32) w
set_option maxRecDepth 100000 in
set_option maxHeartbeats 4000000 in
theorem wk_B_X3_hasErrand_p2 {p : Program} {l : Launch} {e : Env} {R : Room} {s : State} {m : MethodId} {args : Array Value} {below : List Frame} {meth : Method} {c : Code} {E : gE} {A : Nat → Prop} {LC LS : Nat} (S : CallFix p m c cX3_hasErrand 3 s args lw_all RX3) (X : gCtx E A s) (Z : gRm R s LC LS) (hF : 3 ≤ R.frames) (hL : 64 ≤ R.locals) (hr : meth.sig.returnType = (Option.some Jvm.ClassFile.FieldType.boolean)) (hlocks : meth.locks = false) {res : Int32}  : ∀ n : Nat, ∀ (x0 : Nat) (x1 : Nat) (x2 : Int32) (w : GS) (H : Heap) (locs : List Loc) (ls : Array Slot), B_X3_hasErrand_p2 n x0 x1 x2 w = some res → gH E A LC LS s w H locs → lv_has ls 3 [(0, .ref x0), (1, .ref x1), (2, .int x2)] → W p l e R s m args below meth c H locs (H.size - s.heap.size) (tot H - tot s.heap) (MQ below (gQi E A LC LS res w) args s R.cells R.slots A) (F0 m 2 ls []) := by
  intro n
  induction n with
  | zero => intro x0 x1 x2 w H locs ls h; cases (show (none : Option Int32) = some res from h)
  | succ n ih =>
    intro x0 x1 x2 w H locs ls h hw hl
    rw [B_X3_hasErrand_p2] at h
    refine lv_iload_n S.1 S.2.1 dX3_hasErrand_2 rfl (lv_at hl 2 rfl) ?_
    refine lv_aload_n S.1 S.2.1 dX3_hasErrand_3 rfl (lv_at hl 0 rfl) ?_
    refine ggX3_23 S X hw dX3_hasErrand_4 h (fun a1 h => ?_)
    obtain ⟨hrc, h⟩ := oK1 h
    refine gcVri (As := []) (rest := [.int x2]) S X Z hw (b := a1) h (fun u h1 => met_B_J2_size l E A LC LS a1 w u h1) (cb_X3_36 S.2.2.2.2 rfl rfl ⟨Nat.le_trans (Nat.le_of_ble_eq_true rfl : 0 + 1 ≤ 3) hF, Nat.le_trans (Nat.le_of_ble_eq_true rfl : 8 + (1 + 11) + 0 ≤ 64) hL⟩) (g_recv X hw (ci := 22) rfl (gcell_23 hrc)) rfl hl.1 rfl (lv_room (Nat.le_of_ble_eq_true rfl)) dX3_hasErrand_7 (fun r2 H locs h hw => ?_)
    refine lv_icmp_ge (tgt := 42) S.1 S.2.1 dX3_hasErrand_10 rfl (fun c3 => ?_) (fun c3 => ?_)
    · replace h := if_t c3 h
      refine lv_iconst (v := 0) S.1 S.2.1 dX3_hasErrand_42 rfl ?_
      exact g_zret S Z hr hlocks hw rfl ⟨so1 h, rfl⟩ dX3_hasErrand_43
    · replace h := if_f c3 h
      refine lv_aload_n S.1 S.2.1 dX3_hasErrand_13 rfl (lv_at hl 0 rfl) ?_
      refine ggX3_23 S X hw dX3_hasErrand_14 h (fun a4 h => ?_)
      refine lv_iload_n S.1 S.2.1 dX3_hasErrand_17 rfl (lv_at hl 2 rfl) ?_
      obtain ⟨hrc, h⟩ := oK1 h
      refine gcVrr (As := [.int x2]) (rest := []) S X Z hw (b := a4) h (fun u h1 => met_B_J2_get l E A LC LS a4 x2 w u h1) (cb_X3_40 S.2.2.2.2 rfl rfl ⟨Nat.le_trans (Nat.le_of_ble_eq_true rfl : 2 + 1 ≤ 3) hF, Nat.le_trans (Nat.le_of_ble_eq_true rfl : 8 + (2 + 11) + 43 ≤ 64) hL⟩) (g_recv X hw (ci := 22) rfl (gcell_23 hrc)) rfl hl.1 rfl (lv_room (Nat.le_of_ble_eq_true rfl)) dX3_hasErrand_18 (fun a5 H locs h hw => ?_)
      refine gckX3_59 S X hw dX3_hasErrand_21 h (fun _ h => ?_)
      refine ggX3_61 S X hw dX3_hasErrand_24 h (fun a6 h => ?_)
      refine lv_aload_n S.1 S.2.1 dX3_hasErrand_27 rfl (lv_at hl 1 rfl) ?_
      obtain ⟨hrc, h⟩ := oKS h
      refine gcVri (As := [.ref x1]) (rest := []) S X Z hw (b := a6) h (fun u h1 => met_B_J5_equals l E A LC LS a6 x1 w u h1) (cb_X3_50 S.2.2.2.2 rfl rfl ⟨Nat.le_trans (Nat.le_of_ble_eq_true rfl : 1 + 1 ≤ 3) hF, Nat.le_trans (Nat.le_of_ble_eq_true rfl : 8 + (3 + 11) + 22 ≤ 64) hL⟩) (g_recvS X hw hrc) rfl hl.1 rfl (lv_room (Nat.le_of_ble_eq_true rfl)) dX3_hasErrand_28 (fun r7 H locs h hw => ?_)
      refine lv_if_eq (tgt := 36) S.1 S.2.1 dX3_hasErrand_31 rfl (fun c8 => ?_) (fun c8 => ?_)
      · replace h := if_t c8 h
        refine lv_iinc (v := x2 + (1 : Int32)) (lv' := [(2, .int (x2 + (1 : Int32))), (0, .ref x0), (1, .ref x1)]) S.1 S.2.1 dX3_hasErrand_36 hl (k := 2) rfl rfl (by decide) rfl (fun ls hl => ?_)
        refine lv_goto (tgt := 2) S.1 S.2.1 dX3_hasErrand_39 rfl ?_
        exact ih _ _ _ _ _ _ _ h hw (lv_sub hl [1, 2, 0] rfl)
      · replace h := if_f c8 h
        refine lv_iconst (v := 1) S.1 S.2.1 dX3_hasErrand_34 rfl ?_
        exact g_zret S Z hr hlocks hw rfl ⟨so1 h, rfl⟩ dX3_hasErrand_35
set_option maxRecDepth 100000 in
set_option maxHeartbeats 4000000 in
theorem met_B_X3_hasErrand (l : Launch) (E : gE) (A : Nat → Prop) (LC LS : Nat)  (x0 : Nat) (x1 : Nat) (w : GS) (res : Int32) (h : B_X3_hasErrand x0 x1 w = some res) : Met l yX3_hasErrand (ws_ yX3_hasErrand cX3_hasErrand 3 (Option.some Jvm.ClassFile.FieldType.boolean)) (gRoom 3 64 LC LS w) (gPc E A LC LS [.ref x0, .ref x1] w) (gQi E A LC LS res w) (LC - gZ w) (LS - gN w) A := by
  refine gMet (by decide) rfl (Nat.le_of_ble_eq_true rfl) ?_
  intro p e s m below meth c R S hr hlocks hin2 X Z hF hL H ls hw hl
  replace hl : lv_has ls 3 [(0, .ref x0), (1, .ref x1)] := hl
  unfold B_X3_hasErrand at h
  refine lv_iconst (v := 0) S.1 S.2.1 dX3_hasErrand_0 rfl ?_
  refine lv_istore_n (lv' := [(2, .int (0 : Int32)), (0, .ref x0), (1, .ref x1)]) S.1 S.2.1 dX3_hasErrand_1 rfl hl (by decide) rfl (fun ls hl => ?_)
  exact wk_B_X3_hasErrand_p2 S X Z hF hL hr hlocks  FU _ _ _ _ _ _ _ h hw (lv_sub hl [1, 2, 0] rfl)
def B_X3_isLet_p2 : Nat → Nat → Int32 → Int32 → GS → Option Int32
  | 0, _, _, _, _ => none
  | n + 1, x0, x1, x2, w =>
    bd1 (oRn w x0 3 3 1) fun a1 =>
    bd1 (oK w a1 23 23) fun _ =>
    bd1 (B_J2_size a1 w) fun r2 =>
    if r2 ≤ x2 then
      some (0 : Int32)
    else
      bd1 (oRn w x0 3 3 1) fun a4 =>
      bd1 (oK w a4 23 23) fun _ =>
      bd1 (B_J2_get a4 x2 w) fun a5 =>
      bd1 (oK w a5 8 11) fun _ =>
      bd1 (oI w a5 8 11 4) fun v6 =>
      if v6 = x1 then
        some (1 : Int32)
      else
        (B_X3_isLet_p2 n) x0 x1 (x2 + (1 : Int32)) w
def B_X3_isLet (x0 : Nat) (x1 : Int32) (w : GS) : Option Int32 :=
  B_X3_isLet_p2 FU x0 x1 (0 : Int32) w
set_option maxRecDepth 100000 in
set_option maxHeartbeats 4000000 in
theorem wk_B_X3_isLet_p2 {p : Program} {l : Launch} {e : Env} {R : Room} {s : State} {m : MethodId} {args : Array Value} {below : List Frame} {meth : Method} {c : Code} {E : gE} {A : Nat → Prop} {LC LS : Nat} (S : CallFix p m c cX3_isLet 3 s args lw_all RX3) (X : gCtx E A s) (Z : gRm R s LC LS) (hF : 3 ≤ R.frames) (hL : 64 ≤ R.locals) (hr : meth.sig.returnType = (Option.some Jvm.ClassFile.FieldType.boolean)) (hlocks : meth.locks = false) {res : Int32}  : ∀ n : Nat, ∀ (x0 : Nat) (x1 : Int32) (x2 : Int32) (w : GS) (H : Heap) (locs : List Loc) (ls : Array Slot), B_X3_isLet_p2 n x0 x1 x2 w = some res → gH E A LC LS s w H locs → lv_has ls 3 [(0, .ref x0), (1, .int x1), (2, .int x2)] → W p l e R s m args below meth c H locs (H.size - s.heap.size) (tot H - tot s.heap) (MQ below (gQi E A LC LS res w) args s R.cells R.slots A) (F0 m 2 ls []) := by
  intro n
  induction n with
  | zero => intro x0 x1 x2 w H locs ls h; cases (show (none : Option Int32) = some res from h)
  | succ n ih =>
    intro x0 x1 x2 w H locs ls h hw hl
    rw [B_X3_isLet_p2] at h
    refine lv_iload_n S.1 S.2.1 dX3_isLet_2 rfl (lv_at hl 2 rfl) ?_
    refine lv_aload_n S.1 S.2.1 dX3_isLet_3 rfl (lv_at hl 0 rfl) ?_
    refine ggX3_20 S X hw dX3_isLet_4 h (fun a1 h => ?_)
    obtain ⟨hrc, h⟩ := oK1 h
    refine gcVri (As := []) (rest := [.int x2]) S X Z hw (b := a1) h (fun u h1 => met_B_J2_size l E A LC LS a1 w u h1) (cb_X3_36 S.2.2.2.2 rfl rfl ⟨Nat.le_trans (Nat.le_of_ble_eq_true rfl : 0 + 1 ≤ 3) hF, Nat.le_trans (Nat.le_of_ble_eq_true rfl : 8 + (1 + 11) + 0 ≤ 64) hL⟩) (g_recv X hw (ci := 22) rfl (gcell_23 hrc)) rfl hl.1 rfl (lv_room (Nat.le_of_ble_eq_true rfl)) dX3_isLet_7 (fun r2 H locs h hw => ?_)
    refine lv_icmp_ge (tgt := 39) S.1 S.2.1 dX3_isLet_10 rfl (fun c3 => ?_) (fun c3 => ?_)
    · replace h := if_t c3 h
      refine lv_iconst (v := 0) S.1 S.2.1 dX3_isLet_39 rfl ?_
      exact g_zret S Z hr hlocks hw rfl ⟨so1 h, rfl⟩ dX3_isLet_40
    · replace h := if_f c3 h
      refine lv_aload_n S.1 S.2.1 dX3_isLet_13 rfl (lv_at hl 0 rfl) ?_
      refine ggX3_20 S X hw dX3_isLet_14 h (fun a4 h => ?_)
      refine lv_iload_n S.1 S.2.1 dX3_isLet_17 rfl (lv_at hl 2 rfl) ?_
      obtain ⟨hrc, h⟩ := oK1 h
      refine gcVrr (As := [.int x2]) (rest := []) S X Z hw (b := a4) h (fun u h1 => met_B_J2_get l E A LC LS a4 x2 w u h1) (cb_X3_40 S.2.2.2.2 rfl rfl ⟨Nat.le_trans (Nat.le_of_ble_eq_true rfl : 2 + 1 ≤ 3) hF, Nat.le_trans (Nat.le_of_ble_eq_true rfl : 8 + (2 + 11) + 43 ≤ 64) hL⟩) (g_recv X hw (ci := 22) rfl (gcell_23 hrc)) rfl hl.1 rfl (lv_room (Nat.le_of_ble_eq_true rfl)) dX3_isLet_18 (fun a5 H locs h hw => ?_)
      refine gckX3_56 S X hw dX3_isLet_21 h (fun _ h => ?_)
      refine ggX3_62 S X hw dX3_isLet_24 h (fun v6 h => ?_)
      refine lv_iload_n S.1 S.2.1 dX3_isLet_27 rfl (lv_at hl 1 rfl) ?_
      refine lv_icmp_ne (tgt := 33) S.1 S.2.1 dX3_isLet_28 rfl (fun c7 => ?_) (fun c7 => ?_)
      · replace h := if_f c7 h
        refine lv_iinc (v := x2 + (1 : Int32)) (lv' := [(2, .int (x2 + (1 : Int32))), (0, .ref x0), (1, .int x1)]) S.1 S.2.1 dX3_isLet_33 hl (k := 2) rfl rfl (by decide) rfl (fun ls hl => ?_)
        refine lv_goto (tgt := 2) S.1 S.2.1 dX3_isLet_36 rfl ?_
        exact ih _ _ _ _ _ _ _ h hw (lv_sub hl [1, 2, 0] rfl)
      · replace h := if_t c7 h
        refine lv_iconst (v := 1) S.1 S.2.1 dX3_isLet_31 rfl ?_
        exact g_zret S Z hr hlocks hw rfl ⟨so1 h, rfl⟩ dX3_isLet_32
set_option maxRecDepth 100000 in
set_option maxHeartbeats 4000000 in
theorem met_B_X3_isLet (l : Launch) (E : gE) (A : Nat → Prop) (LC LS : Nat)  (x0 : Nat) (x1 : Int32) (w : GS) (res : Int32) (h : B_X3_isLet x0 x1 w = some res) : Met l yX3_isLet (ws_ yX3_isLet cX3_isLet 3 (Option.some Jvm.ClassFile.FieldType.boolean)) (gRoom 3 64 LC LS w) (gPc E A LC LS [.ref x0, .int x1] w) (gQi E A LC LS res w) (LC - gZ w) (LS - gN w) A := by
  refine gMet (by decide) rfl (Nat.le_of_ble_eq_true rfl) ?_
  intro p e s m below meth c R S hr hlocks hin2 X Z hF hL H ls hw hl
  replace hl : lv_has ls 3 [(0, .ref x0), (1, .int x1)] := hl
  unfold B_X3_isLet at h
  refine lv_iconst (v := 0) S.1 S.2.1 dX3_isLet_0 rfl ?_
  refine lv_istore_n (lv' := [(2, .int (0 : Int32)), (0, .ref x0), (1, .int x1)]) S.1 S.2.1 dX3_isLet_1 rfl hl (by decide) rfl (fun ls hl => ?_)
  exact wk_B_X3_isLet_p2 S X Z hF hL hr hlocks  FU _ _ _ _ _ _ _ h hw (lv_sub hl [1, 2, 0] rfl)
def B_X1_isIn (x0 : Int32) (x1 : Int32) : Int32 :=
  if ((x0 >>> (x1 &&& 31)) &&& (1 : Int32)) = (1 : Int32) then
    (1 : Int32)
  else
    (0 : Int32)
set_option maxRecDepth 100000 in
set_option maxHeartbeats 4000000 in
theorem met_B_X1_isIn (l : Launch) (E : gE) (A : Nat → Prop) (LC LS : Nat)  (x0 : Int32) (x1 : Int32) (w : GS) (res : Int32) (h : B_X1_isIn x0 x1 = res) : Met l yX1_isIn (ws_ yX1_isIn cX1_isIn 2 (Option.some Jvm.ClassFile.FieldType.boolean)) (gRoom 0 0 LC LS w) (gPc E A LC LS [.int x0, .int x1] w) (gQi E A LC LS res w) (LC - gZ w) (LS - gN w) A := by
  refine gMet (by decide) rfl (Nat.le_of_ble_eq_true rfl) ?_
  intro p e s m below meth c R S hr hlocks hin2 X Z hF hL H ls hw hl
  replace hl : lv_has ls 2 [(0, .int x0), (1, .int x1)] := hl
  unfold B_X1_isIn at h
  refine lv_iload_n S.1 S.2.1 dX1_isIn_0 rfl (lv_at hl 0 rfl) ?_
  refine lv_iload_n S.1 S.2.1 dX1_isIn_1 rfl (lv_at hl 1 rfl) ?_
  refine lv_ishr S.1 S.2.1 dX1_isIn_2 ?_
  refine lv_iconst (v := 1) S.1 S.2.1 dX1_isIn_3 rfl ?_
  refine lv_iand S.1 S.2.1 dX1_isIn_4 ?_
  refine lv_iconst (v := 1) S.1 S.2.1 dX1_isIn_5 rfl ?_
  refine lv_icmp_ne (tgt := 13) S.1 S.2.1 dX1_isIn_6 rfl (fun c1 => ?_) (fun c1 => ?_)
  · replace h := if_f c1 h
    refine lv_iconst (v := 0) S.1 S.2.1 dX1_isIn_13 rfl ?_
    exact g_zret S Z hr hlocks hw rfl ⟨h, rfl⟩ dX1_isIn_14
  · replace h := if_t c1 h
    refine lv_iconst (v := 1) S.1 S.2.1 dX1_isIn_9 rfl ?_
    refine lv_goto (tgt := 14) S.1 S.2.1 dX1_isIn_10 rfl ?_
    exact g_zret S Z hr hlocks hw rfl ⟨h, rfl⟩ dX1_isIn_14
def B_X2_init (x0 : Nat) (w : GS) : Option GS :=
  some w
set_option maxRecDepth 100000 in
set_option maxHeartbeats 4000000 in
theorem met_B_X2_init (l : Launch) (E : gE) (A : Nat → Prop) (LC LS : Nat)  (x0 : Nat) (w : GS) (res : GS) (h : B_X2_init x0 w = some res) : Met l yX2_init (ws_ yX2_init cX2_init 1 (Option.none : Option Jvm.ClassFile.FieldType)) (gRoom 1 20 LC LS w) (gPc E A LC LS [.ref x0] w) (gQv E A LC LS res) (LC - gZ w) (LS - gN w) A := by
  refine gMet (by decide) rfl (Nat.le_of_ble_eq_true rfl) ?_
  intro p e s m below meth c R S hr hlocks hin2 X Z hF hL H ls hw hl
  replace hl : lv_has ls 1 [(0, .ref x0)] := hl
  unfold B_X2_init at h
  replace hin2 : meth.name = "<init>" := hin2
  refine lv_aload_n S.1 S.2.1 dX2_init_0 rfl (lv_at hl 0 rfl) ?_
  refine W.objInit S.1 S.2.1 S.2.2.2.1 (S.2.2.2.2 _ q193) (S.2.2.2.2 _ q186) (S.2.2.2.2 _ q187) rfl (by rw [S.2.2.1]; exact hl.1) rfl dX2_init_1 (Nat.le_trans (Nat.le_of_ble_eq_true rfl) hF) (Nat.le_trans (Nat.add_le_add_right (lv_room (st := []) (Nat.le_of_ble_eq_true rfl)) 12) (Nat.le_trans (Nat.le_of_ble_eq_true rfl) hL)) ?_
  refine W.eq (g2 := F0 m 4 ls []) rfl ?_
  exact g_vret S Z hr hlocks hw (so1 h) dX2_init_4
def B_X2_at (x0 : Nat) (x1 : Int32) (w : GS) : Option Int32 :=
  bd1 (oI w x0 2 2 1) fun v1 =>
  if v1 ≤ x1 then
    some (0 : Int32)
  else
    bd1 (oRn w x0 2 2 0) fun a3 =>
    bd1 (aIb w a3 x1) fun v4 =>
    some v4
set_option maxRecDepth 100000 in
set_option maxHeartbeats 4000000 in
theorem met_B_X2_at (l : Launch) (E : gE) (A : Nat → Prop) (LC LS : Nat)  (x0 : Nat) (x1 : Int32) (w : GS) (res : Int32) (h : B_X2_at x0 x1 w = some res) : Met l yX2_at (ws_ yX2_at cX2_at 2 (Option.some Jvm.ClassFile.FieldType.int)) (gRoom 0 0 LC LS w) (gPc E A LC LS [.ref x0, .int x1] w) (gQi E A LC LS res w) (LC - gZ w) (LS - gN w) A := by
  refine gMet (by decide) rfl (Nat.le_of_ble_eq_true rfl) ?_
  intro p e s m below meth c R S hr hlocks hin2 X Z hF hL H ls hw hl
  replace hl : lv_has ls 2 [(0, .ref x0), (1, .int x1)] := hl
  unfold B_X2_at at h
  refine lv_iload_n S.1 S.2.1 dX2_at_0 rfl (lv_at hl 1 rfl) ?_
  refine lv_aload_n S.1 S.2.1 dX2_at_1 rfl (lv_at hl 0 rfl) ?_
  refine ggX2_15 S X hw dX2_at_2 h (fun v1 h => ?_)
  refine lv_icmp_ge (tgt := 17) S.1 S.2.1 dX2_at_5 rfl (fun c2 => ?_) (fun c2 => ?_)
  · replace h := if_t c2 h
    refine lv_iconst (v := 0) S.1 S.2.1 dX2_at_17 rfl ?_
    exact g_iret S Z hr hlocks hw ⟨so1 h, rfl⟩ dX2_at_18
  · replace h := if_f c2 h
    refine lv_aload_n S.1 S.2.1 dX2_at_8 rfl (lv_at hl 0 rfl) ?_
    refine ggX2_9 S X hw dX2_at_9 h (fun a3 h => ?_)
    refine lv_iload_n S.1 S.2.1 dX2_at_12 rfl (lv_at hl 1 rfl) ?_
    refine galdb S X hw dX2_at_13 h (fun v4 h => ?_)
    refine lv_goto (tgt := 18) S.1 S.2.1 dX2_at_14 rfl ?_
    exact g_iret S Z hr hlocks hw ⟨so1 h, rfl⟩ dX2_at_18
def B_X2_isLetter (x0 : Int32) : Int32 :=
  if x0 < (97 : Int32) then
    (0 : Int32)
  else
    if (122 : Int32) < x0 then
      (0 : Int32)
    else
      (1 : Int32)
set_option maxRecDepth 100000 in
set_option maxHeartbeats 4000000 in
theorem met_B_X2_isLetter (l : Launch) (E : gE) (A : Nat → Prop) (LC LS : Nat)  (x0 : Int32) (w : GS) (res : Int32) (h : B_X2_isLetter x0 = res) : Met l yX2_isLetter (ws_ yX2_isLetter cX2_isLetter 1 (Option.some Jvm.ClassFile.FieldType.boolean)) (gRoom 0 0 LC LS w) (gPc E A LC LS [.int x0] w) (gQi E A LC LS res w) (LC - gZ w) (LS - gN w) A := by
  refine gMet (by decide) rfl (Nat.le_of_ble_eq_true rfl) ?_
  intro p e s m below meth c R S hr hlocks hin2 X Z hF hL H ls hw hl
  replace hl : lv_has ls 1 [(0, .int x0)] := hl
  unfold B_X2_isLetter at h
  refine lv_iload_n S.1 S.2.1 dX2_isLetter_0 rfl (lv_at hl 0 rfl) ?_
  refine lv_bipush (v := 97) S.1 S.2.1 dX2_isLetter_1 rfl ?_
  refine lv_icmp_lt (tgt := 16) S.1 S.2.1 dX2_isLetter_3 rfl (fun c1 => ?_) (fun c1 => ?_)
  · replace h := if_t c1 h
    refine lv_iconst (v := 0) S.1 S.2.1 dX2_isLetter_16 rfl ?_
    exact g_zret S Z hr hlocks hw rfl ⟨h, rfl⟩ dX2_isLetter_17
  · replace h := if_f c1 h
    refine lv_iload_n S.1 S.2.1 dX2_isLetter_6 rfl (lv_at hl 0 rfl) ?_
    refine lv_bipush (v := 122) S.1 S.2.1 dX2_isLetter_7 rfl ?_
    refine lv_icmp_gt (tgt := 16) S.1 S.2.1 dX2_isLetter_9 rfl (fun c2 => ?_) (fun c2 => ?_)
    · replace h := if_t c2 h
      refine lv_iconst (v := 0) S.1 S.2.1 dX2_isLetter_16 rfl ?_
      exact g_zret S Z hr hlocks hw rfl ⟨h, rfl⟩ dX2_isLetter_17
    · replace h := if_f c2 h
      refine lv_iconst (v := 1) S.1 S.2.1 dX2_isLetter_12 rfl ?_
      refine lv_goto (tgt := 17) S.1 S.2.1 dX2_isLetter_13 rfl ?_
      exact g_zret S Z hr hlocks hw rfl ⟨h, rfl⟩ dX2_isLetter_17
def B_X2_isDigit (x0 : Int32) : Int32 :=
  if x0 < (48 : Int32) then
    (0 : Int32)
  else
    if (57 : Int32) < x0 then
      (0 : Int32)
    else
      (1 : Int32)
set_option maxRecDepth 100000 in
set_option maxHeartbeats 4000000 in
theorem met_B_X2_isDigit (l : Launch) (E : gE) (A : Nat → Prop) (LC LS : Nat)  (x0 : Int32) (w : GS) (res : Int32) (h : B_X2_isDigit x0 = res) : Met l yX2_isDigit (ws_ yX2_isDigit cX2_isDigit 1 (Option.some Jvm.ClassFile.FieldType.boolean)) (gRoom 0 0 LC LS w) (gPc E A LC LS [.int x0] w) (gQi E A LC LS res w) (LC - gZ w) (LS - gN w) A := by
  refine gMet (by decide) rfl (Nat.le_of_ble_eq_true rfl) ?_
  intro p e s m below meth c R S hr hlocks hin2 X Z hF hL H ls hw hl
  replace hl : lv_has ls 1 [(0, .int x0)] := hl
  unfold B_X2_isDigit at h
  refine lv_iload_n S.1 S.2.1 dX2_isDigit_0 rfl (lv_at hl 0 rfl) ?_
  refine lv_bipush (v := 48) S.1 S.2.1 dX2_isDigit_1 rfl ?_
  refine lv_icmp_lt (tgt := 16) S.1 S.2.1 dX2_isDigit_3 rfl (fun c1 => ?_) (fun c1 => ?_)
  · replace h := if_t c1 h
    refine lv_iconst (v := 0) S.1 S.2.1 dX2_isDigit_16 rfl ?_
    exact g_zret S Z hr hlocks hw rfl ⟨h, rfl⟩ dX2_isDigit_17
  · replace h := if_f c1 h
    refine lv_iload_n S.1 S.2.1 dX2_isDigit_6 rfl (lv_at hl 0 rfl) ?_
    refine lv_bipush (v := 57) S.1 S.2.1 dX2_isDigit_7 rfl ?_
    refine lv_icmp_gt (tgt := 16) S.1 S.2.1 dX2_isDigit_9 rfl (fun c2 => ?_) (fun c2 => ?_)
    · replace h := if_t c2 h
      refine lv_iconst (v := 0) S.1 S.2.1 dX2_isDigit_16 rfl ?_
      exact g_zret S Z hr hlocks hw rfl ⟨h, rfl⟩ dX2_isDigit_17
    · replace h := if_f c2 h
      refine lv_iconst (v := 1) S.1 S.2.1 dX2_isDigit_12 rfl ?_
      refine lv_goto (tgt := 17) S.1 S.2.1 dX2_isDigit_13 rfl ?_
      exact g_zret S Z hr hlocks hw rfl ⟨h, rfl⟩ dX2_isDigit_17
theorem cb_X2_34 {R : Room} {s : State} {args : Array Value} {rm : Room} {mc ms : Nat} (hts : ∀ w ∈ lw_all, w.before args s = true) (hc : rm.cells = mc) (hs : rm.slots = ms) (hR : rm.frames + 1 ≤ R.frames ∧ 8 + (2 + 11) + rm.locals ≤ R.locals) : CallW R s args RX2 RX2 34 yX2_at cX2_at 2 (Option.some Jvm.ClassFile.FieldType.int) (ws_ yX2_at cX2_at 2 (Option.some Jvm.ClassFile.FieldType.int)) rm mc ms 1 := cwV 1 hts (lw_V q466 q468 qs2 q136 q469) rfl hc hs (by decide +kernel) hR
theorem cb_X2_38 {R : Room} {s : State} {args : Array Value} {rm : Room} {mc ms : Nat} (hts : ∀ w ∈ lw_all, w.before args s = true) (hc : rm.cells = mc) (hs : rm.slots = ms) (hR : rm.frames + 1 ≤ R.frames ∧ 8 + (1 + 11) + rm.locals ≤ R.locals) : CallB R s args RX2 38 yX2_isLetter cX2_isLetter 1 (Option.some Jvm.ClassFile.FieldType.boolean) (ws_ yX2_isLetter cX2_isLetter 1 (Option.some Jvm.ClassFile.FieldType.boolean)) rm mc ms 1 ∧ (Cond.static yX2_isLetter).before args s = true := va_cwS 1 hts (lw_S q470 q471 q136 q472) rfl hc hs (by decide +kernel) hR
theorem cb_X2_42 {R : Room} {s : State} {args : Array Value} {rm : Room} {mc ms : Nat} (hts : ∀ w ∈ lw_all, w.before args s = true) (hc : rm.cells = mc) (hs : rm.slots = ms) (hR : rm.frames + 1 ≤ R.frames ∧ 8 + (1 + 11) + rm.locals ≤ R.locals) : CallB R s args RX2 42 yX2_isDigit cX2_isDigit 1 (Option.some Jvm.ClassFile.FieldType.boolean) (ws_ yX2_isDigit cX2_isDigit 1 (Option.some Jvm.ClassFile.FieldType.boolean)) rm mc ms 1 ∧ (Cond.static yX2_isDigit).before args s = true := va_cwS 1 hts (lw_S q473 q474 q136 q475) rfl hc hs (by decide +kernel) hR
theorem cb_X2_50 {R : Room} {s : State} {args : Array Value} {rm : Room} {mc ms : Nat} (hts : ∀ w ∈ lw_all, w.before args s = true) (hc : rm.cells = mc) (hs : rm.slots = ms) (hR : rm.frames + 1 ≤ R.frames ∧ 8 + (2 + 11) + rm.locals ≤ R.locals) : CallW R s args RX2 RJ5 50 yJ5_indexOf cJ5_indexOf 2 (Option.some Jvm.ClassFile.FieldType.int) (ws_ yJ5_indexOf cJ5_indexOf 2 (Option.some Jvm.ClassFile.FieldType.int)) rm mc ms 1 := cwV 1 hts (lw_V q477 q478 q479 q145 q480) rfl hc hs (by decide +kernel) hR
def B_X2_next_p283 (x0 : Nat) (t0 : Int32) (t1 : Nat) (w : GS) : Option GS :=
  bd1 (pI w t1 2 2 3 t0) fun w20 =>
  bd1 (oI w20 x0 2 2 2) fun v21 =>
  bd1 (pI w20 x0 2 2 2 (v21 + (1 : Int32))) fun w22 =>
  some w22
def B_X2_next_p219 (k165 : Nat → GS → Option GS) (x0 : Nat) (t0 : Int32) (t1 : Nat) (w : GS) : Option GS :=
  bd1 (pI w t1 2 2 5 t0) fun w36 =>
  bd1 (oI w36 x0 2 2 2) fun v37 =>
  bd1 (pI w36 x0 2 2 2 (v37 + (1 : Int32))) fun w38 =>
  k165 x0 w38
def B_X2_next_p165 : Nat → Nat → GS → Option GS
  | 0, _, _ => none
  | n + 1, x0, w =>
    bd1 (oI w x0 2 2 2) fun v24 =>
    bd1 (oK w x0 2 2) fun _ =>
    bd1 (B_X2_at x0 v24 w) fun r25 =>
    if (B_X2_isDigit r25) = 0 then
      bd1 (oI w x0 2 2 2) fun v27 =>
      bd1 (oI w x0 2 2 4) fun v28 =>
      if (v27 - v28) ≤ (4 : Int32) then
        bd1 (pI w x0 2 2 3 (2 : Int32)) fun w30 =>
        some w30
      else
        bd1 (pI w x0 2 2 3 (4 : Int32)) fun w31 =>
        some w31
    else
      bd1 (oI w x0 2 2 2) fun v32 =>
      bd1 (oI w x0 2 2 4) fun v33 =>
      if (4 : Int32) ≤ (v32 - v33) then
        bd1 (oI w x0 2 2 5) fun v35 =>
        B_X2_next_p219 (B_X2_next_p165 n) x0 v35 x0 w
      else
        bd1 (oI w x0 2 2 5) fun v39 =>
        bd1 (oI w x0 2 2 2) fun v40 =>
        bd1 (oK w x0 2 2) fun _ =>
        bd1 (B_X2_at x0 v40 w) fun r41 =>
        B_X2_next_p219 (B_X2_next_p165 n) x0 ((((10 : Int32) * v39) + r41) - (48 : Int32)) x0 w
def B_X2_next_p93 : Nat → Nat → GS → Option GS
  | 0, _, _ => none
  | n + 1, x0, w =>
    bd1 (oI w x0 2 2 2) fun v42 =>
    bd1 (oK w x0 2 2) fun _ =>
    bd1 (B_X2_at x0 v42 w) fun r43 =>
    if (B_X2_isLetter r43) = 0 then
      bd1 (oI w x0 2 2 2) fun v45 =>
      bd1 (oI w x0 2 2 4) fun v46 =>
      if (v45 - v46) ≤ (8 : Int32) then
        bd1 (pI w x0 2 2 3 (1 : Int32)) fun w48 =>
        some w48
      else
        bd1 (pI w x0 2 2 3 (4 : Int32)) fun w49 =>
        some w49
    else
      bd1 (oI w x0 2 2 2) fun v50 =>
      bd1 (pI w x0 2 2 2 (v50 + (1 : Int32))) fun w51 =>
      (B_X2_next_p93 n) x0 w51
def B_X2_next_p52 (x0 : Nat) (w : GS) : Option GS :=
  bd1 (oI w x0 2 2 2) fun v4 =>
  bd1 (pI w x0 2 2 4 v4) fun w5 =>
  bd1 (oI w5 x0 2 2 2) fun v6 =>
  bd1 (oI w5 x0 2 2 1) fun v7 =>
  if v6 = v7 then
    bd1 (pI w5 x0 2 2 3 (0 : Int32)) fun w52 =>
    some w52
  else
    bd1 (oI w5 x0 2 2 2) fun v9 =>
    bd1 (oK w5 x0 2 2) fun _ =>
    bd1 (B_X2_at x0 v9 w5) fun r10 =>
    if (B_X2_isLetter r10) = 0 then
      bd1 (oI w5 x0 2 2 2) fun v12 =>
      bd1 (oK w5 x0 2 2) fun _ =>
      bd1 (B_X2_at x0 v12 w5) fun r13 =>
      if (B_X2_isDigit r13) = 0 then
        bd1 (gT w5 10) fun a15 =>
        bd1 (oI w5 x0 2 2 2) fun v16 =>
        bd1 (oK w5 x0 2 2) fun _ =>
        bd1 (B_X2_at x0 v16 w5) fun r17 =>
        bd1 (oK w5 a15 30 31) fun _ =>
        bd1 (B_J5_indexOf a15 ((r17.toUInt32 % 65536).toInt32) w5) fun r18 =>
        if r18 < 0 then
          B_X2_next_p283 x0 (4 : Int32) x0 w5
        else
          B_X2_next_p283 x0 (3 : Int32) x0 w5
      else
        bd1 (pI w5 x0 2 2 5 (0 : Int32)) fun w23 =>
        B_X2_next_p165 FU x0 w23
    else
      B_X2_next_p93 FU x0 w5
def B_X2_next_p39 (k0 : Nat → GS → Option GS) (x0 : Nat) (w : GS) : Option GS :=
  bd1 (oI w x0 2 2 2) fun v57 =>
  bd1 (pI w x0 2 2 2 (v57 + (1 : Int32))) fun w58 =>
  k0 x0 w58
def B_X2_next_p0 : Nat → Nat → GS → Option GS
  | 0, _, _ => none
  | n + 1, x0, w =>
    bd1 (oI w x0 2 2 2) fun v1 =>
    bd1 (oI w x0 2 2 1) fun v2 =>
    if v2 ≤ v1 then
      B_X2_next_p52 x0 w
    else
      bd1 (oRn w x0 2 2 0) fun a53 =>
      bd1 (oI w x0 2 2 2) fun v54 =>
      bd1 (aIb w a53 v54) fun v55 =>
      if v55 = (10 : Int32) then
        B_X2_next_p39 (B_X2_next_p0 n) x0 w
      else
        bd1 (oRn w x0 2 2 0) fun a59 =>
        bd1 (oI w x0 2 2 2) fun v60 =>
        bd1 (aIb w a59 v60) fun v61 =>
        if v61 = (32 : Int32) then
          B_X2_next_p39 (B_X2_next_p0 n) x0 w
        else
          B_X2_next_p52 x0 w
def B_X2_next (x0 : Nat) (w : GS) : Option GS :=
  B_X2_next_p0 FU x0 w
set_option maxRecDepth 100000 in
set_option maxHeartbeats 4000000 in
theorem wk_B_X2_next_p283 {p : Program} {l : Launch} {e : Env} {R : Room} {s : State} {m : MethodId} {args : Array Value} {below : List Frame} {meth : Method} {c : Code} {E : gE} {A : Nat → Prop} {LC LS : Nat} (S : CallFix p m c cX2_next 1 s args lw_all RX2) (X : gCtx E A s) (Z : gRm R s LC LS) (hF : 4 ≤ R.frames) (hL : 91 ≤ R.locals) (hr : meth.sig.returnType = (Option.none : Option Jvm.ClassFile.FieldType)) (hlocks : meth.locks = false) {res : GS}  : ∀ (x0 : Nat) (t0 : Int32) (t1 : Nat) (w : GS) (H : Heap) (locs : List Loc) (ls : Array Slot), B_X2_next_p283 x0 t0 t1 w = some res → gH E A LC LS s w H locs → lv_has ls 1 [(0, .ref x0)] → W p l e R s m args below meth c H locs (H.size - s.heap.size) (tot H - tot s.heap) (MQ below (gQv E A LC LS res) args s R.cells R.slots A) (F0 m 283 ls [.int t0, .ref t1]) := by
  intro x0 t0 t1 w H locs ls h hw hl
  unfold B_X2_next_p283 at h
  refine gpX2_31 S X hw dX2_next_283 h (fun w20 H locs h hw => ?_)
  refine lv_aload_n S.1 S.2.1 dX2_next_286 rfl (lv_at hl 0 rfl) ?_
  refine lv_dup S.1 S.2.1 dX2_next_287 rfl ?_
  refine ggX2_19 S X hw dX2_next_288 h (fun v21 h => ?_)
  refine lv_iconst (v := 1) S.1 S.2.1 dX2_next_291 rfl ?_
  refine lv_iadd S.1 S.2.1 dX2_next_292 ?_
  refine gpX2_19 S X hw dX2_next_293 h (fun w22 H locs h hw => ?_)
  exact g_vret S Z hr hlocks hw (so1 h) dX2_next_296
set_option maxRecDepth 100000 in
set_option maxHeartbeats 4000000 in
theorem wk_B_X2_next_p219 {p : Program} {l : Launch} {e : Env} {R : Room} {s : State} {m : MethodId} {args : Array Value} {below : List Frame} {meth : Method} {c : Code} {E : gE} {A : Nat → Prop} {LC LS : Nat} (S : CallFix p m c cX2_next 1 s args lw_all RX2) (X : gCtx E A s) (Z : gRm R s LC LS) (hF : 4 ≤ R.frames) (hL : 91 ≤ R.locals) (hr : meth.sig.returnType = (Option.none : Option Jvm.ClassFile.FieldType)) (hlocks : meth.locks = false) {res : GS}  {k165 : Nat → GS → Option GS} (hk165 : ∀ (x0 : Nat) (w : GS) (H : Heap) (locs : List Loc) (ls : Array Slot), k165 x0 w = some res → gH E A LC LS s w H locs → lv_has ls 1 [(0, .ref x0)] → W p l e R s m args below meth c H locs (H.size - s.heap.size) (tot H - tot s.heap) (MQ below (gQv E A LC LS res) args s R.cells R.slots A) (F0 m 165 ls [])) : ∀ (x0 : Nat) (t0 : Int32) (t1 : Nat) (w : GS) (H : Heap) (locs : List Loc) (ls : Array Slot), B_X2_next_p219 k165 x0 t0 t1 w = some res → gH E A LC LS s w H locs → lv_has ls 1 [(0, .ref x0)] → W p l e R s m args below meth c H locs (H.size - s.heap.size) (tot H - tot s.heap) (MQ below (gQv E A LC LS res) args s R.cells R.slots A) (F0 m 219 ls [.int t0, .ref t1]) := by
  intro x0 t0 t1 w H locs ls h hw hl
  unfold B_X2_next_p219 at h
  refine gpX2_45 S X hw dX2_next_219 h (fun w36 H locs h hw => ?_)
  refine lv_aload_n S.1 S.2.1 dX2_next_222 rfl (lv_at hl 0 rfl) ?_
  refine lv_dup S.1 S.2.1 dX2_next_223 rfl ?_
  refine ggX2_19 S X hw dX2_next_224 h (fun v37 h => ?_)
  refine lv_iconst (v := 1) S.1 S.2.1 dX2_next_227 rfl ?_
  refine lv_iadd S.1 S.2.1 dX2_next_228 ?_
  refine gpX2_19 S X hw dX2_next_229 h (fun w38 H locs h hw => ?_)
  refine lv_goto (tgt := 165) S.1 S.2.1 dX2_next_232 rfl ?_
  exact hk165 _ _ _ _ _ h hw (lv_sub hl [0] rfl)
set_option maxRecDepth 100000 in
set_option maxHeartbeats 4000000 in
theorem wk_B_X2_next_p165 {p : Program} {l : Launch} {e : Env} {R : Room} {s : State} {m : MethodId} {args : Array Value} {below : List Frame} {meth : Method} {c : Code} {E : gE} {A : Nat → Prop} {LC LS : Nat} (S : CallFix p m c cX2_next 1 s args lw_all RX2) (X : gCtx E A s) (Z : gRm R s LC LS) (hF : 4 ≤ R.frames) (hL : 91 ≤ R.locals) (hr : meth.sig.returnType = (Option.none : Option Jvm.ClassFile.FieldType)) (hlocks : meth.locks = false) {res : GS}  : ∀ n : Nat, ∀ (x0 : Nat) (w : GS) (H : Heap) (locs : List Loc) (ls : Array Slot), B_X2_next_p165 n x0 w = some res → gH E A LC LS s w H locs → lv_has ls 1 [(0, .ref x0)] → W p l e R s m args below meth c H locs (H.size - s.heap.size) (tot H - tot s.heap) (MQ below (gQv E A LC LS res) args s R.cells R.slots A) (F0 m 165 ls []) := by
  intro n
  induction n with
  | zero => intro x0 w H locs ls h; cases (show (none : Option GS) = some res from h)
  | succ n ih =>
    intro x0 w H locs ls h hw hl
    rw [B_X2_next_p165] at h
    refine lv_aload_n S.1 S.2.1 dX2_next_165 rfl (lv_at hl 0 rfl) ?_
    refine lv_aload_n S.1 S.2.1 dX2_next_166 rfl (lv_at hl 0 rfl) ?_
    refine ggX2_19 S X hw dX2_next_167 h (fun v24 h => ?_)
    obtain ⟨hrc, h⟩ := oK1 h
    refine gcVri (As := [.int v24]) (rest := []) S X Z hw (b := x0) h (fun u h1 => met_B_X2_at l E A LC LS x0 v24 w u h1) (cb_X2_34 S.2.2.2.2 rfl rfl ⟨Nat.le_trans (Nat.le_of_ble_eq_true rfl : 0 + 1 ≤ 4) hF, Nat.le_trans (Nat.le_of_ble_eq_true rfl : 8 + (2 + 11) + 0 ≤ 91) hL⟩) (g_recv X hw (ci := 1) rfl (gcell_2 hrc)) rfl hl.1 rfl (lv_room (Nat.le_of_ble_eq_true rfl)) dX2_next_170 (fun r25 H locs h hw => ?_)
    refine gcSti (As := [.int r25]) (rest := []) S X Z hw (met_B_X2_isDigit l E A LC LS r25 w _ rfl) (cb_X2_42 S.2.2.2.2 rfl rfl ⟨Nat.le_trans (Nat.le_of_ble_eq_true rfl : 0 + 1 ≤ 4) hF, Nat.le_trans (Nat.le_of_ble_eq_true rfl : 8 + (1 + 11) + 0 ≤ 91) hL⟩) rfl hl.1 rfl (lv_room (Nat.le_of_ble_eq_true rfl)) dX2_next_173 (fun H locs hw => ?_)
    refine lv_if_eq (tgt := 235) S.1 S.2.1 dX2_next_176 rfl (fun c26 => ?_) (fun c26 => ?_)
    · replace h := if_t c26 h
      refine lv_aload_n S.1 S.2.1 dX2_next_235 rfl (lv_at hl 0 rfl) ?_
      refine lv_aload_n S.1 S.2.1 dX2_next_236 rfl (lv_at hl 0 rfl) ?_
      refine ggX2_19 S X hw dX2_next_237 h (fun v27 h => ?_)
      refine lv_aload_n S.1 S.2.1 dX2_next_240 rfl (lv_at hl 0 rfl) ?_
      refine ggX2_28 S X hw dX2_next_241 h (fun v28 h => ?_)
      refine lv_isub S.1 S.2.1 dX2_next_244 ?_
      refine lv_iconst (v := 4) S.1 S.2.1 dX2_next_245 rfl ?_
      refine lv_icmp_le (tgt := 253) S.1 S.2.1 dX2_next_246 rfl (fun c29 => ?_) (fun c29 => ?_)
      · replace h := if_t c29 h
        refine lv_iconst (v := 2) S.1 S.2.1 dX2_next_253 rfl ?_
        refine gpX2_31 S X hw dX2_next_254 h (fun w30 H locs h hw => ?_)
        refine lv_goto (tgt := 296) S.1 S.2.1 dX2_next_257 rfl ?_
        exact g_vret S Z hr hlocks hw (so1 h) dX2_next_296
      · replace h := if_f c29 h
        refine lv_iconst (v := 4) S.1 S.2.1 dX2_next_249 rfl ?_
        refine lv_goto (tgt := 254) S.1 S.2.1 dX2_next_250 rfl ?_
        refine gpX2_31 S X hw dX2_next_254 h (fun w31 H locs h hw => ?_)
        refine lv_goto (tgt := 296) S.1 S.2.1 dX2_next_257 rfl ?_
        exact g_vret S Z hr hlocks hw (so1 h) dX2_next_296
    · replace h := if_f c26 h
      refine lv_aload_n S.1 S.2.1 dX2_next_179 rfl (lv_at hl 0 rfl) ?_
      refine lv_aload_n S.1 S.2.1 dX2_next_180 rfl (lv_at hl 0 rfl) ?_
      refine ggX2_19 S X hw dX2_next_181 h (fun v32 h => ?_)
      refine lv_aload_n S.1 S.2.1 dX2_next_184 rfl (lv_at hl 0 rfl) ?_
      refine ggX2_28 S X hw dX2_next_185 h (fun v33 h => ?_)
      refine lv_isub S.1 S.2.1 dX2_next_188 ?_
      refine lv_iconst (v := 4) S.1 S.2.1 dX2_next_189 rfl ?_
      refine lv_icmp_ge (tgt := 215) S.1 S.2.1 dX2_next_190 rfl (fun c34 => ?_) (fun c34 => ?_)
      · replace h := if_t c34 h
        refine lv_aload_n S.1 S.2.1 dX2_next_215 rfl (lv_at hl 0 rfl) ?_
        refine ggX2_45 S X hw dX2_next_216 h (fun v35 h => ?_)
        exact wk_B_X2_next_p219 S X Z hF hL hr hlocks  ih _ _ _ _ _ _ _ h hw (lv_sub hl [0] rfl)
      · replace h := if_f c34 h
        refine lv_bipush (v := 10) S.1 S.2.1 dX2_next_193 rfl ?_
        refine lv_aload_n S.1 S.2.1 dX2_next_195 rfl (lv_at hl 0 rfl) ?_
        refine ggX2_45 S X hw dX2_next_196 h (fun v39 h => ?_)
        refine lv_imul S.1 S.2.1 dX2_next_199 ?_
        refine lv_aload_n S.1 S.2.1 dX2_next_200 rfl (lv_at hl 0 rfl) ?_
        refine lv_aload_n S.1 S.2.1 dX2_next_201 rfl (lv_at hl 0 rfl) ?_
        refine ggX2_19 S X hw dX2_next_202 h (fun v40 h => ?_)
        obtain ⟨hrc, h⟩ := oK1 h
        refine gcVri (As := [.int v40]) (rest := [.int ((10 : Int32) * v39), .ref x0]) S X Z hw (b := x0) h (fun u h1 => met_B_X2_at l E A LC LS x0 v40 w u h1) (cb_X2_34 S.2.2.2.2 rfl rfl ⟨Nat.le_trans (Nat.le_of_ble_eq_true rfl : 0 + 1 ≤ 4) hF, Nat.le_trans (Nat.le_of_ble_eq_true rfl : 8 + (2 + 11) + 0 ≤ 91) hL⟩) (g_recv X hw (ci := 1) rfl (gcell_2 hrc)) rfl hl.1 rfl (lv_room (Nat.le_of_ble_eq_true rfl)) dX2_next_205 (fun r41 H locs h hw => ?_)
        refine lv_iadd S.1 S.2.1 dX2_next_208 ?_
        refine lv_bipush (v := 48) S.1 S.2.1 dX2_next_209 rfl ?_
        refine lv_isub S.1 S.2.1 dX2_next_211 ?_
        refine lv_goto (tgt := 219) S.1 S.2.1 dX2_next_212 rfl ?_
        exact wk_B_X2_next_p219 S X Z hF hL hr hlocks  ih _ _ _ _ _ _ _ h hw (lv_sub hl [0] rfl)
set_option maxRecDepth 100000 in
set_option maxHeartbeats 4000000 in
theorem wk_B_X2_next_p93 {p : Program} {l : Launch} {e : Env} {R : Room} {s : State} {m : MethodId} {args : Array Value} {below : List Frame} {meth : Method} {c : Code} {E : gE} {A : Nat → Prop} {LC LS : Nat} (S : CallFix p m c cX2_next 1 s args lw_all RX2) (X : gCtx E A s) (Z : gRm R s LC LS) (hF : 4 ≤ R.frames) (hL : 91 ≤ R.locals) (hr : meth.sig.returnType = (Option.none : Option Jvm.ClassFile.FieldType)) (hlocks : meth.locks = false) {res : GS}  : ∀ n : Nat, ∀ (x0 : Nat) (w : GS) (H : Heap) (locs : List Loc) (ls : Array Slot), B_X2_next_p93 n x0 w = some res → gH E A LC LS s w H locs → lv_has ls 1 [(0, .ref x0)] → W p l e R s m args below meth c H locs (H.size - s.heap.size) (tot H - tot s.heap) (MQ below (gQv E A LC LS res) args s R.cells R.slots A) (F0 m 93 ls []) := by
  intro n
  induction n with
  | zero => intro x0 w H locs ls h; cases (show (none : Option GS) = some res from h)
  | succ n ih =>
    intro x0 w H locs ls h hw hl
    rw [B_X2_next_p93] at h
    refine lv_aload_n S.1 S.2.1 dX2_next_93 rfl (lv_at hl 0 rfl) ?_
    refine lv_aload_n S.1 S.2.1 dX2_next_94 rfl (lv_at hl 0 rfl) ?_
    refine ggX2_19 S X hw dX2_next_95 h (fun v42 h => ?_)
    obtain ⟨hrc, h⟩ := oK1 h
    refine gcVri (As := [.int v42]) (rest := []) S X Z hw (b := x0) h (fun u h1 => met_B_X2_at l E A LC LS x0 v42 w u h1) (cb_X2_34 S.2.2.2.2 rfl rfl ⟨Nat.le_trans (Nat.le_of_ble_eq_true rfl : 0 + 1 ≤ 4) hF, Nat.le_trans (Nat.le_of_ble_eq_true rfl : 8 + (2 + 11) + 0 ≤ 91) hL⟩) (g_recv X hw (ci := 1) rfl (gcell_2 hrc)) rfl hl.1 rfl (lv_room (Nat.le_of_ble_eq_true rfl)) dX2_next_98 (fun r43 H locs h hw => ?_)
    refine gcSti (As := [.int r43]) (rest := []) S X Z hw (met_B_X2_isLetter l E A LC LS r43 w _ rfl) (cb_X2_38 S.2.2.2.2 rfl rfl ⟨Nat.le_trans (Nat.le_of_ble_eq_true rfl : 0 + 1 ≤ 4) hF, Nat.le_trans (Nat.le_of_ble_eq_true rfl : 8 + (1 + 11) + 0 ≤ 91) hL⟩) rfl hl.1 rfl (lv_room (Nat.le_of_ble_eq_true rfl)) dX2_next_101 (fun H locs hw => ?_)
    refine lv_if_eq (tgt := 120) S.1 S.2.1 dX2_next_104 rfl (fun c44 => ?_) (fun c44 => ?_)
    · replace h := if_t c44 h
      refine lv_aload_n S.1 S.2.1 dX2_next_120 rfl (lv_at hl 0 rfl) ?_
      refine lv_aload_n S.1 S.2.1 dX2_next_121 rfl (lv_at hl 0 rfl) ?_
      refine ggX2_19 S X hw dX2_next_122 h (fun v45 h => ?_)
      refine lv_aload_n S.1 S.2.1 dX2_next_125 rfl (lv_at hl 0 rfl) ?_
      refine ggX2_28 S X hw dX2_next_126 h (fun v46 h => ?_)
      refine lv_isub S.1 S.2.1 dX2_next_129 ?_
      refine lv_bipush (v := 8) S.1 S.2.1 dX2_next_130 rfl ?_
      refine lv_icmp_le (tgt := 139) S.1 S.2.1 dX2_next_132 rfl (fun c47 => ?_) (fun c47 => ?_)
      · replace h := if_t c47 h
        refine lv_iconst (v := 1) S.1 S.2.1 dX2_next_139 rfl ?_
        refine gpX2_31 S X hw dX2_next_140 h (fun w48 H locs h hw => ?_)
        refine lv_goto (tgt := 296) S.1 S.2.1 dX2_next_143 rfl ?_
        exact g_vret S Z hr hlocks hw (so1 h) dX2_next_296
      · replace h := if_f c47 h
        refine lv_iconst (v := 4) S.1 S.2.1 dX2_next_135 rfl ?_
        refine lv_goto (tgt := 140) S.1 S.2.1 dX2_next_136 rfl ?_
        refine gpX2_31 S X hw dX2_next_140 h (fun w49 H locs h hw => ?_)
        refine lv_goto (tgt := 296) S.1 S.2.1 dX2_next_143 rfl ?_
        exact g_vret S Z hr hlocks hw (so1 h) dX2_next_296
    · replace h := if_f c44 h
      refine lv_aload_n S.1 S.2.1 dX2_next_107 rfl (lv_at hl 0 rfl) ?_
      refine lv_dup S.1 S.2.1 dX2_next_108 rfl ?_
      refine ggX2_19 S X hw dX2_next_109 h (fun v50 h => ?_)
      refine lv_iconst (v := 1) S.1 S.2.1 dX2_next_112 rfl ?_
      refine lv_iadd S.1 S.2.1 dX2_next_113 ?_
      refine gpX2_19 S X hw dX2_next_114 h (fun w51 H locs h hw => ?_)
      refine lv_goto (tgt := 93) S.1 S.2.1 dX2_next_117 rfl ?_
      exact ih _ _ _ _ _ h hw (lv_sub hl [0] rfl)
set_option maxRecDepth 100000 in
set_option maxHeartbeats 4000000 in
theorem wk_B_X2_next_p52 {p : Program} {l : Launch} {e : Env} {R : Room} {s : State} {m : MethodId} {args : Array Value} {below : List Frame} {meth : Method} {c : Code} {E : gE} {A : Nat → Prop} {LC LS : Nat} (S : CallFix p m c cX2_next 1 s args lw_all RX2) (X : gCtx E A s) (Z : gRm R s LC LS) (hF : 4 ≤ R.frames) (hL : 91 ≤ R.locals) (hr : meth.sig.returnType = (Option.none : Option Jvm.ClassFile.FieldType)) (hlocks : meth.locks = false) {res : GS}  : ∀ (x0 : Nat) (w : GS) (H : Heap) (locs : List Loc) (ls : Array Slot), B_X2_next_p52 x0 w = some res → gH E A LC LS s w H locs → lv_has ls 1 [(0, .ref x0)] → W p l e R s m args below meth c H locs (H.size - s.heap.size) (tot H - tot s.heap) (MQ below (gQv E A LC LS res) args s R.cells R.slots A) (F0 m 52 ls []) := by
  intro x0 w H locs ls h hw hl
  unfold B_X2_next_p52 at h
  refine lv_aload_n S.1 S.2.1 dX2_next_52 rfl (lv_at hl 0 rfl) ?_
  refine lv_aload_n S.1 S.2.1 dX2_next_53 rfl (lv_at hl 0 rfl) ?_
  refine ggX2_19 S X hw dX2_next_54 h (fun v4 h => ?_)
  refine gpX2_28 S X hw dX2_next_57 h (fun w5 H locs h hw => ?_)
  refine lv_aload_n S.1 S.2.1 dX2_next_60 rfl (lv_at hl 0 rfl) ?_
  refine ggX2_19 S X hw dX2_next_61 h (fun v6 h => ?_)
  refine lv_aload_n S.1 S.2.1 dX2_next_64 rfl (lv_at hl 0 rfl) ?_
  refine ggX2_15 S X hw dX2_next_65 h (fun v7 h => ?_)
  refine lv_icmp_ne (tgt := 79) S.1 S.2.1 dX2_next_68 rfl (fun c8 => ?_) (fun c8 => ?_)
  · replace h := if_f c8 h
    refine lv_aload_n S.1 S.2.1 dX2_next_79 rfl (lv_at hl 0 rfl) ?_
    refine lv_aload_n S.1 S.2.1 dX2_next_80 rfl (lv_at hl 0 rfl) ?_
    refine ggX2_19 S X hw dX2_next_81 h (fun v9 h => ?_)
    obtain ⟨hrc, h⟩ := oK1 h
    refine gcVri (As := [.int v9]) (rest := []) S X Z hw (b := x0) h (fun u h1 => met_B_X2_at l E A LC LS x0 v9 w5 u h1) (cb_X2_34 S.2.2.2.2 rfl rfl ⟨Nat.le_trans (Nat.le_of_ble_eq_true rfl : 0 + 1 ≤ 4) hF, Nat.le_trans (Nat.le_of_ble_eq_true rfl : 8 + (2 + 11) + 0 ≤ 91) hL⟩) (g_recv X hw (ci := 1) rfl (gcell_2 hrc)) rfl hl.1 rfl (lv_room (Nat.le_of_ble_eq_true rfl)) dX2_next_84 (fun r10 H locs h hw => ?_)
    refine gcSti (As := [.int r10]) (rest := []) S X Z hw (met_B_X2_isLetter l E A LC LS r10 w5 _ rfl) (cb_X2_38 S.2.2.2.2 rfl rfl ⟨Nat.le_trans (Nat.le_of_ble_eq_true rfl : 0 + 1 ≤ 4) hF, Nat.le_trans (Nat.le_of_ble_eq_true rfl : 8 + (1 + 11) + 0 ≤ 91) hL⟩) rfl hl.1 rfl (lv_room (Nat.le_of_ble_eq_true rfl)) dX2_next_87 (fun H locs hw => ?_)
    refine lv_if_eq (tgt := 146) S.1 S.2.1 dX2_next_90 rfl (fun c11 => ?_) (fun c11 => ?_)
    · replace h := if_t c11 h
      refine lv_aload_n S.1 S.2.1 dX2_next_146 rfl (lv_at hl 0 rfl) ?_
      refine lv_aload_n S.1 S.2.1 dX2_next_147 rfl (lv_at hl 0 rfl) ?_
      refine ggX2_19 S X hw dX2_next_148 h (fun v12 h => ?_)
      obtain ⟨hrc, h⟩ := oK1 h
      refine gcVri (As := [.int v12]) (rest := []) S X Z hw (b := x0) h (fun u h1 => met_B_X2_at l E A LC LS x0 v12 w5 u h1) (cb_X2_34 S.2.2.2.2 rfl rfl ⟨Nat.le_trans (Nat.le_of_ble_eq_true rfl : 0 + 1 ≤ 4) hF, Nat.le_trans (Nat.le_of_ble_eq_true rfl : 8 + (2 + 11) + 0 ≤ 91) hL⟩) (g_recv X hw (ci := 1) rfl (gcell_2 hrc)) rfl hl.1 rfl (lv_room (Nat.le_of_ble_eq_true rfl)) dX2_next_151 (fun r13 H locs h hw => ?_)
      refine gcSti (As := [.int r13]) (rest := []) S X Z hw (met_B_X2_isDigit l E A LC LS r13 w5 _ rfl) (cb_X2_42 S.2.2.2.2 rfl rfl ⟨Nat.le_trans (Nat.le_of_ble_eq_true rfl : 0 + 1 ≤ 4) hF, Nat.le_trans (Nat.le_of_ble_eq_true rfl : 8 + (1 + 11) + 0 ≤ 91) hL⟩) rfl hl.1 rfl (lv_room (Nat.le_of_ble_eq_true rfl)) dX2_next_154 (fun H locs hw => ?_)
      refine lv_if_eq (tgt := 260) S.1 S.2.1 dX2_next_157 rfl (fun c14 => ?_) (fun c14 => ?_)
      · replace h := if_t c14 h
        refine lv_aload_n S.1 S.2.1 dX2_next_260 rfl (lv_at hl 0 rfl) ?_
        refine gls0 S X hw dX2_next_261 h (fun a15 h => ?_)
        refine lv_aload_n S.1 S.2.1 dX2_next_263 rfl (lv_at hl 0 rfl) ?_
        refine lv_aload_n S.1 S.2.1 dX2_next_264 rfl (lv_at hl 0 rfl) ?_
        refine ggX2_19 S X hw dX2_next_265 h (fun v16 h => ?_)
        obtain ⟨hrc, h⟩ := oK1 h
        refine gcVri (As := [.int v16]) (rest := [.ref a15, .ref x0]) S X Z hw (b := x0) h (fun u h1 => met_B_X2_at l E A LC LS x0 v16 w5 u h1) (cb_X2_34 S.2.2.2.2 rfl rfl ⟨Nat.le_trans (Nat.le_of_ble_eq_true rfl : 0 + 1 ≤ 4) hF, Nat.le_trans (Nat.le_of_ble_eq_true rfl : 8 + (2 + 11) + 0 ≤ 91) hL⟩) (g_recv X hw (ci := 1) rfl (gcell_2 hrc)) rfl hl.1 rfl (lv_room (Nat.le_of_ble_eq_true rfl)) dX2_next_268 (fun r17 H locs h hw => ?_)
        refine lv_i2c S.1 S.2.1 dX2_next_271 rfl ?_
        obtain ⟨hrc, h⟩ := oKS h
        refine gcVri (As := [.int ((r17.toUInt32 % 65536).toInt32)]) (rest := [.ref x0]) S X Z hw (b := a15) h (fun u h1 => met_B_J5_indexOf l E A LC LS a15 ((r17.toUInt32 % 65536).toInt32) w5 u h1) (cb_X2_50 S.2.2.2.2 rfl rfl ⟨Nat.le_trans (Nat.le_of_ble_eq_true rfl : 3 + 1 ≤ 4) hF, Nat.le_trans (Nat.le_of_ble_eq_true rfl : 8 + (2 + 11) + 70 ≤ 91) hL⟩) (g_recvS X hw hrc) rfl hl.1 rfl (lv_room (Nat.le_of_ble_eq_true rfl)) dX2_next_272 (fun r18 H locs h hw => ?_)
        refine lv_if_lt (tgt := 282) S.1 S.2.1 dX2_next_275 rfl (fun c19 => ?_) (fun c19 => ?_)
        · replace h := if_t c19 h
          refine lv_iconst (v := 4) S.1 S.2.1 dX2_next_282 rfl ?_
          exact wk_B_X2_next_p283 S X Z hF hL hr hlocks  _ _ _ _ _ _ _ h hw (lv_sub hl [0] rfl)
        · replace h := if_f c19 h
          refine lv_iconst (v := 3) S.1 S.2.1 dX2_next_278 rfl ?_
          refine lv_goto (tgt := 283) S.1 S.2.1 dX2_next_279 rfl ?_
          exact wk_B_X2_next_p283 S X Z hF hL hr hlocks  _ _ _ _ _ _ _ h hw (lv_sub hl [0] rfl)
      · replace h := if_f c14 h
        refine lv_aload_n S.1 S.2.1 dX2_next_160 rfl (lv_at hl 0 rfl) ?_
        refine lv_iconst (v := 0) S.1 S.2.1 dX2_next_161 rfl ?_
        refine gpX2_45 S X hw dX2_next_162 h (fun w23 H locs h hw => ?_)
        exact wk_B_X2_next_p165 S X Z hF hL hr hlocks  FU _ _ _ _ _ h hw (lv_sub hl [0] rfl)
    · replace h := if_f c11 h
      exact wk_B_X2_next_p93 S X Z hF hL hr hlocks  FU _ _ _ _ _ h hw (lv_sub hl [0] rfl)
  · replace h := if_t c8 h
    refine lv_aload_n S.1 S.2.1 dX2_next_71 rfl (lv_at hl 0 rfl) ?_
    refine lv_iconst (v := 0) S.1 S.2.1 dX2_next_72 rfl ?_
    refine gpX2_31 S X hw dX2_next_73 h (fun w52 H locs h hw => ?_)
    refine lv_goto (tgt := 296) S.1 S.2.1 dX2_next_76 rfl ?_
    exact g_vret S Z hr hlocks hw (so1 h) dX2_next_296
set_option maxRecDepth 100000 in
set_option maxHeartbeats 4000000 in
theorem wk_B_X2_next_p39 {p : Program} {l : Launch} {e : Env} {R : Room} {s : State} {m : MethodId} {args : Array Value} {below : List Frame} {meth : Method} {c : Code} {E : gE} {A : Nat → Prop} {LC LS : Nat} (S : CallFix p m c cX2_next 1 s args lw_all RX2) (X : gCtx E A s) (Z : gRm R s LC LS) (hF : 4 ≤ R.frames) (hL : 91 ≤ R.locals) (hr : meth.sig.returnType = (Option.none : Option Jvm.ClassFile.FieldType)) (hlocks : meth.locks = false) {res : GS}  {k0 : Nat → GS → Option GS} (hk0 : ∀ (x0 : Nat) (w : GS) (H : Heap) (locs : List Loc) (ls : Array Slot), k0 x0 w = some res → gH E A LC LS s w H locs → lv_has ls 1 [(0, .ref x0)] → W p l e R s m args below meth c H locs (H.size - s.heap.size) (tot H - tot s.heap) (MQ below (gQv E A LC LS res) args s R.cells R.slots A) (F0 m 0 ls [])) : ∀ (x0 : Nat) (w : GS) (H : Heap) (locs : List Loc) (ls : Array Slot), B_X2_next_p39 k0 x0 w = some res → gH E A LC LS s w H locs → lv_has ls 1 [(0, .ref x0)] → W p l e R s m args below meth c H locs (H.size - s.heap.size) (tot H - tot s.heap) (MQ below (gQv E A LC LS res) args s R.cells R.slots A) (F0 m 39 ls []) := by
  intro x0 w H locs ls h hw hl
  unfold B_X2_next_p39 at h
  refine lv_aload_n S.1 S.2.1 dX2_next_39 rfl (lv_at hl 0 rfl) ?_
  refine lv_dup S.1 S.2.1 dX2_next_40 rfl ?_
  refine ggX2_19 S X hw dX2_next_41 h (fun v57 h => ?_)
  refine lv_iconst (v := 1) S.1 S.2.1 dX2_next_44 rfl ?_
  refine lv_iadd S.1 S.2.1 dX2_next_45 ?_
  refine gpX2_19 S X hw dX2_next_46 h (fun w58 H locs h hw => ?_)
  refine lv_goto (tgt := 0) S.1 S.2.1 dX2_next_49 rfl ?_
  exact hk0 _ _ _ _ _ h hw (lv_sub hl [0] rfl)
set_option maxRecDepth 100000 in
set_option maxHeartbeats 4000000 in
theorem wk_B_X2_next_p0 {p : Program} {l : Launch} {e : Env} {R : Room} {s : State} {m : MethodId} {args : Array Value} {below : List Frame} {meth : Method} {c : Code} {E : gE} {A : Nat → Prop} {LC LS : Nat} (S : CallFix p m c cX2_next 1 s args lw_all RX2) (X : gCtx E A s) (Z : gRm R s LC LS) (hF : 4 ≤ R.frames) (hL : 91 ≤ R.locals) (hr : meth.sig.returnType = (Option.none : Option Jvm.ClassFile.FieldType)) (hlocks : meth.locks = false) {res : GS}  : ∀ n : Nat, ∀ (x0 : Nat) (w : GS) (H : Heap) (locs : List Loc) (ls : Array Slot), B_X2_next_p0 n x0 w = some res → gH E A LC LS s w H locs → lv_has ls 1 [(0, .ref x0)] → W p l e R s m args below meth c H locs (H.size - s.heap.size) (tot H - tot s.heap) (MQ below (gQv E A LC LS res) args s R.cells R.slots A) (F0 m 0 ls []) := by
  intro n
  induction n with
  | zero => intro x0 w H locs ls h; cases (show (none : Option GS) = some res from h)
  | succ n ih =>
    intro x0 w H locs ls h hw hl
    rw [B_X2_next_p0] at h
    refine lv_aload_n S.1 S.2.1 dX2_next_0 rfl (lv_at hl 0 rfl) ?_
    refine ggX2_19 S X hw dX2_next_1 h (fun v1 h => ?_)
    refine lv_aload_n S.1 S.2.1 dX2_next_4 rfl (lv_at hl 0 rfl) ?_
    refine ggX2_15 S X hw dX2_next_5 h (fun v2 h => ?_)
    refine lv_icmp_ge (tgt := 52) S.1 S.2.1 dX2_next_8 rfl (fun c3 => ?_) (fun c3 => ?_)
    · replace h := if_t c3 h
      exact wk_B_X2_next_p52 S X Z hF hL hr hlocks  _ _ _ _ _ h hw (lv_sub hl [0] rfl)
    · replace h := if_f c3 h
      refine lv_aload_n S.1 S.2.1 dX2_next_11 rfl (lv_at hl 0 rfl) ?_
      refine ggX2_9 S X hw dX2_next_12 h (fun a53 h => ?_)
      refine lv_aload_n S.1 S.2.1 dX2_next_15 rfl (lv_at hl 0 rfl) ?_
      refine ggX2_19 S X hw dX2_next_16 h (fun v54 h => ?_)
      refine galdb S X hw dX2_next_19 h (fun v55 h => ?_)
      refine lv_bipush (v := 10) S.1 S.2.1 dX2_next_20 rfl ?_
      refine lv_icmp_eq (tgt := 39) S.1 S.2.1 dX2_next_22 rfl (fun c56 => ?_) (fun c56 => ?_)
      · replace h := if_t c56 h
        exact wk_B_X2_next_p39 S X Z hF hL hr hlocks  ih _ _ _ _ _ h hw (lv_sub hl [0] rfl)
      · replace h := if_f c56 h
        refine lv_aload_n S.1 S.2.1 dX2_next_25 rfl (lv_at hl 0 rfl) ?_
        refine ggX2_9 S X hw dX2_next_26 h (fun a59 h => ?_)
        refine lv_aload_n S.1 S.2.1 dX2_next_29 rfl (lv_at hl 0 rfl) ?_
        refine ggX2_19 S X hw dX2_next_30 h (fun v60 h => ?_)
        refine galdb S X hw dX2_next_33 h (fun v61 h => ?_)
        refine lv_bipush (v := 32) S.1 S.2.1 dX2_next_34 rfl ?_
        refine lv_icmp_ne (tgt := 52) S.1 S.2.1 dX2_next_36 rfl (fun c62 => ?_) (fun c62 => ?_)
        · replace h := if_f c62 h
          exact wk_B_X2_next_p52 S X Z hF hL hr hlocks  _ _ _ _ _ h hw (lv_sub hl [0] rfl)
        · replace h := if_t c62 h
          exact wk_B_X2_next_p39 S X Z hF hL hr hlocks  ih _ _ _ _ _ h hw (lv_sub hl [0] rfl)
set_option maxRecDepth 100000 in
set_option maxHeartbeats 4000000 in
theorem met_B_X2_next (l : Launch) (E : gE) (A : Nat → Prop) (LC LS : Nat)  (x0 : Nat) (w : GS) (res : GS) (h : B_X2_next x0 w = some res) : Met l yX2_next (ws_ yX2_next cX2_next 1 (Option.none : Option Jvm.ClassFile.FieldType)) (gRoom 4 91 LC LS w) (gPc E A LC LS [.ref x0] w) (gQv E A LC LS res) (LC - gZ w) (LS - gN w) A := by
  refine gMet (by decide) rfl (Nat.le_of_ble_eq_true rfl) ?_
  intro p e s m below meth c R S hr hlocks hin2 X Z hF hL H ls hw hl
  replace hl : lv_has ls 1 [(0, .ref x0)] := hl
  unfold B_X2_next at h
  exact wk_B_X2_next_p0 S X Z hF hL hr hlocks  FU _ _ _ _ _ h hw (lv_sub hl [0] rfl)
