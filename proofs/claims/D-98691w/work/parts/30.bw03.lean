/-! walks over the plain heap, printed by gen/bgen.py -/
set_option maxRecDepth 100000
theorem cb_J5_489 {R : Room} {s : State} {args : Array Value} {rm : Room} {mc ms : Nat} (hts : ∀ w ∈ lw_all, w.before args s = true) (hc : rm.cells = mc) (hs : rm.slots = ms) (hR : rm.frames + 1 ≤ R.frames ∧ 8 + (5 + 11) + rm.locals ≤ R.locals) : CallB R s args RJ5 489 yJ5_init_2 cJ5_init_2 5 none (ws_ yJ5_init_2 cJ5_init_2 5 (Option.none : Option Jvm.ClassFile.FieldType)) rm mc ms 2 ∧ yJ5_init_2.name = "<init>" ∧ (Cond.instanceMethod yJ5_init_2).before args s = true := cwI 2 hts (lw_meth q793) rfl hc hs (hts _ q145) (hts _ q791) (hts _ q792) rfl (by decide +kernel) hR
def B_J5_init (x0 : Nat) (x1 : Nat) (w : GS) : Option GS :=
  bd1 (B_J5_init_2N x0 x1 w) fun w1 =>
  some w1
set_option maxRecDepth 100000 in
set_option maxHeartbeats 4000000 in
theorem met_B_J5_init (l : Launch) (E : gE) (A : Nat → Prop) (LC LS : Nat)  (x0 : Nat) (x1 : Nat) (w : GS) (res : GS) (h : B_J5_init x0 x1 w = some res) : Met l yJ5_init (ws_ yJ5_init cJ5_init 2 (Option.none : Option Jvm.ClassFile.FieldType)) (gRoom 4 110 LC LS w) (gPc E A LC LS [.ref x0, .ref x1] w) (gQv E A LC LS res) (LC - gZ w) (LS - gN w) A := by
  refine gMet (by decide) rfl (Nat.le_of_ble_eq_true rfl) ?_
  intro p e s m below meth c R S hr hlocks hin2 X Z hF hL H ls hw hl
  replace hl : lv_has ls 2 [(0, .ref x0), (1, .ref x1)] := hl
  unfold B_J5_init at h
  replace hin2 : meth.name = "<init>" := hin2
  refine lv_aload_n S.1 S.2.1 dJ5_init_0 rfl (lv_at hl 0 rfl) ?_
  refine lv_aload_n S.1 S.2.1 dJ5_init_1 rfl (lv_at hl 1 rfl) ?_
  refine lv_null S.1 S.2.1 dJ5_init_2 ?_
  refine gcIv (As := [.ref x1, .null]) (rest := []) S X Z hw (b := x0) h (fun u h1 => met_B_J5_init_2N l E A LC LS x0 x1 w u h1) (cb_J5_489 S.2.2.2.2 rfl rfl ⟨Nat.le_trans (Nat.le_of_ble_eq_true rfl : 3 + 1 ≤ 4) hF, Nat.le_trans (Nat.le_of_ble_eq_true rfl : 8 + (5 + 11) + 86 ≤ 110) hL⟩) rfl hl.1 rfl (lv_room (Nat.le_of_ble_eq_true rfl)) dJ5_init_3 (fun w1 H locs h hw => ?_)
  exact g_vret S Z hr hlocks hw (so1 h) dJ5_init_6
theorem cb_J14_137 {R : Room} {s : State} {args : Array Value} {rm : Room} {mc ms : Nat} (hts : ∀ w ∈ lw_all, w.before args s = true) (hc : rm.cells = mc) (hs : rm.slots = ms) (hR : rm.frames + 1 ≤ R.frames ∧ 8 + (2 + 11) + rm.locals ≤ R.locals) : CallB R s args RJ14 137 yJ5_init cJ5_init 2 none (ws_ yJ5_init cJ5_init 2 (Option.none : Option Jvm.ClassFile.FieldType)) rm mc ms 1 ∧ yJ5_init.name = "<init>" ∧ (Cond.instanceMethod yJ5_init).before args s = true := cwI 1 hts (lw_meth q790) rfl hc hs (hts _ q145) (hts _ q788) (hts _ q789) rfl (by decide +kernel) hR
def B_J14_toString (x0 : Nat) (w : GS) : Option (Nat × GS) :=
  bd1 (onw w 30 0 4) fun w1 =>
  bd1 (B_J5_init (gZ w) x0 w1) fun w2 =>
  some (gZ w, w2)
set_option maxRecDepth 100000 in
set_option maxHeartbeats 4000000 in
theorem met_B_J14_toString (l : Launch) (E : gE) (A : Nat → Prop) (LC LS : Nat)  (x0 : Nat) (w : GS) (res : Nat × GS) (h : B_J14_toString x0 w = some res) : Met l yJ14_toString (ws_ yJ14_toString cJ14_toString 1 (Option.some (Jvm.ClassFile.FieldType.object "java/lang/String"))) (gRoom 5 131 LC LS w) (gPc E A LC LS [.ref x0] w) (gQr E A LC LS res.1 res.2) (LC - gZ w) (LS - gN w) A := by
  refine gMet (by decide) rfl (Nat.le_of_ble_eq_true rfl) ?_
  intro p e s m below meth c R S hr hlocks hin2 X Z hF hL H ls hw hl
  replace hl : lv_has ls 1 [(0, .ref x0)] := hl
  unfold B_J14_toString at h
  refine gnJ14_18 S X Z hw dJ14_toString_0 h (fun w1 H h hw => ?_)
  refine lv_dup S.1 S.2.1 dJ14_toString_3 rfl ?_
  refine lv_aload_n S.1 S.2.1 dJ14_toString_4 rfl (lv_at hl 0 rfl) ?_
  refine gcIv (As := [.ref x0]) (rest := [.ref (gZ w)]) S X Z hw (b := (gZ w)) h (fun u h1 => met_B_J5_init l E A LC LS (gZ w) x0 w1 u h1) (cb_J14_137 S.2.2.2.2 rfl rfl ⟨Nat.le_trans (Nat.le_of_ble_eq_true rfl : 4 + 1 ≤ 5) hF, Nat.le_trans (Nat.le_of_ble_eq_true rfl : 8 + (2 + 11) + 110 ≤ 131) hL⟩) rfl hl.1 rfl (lv_room (Nat.le_of_ble_eq_true rfl)) dJ14_toString_5 (fun w2 H locs h hw => ?_)
  exact g_aret S Z hr (Or.inl ⟨_, rfl⟩) hlocks hw (so2 h) dJ14_toString_8
theorem cb_X2_87 {R : Room} {s : State} {args : Array Value} {rm : Room} {mc ms : Nat} (hts : ∀ w ∈ lw_all, w.before args s = true) (hc : rm.cells = mc) (hs : rm.slots = ms) (hR : rm.frames + 1 ≤ R.frames ∧ 8 + (2 + 11) + rm.locals ≤ R.locals) : CallB R s args RX2 87 yJ14_init cJ14_init 2 none (ws_ yJ14_init cJ14_init 2 (Option.none : Option Jvm.ClassFile.FieldType)) rm mc ms 1 ∧ yJ14_init.name = "<init>" ∧ (Cond.instanceMethod yJ14_init).before args s = true := cwI 1 hts (lw_meth q685) rfl hc hs (hts _ q155) (hts _ q683) (hts _ q684) rfl (by decide +kernel) hR
theorem cb_X2_94 {R : Room} {s : State} {args : Array Value} {rm : Room} {mc ms : Nat} (hts : ∀ w ∈ lw_all, w.before args s = true) (hc : rm.cells = mc) (hs : rm.slots = ms) (hR : rm.frames + 1 ≤ R.frames ∧ 8 + (1 + 11) + rm.locals ≤ R.locals) : CallW R s args RX2 RJ14 94 yJ14_toString cJ14_toString 1 (Option.some (Jvm.ClassFile.FieldType.object "java/lang/String")) (ws_ yJ14_toString cJ14_toString 1 (Option.some (Jvm.ClassFile.FieldType.object "java/lang/String"))) rm mc ms 0 := cwV 0 hts (lw_V q782 q783 q784 q155 q785) rfl hc hs (by decide +kernel) hR
theorem cb_X2_90 {R : Room} {s : State} {args : Array Value} {rm : Room} {mc ms : Nat} (hts : ∀ w ∈ lw_all, w.before args s = true) (hc : rm.cells = mc) (hs : rm.slots = ms) (hR : rm.frames + 1 ≤ R.frames ∧ 8 + (2 + 11) + rm.locals ≤ R.locals) : CallW R s args RX2 RJ14 90 yJ14_append cJ14_append 2 (Option.some (Jvm.ClassFile.FieldType.object "java/lang/StringBuilder")) (ws_ yJ14_append cJ14_append 2 (Option.some (Jvm.ClassFile.FieldType.object "java/lang/StringBuilder"))) rm mc ms 1 := cwV 1 hts (lw_V q711 q712 q713 q155 q714) rfl hc hs (by decide +kernel) hR
def B_X2_name_p17 (x0 : Nat) (w : GS) : Option ((Nat ⊕ Nat) × GS) :=
  bd1 (oK w x0 2 2) fun _ =>
  bd2 (B_X2_wrong x0 (1 : Int32) w) fun a4 w3 =>
  bd1 (oK w3 a4 6 6) fun _ => some (.inr a4, w3)
def B_X2_name_p38 : Nat → Nat → Nat → Int32 → GS → Option ((Nat ⊕ Nat) × GS)
  | 0, _, _, _, _ => none
  | n + 1, x0, x1, x2, w =>
    bd1 (oI w x0 2 2 2) fun v12 =>
    if v12 ≤ x2 then
      bd1 (oK w x1 26 26) fun _ =>
      bd2 (B_J14_toString x1 w) fun a15 w14 =>
      some (.inl a15, w14)
    else
      bd1 (oRn w x0 2 2 0) fun a16 =>
      bd1 (aIb w a16 x2) fun v17 =>
      bd1 (oK w x1 26 26) fun _ =>
      bd2 (B_J14_append x1 ((v17.toUInt32 % 65536).toInt32) w) fun a19 w18 =>
      (B_X2_name_p38 n) x0 x1 (x2 + (1 : Int32)) w18
def B_X2_name (x0 : Nat) (w : GS) : Option ((Nat ⊕ Nat) × GS) :=
  bd1 (oI w x0 2 2 3) fun v1 =>
  if v1 = (1 : Int32) then
    bd1 (gT w 11) fun a5 =>
    bd1 (oK w x0 2 2) fun _ =>
    bd2 (B_X2_which x0 a5 w) fun r7 w6 =>
    if r7 < 0 then
      bd1 (onw w6 26 0 4) fun w9 =>
      bd1 (B_J14_init (gZ w6) (8 : Int32) w9) fun w10 =>
      bd1 (oI w10 x0 2 2 4) fun v11 =>
      B_X2_name_p38 FU x0 (gZ w6) v11 w10
    else
      B_X2_name_p17 x0 w6
  else
    B_X2_name_p17 x0 w
set_option maxRecDepth 100000 in
set_option maxHeartbeats 4000000 in
theorem wk_B_X2_name_p17 {p : Program} {l : Launch} {e : Env} {R : Room} {s : State} {m : MethodId} {args : Array Value} {below : List Frame} {meth : Method} {c : Code} {E : gE} {A : Nat → Prop} {LC LS : Nat} (S : CallFix p m c cX2_name 3 s args lw_all RX2) (X : gCtx E A s) (Z : gRm R s LC LS) (hF : 6 ≤ R.frames) (hL : 151 ≤ R.locals) (hr : meth.sig.returnType = (Option.some (Jvm.ClassFile.FieldType.object "java/lang/String"))) (hlocks : meth.locks = false) (hno : ∀ x ∈ c.exceptionTable.toList, False) {res : (Nat ⊕ Nat) × GS}  : ∀ (x0 : Nat) (w : GS) (H : Heap) (locs : List Loc) (ls : Array Slot), B_X2_name_p17 x0 w = some res → gH E A LC LS s w H locs → lv_has ls 3 [(0, .ref x0)] → W p l e R s m args below meth c H locs (H.size - s.heap.size) (tot H - tot s.heap) (vx_MQ below (gXr E A LC LS res) (gXX E A LC LS res) args s R.cells R.slots A) (F0 m 17 ls []) := by
  intro x0 w H locs ls h hw hl
  unfold B_X2_name_p17 at h
  refine lv_aload_n S.1 S.2.1 dX2_name_17 rfl (lv_at hl 0 rfl) ?_
  refine lv_iconst (v := 1) S.1 S.2.1 dX2_name_18 rfl ?_
  obtain ⟨hrc, h⟩ := oK1 h
  refine gcVr (As := [.int (1 : Int32)]) (rest := []) S X Z hw (b := x0) h (fun u h1 => met_B_X2_wrong l E A LC LS x0 (1 : Int32) w u h1) (cb_X2_75 S.2.2.2.2 rfl rfl ⟨Nat.le_trans (Nat.le_of_ble_eq_true rfl : 5 + 1 ≤ 6) hF, Nat.le_trans (Nat.le_of_ble_eq_true rfl : 8 + (2 + 11) + 114 ≤ 151) hL⟩) (g_recv X hw (ci := 1) rfl (gcell_2 hrc)) rfl hl.1 rfl (lv_room (Nat.le_of_ble_eq_true rfl)) dX2_name_19 (fun a4 w3 H locs h hw => ?_)
  exact x_throw S X hno hlocks Z hw dX2_name_22 h
set_option maxRecDepth 100000 in
set_option maxHeartbeats 4000000 in
theorem wk_B_X2_name_p38 {p : Program} {l : Launch} {e : Env} {R : Room} {s : State} {m : MethodId} {args : Array Value} {below : List Frame} {meth : Method} {c : Code} {E : gE} {A : Nat → Prop} {LC LS : Nat} (S : CallFix p m c cX2_name 3 s args lw_all RX2) (X : gCtx E A s) (Z : gRm R s LC LS) (hF : 6 ≤ R.frames) (hL : 151 ≤ R.locals) (hr : meth.sig.returnType = (Option.some (Jvm.ClassFile.FieldType.object "java/lang/String"))) (hlocks : meth.locks = false) (hno : ∀ x ∈ c.exceptionTable.toList, False) {res : (Nat ⊕ Nat) × GS}  : ∀ n : Nat, ∀ (x0 : Nat) (x1 : Nat) (x2 : Int32) (w : GS) (H : Heap) (locs : List Loc) (ls : Array Slot), B_X2_name_p38 n x0 x1 x2 w = some res → gH E A LC LS s w H locs → lv_has ls 3 [(0, .ref x0), (1, .ref x1), (2, .int x2)] → W p l e R s m args below meth c H locs (H.size - s.heap.size) (tot H - tot s.heap) (vx_MQ below (gXr E A LC LS res) (gXX E A LC LS res) args s R.cells R.slots A) (F0 m 38 ls []) := by
  intro n
  induction n with
  | zero => intro x0 x1 x2 w H locs ls h; cases (show (none : Option ((Nat ⊕ Nat) × GS)) = some res from h)
  | succ n ih =>
    intro x0 x1 x2 w H locs ls h hw hl
    rw [B_X2_name_p38] at h
    refine lv_iload_n S.1 S.2.1 dX2_name_38 rfl (lv_at hl 2 rfl) ?_
    refine lv_aload_n S.1 S.2.1 dX2_name_39 rfl (lv_at hl 0 rfl) ?_
    refine ggX2_19 S X hw dX2_name_40 h (fun v12 h => ?_)
    refine lv_icmp_ge (tgt := 64) S.1 S.2.1 dX2_name_43 rfl (fun c13 => ?_) (fun c13 => ?_)
    · replace h := if_t c13 h
      refine lv_aload_n S.1 S.2.1 dX2_name_64 rfl (lv_at hl 1 rfl) ?_
      obtain ⟨hrc, h⟩ := oK1 h
      refine gcVr (As := []) (rest := []) S X Z hw (b := x1) h (fun u h1 => met_B_J14_toString l E A LC LS x1 w u h1) (cb_X2_94 S.2.2.2.2 rfl rfl ⟨Nat.le_trans (Nat.le_of_ble_eq_true rfl : 5 + 1 ≤ 6) hF, Nat.le_trans (Nat.le_of_ble_eq_true rfl : 8 + (1 + 11) + 131 ≤ 151) hL⟩) (g_recv X hw (ci := 25) rfl (gcell_26 hrc)) rfl hl.1 rfl (lv_room (Nat.le_of_ble_eq_true rfl)) dX2_name_65 (fun a15 w14 H locs h hw => ?_)
      exact x_aret S Z hr (Or.inl ⟨_, rfl⟩) hlocks hw (so1 h) dX2_name_68
    · replace h := if_f c13 h
      refine lv_aload_n S.1 S.2.1 dX2_name_46 rfl (lv_at hl 1 rfl) ?_
      refine lv_aload_n S.1 S.2.1 dX2_name_47 rfl (lv_at hl 0 rfl) ?_
      refine ggX2_9 S X hw dX2_name_48 h (fun a16 h => ?_)
      refine lv_iload_n S.1 S.2.1 dX2_name_51 rfl (lv_at hl 2 rfl) ?_
      refine galdb S X hw dX2_name_52 h (fun v17 h => ?_)
      refine lv_i2c S.1 S.2.1 dX2_name_53 rfl ?_
      obtain ⟨hrc, h⟩ := oK1 h
      refine gcVr (As := [.int ((v17.toUInt32 % 65536).toInt32)]) (rest := []) S X Z hw (b := x1) h (fun u h1 => met_B_J14_append l E A LC LS x1 ((v17.toUInt32 % 65536).toInt32) w u h1) (cb_X2_90 S.2.2.2.2 rfl rfl ⟨Nat.le_trans (Nat.le_of_ble_eq_true rfl : 2 + 1 ≤ 6) hF, Nat.le_trans (Nat.le_of_ble_eq_true rfl : 8 + (2 + 11) + 43 ≤ 151) hL⟩) (g_recv X hw (ci := 25) rfl (gcell_26 hrc)) rfl hl.1 rfl (lv_room (Nat.le_of_ble_eq_true rfl)) dX2_name_54 (fun a19 w18 H locs h hw => ?_)
      refine lv_pop S.1 S.2.1 dX2_name_57 rfl ?_
      refine lv_iinc (v := x2 + (1 : Int32)) (lv' := [(2, .int (x2 + (1 : Int32))), (0, .ref x0), (1, .ref x1)]) S.1 S.2.1 dX2_name_58 hl (k := 2) rfl rfl (by decide) rfl (fun ls hl => ?_)
      refine lv_goto (tgt := 38) S.1 S.2.1 dX2_name_61 rfl ?_
      exact ih _ _ _ _ _ _ _ h hw (lv_sub hl [1, 2, 0] rfl)
set_option maxRecDepth 100000 in
set_option maxHeartbeats 4000000 in
theorem met_B_X2_name (l : Launch) (E : gE) (A : Nat → Prop) (LC LS : Nat)  (x0 : Nat) (w : GS) (res : (Nat ⊕ Nat) × GS) (h : B_X2_name x0 w = some res) : vx_Met l yX2_name (ws_ yX2_name cX2_name 3 (Option.some (Jvm.ClassFile.FieldType.object "java/lang/String"))) (gRoom 6 151 LC LS w) (gPc E A LC LS [.ref x0] w) (gXr E A LC LS res) (gXX E A LC LS res) (LC - gZ w) (LS - gN w) A := by
  refine gMetx (by decide) rfl (Nat.le_of_ble_eq_true rfl) ?_
  intro p e s m below meth c R S hr hlocks hno X Z hF hL H ls hw hl
  replace hl : lv_has ls 3 [(0, .ref x0)] := hl
  unfold B_X2_name at h
  refine lv_aload_n S.1 S.2.1 dX2_name_0 rfl (lv_at hl 0 rfl) ?_
  refine ggX2_31 S X hw dX2_name_1 h (fun v1 h => ?_)
  refine lv_iconst (v := 1) S.1 S.2.1 dX2_name_4 rfl ?_
  refine lv_icmp_ne (tgt := 17) S.1 S.2.1 dX2_name_5 rfl (fun c2 => ?_) (fun c2 => ?_)
  · replace h := if_f c2 h
    exact wk_B_X2_name_p17 S X Z hF hL hr hlocks hno _ _ _ _ _ h hw (lv_sub hl [0] rfl)
  · replace h := if_t c2 h
    refine lv_aload_n S.1 S.2.1 dX2_name_8 rfl (lv_at hl 0 rfl) ?_
    refine gls1 S X hw dX2_name_9 h (fun a5 h => ?_)
    obtain ⟨hrc, h⟩ := oK1 h
    refine gcVi (As := [.ref a5]) (rest := []) S X Z hw (b := x0) h (fun u h1 => met_B_X2_which l E A LC LS x0 a5 w u h1) (cb_X2_71 S.2.2.2.2 rfl rfl ⟨Nat.le_trans (Nat.le_of_ble_eq_true rfl : 4 + 1 ≤ 6) hF, Nat.le_trans (Nat.le_of_ble_eq_true rfl : 8 + (7 + 11) + 85 ≤ 151) hL⟩) (g_recv X hw (ci := 1) rfl (gcell_2 hrc)) rfl hl.1 rfl (lv_room (Nat.le_of_ble_eq_true rfl)) dX2_name_11 (fun r7 w6 H locs h hw => ?_)
    refine lv_if_lt (tgt := 23) S.1 S.2.1 dX2_name_14 rfl (fun c8 => ?_) (fun c8 => ?_)
    · replace h := if_t c8 h
      refine gnX2_85 S X Z hw dX2_name_23 h (fun w9 H h hw => ?_)
      refine lv_dup S.1 S.2.1 dX2_name_26 rfl ?_
      refine lv_bipush (v := 8) S.1 S.2.1 dX2_name_27 rfl ?_
      refine gcIv (As := [.int (8 : Int32)]) (rest := [.ref (gZ w6)]) S X Z hw (b := (gZ w6)) h (fun u h1 => met_B_J14_init l E A LC LS (gZ w6) (8 : Int32) w9 u h1) (cb_X2_87 S.2.2.2.2 rfl rfl ⟨Nat.le_trans (Nat.le_of_ble_eq_true rfl : 2 + 1 ≤ 6) hF, Nat.le_trans (Nat.le_of_ble_eq_true rfl : 8 + (2 + 11) + 41 ≤ 151) hL⟩) rfl hl.1 rfl (lv_room (Nat.le_of_ble_eq_true rfl)) dX2_name_29 (fun w10 H locs h hw => ?_)
      refine lv_astore_n (lv' := [(1, .ref (gZ w6)), (0, .ref x0)]) S.1 S.2.1 dX2_name_32 rfl hl (by decide) rfl (fun ls hl => ?_)
      refine lv_aload_n S.1 S.2.1 dX2_name_33 rfl (lv_at hl 1 rfl) ?_
      refine ggX2_28 S X hw dX2_name_34 h (fun v11 h => ?_)
      refine lv_istore_n (lv' := [(2, .int v11), (1, .ref (gZ w6)), (0, .ref x0)]) S.1 S.2.1 dX2_name_37 rfl hl (by decide) rfl (fun ls hl => ?_)
      exact wk_B_X2_name_p38 S X Z hF hL hr hlocks hno FU _ _ _ _ _ _ _ h hw (lv_sub hl [2, 1, 0] rfl)
    · replace h := if_f c8 h
      exact wk_B_X2_name_p17 S X Z hF hL hr hlocks hno _ _ _ _ _ h hw (lv_sub hl [0] rfl)
theorem cb_X2_98 {R : Room} {s : State} {args : Array Value} {rm : Room} {mc ms : Nat} (hts : ∀ w ∈ lw_all, w.before args s = true) (hc : rm.cells = mc) (hs : rm.slots = ms) (hR : rm.frames + 1 ≤ R.frames ∧ 8 + (3 + 11) + rm.locals ≤ R.locals) : CallW R s args RX2 RX2 98 yX2_name cX2_name 3 (Option.some (Jvm.ClassFile.FieldType.object "java/lang/String")) (ws_ yX2_name cX2_name 3 (Option.some (Jvm.ClassFile.FieldType.object "java/lang/String"))) rm mc ms 0 := cwV 0 hts (lw_V q676 q678 qs8 q136 q679) rfl hc hs (by decide +kernel) hR
theorem cb_X2_105 {R : Room} {s : State} {args : Array Value} {rm : Room} {mc ms : Nat} (hts : ∀ w ∈ lw_all, w.before args s = true) (hc : rm.cells = mc) (hs : rm.slots = ms) (hR : rm.frames + 1 ≤ R.frames ∧ 8 + (3 + 11) + rm.locals ≤ R.locals) : CallW R s args RX2 RX3 105 yX3_room cX3_room 3 (Option.some Jvm.ClassFile.FieldType.int) (ws_ yX3_room cX3_room 3 (Option.some Jvm.ClassFile.FieldType.int)) rm mc ms 1 := cwV 1 hts (lw_V q839 q840 q841 q137 q842) rfl hc hs (by decide +kernel) hR
theorem cb_X2_110 {R : Room} {s : State} {args : Array Value} {rm : Room} {mc ms : Nat} (hts : ∀ w ∈ lw_all, w.before args s = true) (hc : rm.cells = mc) (hs : rm.slots = ms) (hR : rm.frames + 1 ≤ R.frames ∧ 8 + (3 + 11) + rm.locals ≤ R.locals) : CallW R s args RX2 RX3 110 yX3_tenant cX3_tenant 3 (Option.some Jvm.ClassFile.FieldType.int) (ws_ yX3_tenant cX3_tenant 3 (Option.some Jvm.ClassFile.FieldType.int)) rm mc ms 1 := cwV 1 hts (lw_V q854 q855 q856 q137 q857) rfl hc hs (by decide +kernel) hR
theorem cb_X2_113 {R : Room} {s : State} {args : Array Value} {rm : Room} {mc ms : Nat} (hts : ∀ w ∈ lw_all, w.before args s = true) (hc : rm.cells = mc) (hs : rm.slots = ms) (hR : rm.frames + 1 ≤ R.frames ∧ 8 + (3 + 11) + rm.locals ≤ R.locals) : CallW R s args RX2 RX3 113 yX3_hasErrand cX3_hasErrand 3 (Option.some Jvm.ClassFile.FieldType.boolean) (ws_ yX3_hasErrand cX3_hasErrand 3 (Option.some Jvm.ClassFile.FieldType.boolean)) rm mc ms 1 := cwV 1 hts (lw_V q859 q860 q861 q137 q862) rfl hc hs (by decide +kernel) hR
def B_X2_fresh_p38 (x0 : Nat) (w : GS) : Option ((Nat ⊕ Nat) × GS) :=
  bd1 (oK w x0 2 2) fun _ =>
  bd2 (B_X2_wrong x0 (3 : Int32) w) fun a7 w6 =>
  bd1 (oK w6 a7 6 6) fun _ => some (.inr a7, w6)
def B_X2_fresh (x0 : Nat) (w : GS) : Option ((Nat ⊕ Nat) × GS) :=
  bd1 (oK w x0 2 2) fun _ =>
  bdx (B_X2_name x0 w) fun a2 w1 =>
  bd1 (oRn w1 x0 2 2 7) fun a3 =>
  bd1 (oK w1 a3 3 3) fun _ =>
  bd1 (B_X3_room a3 a2 w1) fun r4 =>
  if 0 ≤ r4 then
    B_X2_fresh_p38 x0 w1
  else
    bd1 (oRn w1 x0 2 2 7) fun a8 =>
    bd1 (oK w1 a8 3 3) fun _ =>
    bd1 (B_X3_tenant a8 a2 w1) fun r9 =>
    if 0 ≤ r9 then
      B_X2_fresh_p38 x0 w1
    else
      bd1 (oRn w1 x0 2 2 7) fun a11 =>
      bd1 (oK w1 a11 3 3) fun _ =>
      bd1 (B_X3_hasErrand a11 a2 w1) fun r12 =>
      if r12 = 0 then
        bd1 (oK w1 x0 2 2) fun _ =>
        bd1 (B_X2_next x0 w1) fun w14 =>
        some (.inl a2, w14)
      else
        B_X2_fresh_p38 x0 w1
set_option maxRecDepth 100000 in
set_option maxHeartbeats 4000000 in
theorem wk_B_X2_fresh_p38 {p : Program} {l : Launch} {e : Env} {R : Room} {s : State} {m : MethodId} {args : Array Value} {below : List Frame} {meth : Method} {c : Code} {E : gE} {A : Nat → Prop} {LC LS : Nat} (S : CallFix p m c cX2_fresh 2 s args lw_all RX2) (X : gCtx E A s) (Z : gRm R s LC LS) (hF : 7 ≤ R.frames) (hL : 173 ≤ R.locals) (hr : meth.sig.returnType = (Option.some (Jvm.ClassFile.FieldType.object "java/lang/String"))) (hlocks : meth.locks = false) (hno : ∀ x ∈ c.exceptionTable.toList, False) {res : (Nat ⊕ Nat) × GS}  : ∀ (x0 : Nat) (w : GS) (H : Heap) (locs : List Loc) (ls : Array Slot), B_X2_fresh_p38 x0 w = some res → gH E A LC LS s w H locs → lv_has ls 2 [(0, .ref x0)] → W p l e R s m args below meth c H locs (H.size - s.heap.size) (tot H - tot s.heap) (vx_MQ below (gXr E A LC LS res) (gXX E A LC LS res) args s R.cells R.slots A) (F0 m 38 ls []) := by
  intro x0 w H locs ls h hw hl
  unfold B_X2_fresh_p38 at h
  refine lv_aload_n S.1 S.2.1 dX2_fresh_38 rfl (lv_at hl 0 rfl) ?_
  refine lv_iconst (v := 3) S.1 S.2.1 dX2_fresh_39 rfl ?_
  obtain ⟨hrc, h⟩ := oK1 h
  refine gcVr (As := [.int (3 : Int32)]) (rest := []) S X Z hw (b := x0) h (fun u h1 => met_B_X2_wrong l E A LC LS x0 (3 : Int32) w u h1) (cb_X2_75 S.2.2.2.2 rfl rfl ⟨Nat.le_trans (Nat.le_of_ble_eq_true rfl : 5 + 1 ≤ 7) hF, Nat.le_trans (Nat.le_of_ble_eq_true rfl : 8 + (2 + 11) + 114 ≤ 173) hL⟩) (g_recv X hw (ci := 1) rfl (gcell_2 hrc)) rfl hl.1 rfl (lv_room (Nat.le_of_ble_eq_true rfl)) dX2_fresh_40 (fun a7 w6 H locs h hw => ?_)
  exact x_throw S X hno hlocks Z hw dX2_fresh_43 h
set_option maxRecDepth 100000 in
set_option maxHeartbeats 4000000 in
theorem met_B_X2_fresh (l : Launch) (E : gE) (A : Nat → Prop) (LC LS : Nat)  (x0 : Nat) (w : GS) (res : (Nat ⊕ Nat) × GS) (h : B_X2_fresh x0 w = some res) : vx_Met l yX2_fresh (ws_ yX2_fresh cX2_fresh 2 (Option.some (Jvm.ClassFile.FieldType.object "java/lang/String"))) (gRoom 7 173 LC LS w) (gPc E A LC LS [.ref x0] w) (gXr E A LC LS res) (gXX E A LC LS res) (LC - gZ w) (LS - gN w) A := by
  refine gMetx (by decide) rfl (Nat.le_of_ble_eq_true rfl) ?_
  intro p e s m below meth c R S hr hlocks hno X Z hF hL H ls hw hl
  replace hl : lv_has ls 2 [(0, .ref x0)] := hl
  unfold B_X2_fresh at h
  refine lv_aload_n S.1 S.2.1 dX2_fresh_0 rfl (lv_at hl 0 rfl) ?_
  obtain ⟨hrc, h⟩ := oK1 h
  refine gxVr (As := []) (rest := []) S X Z hw (b := x0) hno hlocks h (fun u h1 => met_B_X2_name l E A LC LS x0 w u h1) (cb_X2_98 S.2.2.2.2 rfl rfl ⟨Nat.le_trans (Nat.le_of_ble_eq_true rfl : 6 + 1 ≤ 7) hF, Nat.le_trans (Nat.le_of_ble_eq_true rfl : 8 + (3 + 11) + 151 ≤ 173) hL⟩) (g_recv X hw (ci := 1) rfl (gcell_2 hrc)) rfl hl.1 rfl (lv_room (Nat.le_of_ble_eq_true rfl)) dX2_fresh_1 (fun a2 w1 H locs h hw => ?_)
  refine lv_astore_n (lv' := [(1, .ref a2), (0, .ref x0)]) S.1 S.2.1 dX2_fresh_4 rfl hl (by decide) rfl (fun ls hl => ?_)
  refine lv_aload_n S.1 S.2.1 dX2_fresh_5 rfl (lv_at hl 1 rfl) ?_
  refine ggX2_101 S X hw dX2_fresh_6 h (fun a3 h => ?_)
  refine lv_aload_n S.1 S.2.1 dX2_fresh_9 rfl (lv_at hl 0 rfl) ?_
  obtain ⟨hrc, h⟩ := oK1 h
  refine gcVri (As := [.ref a2]) (rest := []) S X Z hw (b := a3) h (fun u h1 => met_B_X3_room l E A LC LS a3 a2 w1 u h1) (cb_X2_105 S.2.2.2.2 rfl rfl ⟨Nat.le_trans (Nat.le_of_ble_eq_true rfl : 3 + 1 ≤ 7) hF, Nat.le_trans (Nat.le_of_ble_eq_true rfl : 8 + (3 + 11) + 64 ≤ 173) hL⟩) (g_recv X hw (ci := 2) rfl (gcell_3 hrc)) rfl hl.1 rfl (lv_room (Nat.le_of_ble_eq_true rfl)) dX2_fresh_10 (fun r4 H locs h hw => ?_)
  refine lv_if_ge (tgt := 38) S.1 S.2.1 dX2_fresh_13 rfl (fun c5 => ?_) (fun c5 => ?_)
  · replace h := if_t c5 h
    exact wk_B_X2_fresh_p38 S X Z hF hL hr hlocks hno _ _ _ _ _ h hw (lv_sub hl [1] rfl)
  · replace h := if_f c5 h
    refine lv_aload_n S.1 S.2.1 dX2_fresh_16 rfl (lv_at hl 1 rfl) ?_
    refine ggX2_101 S X hw dX2_fresh_17 h (fun a8 h => ?_)
    refine lv_aload_n S.1 S.2.1 dX2_fresh_20 rfl (lv_at hl 0 rfl) ?_
    obtain ⟨hrc, h⟩ := oK1 h
    refine gcVri (As := [.ref a2]) (rest := []) S X Z hw (b := a8) h (fun u h1 => met_B_X3_tenant l E A LC LS a8 a2 w1 u h1) (cb_X2_110 S.2.2.2.2 rfl rfl ⟨Nat.le_trans (Nat.le_of_ble_eq_true rfl : 3 + 1 ≤ 7) hF, Nat.le_trans (Nat.le_of_ble_eq_true rfl : 8 + (3 + 11) + 64 ≤ 173) hL⟩) (g_recv X hw (ci := 2) rfl (gcell_3 hrc)) rfl hl.1 rfl (lv_room (Nat.le_of_ble_eq_true rfl)) dX2_fresh_21 (fun r9 H locs h hw => ?_)
    refine lv_if_ge (tgt := 38) S.1 S.2.1 dX2_fresh_24 rfl (fun c10 => ?_) (fun c10 => ?_)
    · replace h := if_t c10 h
      exact wk_B_X2_fresh_p38 S X Z hF hL hr hlocks hno _ _ _ _ _ h hw (lv_sub hl [1] rfl)
    · replace h := if_f c10 h
      refine lv_aload_n S.1 S.2.1 dX2_fresh_27 rfl (lv_at hl 1 rfl) ?_
      refine ggX2_101 S X hw dX2_fresh_28 h (fun a11 h => ?_)
      refine lv_aload_n S.1 S.2.1 dX2_fresh_31 rfl (lv_at hl 0 rfl) ?_
      obtain ⟨hrc, h⟩ := oK1 h
      refine gcVri (As := [.ref a2]) (rest := []) S X Z hw (b := a11) h (fun u h1 => met_B_X3_hasErrand l E A LC LS a11 a2 w1 u h1) (cb_X2_113 S.2.2.2.2 rfl rfl ⟨Nat.le_trans (Nat.le_of_ble_eq_true rfl : 3 + 1 ≤ 7) hF, Nat.le_trans (Nat.le_of_ble_eq_true rfl : 8 + (3 + 11) + 64 ≤ 173) hL⟩) (g_recv X hw (ci := 2) rfl (gcell_3 hrc)) rfl hl.1 rfl (lv_room (Nat.le_of_ble_eq_true rfl)) dX2_fresh_32 (fun r12 H locs h hw => ?_)
      refine lv_if_eq (tgt := 44) S.1 S.2.1 dX2_fresh_35 rfl (fun c13 => ?_) (fun c13 => ?_)
      · replace h := if_t c13 h
        refine lv_aload_n S.1 S.2.1 dX2_fresh_44 rfl (lv_at hl 1 rfl) ?_
        obtain ⟨hrc, h⟩ := oK1 h
        refine gcVv (As := []) (rest := []) S X Z hw (b := x0) h (fun u h1 => met_B_X2_next l E A LC LS x0 w1 u h1) (cb_X2_25 S.2.2.2.2 rfl rfl ⟨Nat.le_trans (Nat.le_of_ble_eq_true rfl : 4 + 1 ≤ 7) hF, Nat.le_trans (Nat.le_of_ble_eq_true rfl : 8 + (1 + 11) + 91 ≤ 173) hL⟩) (g_recv X hw (ci := 1) rfl (gcell_2 hrc)) rfl hl.1 rfl (lv_room (Nat.le_of_ble_eq_true rfl)) dX2_fresh_45 (fun w14 H locs h hw => ?_)
        refine lv_aload_n S.1 S.2.1 dX2_fresh_48 rfl (lv_at hl 0 rfl) ?_
        exact x_aret S Z hr (Or.inl ⟨_, rfl⟩) hlocks hw (so1 h) dX2_fresh_49
      · replace h := if_f c13 h
        exact wk_B_X2_fresh_p38 S X Z hF hL hr hlocks hno _ _ _ _ _ h hw (lv_sub hl [1] rfl)
def B_X2_tenant (x0 : Nat) (w : GS) : Option ((Int32 ⊕ Nat) × GS) :=
  bd1 (oRn w x0 2 2 7) fun a1 =>
  bd1 (oK w x0 2 2) fun _ =>
  bdx (B_X2_name x0 w) fun a3 w2 =>
  bd1 (oK w2 a1 3 3) fun _ =>
  bd1 (B_X3_tenant a1 a3 w2) fun r4 =>
  if 0 ≤ r4 then
    some (.inl r4, w2)
  else
    bd1 (oK w2 x0 2 2) fun _ =>
    bd2 (B_X2_wrong x0 (2 : Int32) w2) fun a7 w6 =>
    bd1 (oK w6 a7 6 6) fun _ => some (.inr a7, w6)
set_option maxRecDepth 100000 in
set_option maxHeartbeats 4000000 in
theorem met_B_X2_tenant (l : Launch) (E : gE) (A : Nat → Prop) (LC LS : Nat)  (x0 : Nat) (w : GS) (res : (Int32 ⊕ Nat) × GS) (h : B_X2_tenant x0 w = some res) : vx_Met l yX2_tenant (ws_ yX2_tenant cX2_tenant 2 (Option.some Jvm.ClassFile.FieldType.int)) (gRoom 7 173 LC LS w) (gPc E A LC LS [.ref x0] w) (gXi E A LC LS res) (gXX E A LC LS res) (LC - gZ w) (LS - gN w) A := by
  refine gMetx (by decide) rfl (Nat.le_of_ble_eq_true rfl) ?_
  intro p e s m below meth c R S hr hlocks hno X Z hF hL H ls hw hl
  replace hl : lv_has ls 2 [(0, .ref x0)] := hl
  unfold B_X2_tenant at h
  refine lv_aload_n S.1 S.2.1 dX2_tenant_0 rfl (lv_at hl 0 rfl) ?_
  refine ggX2_101 S X hw dX2_tenant_1 h (fun a1 h => ?_)
  refine lv_aload_n S.1 S.2.1 dX2_tenant_4 rfl (lv_at hl 0 rfl) ?_
  obtain ⟨hrc, h⟩ := oK1 h
  refine gxVr (As := []) (rest := [.ref a1]) S X Z hw (b := x0) hno hlocks h (fun u h1 => met_B_X2_name l E A LC LS x0 w u h1) (cb_X2_98 S.2.2.2.2 rfl rfl ⟨Nat.le_trans (Nat.le_of_ble_eq_true rfl : 6 + 1 ≤ 7) hF, Nat.le_trans (Nat.le_of_ble_eq_true rfl : 8 + (3 + 11) + 151 ≤ 173) hL⟩) (g_recv X hw (ci := 1) rfl (gcell_2 hrc)) rfl hl.1 rfl (lv_room (Nat.le_of_ble_eq_true rfl)) dX2_tenant_5 (fun a3 w2 H locs h hw => ?_)
  obtain ⟨hrc, h⟩ := oK1 h
  refine gcVri (As := [.ref a3]) (rest := []) S X Z hw (b := a1) h (fun u h1 => met_B_X3_tenant l E A LC LS a1 a3 w2 u h1) (cb_X2_110 S.2.2.2.2 rfl rfl ⟨Nat.le_trans (Nat.le_of_ble_eq_true rfl : 3 + 1 ≤ 7) hF, Nat.le_trans (Nat.le_of_ble_eq_true rfl : 8 + (3 + 11) + 64 ≤ 173) hL⟩) (g_recv X hw (ci := 2) rfl (gcell_3 hrc)) rfl hl.1 rfl (lv_room (Nat.le_of_ble_eq_true rfl)) dX2_tenant_8 (fun r4 H locs h hw => ?_)
  refine lv_istore_n (lv' := [(1, .int r4), (0, .ref x0)]) S.1 S.2.1 dX2_tenant_11 rfl hl (by decide) rfl (fun ls hl => ?_)
  refine lv_iload_n S.1 S.2.1 dX2_tenant_12 rfl (lv_at hl 0 rfl) ?_
  refine lv_if_ge (tgt := 22) S.1 S.2.1 dX2_tenant_13 rfl (fun c5 => ?_) (fun c5 => ?_)
  · replace h := if_t c5 h
    refine lv_iload_n S.1 S.2.1 dX2_tenant_22 rfl (lv_at hl 0 rfl) ?_
    exact x_iret S Z hr hlocks hw (so1 h) dX2_tenant_23
  · replace h := if_f c5 h
    refine lv_aload_n S.1 S.2.1 dX2_tenant_16 rfl (lv_at hl 1 rfl) ?_
    refine lv_iconst (v := 2) S.1 S.2.1 dX2_tenant_17 rfl ?_
    obtain ⟨hrc, h⟩ := oK1 h
    refine gcVr (As := [.int (2 : Int32)]) (rest := []) S X Z hw (b := x0) h (fun u h1 => met_B_X2_wrong l E A LC LS x0 (2 : Int32) w2 u h1) (cb_X2_75 S.2.2.2.2 rfl rfl ⟨Nat.le_trans (Nat.le_of_ble_eq_true rfl : 5 + 1 ≤ 7) hF, Nat.le_trans (Nat.le_of_ble_eq_true rfl : 8 + (2 + 11) + 114 ≤ 173) hL⟩) (g_recv X hw (ci := 1) rfl (gcell_2 hrc)) rfl hl.1 rfl (lv_room (Nat.le_of_ble_eq_true rfl)) dX2_tenant_18 (fun a7 w6 H locs h hw => ?_)
    exact x_throw S X hno hlocks Z hw dX2_tenant_21 h
def B_X2_room (x0 : Nat) (w : GS) : Option ((Int32 ⊕ Nat) × GS) :=
  bd1 (oRn w x0 2 2 7) fun a1 =>
  bd1 (oK w x0 2 2) fun _ =>
  bdx (B_X2_name x0 w) fun a3 w2 =>
  bd1 (oK w2 a1 3 3) fun _ =>
  bd1 (B_X3_room a1 a3 w2) fun r4 =>
  if 0 ≤ r4 then
    some (.inl r4, w2)
  else
    bd1 (oK w2 x0 2 2) fun _ =>
    bd2 (B_X2_wrong x0 (2 : Int32) w2) fun a7 w6 =>
    bd1 (oK w6 a7 6 6) fun _ => some (.inr a7, w6)
set_option maxRecDepth 100000 in
set_option maxHeartbeats 4000000 in
theorem met_B_X2_room (l : Launch) (E : gE) (A : Nat → Prop) (LC LS : Nat)  (x0 : Nat) (w : GS) (res : (Int32 ⊕ Nat) × GS) (h : B_X2_room x0 w = some res) : vx_Met l yX2_room (ws_ yX2_room cX2_room 2 (Option.some Jvm.ClassFile.FieldType.int)) (gRoom 7 173 LC LS w) (gPc E A LC LS [.ref x0] w) (gXi E A LC LS res) (gXX E A LC LS res) (LC - gZ w) (LS - gN w) A := by
  refine gMetx (by decide) rfl (Nat.le_of_ble_eq_true rfl) ?_
  intro p e s m below meth c R S hr hlocks hno X Z hF hL H ls hw hl
  replace hl : lv_has ls 2 [(0, .ref x0)] := hl
  unfold B_X2_room at h
  refine lv_aload_n S.1 S.2.1 dX2_room_0 rfl (lv_at hl 0 rfl) ?_
  refine ggX2_101 S X hw dX2_room_1 h (fun a1 h => ?_)
  refine lv_aload_n S.1 S.2.1 dX2_room_4 rfl (lv_at hl 0 rfl) ?_
  obtain ⟨hrc, h⟩ := oK1 h
  refine gxVr (As := []) (rest := [.ref a1]) S X Z hw (b := x0) hno hlocks h (fun u h1 => met_B_X2_name l E A LC LS x0 w u h1) (cb_X2_98 S.2.2.2.2 rfl rfl ⟨Nat.le_trans (Nat.le_of_ble_eq_true rfl : 6 + 1 ≤ 7) hF, Nat.le_trans (Nat.le_of_ble_eq_true rfl : 8 + (3 + 11) + 151 ≤ 173) hL⟩) (g_recv X hw (ci := 1) rfl (gcell_2 hrc)) rfl hl.1 rfl (lv_room (Nat.le_of_ble_eq_true rfl)) dX2_room_5 (fun a3 w2 H locs h hw => ?_)
  obtain ⟨hrc, h⟩ := oK1 h
  refine gcVri (As := [.ref a3]) (rest := []) S X Z hw (b := a1) h (fun u h1 => met_B_X3_room l E A LC LS a1 a3 w2 u h1) (cb_X2_105 S.2.2.2.2 rfl rfl ⟨Nat.le_trans (Nat.le_of_ble_eq_true rfl : 3 + 1 ≤ 7) hF, Nat.le_trans (Nat.le_of_ble_eq_true rfl : 8 + (3 + 11) + 64 ≤ 173) hL⟩) (g_recv X hw (ci := 2) rfl (gcell_3 hrc)) rfl hl.1 rfl (lv_room (Nat.le_of_ble_eq_true rfl)) dX2_room_8 (fun r4 H locs h hw => ?_)
  refine lv_istore_n (lv' := [(1, .int r4), (0, .ref x0)]) S.1 S.2.1 dX2_room_11 rfl hl (by decide) rfl (fun ls hl => ?_)
  refine lv_iload_n S.1 S.2.1 dX2_room_12 rfl (lv_at hl 0 rfl) ?_
  refine lv_if_ge (tgt := 22) S.1 S.2.1 dX2_room_13 rfl (fun c5 => ?_) (fun c5 => ?_)
  · replace h := if_t c5 h
    refine lv_iload_n S.1 S.2.1 dX2_room_22 rfl (lv_at hl 0 rfl) ?_
    exact x_iret S Z hr hlocks hw (so1 h) dX2_room_23
  · replace h := if_f c5 h
    refine lv_aload_n S.1 S.2.1 dX2_room_16 rfl (lv_at hl 1 rfl) ?_
    refine lv_iconst (v := 2) S.1 S.2.1 dX2_room_17 rfl ?_
    obtain ⟨hrc, h⟩ := oK1 h
    refine gcVr (As := [.int (2 : Int32)]) (rest := []) S X Z hw (b := x0) h (fun u h1 => met_B_X2_wrong l E A LC LS x0 (2 : Int32) w2 u h1) (cb_X2_75 S.2.2.2.2 rfl rfl ⟨Nat.le_trans (Nat.le_of_ble_eq_true rfl : 5 + 1 ≤ 7) hF, Nat.le_trans (Nat.le_of_ble_eq_true rfl : 8 + (2 + 11) + 114 ≤ 173) hL⟩) (g_recv X hw (ci := 1) rfl (gcell_2 hrc)) rfl hl.1 rfl (lv_room (Nat.le_of_ble_eq_true rfl)) dX2_room_18 (fun a7 w6 H locs h hw => ?_)
    exact x_throw S X hno hlocks Z hw dX2_room_21 h
theorem cb_X2_311 {R : Room} {s : State} {args : Array Value} {rm : Room} {mc ms : Nat} (hts : ∀ w ∈ lw_all, w.before args s = true) (hc : rm.cells = mc) (hs : rm.slots = ms) (hR : rm.frames + 1 ≤ R.frames ∧ 8 + (5 + 11) + rm.locals ≤ R.locals) : CallW R s args RX2 RX2 311 yX2_part cX2_part 5 (Option.some (Jvm.ClassFile.FieldType.object "PulseRent$Expression")) (ws_ yX2_part cX2_part 5 (Option.some (Jvm.ClassFile.FieldType.object "PulseRent$Expression"))) rm mc ms 0 := cwV 0 hts (lw_V q1122 q1124 qs25 q136 q1125) rfl hc hs (by decide +kernel) hR
theorem cb_X2_302 {R : Room} {s : State} {args : Array Value} {rm : Room} {mc ms : Nat} (hts : ∀ w ∈ lw_all, w.before args s = true) (hc : rm.cells = mc) (hs : rm.slots = ms) (hR : rm.frames + 1 ≤ R.frames ∧ 8 + (4 + 11) + rm.locals ≤ R.locals) : CallB R s args RX2 302 yX17_init cX17_init 4 none (ws_ yX17_init cX17_init 4 (Option.none : Option Jvm.ClassFile.FieldType)) rm mc ms 3 ∧ yX17_init.name = "<init>" ∧ (Cond.instanceMethod yX17_init).before args s = true := cwI 3 hts (lw_meth q1172) rfl hc hs (hts _ q169) (hts _ q1170) (hts _ q1171) rfl (by decide +kernel) hR
def B_X2_product_p5 (pt : Nat → GS → Option ((Nat ⊕ Nat) × GS)) : Nat → Nat → Nat → GS → Option ((Nat ⊕ Nat) × GS)
  | 0, _, _, _ => none
  | n + 1, x0, x1, w =>
    bd1 (oK w x0 2 2) fun _ =>
    bd1 (B_X2_isSign x0 (42 : Int32) w) fun r3 =>
    if r3 = 0 then
      some (.inl x1, w)
    else
      bd1 (oK w x0 2 2) fun _ =>
      bd1 (B_X2_next x0 w) fun w5 =>
      bd1 (onw w5 16 0 3) fun w6 =>
      bd1 (oK w6 x0 2 2) fun _ =>
      bdx (pt x0 w6) fun a8 w7 =>
      bd1 (B_X17_init (gZ w5) (42 : Int32) x1 a8 w7) fun w9 =>
      (B_X2_product_p5 pt n) x0 (gZ w5) w9
def B_X2_product (pt : Nat → GS → Option ((Nat ⊕ Nat) × GS)) (x0 : Nat) (w : GS) : Option ((Nat ⊕ Nat) × GS) :=
  bd1 (oK w x0 2 2) fun _ =>
  bdx (pt x0 w) fun a2 w1 =>
  B_X2_product_p5 pt FU x0 a2 w1
set_option maxRecDepth 100000 in
set_option maxHeartbeats 4000000 in
theorem wk_B_X2_product_p5 {p : Program} {l : Launch} {e : Env} {R : Room} {s : State} {m : MethodId} {args : Array Value} {below : List Frame} {meth : Method} {c : Code} {E : gE} {A : Nat → Prop} {LC LS : Nat} {d : Nat} (S : CallFix p m c cX2_product 2 s args lw_all RX2) (X : gCtx E A s) (Z : gRm R s LC LS) (hF : 5 * d + 13 ≤ R.frames) (hL : 300 * d + 340 ≤ R.locals) (hr : meth.sig.returnType = (Option.some (Jvm.ClassFile.FieldType.object "PulseRent$Expression"))) (hlocks : meth.locks = false) (hno : ∀ x ∈ c.exceptionTable.toList, False) {res : (Nat ⊕ Nat) × GS} {pt : Nat → GS → Option ((Nat ⊕ Nat) × GS)} (hpt : ∀ (x0 : Nat) (w : GS) (res : (Nat ⊕ Nat) × GS), pt x0 w = some res → vx_Met l yX2_part (ws_ yX2_part cX2_part 5 (Option.some (Jvm.ClassFile.FieldType.object "PulseRent$Expression"))) (gRoom (5 * d + 12) (300 * d + 300) LC LS w) (gPc E A LC LS [.ref x0] w) (gXr E A LC LS res) (gXX E A LC LS res) (LC - gZ w) (LS - gN w) A) : ∀ n : Nat, ∀ (x0 : Nat) (x1 : Nat) (w : GS) (H : Heap) (locs : List Loc) (ls : Array Slot), B_X2_product_p5 pt n x0 x1 w = some res → gH E A LC LS s w H locs → lv_has ls 2 [(0, .ref x0), (1, .ref x1)] → W p l e R s m args below meth c H locs (H.size - s.heap.size) (tot H - tot s.heap) (vx_MQ below (gXr E A LC LS res) (gXX E A LC LS res) args s R.cells R.slots A) (F0 m 5 ls []) := by
  intro n
  induction n with
  | zero => intro x0 x1 w H locs ls h; cases (show (none : Option ((Nat ⊕ Nat) × GS)) = some res from h)
  | succ n ih =>
    intro x0 x1 w H locs ls h hw hl
    rw [B_X2_product_p5] at h
    refine lv_aload_n S.1 S.2.1 dX2_product_5 rfl (lv_at hl 0 rfl) ?_
    refine lv_bipush (v := 42) S.1 S.2.1 dX2_product_6 rfl ?_
    obtain ⟨hrc, h⟩ := oK1 h
    refine gcVri (As := [.int (42 : Int32)]) (rest := []) S X Z hw (b := x0) h (fun u h1 => met_B_X2_isSign l E A LC LS x0 (42 : Int32) w u h1) (cb_X2_79 S.2.2.2.2 rfl rfl ⟨Nat.le_trans (show 0 + 1 ≤ 5 * d + 13 by omega) hF, Nat.le_trans (show 8 + (2 + 11) + (0) ≤ 300 * d + 340 by omega) hL⟩) (g_recv X hw (ci := 1) rfl (gcell_2 hrc)) rfl hl.1 rfl (lv_room (Nat.le_of_ble_eq_true rfl)) dX2_product_8 (fun r3 H locs h hw => ?_)
    refine lv_if_eq (tgt := 36) S.1 S.2.1 dX2_product_11 rfl (fun c4 => ?_) (fun c4 => ?_)
    · replace h := if_t c4 h
      refine lv_aload_n S.1 S.2.1 dX2_product_36 rfl (lv_at hl 1 rfl) ?_
      exact x_aret S Z hr (Or.inl ⟨_, rfl⟩) hlocks hw (so1 h) dX2_product_37
    · replace h := if_f c4 h
      refine lv_aload_n S.1 S.2.1 dX2_product_14 rfl (lv_at hl 0 rfl) ?_
      obtain ⟨hrc, h⟩ := oK1 h
      refine gcVv (As := []) (rest := []) S X Z hw (b := x0) h (fun u h1 => met_B_X2_next l E A LC LS x0 w u h1) (cb_X2_25 S.2.2.2.2 rfl rfl ⟨Nat.le_trans (show 4 + 1 ≤ 5 * d + 13 by omega) hF, Nat.le_trans (show 8 + (1 + 11) + (91) ≤ 300 * d + 340 by omega) hL⟩) (g_recv X hw (ci := 1) rfl (gcell_2 hrc)) rfl hl.1 rfl (lv_room (Nat.le_of_ble_eq_true rfl)) dX2_product_15 (fun w5 H locs h hw => ?_)
      refine gnX2_300 S X Z hw dX2_product_18 h (fun w6 H h hw => ?_)
      refine lv_dup S.1 S.2.1 dX2_product_21 rfl ?_
      refine lv_bipush (v := 42) S.1 S.2.1 dX2_product_22 rfl ?_
      refine lv_aload_n S.1 S.2.1 dX2_product_24 rfl (lv_at hl 1 rfl) ?_
      refine lv_aload_n S.1 S.2.1 dX2_product_25 rfl (lv_at hl 0 rfl) ?_
      obtain ⟨hrc, h⟩ := oK1 h
      refine gxVr (As := []) (rest := [.ref x1, .int (42 : Int32), .ref (gZ w5), .ref (gZ w5)]) S X Z hw (b := x0) hno hlocks h (fun u h1 => hpt x0 w6 u h1) (cb_X2_311 S.2.2.2.2 rfl rfl ⟨Nat.le_trans (show 5 * d + 12 + 1 ≤ 5 * d + 13 by omega) hF, Nat.le_trans (show 8 + (5 + 11) + (300 * d + 300) ≤ 300 * d + 340 by omega) hL⟩) (g_recv X hw (ci := 1) rfl (gcell_2 hrc)) rfl hl.1 rfl (lv_room (Nat.le_of_ble_eq_true rfl)) dX2_product_26 (fun a8 w7 H locs h hw => ?_)
      refine gcIv (As := [.int (42 : Int32), .ref x1, .ref a8]) (rest := [.ref (gZ w5)]) S X Z hw (b := (gZ w5)) h (fun u h1 => met_B_X17_init l E A LC LS (gZ w5) (42 : Int32) x1 a8 w7 u h1) (cb_X2_302 S.2.2.2.2 rfl rfl ⟨Nat.le_trans (show 2 + 1 ≤ 5 * d + 13 by omega) hF, Nat.le_trans (show 8 + (4 + 11) + (40) ≤ 300 * d + 340 by omega) hL⟩) rfl hl.1 rfl (lv_room (Nat.le_of_ble_eq_true rfl)) dX2_product_29 (fun w9 H locs h hw => ?_)
      refine lv_astore_n (lv' := [(1, .ref (gZ w5)), (0, .ref x0)]) S.1 S.2.1 dX2_product_32 rfl hl (by decide) rfl (fun ls hl => ?_)
      refine lv_goto (tgt := 5) S.1 S.2.1 dX2_product_33 rfl ?_
      exact ih _ _ _ _ _ _ h hw (lv_sub hl [1, 0] rfl)
set_option maxRecDepth 100000 in
set_option maxHeartbeats 4000000 in
theorem met_B_X2_product (l : Launch) (E : gE) (A : Nat → Prop) (LC LS : Nat) {d : Nat} {pt : Nat → GS → Option ((Nat ⊕ Nat) × GS)} (hpt : ∀ (x0 : Nat) (w : GS) (res : (Nat ⊕ Nat) × GS), pt x0 w = some res → vx_Met l yX2_part (ws_ yX2_part cX2_part 5 (Option.some (Jvm.ClassFile.FieldType.object "PulseRent$Expression"))) (gRoom (5 * d + 12) (300 * d + 300) LC LS w) (gPc E A LC LS [.ref x0] w) (gXr E A LC LS res) (gXX E A LC LS res) (LC - gZ w) (LS - gN w) A) (x0 : Nat) (w : GS) (res : (Nat ⊕ Nat) × GS) (h : B_X2_product pt x0 w = some res) : vx_Met l yX2_product (ws_ yX2_product cX2_product 2 (Option.some (Jvm.ClassFile.FieldType.object "PulseRent$Expression"))) (gRoom (5 * d + 13) (300 * d + 340) LC LS w) (gPc E A LC LS [.ref x0] w) (gXr E A LC LS res) (gXX E A LC LS res) (LC - gZ w) (LS - gN w) A := by
  refine gMetx (by decide) rfl (Nat.le_of_ble_eq_true rfl) ?_
  intro p e s m below meth c R S hr hlocks hno X Z hF hL H ls hw hl
  replace hl : lv_has ls 2 [(0, .ref x0)] := hl
  unfold B_X2_product at h
  refine lv_aload_n S.1 S.2.1 dX2_product_0 rfl (lv_at hl 0 rfl) ?_
  obtain ⟨hrc, h⟩ := oK1 h
  refine gxVr (As := []) (rest := []) S X Z hw (b := x0) hno hlocks h (fun u h1 => hpt x0 w u h1) (cb_X2_311 S.2.2.2.2 rfl rfl ⟨Nat.le_trans (show 5 * d + 12 + 1 ≤ 5 * d + 13 by omega) hF, Nat.le_trans (show 8 + (5 + 11) + (300 * d + 300) ≤ 300 * d + 340 by omega) hL⟩) (g_recv X hw (ci := 1) rfl (gcell_2 hrc)) rfl hl.1 rfl (lv_room (Nat.le_of_ble_eq_true rfl)) dX2_product_1 (fun a2 w1 H locs h hw => ?_)
  refine lv_astore_n (lv' := [(1, .ref a2), (0, .ref x0)]) S.1 S.2.1 dX2_product_4 rfl hl (by decide) rfl (fun ls hl => ?_)
  exact wk_B_X2_product_p5 S X Z hF hL hr hlocks hno hpt FU _ _ _ _ _ _ h hw (lv_sub hl [1, 0] rfl)
theorem cb_X2_308 {R : Room} {s : State} {args : Array Value} {rm : Room} {mc ms : Nat} (hts : ∀ w ∈ lw_all, w.before args s = true) (hc : rm.cells = mc) (hs : rm.slots = ms) (hR : rm.frames + 1 ≤ R.frames ∧ 8 + (2 + 11) + rm.locals ≤ R.locals) : CallW R s args RX2 RX2 308 yX2_product cX2_product 2 (Option.some (Jvm.ClassFile.FieldType.object "PulseRent$Expression")) (ws_ yX2_product cX2_product 2 (Option.some (Jvm.ClassFile.FieldType.object "PulseRent$Expression"))) rm mc ms 0 := cwV 0 hts (lw_V q1118 q1120 qs24 q136 q1121) rfl hc hs (by decide +kernel) hR
def B_X2_sum_p39 (pt : Nat → GS → Option ((Nat ⊕ Nat) × GS)) (k5 : Nat → Nat → GS → Option ((Nat ⊕ Nat) × GS)) (x0 : Nat) (x1 : Nat) (t0 : Int32) (w : GS) : Option ((Nat ⊕ Nat) × GS) :=
  bd1 (oK w x0 2 2) fun _ =>
  bd1 (B_X2_next x0 w) fun w7 =>
  bd1 (onw w7 16 0 3) fun w8 =>
  bd1 (oK w8 x0 2 2) fun _ =>
  bdx (B_X2_product pt x0 w8) fun a10 w9 =>
  bd1 (B_X17_init (gZ w7) t0 x1 a10 w9) fun w11 =>
  k5 x0 (gZ w7) w11
def B_X2_sum_p23 (pt : Nat → GS → Option ((Nat ⊕ Nat) × GS)) (k5 : Nat → Nat → GS → Option ((Nat ⊕ Nat) × GS)) (x0 : Nat) (x1 : Nat) (w : GS) : Option ((Nat ⊕ Nat) × GS) :=
  bd1 (oK w x0 2 2) fun _ =>
  bd1 (B_X2_isSign x0 (43 : Int32) w) fun r5 =>
  if r5 = 0 then
    B_X2_sum_p39 pt k5 x0 x1 (45 : Int32) w
  else
    B_X2_sum_p39 pt k5 x0 x1 (43 : Int32) w
def B_X2_sum_p5 (pt : Nat → GS → Option ((Nat ⊕ Nat) × GS)) : Nat → Nat → Nat → GS → Option ((Nat ⊕ Nat) × GS)
  | 0, _, _, _ => none
  | n + 1, x0, x1, w =>
    bd1 (oK w x0 2 2) fun _ =>
    bd1 (B_X2_isSign x0 (43 : Int32) w) fun r3 =>
    if r3 = 0 then
      bd1 (oK w x0 2 2) fun _ =>
      bd1 (B_X2_isSign x0 (45 : Int32) w) fun r12 =>
      if r12 = 0 then
        some (.inl x1, w)
      else
        B_X2_sum_p23 pt (B_X2_sum_p5 pt n) x0 x1 w
    else
      B_X2_sum_p23 pt (B_X2_sum_p5 pt n) x0 x1 w
def B_X2_sum (pt : Nat → GS → Option ((Nat ⊕ Nat) × GS)) (x0 : Nat) (w : GS) : Option ((Nat ⊕ Nat) × GS) :=
  bd1 (oK w x0 2 2) fun _ =>
  bdx (B_X2_product pt x0 w) fun a2 w1 =>
  B_X2_sum_p5 pt FU x0 a2 w1
set_option maxRecDepth 100000 in
set_option maxHeartbeats 4000000 in
theorem wk_B_X2_sum_p39 {p : Program} {l : Launch} {e : Env} {R : Room} {s : State} {m : MethodId} {args : Array Value} {below : List Frame} {meth : Method} {c : Code} {E : gE} {A : Nat → Prop} {LC LS : Nat} {d : Nat} (S : CallFix p m c cX2_sum 3 s args lw_all RX2) (X : gCtx E A s) (Z : gRm R s LC LS) (hF : 5 * d + 14 ≤ R.frames) (hL : 300 * d + 380 ≤ R.locals) (hr : meth.sig.returnType = (Option.some (Jvm.ClassFile.FieldType.object "PulseRent$Expression"))) (hlocks : meth.locks = false) (hno : ∀ x ∈ c.exceptionTable.toList, False) {res : (Nat ⊕ Nat) × GS} {pt : Nat → GS → Option ((Nat ⊕ Nat) × GS)} (hpt : ∀ (x0 : Nat) (w : GS) (res : (Nat ⊕ Nat) × GS), pt x0 w = some res → vx_Met l yX2_part (ws_ yX2_part cX2_part 5 (Option.some (Jvm.ClassFile.FieldType.object "PulseRent$Expression"))) (gRoom (5 * d + 12) (300 * d + 300) LC LS w) (gPc E A LC LS [.ref x0] w) (gXr E A LC LS res) (gXX E A LC LS res) (LC - gZ w) (LS - gN w) A) {k5 : Nat → Nat → GS → Option ((Nat ⊕ Nat) × GS)} (hk5 : ∀ (x0 : Nat) (x1 : Nat) (w : GS) (H : Heap) (locs : List Loc) (ls : Array Slot), k5 x0 x1 w = some res → gH E A LC LS s w H locs → lv_has ls 3 [(0, .ref x0), (1, .ref x1)] → W p l e R s m args below meth c H locs (H.size - s.heap.size) (tot H - tot s.heap) (vx_MQ below (gXr E A LC LS res) (gXX E A LC LS res) args s R.cells R.slots A) (F0 m 5 ls [])) : ∀ (x0 : Nat) (x1 : Nat) (t0 : Int32) (w : GS) (H : Heap) (locs : List Loc) (ls : Array Slot), B_X2_sum_p39 pt k5 x0 x1 t0 w = some res → gH E A LC LS s w H locs → lv_has ls 3 [(0, .ref x0), (1, .ref x1)] → W p l e R s m args below meth c H locs (H.size - s.heap.size) (tot H - tot s.heap) (vx_MQ below (gXr E A LC LS res) (gXX E A LC LS res) args s R.cells R.slots A) (F0 m 39 ls [.int t0]) := by
  intro x0 x1 t0 w H locs ls h hw hl
  unfold B_X2_sum_p39 at h
  refine lv_istore_n (lv' := [(2, .int t0), (0, .ref x0), (1, .ref x1)]) S.1 S.2.1 dX2_sum_39 rfl hl (by decide) rfl (fun ls hl => ?_)
  refine lv_aload_n S.1 S.2.1 dX2_sum_40 rfl (lv_at hl 1 rfl) ?_
  obtain ⟨hrc, h⟩ := oK1 h
  refine gcVv (As := []) (rest := []) S X Z hw (b := x0) h (fun u h1 => met_B_X2_next l E A LC LS x0 w u h1) (cb_X2_25 S.2.2.2.2 rfl rfl ⟨Nat.le_trans (show 4 + 1 ≤ 5 * d + 14 by omega) hF, Nat.le_trans (show 8 + (1 + 11) + (91) ≤ 300 * d + 380 by omega) hL⟩) (g_recv X hw (ci := 1) rfl (gcell_2 hrc)) rfl hl.1 rfl (lv_room (Nat.le_of_ble_eq_true rfl)) dX2_sum_41 (fun w7 H locs h hw => ?_)
  refine gnX2_300 S X Z hw dX2_sum_44 h (fun w8 H h hw => ?_)
  refine lv_dup S.1 S.2.1 dX2_sum_47 rfl ?_
  refine lv_iload_n S.1 S.2.1 dX2_sum_48 rfl (lv_at hl 0 rfl) ?_
  refine lv_aload_n S.1 S.2.1 dX2_sum_49 rfl (lv_at hl 2 rfl) ?_
  refine lv_aload_n S.1 S.2.1 dX2_sum_50 rfl (lv_at hl 1 rfl) ?_
  obtain ⟨hrc, h⟩ := oK1 h
  refine gxVr (As := []) (rest := [.ref x1, .int t0, .ref (gZ w7), .ref (gZ w7)]) S X Z hw (b := x0) hno hlocks h (fun u h1 => met_B_X2_product l E A LC LS hpt x0 w8 u h1) (cb_X2_308 S.2.2.2.2 rfl rfl ⟨Nat.le_trans (show 5 * d + 13 + 1 ≤ 5 * d + 14 by omega) hF, Nat.le_trans (show 8 + (2 + 11) + (300 * d + 340) ≤ 300 * d + 380 by omega) hL⟩) (g_recv X hw (ci := 1) rfl (gcell_2 hrc)) rfl hl.1 rfl (lv_room (Nat.le_of_ble_eq_true rfl)) dX2_sum_51 (fun a10 w9 H locs h hw => ?_)
  refine gcIv (As := [.int t0, .ref x1, .ref a10]) (rest := [.ref (gZ w7)]) S X Z hw (b := (gZ w7)) h (fun u h1 => met_B_X17_init l E A LC LS (gZ w7) t0 x1 a10 w9 u h1) (cb_X2_302 S.2.2.2.2 rfl rfl ⟨Nat.le_trans (show 2 + 1 ≤ 5 * d + 14 by omega) hF, Nat.le_trans (show 8 + (4 + 11) + (40) ≤ 300 * d + 380 by omega) hL⟩) rfl hl.1 rfl (lv_room (Nat.le_of_ble_eq_true rfl)) dX2_sum_54 (fun w11 H locs h hw => ?_)
  refine lv_astore_n (lv' := [(1, .ref (gZ w7)), (2, .int t0), (0, .ref x0)]) S.1 S.2.1 dX2_sum_57 rfl hl (by decide) rfl (fun ls hl => ?_)
  refine lv_goto (tgt := 5) S.1 S.2.1 dX2_sum_58 rfl ?_
  exact hk5 _ _ _ _ _ _ h hw (lv_sub hl [2, 0] rfl)
set_option maxRecDepth 100000 in
set_option maxHeartbeats 4000000 in
theorem wk_B_X2_sum_p23 {p : Program} {l : Launch} {e : Env} {R : Room} {s : State} {m : MethodId} {args : Array Value} {below : List Frame} {meth : Method} {c : Code} {E : gE} {A : Nat → Prop} {LC LS : Nat} {d : Nat} (S : CallFix p m c cX2_sum 3 s args lw_all RX2) (X : gCtx E A s) (Z : gRm R s LC LS) (hF : 5 * d + 14 ≤ R.frames) (hL : 300 * d + 380 ≤ R.locals) (hr : meth.sig.returnType = (Option.some (Jvm.ClassFile.FieldType.object "PulseRent$Expression"))) (hlocks : meth.locks = false) (hno : ∀ x ∈ c.exceptionTable.toList, False) {res : (Nat ⊕ Nat) × GS} {pt : Nat → GS → Option ((Nat ⊕ Nat) × GS)} (hpt : ∀ (x0 : Nat) (w : GS) (res : (Nat ⊕ Nat) × GS), pt x0 w = some res → vx_Met l yX2_part (ws_ yX2_part cX2_part 5 (Option.some (Jvm.ClassFile.FieldType.object "PulseRent$Expression"))) (gRoom (5 * d + 12) (300 * d + 300) LC LS w) (gPc E A LC LS [.ref x0] w) (gXr E A LC LS res) (gXX E A LC LS res) (LC - gZ w) (LS - gN w) A) {k5 : Nat → Nat → GS → Option ((Nat ⊕ Nat) × GS)} (hk5 : ∀ (x0 : Nat) (x1 : Nat) (w : GS) (H : Heap) (locs : List Loc) (ls : Array Slot), k5 x0 x1 w = some res → gH E A LC LS s w H locs → lv_has ls 3 [(0, .ref x0), (1, .ref x1)] → W p l e R s m args below meth c H locs (H.size - s.heap.size) (tot H - tot s.heap) (vx_MQ below (gXr E A LC LS res) (gXX E A LC LS res) args s R.cells R.slots A) (F0 m 5 ls [])) : ∀ (x0 : Nat) (x1 : Nat) (w : GS) (H : Heap) (locs : List Loc) (ls : Array Slot), B_X2_sum_p23 pt k5 x0 x1 w = some res → gH E A LC LS s w H locs → lv_has ls 3 [(0, .ref x0), (1, .ref x1)] → W p l e R s m args below meth c H locs (H.size - s.heap.size) (tot H - tot s.heap) (vx_MQ below (gXr E A LC LS res) (gXX E A LC LS res) args s R.cells R.slots A) (F0 m 23 ls []) := by
  intro x0 x1 w H locs ls h hw hl
  unfold B_X2_sum_p23 at h
  refine lv_aload_n S.1 S.2.1 dX2_sum_23 rfl (lv_at hl 0 rfl) ?_
  refine lv_bipush (v := 43) S.1 S.2.1 dX2_sum_24 rfl ?_
  obtain ⟨hrc, h⟩ := oK1 h
  refine gcVri (As := [.int (43 : Int32)]) (rest := []) S X Z hw (b := x0) h (fun u h1 => met_B_X2_isSign l E A LC LS x0 (43 : Int32) w u h1) (cb_X2_79 S.2.2.2.2 rfl rfl ⟨Nat.le_trans (show 0 + 1 ≤ 5 * d + 14 by omega) hF, Nat.le_trans (show 8 + (2 + 11) + (0) ≤ 300 * d + 380 by omega) hL⟩) (g_recv X hw (ci := 1) rfl (gcell_2 hrc)) rfl hl.1 rfl (lv_room (Nat.le_of_ble_eq_true rfl)) dX2_sum_26 (fun r5 H locs h hw => ?_)
  refine lv_if_eq (tgt := 37) S.1 S.2.1 dX2_sum_29 rfl (fun c6 => ?_) (fun c6 => ?_)
  · replace h := if_t c6 h
    refine lv_bipush (v := 45) S.1 S.2.1 dX2_sum_37 rfl ?_
    exact wk_B_X2_sum_p39 S X Z hF hL hr hlocks hno hpt hk5 _ _ _ _ _ _ _ h hw (lv_sub hl [0, 1] rfl)
  · replace h := if_f c6 h
    refine lv_bipush (v := 43) S.1 S.2.1 dX2_sum_32 rfl ?_
    refine lv_goto (tgt := 39) S.1 S.2.1 dX2_sum_34 rfl ?_
    exact wk_B_X2_sum_p39 S X Z hF hL hr hlocks hno hpt hk5 _ _ _ _ _ _ _ h hw (lv_sub hl [0, 1] rfl)
set_option maxRecDepth 100000 in
set_option maxHeartbeats 4000000 in
theorem wk_B_X2_sum_p5 {p : Program} {l : Launch} {e : Env} {R : Room} {s : State} {m : MethodId} {args : Array Value} {below : List Frame} {meth : Method} {c : Code} {E : gE} {A : Nat → Prop} {LC LS : Nat} {d : Nat} (S : CallFix p m c cX2_sum 3 s args lw_all RX2) (X : gCtx E A s) (Z : gRm R s LC LS) (hF : 5 * d + 14 ≤ R.frames) (hL : 300 * d + 380 ≤ R.locals) (hr : meth.sig.returnType = (Option.some (Jvm.ClassFile.FieldType.object "PulseRent$Expression"))) (hlocks : meth.locks = false) (hno : ∀ x ∈ c.exceptionTable.toList, False) {res : (Nat ⊕ Nat) × GS} {pt : Nat → GS → Option ((Nat ⊕ Nat) × GS)} (hpt : ∀ (x0 : Nat) (w : GS) (res : (Nat ⊕ Nat) × GS), pt x0 w = some res → vx_Met l yX2_part (ws_ yX2_part cX2_part 5 (Option.some (Jvm.ClassFile.FieldType.object "PulseRent$Expression"))) (gRoom (5 * d + 12) (300 * d + 300) LC LS w) (gPc E A LC LS [.ref x0] w) (gXr E A LC LS res) (gXX E A LC LS res) (LC - gZ w) (LS - gN w) A) : ∀ n : Nat, ∀ (x0 : Nat) (x1 : Nat) (w : GS) (H : Heap) (locs : List Loc) (ls : Array Slot), B_X2_sum_p5 pt n x0 x1 w = some res → gH E A LC LS s w H locs → lv_has ls 3 [(0, .ref x0), (1, .ref x1)] → W p l e R s m args below meth c H locs (H.size - s.heap.size) (tot H - tot s.heap) (vx_MQ below (gXr E A LC LS res) (gXX E A LC LS res) args s R.cells R.slots A) (F0 m 5 ls []) := by
  intro n
  induction n with
  | zero => intro x0 x1 w H locs ls h; cases (show (none : Option ((Nat ⊕ Nat) × GS)) = some res from h)
  | succ n ih =>
    intro x0 x1 w H locs ls h hw hl
    rw [B_X2_sum_p5] at h
    refine lv_aload_n S.1 S.2.1 dX2_sum_5 rfl (lv_at hl 0 rfl) ?_
    refine lv_bipush (v := 43) S.1 S.2.1 dX2_sum_6 rfl ?_
    obtain ⟨hrc, h⟩ := oK1 h
    refine gcVri (As := [.int (43 : Int32)]) (rest := []) S X Z hw (b := x0) h (fun u h1 => met_B_X2_isSign l E A LC LS x0 (43 : Int32) w u h1) (cb_X2_79 S.2.2.2.2 rfl rfl ⟨Nat.le_trans (show 0 + 1 ≤ 5 * d + 14 by omega) hF, Nat.le_trans (show 8 + (2 + 11) + (0) ≤ 300 * d + 380 by omega) hL⟩) (g_recv X hw (ci := 1) rfl (gcell_2 hrc)) rfl hl.1 rfl (lv_room (Nat.le_of_ble_eq_true rfl)) dX2_sum_8 (fun r3 H locs h hw => ?_)
    refine lv_if_ne (tgt := 23) S.1 S.2.1 dX2_sum_11 rfl (fun c4 => ?_) (fun c4 => ?_)
    · replace h := if_f c4 h
      exact wk_B_X2_sum_p23 S X Z hF hL hr hlocks hno hpt ih _ _ _ _ _ _ h hw (lv_sub hl [0, 1] rfl)
    · replace h := if_t c4 h
      refine lv_aload_n S.1 S.2.1 dX2_sum_14 rfl (lv_at hl 0 rfl) ?_
      refine lv_bipush (v := 45) S.1 S.2.1 dX2_sum_15 rfl ?_
      obtain ⟨hrc, h⟩ := oK1 h
      refine gcVri (As := [.int (45 : Int32)]) (rest := []) S X Z hw (b := x0) h (fun u h1 => met_B_X2_isSign l E A LC LS x0 (45 : Int32) w u h1) (cb_X2_79 S.2.2.2.2 rfl rfl ⟨Nat.le_trans (show 0 + 1 ≤ 5 * d + 14 by omega) hF, Nat.le_trans (show 8 + (2 + 11) + (0) ≤ 300 * d + 380 by omega) hL⟩) (g_recv X hw (ci := 1) rfl (gcell_2 hrc)) rfl hl.1 rfl (lv_room (Nat.le_of_ble_eq_true rfl)) dX2_sum_17 (fun r12 H locs h hw => ?_)
      refine lv_if_eq (tgt := 61) S.1 S.2.1 dX2_sum_20 rfl (fun c13 => ?_) (fun c13 => ?_)
      · replace h := if_t c13 h
        refine lv_aload_n S.1 S.2.1 dX2_sum_61 rfl (lv_at hl 1 rfl) ?_
        exact x_aret S Z hr (Or.inl ⟨_, rfl⟩) hlocks hw (so1 h) dX2_sum_62
      · replace h := if_f c13 h
        exact wk_B_X2_sum_p23 S X Z hF hL hr hlocks hno hpt ih _ _ _ _ _ _ h hw (lv_sub hl [0, 1] rfl)
set_option maxRecDepth 100000 in
set_option maxHeartbeats 4000000 in
theorem met_B_X2_sum (l : Launch) (E : gE) (A : Nat → Prop) (LC LS : Nat) {d : Nat} {pt : Nat → GS → Option ((Nat ⊕ Nat) × GS)} (hpt : ∀ (x0 : Nat) (w : GS) (res : (Nat ⊕ Nat) × GS), pt x0 w = some res → vx_Met l yX2_part (ws_ yX2_part cX2_part 5 (Option.some (Jvm.ClassFile.FieldType.object "PulseRent$Expression"))) (gRoom (5 * d + 12) (300 * d + 300) LC LS w) (gPc E A LC LS [.ref x0] w) (gXr E A LC LS res) (gXX E A LC LS res) (LC - gZ w) (LS - gN w) A) (x0 : Nat) (w : GS) (res : (Nat ⊕ Nat) × GS) (h : B_X2_sum pt x0 w = some res) : vx_Met l yX2_sum (ws_ yX2_sum cX2_sum 3 (Option.some (Jvm.ClassFile.FieldType.object "PulseRent$Expression"))) (gRoom (5 * d + 14) (300 * d + 380) LC LS w) (gPc E A LC LS [.ref x0] w) (gXr E A LC LS res) (gXX E A LC LS res) (LC - gZ w) (LS - gN w) A := by
  refine gMetx (by decide) rfl (Nat.le_of_ble_eq_true rfl) ?_
  intro p e s m below meth c R S hr hlocks hno X Z hF hL H ls hw hl
  replace hl : lv_has ls 3 [(0, .ref x0)] := hl
  unfold B_X2_sum at h
  refine lv_aload_n S.1 S.2.1 dX2_sum_0 rfl (lv_at hl 0 rfl) ?_
  obtain ⟨hrc, h⟩ := oK1 h
  refine gxVr (As := []) (rest := []) S X Z hw (b := x0) hno hlocks h (fun u h1 => met_B_X2_product l E A LC LS hpt x0 w u h1) (cb_X2_308 S.2.2.2.2 rfl rfl ⟨Nat.le_trans (show 5 * d + 13 + 1 ≤ 5 * d + 14 by omega) hF, Nat.le_trans (show 8 + (2 + 11) + (300 * d + 340) ≤ 300 * d + 380 by omega) hL⟩) (g_recv X hw (ci := 1) rfl (gcell_2 hrc)) rfl hl.1 rfl (lv_room (Nat.le_of_ble_eq_true rfl)) dX2_sum_1 (fun a2 w1 H locs h hw => ?_)
  refine lv_astore_n (lv' := [(1, .ref a2), (0, .ref x0)]) S.1 S.2.1 dX2_sum_4 rfl hl (by decide) rfl (fun ls hl => ?_)
  exact wk_B_X2_sum_p5 S X Z hF hL hr hlocks hno hpt FU _ _ _ _ _ _ h hw (lv_sub hl [1, 0] rfl)
theorem cb_X2_305 {R : Room} {s : State} {args : Array Value} {rm : Room} {mc ms : Nat} (hts : ∀ w ∈ lw_all, w.before args s = true) (hc : rm.cells = mc) (hs : rm.slots = ms) (hR : rm.frames + 1 ≤ R.frames ∧ 8 + (3 + 11) + rm.locals ≤ R.locals) : CallW R s args RX2 RX2 305 yX2_sum cX2_sum 3 (Option.some (Jvm.ClassFile.FieldType.object "PulseRent$Expression")) (ws_ yX2_sum cX2_sum 3 (Option.some (Jvm.ClassFile.FieldType.object "PulseRent$Expression"))) rm mc ms 0 := cwV 0 hts (lw_V q1114 q1116 qs23 q136 q1117) rfl hc hs (by decide +kernel) hR
def B_X2_test_p35 (pt : Nat → GS → Option ((Nat ⊕ Nat) × GS)) (x0 : Nat) (x1 : Nat) (t0 : Int32) (w : GS) : Option ((Nat ⊕ Nat) × GS) :=
  if t0 = (32 : Int32) then
    some (.inl x1, w)
  else
    bd1 (oK w x0 2 2) fun _ =>
    bd1 (B_X2_next x0 w) fun w8 =>
    bd1 (onw w8 16 0 3) fun w9 =>
    bd1 (oK w9 x0 2 2) fun _ =>
    bdx (B_X2_sum pt x0 w9) fun a11 w10 =>
    bd1 (B_X17_init (gZ w8) t0 x1 a11 w10) fun w12 =>
    some (.inl (gZ w8), w12)
def B_X2_test (pt : Nat → GS → Option ((Nat ⊕ Nat) × GS)) (x0 : Nat) (w : GS) : Option ((Nat ⊕ Nat) × GS) :=
  bd1 (oK w x0 2 2) fun _ =>
  bdx (B_X2_sum pt x0 w) fun a2 w1 =>
  bd1 (oK w1 x0 2 2) fun _ =>
  bd1 (B_X2_isSign x0 (60 : Int32) w1) fun r3 =>
  if r3 = 0 then
    bd1 (oK w1 x0 2 2) fun _ =>
    bd1 (B_X2_isSign x0 (61 : Int32) w1) fun r5 =>
    if r5 = 0 then
      B_X2_test_p35 pt x0 a2 (32 : Int32) w1
    else
      B_X2_test_p35 pt x0 a2 (61 : Int32) w1
  else
    B_X2_test_p35 pt x0 a2 (60 : Int32) w1
set_option maxRecDepth 100000 in
set_option maxHeartbeats 4000000 in
theorem wk_B_X2_test_p35 {p : Program} {l : Launch} {e : Env} {R : Room} {s : State} {m : MethodId} {args : Array Value} {below : List Frame} {meth : Method} {c : Code} {E : gE} {A : Nat → Prop} {LC LS : Nat} {d : Nat} (S : CallFix p m c cX2_test 3 s args lw_all RX2) (X : gCtx E A s) (Z : gRm R s LC LS) (hF : 5 * d + 15 ≤ R.frames) (hL : 300 * d + 420 ≤ R.locals) (hr : meth.sig.returnType = (Option.some (Jvm.ClassFile.FieldType.object "PulseRent$Expression"))) (hlocks : meth.locks = false) (hno : ∀ x ∈ c.exceptionTable.toList, False) {res : (Nat ⊕ Nat) × GS} {pt : Nat → GS → Option ((Nat ⊕ Nat) × GS)} (hpt : ∀ (x0 : Nat) (w : GS) (res : (Nat ⊕ Nat) × GS), pt x0 w = some res → vx_Met l yX2_part (ws_ yX2_part cX2_part 5 (Option.some (Jvm.ClassFile.FieldType.object "PulseRent$Expression"))) (gRoom (5 * d + 12) (300 * d + 300) LC LS w) (gPc E A LC LS [.ref x0] w) (gXr E A LC LS res) (gXX E A LC LS res) (LC - gZ w) (LS - gN w) A) : ∀ (x0 : Nat) (x1 : Nat) (t0 : Int32) (w : GS) (H : Heap) (locs : List Loc) (ls : Array Slot), B_X2_test_p35 pt x0 x1 t0 w = some res → gH E A LC LS s w H locs → lv_has ls 3 [(0, .ref x0), (1, .ref x1)] → W p l e R s m args below meth c H locs (H.size - s.heap.size) (tot H - tot s.heap) (vx_MQ below (gXr E A LC LS res) (gXX E A LC LS res) args s R.cells R.slots A) (F0 m 35 ls [.int t0]) := by
  intro x0 x1 t0 w H locs ls h hw hl
  unfold B_X2_test_p35 at h
  refine lv_istore_n (lv' := [(2, .int t0), (0, .ref x0), (1, .ref x1)]) S.1 S.2.1 dX2_test_35 rfl hl (by decide) rfl (fun ls hl => ?_)
  refine lv_iload_n S.1 S.2.1 dX2_test_36 rfl (lv_at hl 0 rfl) ?_
  refine lv_bipush (v := 32) S.1 S.2.1 dX2_test_37 rfl ?_
  refine lv_icmp_ne (tgt := 44) S.1 S.2.1 dX2_test_39 rfl (fun c7 => ?_) (fun c7 => ?_)
  · replace h := if_f c7 h
    refine lv_aload_n S.1 S.2.1 dX2_test_44 rfl (lv_at hl 1 rfl) ?_
    obtain ⟨hrc, h⟩ := oK1 h
    refine gcVv (As := []) (rest := []) S X Z hw (b := x0) h (fun u h1 => met_B_X2_next l E A LC LS x0 w u h1) (cb_X2_25 S.2.2.2.2 rfl rfl ⟨Nat.le_trans (show 4 + 1 ≤ 5 * d + 15 by omega) hF, Nat.le_trans (show 8 + (1 + 11) + (91) ≤ 300 * d + 420 by omega) hL⟩) (g_recv X hw (ci := 1) rfl (gcell_2 hrc)) rfl hl.1 rfl (lv_room (Nat.le_of_ble_eq_true rfl)) dX2_test_45 (fun w8 H locs h hw => ?_)
    refine gnX2_300 S X Z hw dX2_test_48 h (fun w9 H h hw => ?_)
    refine lv_dup S.1 S.2.1 dX2_test_51 rfl ?_
    refine lv_iload_n S.1 S.2.1 dX2_test_52 rfl (lv_at hl 0 rfl) ?_
    refine lv_aload_n S.1 S.2.1 dX2_test_53 rfl (lv_at hl 2 rfl) ?_
    refine lv_aload_n S.1 S.2.1 dX2_test_54 rfl (lv_at hl 1 rfl) ?_
    obtain ⟨hrc, h⟩ := oK1 h
    refine gxVr (As := []) (rest := [.ref x1, .int t0, .ref (gZ w8), .ref (gZ w8)]) S X Z hw (b := x0) hno hlocks h (fun u h1 => met_B_X2_sum l E A LC LS hpt x0 w9 u h1) (cb_X2_305 S.2.2.2.2 rfl rfl ⟨Nat.le_trans (show 5 * d + 14 + 1 ≤ 5 * d + 15 by omega) hF, Nat.le_trans (show 8 + (3 + 11) + (300 * d + 380) ≤ 300 * d + 420 by omega) hL⟩) (g_recv X hw (ci := 1) rfl (gcell_2 hrc)) rfl hl.1 rfl (lv_room (Nat.le_of_ble_eq_true rfl)) dX2_test_55 (fun a11 w10 H locs h hw => ?_)
    refine gcIv (As := [.int t0, .ref x1, .ref a11]) (rest := [.ref (gZ w8)]) S X Z hw (b := (gZ w8)) h (fun u h1 => met_B_X17_init l E A LC LS (gZ w8) t0 x1 a11 w10 u h1) (cb_X2_302 S.2.2.2.2 rfl rfl ⟨Nat.le_trans (show 2 + 1 ≤ 5 * d + 15 by omega) hF, Nat.le_trans (show 8 + (4 + 11) + (40) ≤ 300 * d + 420 by omega) hL⟩) rfl hl.1 rfl (lv_room (Nat.le_of_ble_eq_true rfl)) dX2_test_58 (fun w12 H locs h hw => ?_)
    exact x_aret S Z hr (Or.inl ⟨_, rfl⟩) hlocks hw (so1 h) dX2_test_61
  · replace h := if_t c7 h
    refine lv_aload_n S.1 S.2.1 dX2_test_42 rfl (lv_at hl 2 rfl) ?_
    exact x_aret S Z hr (Or.inl ⟨_, rfl⟩) hlocks hw (so1 h) dX2_test_43
set_option maxRecDepth 100000 in
set_option maxHeartbeats 4000000 in
theorem met_B_X2_test (l : Launch) (E : gE) (A : Nat → Prop) (LC LS : Nat) {d : Nat} {pt : Nat → GS → Option ((Nat ⊕ Nat) × GS)} (hpt : ∀ (x0 : Nat) (w : GS) (res : (Nat ⊕ Nat) × GS), pt x0 w = some res → vx_Met l yX2_part (ws_ yX2_part cX2_part 5 (Option.some (Jvm.ClassFile.FieldType.object "PulseRent$Expression"))) (gRoom (5 * d + 12) (300 * d + 300) LC LS w) (gPc E A LC LS [.ref x0] w) (gXr E A LC LS res) (gXX E A LC LS res) (LC - gZ w) (LS - gN w) A) (x0 : Nat) (w : GS) (res : (Nat ⊕ Nat) × GS) (h : B_X2_test pt x0 w = some res) : vx_Met l yX2_test (ws_ yX2_test cX2_test 3 (Option.some (Jvm.ClassFile.FieldType.object "PulseRent$Expression"))) (gRoom (5 * d + 15) (300 * d + 420) LC LS w) (gPc E A LC LS [.ref x0] w) (gXr E A LC LS res) (gXX E A LC LS res) (LC - gZ w) (LS - gN w) A := by
  refine gMetx (by decide) rfl (Nat.le_of_ble_eq_true rfl) ?_
  intro p e s m below meth c R S hr hlocks hno X Z hF hL H ls hw hl
  replace hl : lv_has ls 3 [(0, .ref x0)] := hl
  unfold B_X2_test at h
  refine lv_aload_n S.1 S.2.1 dX2_test_0 rfl (lv_at hl 0 rfl) ?_
  obtain ⟨hrc, h⟩ := oK1 h
  refine gxVr (As := []) (rest := []) S X Z hw (b := x0) hno hlocks h (fun u h1 => met_B_X2_sum l E A LC LS hpt x0 w u h1) (cb_X2_305 S.2.2.2.2 rfl rfl ⟨Nat.le_trans (show 5 * d + 14 + 1 ≤ 5 * d + 15 by omega) hF, Nat.le_trans (show 8 + (3 + 11) + (300 * d + 380) ≤ 300 * d + 420 by omega) hL⟩) (g_recv X hw (ci := 1) rfl (gcell_2 hrc)) rfl hl.1 rfl (lv_room (Nat.le_of_ble_eq_true rfl)) dX2_test_1 (fun a2 w1 H locs h hw => ?_)
  refine lv_astore_n (lv' := [(1, .ref a2), (0, .ref x0)]) S.1 S.2.1 dX2_test_4 rfl hl (by decide) rfl (fun ls hl => ?_)
  refine lv_aload_n S.1 S.2.1 dX2_test_5 rfl (lv_at hl 1 rfl) ?_
  refine lv_bipush (v := 60) S.1 S.2.1 dX2_test_6 rfl ?_
  obtain ⟨hrc, h⟩ := oK1 h
  refine gcVri (As := [.int (60 : Int32)]) (rest := []) S X Z hw (b := x0) h (fun u h1 => met_B_X2_isSign l E A LC LS x0 (60 : Int32) w1 u h1) (cb_X2_79 S.2.2.2.2 rfl rfl ⟨Nat.le_trans (show 0 + 1 ≤ 5 * d + 15 by omega) hF, Nat.le_trans (show 8 + (2 + 11) + (0) ≤ 300 * d + 420 by omega) hL⟩) (g_recv X hw (ci := 1) rfl (gcell_2 hrc)) rfl hl.1 rfl (lv_room (Nat.le_of_ble_eq_true rfl)) dX2_test_8 (fun r3 H locs h hw => ?_)
  refine lv_if_eq (tgt := 19) S.1 S.2.1 dX2_test_11 rfl (fun c4 => ?_) (fun c4 => ?_)
  · replace h := if_t c4 h
    refine lv_aload_n S.1 S.2.1 dX2_test_19 rfl (lv_at hl 1 rfl) ?_
    refine lv_bipush (v := 61) S.1 S.2.1 dX2_test_20 rfl ?_
    obtain ⟨hrc, h⟩ := oK1 h
    refine gcVri (As := [.int (61 : Int32)]) (rest := []) S X Z hw (b := x0) h (fun u h1 => met_B_X2_isSign l E A LC LS x0 (61 : Int32) w1 u h1) (cb_X2_79 S.2.2.2.2 rfl rfl ⟨Nat.le_trans (show 0 + 1 ≤ 5 * d + 15 by omega) hF, Nat.le_trans (show 8 + (2 + 11) + (0) ≤ 300 * d + 420 by omega) hL⟩) (g_recv X hw (ci := 1) rfl (gcell_2 hrc)) rfl hl.1 rfl (lv_room (Nat.le_of_ble_eq_true rfl)) dX2_test_22 (fun r5 H locs h hw => ?_)
    refine lv_if_eq (tgt := 33) S.1 S.2.1 dX2_test_25 rfl (fun c6 => ?_) (fun c6 => ?_)
    · replace h := if_t c6 h
      refine lv_bipush (v := 32) S.1 S.2.1 dX2_test_33 rfl ?_
      exact wk_B_X2_test_p35 S X Z hF hL hr hlocks hno hpt _ _ _ _ _ _ _ h hw (lv_sub hl [1, 0] rfl)
    · replace h := if_f c6 h
      refine lv_bipush (v := 61) S.1 S.2.1 dX2_test_28 rfl ?_
      refine lv_goto (tgt := 35) S.1 S.2.1 dX2_test_30 rfl ?_
      exact wk_B_X2_test_p35 S X Z hF hL hr hlocks hno hpt _ _ _ _ _ _ _ h hw (lv_sub hl [1, 0] rfl)
  · replace h := if_f c4 h
    refine lv_bipush (v := 60) S.1 S.2.1 dX2_test_14 rfl ?_
    refine lv_goto (tgt := 35) S.1 S.2.1 dX2_test_16 rfl ?_
    exact wk_B_X2_test_p35 S X Z hF hL hr hlocks hno hpt _ _ _ _ _ _ _ h hw (lv_sub hl [1, 0] rfl)
theorem cb_X2_295 {R : Room} {s : State} {args : Array Value} {rm : Room} {mc ms : Nat} (hts : ∀ w ∈ lw_all, w.before args s = true) (hc : rm.cells = mc) (hs : rm.slots = ms) (hR : rm.frames + 1 ≤ R.frames ∧ 8 + (3 + 11) + rm.locals ≤ R.locals) : CallW R s args RX2 RX2 295 yX2_test cX2_test 3 (Option.some (Jvm.ClassFile.FieldType.object "PulseRent$Expression")) (ws_ yX2_test cX2_test 3 (Option.some (Jvm.ClassFile.FieldType.object "PulseRent$Expression"))) rm mc ms 0 := cwV 0 hts (lw_V q1110 q1112 qs22 q136 q1113) rfl hc hs (by decide +kernel) hR
def B_X2_expression_p38 (pt : Nat → GS → Option ((Nat ⊕ Nat) × GS)) (k5 : Nat → Nat → GS → Option ((Nat ⊕ Nat) × GS)) (x0 : Nat) (x1 : Nat) (t0 : Int32) (t1 : Nat) (t2 : Nat) (w : GS) : Option ((Nat ⊕ Nat) × GS) :=
  bd1 (oK w x0 2 2) fun _ =>
  bdx (B_X2_test pt x0 w) fun a11 w10 =>
  bd1 (B_X17_init t1 t0 x1 a11 w10) fun w12 =>
  k5 x0 t2 w12
def B_X2_expression_p5 (pt : Nat → GS → Option ((Nat ⊕ Nat) × GS)) : Nat → Nat → Nat → GS → Option ((Nat ⊕ Nat) × GS)
  | 0, _, _, _ => none
  | n + 1, x0, x1, w =>
    bd1 (gT w 28) fun a3 =>
    bd1 (oK w x0 2 2) fun _ =>
    bd2 (B_X2_which x0 a3 w) fun r5 w4 =>
    if 0 ≤ r5 then
      bd1 (oK w4 x0 2 2) fun _ =>
      bd1 (B_X2_next x0 w4) fun w7 =>
      bd1 (onw w7 16 0 3) fun w8 =>
      if r5 = 0 then
        B_X2_expression_p38 pt (B_X2_expression_p5 pt n) x0 x1 (38 : Int32) (gZ w7) (gZ w7) w8
      else
        B_X2_expression_p38 pt (B_X2_expression_p5 pt n) x0 x1 (124 : Int32) (gZ w7) (gZ w7) w8
    else
      some (.inl x1, w4)
def B_X2_expression (pt : Nat → GS → Option ((Nat ⊕ Nat) × GS)) (x0 : Nat) (w : GS) : Option ((Nat ⊕ Nat) × GS) :=
  bd1 (oK w x0 2 2) fun _ =>
  bdx (B_X2_test pt x0 w) fun a2 w1 =>
  B_X2_expression_p5 pt FU x0 a2 w1
set_option maxRecDepth 100000 in
set_option maxHeartbeats 4000000 in
theorem wk_B_X2_expression_p38 {p : Program} {l : Launch} {e : Env} {R : Room} {s : State} {m : MethodId} {args : Array Value} {below : List Frame} {meth : Method} {c : Code} {E : gE} {A : Nat → Prop} {LC LS : Nat} {d : Nat} (S : CallFix p m c cX2_expression 3 s args lw_all RX2) (X : gCtx E A s) (Z : gRm R s LC LS) (hF : 5 * d + 16 ≤ R.frames) (hL : 300 * d + 460 ≤ R.locals) (hr : meth.sig.returnType = (Option.some (Jvm.ClassFile.FieldType.object "PulseRent$Expression"))) (hlocks : meth.locks = false) (hno : ∀ x ∈ c.exceptionTable.toList, False) {res : (Nat ⊕ Nat) × GS} {pt : Nat → GS → Option ((Nat ⊕ Nat) × GS)} (hpt : ∀ (x0 : Nat) (w : GS) (res : (Nat ⊕ Nat) × GS), pt x0 w = some res → vx_Met l yX2_part (ws_ yX2_part cX2_part 5 (Option.some (Jvm.ClassFile.FieldType.object "PulseRent$Expression"))) (gRoom (5 * d + 12) (300 * d + 300) LC LS w) (gPc E A LC LS [.ref x0] w) (gXr E A LC LS res) (gXX E A LC LS res) (LC - gZ w) (LS - gN w) A) {k5 : Nat → Nat → GS → Option ((Nat ⊕ Nat) × GS)} (hk5 : ∀ (x0 : Nat) (x1 : Nat) (w : GS) (H : Heap) (locs : List Loc) (ls : Array Slot), k5 x0 x1 w = some res → gH E A LC LS s w H locs → lv_has ls 3 [(0, .ref x0), (1, .ref x1)] → W p l e R s m args below meth c H locs (H.size - s.heap.size) (tot H - tot s.heap) (vx_MQ below (gXr E A LC LS res) (gXX E A LC LS res) args s R.cells R.slots A) (F0 m 5 ls [])) : ∀ (x0 : Nat) (x1 : Nat) (t0 : Int32) (t1 : Nat) (t2 : Nat) (w : GS) (H : Heap) (locs : List Loc) (ls : Array Slot), B_X2_expression_p38 pt k5 x0 x1 t0 t1 t2 w = some res → gH E A LC LS s w H locs → lv_has ls 3 [(0, .ref x0), (1, .ref x1)] → W p l e R s m args below meth c H locs (H.size - s.heap.size) (tot H - tot s.heap) (vx_MQ below (gXr E A LC LS res) (gXX E A LC LS res) args s R.cells R.slots A) (F0 m 38 ls [.int t0, .ref t1, .ref t2]) := by
  intro x0 x1 t0 t1 t2 w H locs ls h hw hl
  unfold B_X2_expression_p38 at h
  refine lv_aload_n S.1 S.2.1 dX2_expression_38 rfl (lv_at hl 1 rfl) ?_
  refine lv_aload_n S.1 S.2.1 dX2_expression_39 rfl (lv_at hl 0 rfl) ?_
  obtain ⟨hrc, h⟩ := oK1 h
  refine gxVr (As := []) (rest := [.ref x1, .int t0, .ref t1, .ref t2]) S X Z hw (b := x0) hno hlocks h (fun u h1 => met_B_X2_test l E A LC LS hpt x0 w u h1) (cb_X2_295 S.2.2.2.2 rfl rfl ⟨Nat.le_trans (show 5 * d + 15 + 1 ≤ 5 * d + 16 by omega) hF, Nat.le_trans (show 8 + (3 + 11) + (300 * d + 420) ≤ 300 * d + 460 by omega) hL⟩) (g_recv X hw (ci := 1) rfl (gcell_2 hrc)) rfl hl.1 rfl (lv_room (Nat.le_of_ble_eq_true rfl)) dX2_expression_40 (fun a11 w10 H locs h hw => ?_)
  refine gcIv (As := [.int t0, .ref x1, .ref a11]) (rest := [.ref t2]) S X Z hw (b := t1) h (fun u h1 => met_B_X17_init l E A LC LS t1 t0 x1 a11 w10 u h1) (cb_X2_302 S.2.2.2.2 rfl rfl ⟨Nat.le_trans (show 2 + 1 ≤ 5 * d + 16 by omega) hF, Nat.le_trans (show 8 + (4 + 11) + (40) ≤ 300 * d + 460 by omega) hL⟩) rfl hl.1 rfl (lv_room (Nat.le_of_ble_eq_true rfl)) dX2_expression_43 (fun w12 H locs h hw => ?_)
  refine lv_astore_n (lv' := [(1, .ref t2), (0, .ref x0)]) S.1 S.2.1 dX2_expression_46 rfl hl (by decide) rfl (fun ls hl => ?_)
  refine lv_goto (tgt := 5) S.1 S.2.1 dX2_expression_47 rfl ?_
  exact hk5 _ _ _ _ _ _ h hw (lv_sub hl [1, 0] rfl)
set_option maxRecDepth 100000 in
set_option maxHeartbeats 4000000 in
theorem wk_B_X2_expression_p5 {p : Program} {l : Launch} {e : Env} {R : Room} {s : State} {m : MethodId} {args : Array Value} {below : List Frame} {meth : Method} {c : Code} {E : gE} {A : Nat → Prop} {LC LS : Nat} {d : Nat} (S : CallFix p m c cX2_expression 3 s args lw_all RX2) (X : gCtx E A s) (Z : gRm R s LC LS) (hF : 5 * d + 16 ≤ R.frames) (hL : 300 * d + 460 ≤ R.locals) (hr : meth.sig.returnType = (Option.some (Jvm.ClassFile.FieldType.object "PulseRent$Expression"))) (hlocks : meth.locks = false) (hno : ∀ x ∈ c.exceptionTable.toList, False) {res : (Nat ⊕ Nat) × GS} {pt : Nat → GS → Option ((Nat ⊕ Nat) × GS)} (hpt : ∀ (x0 : Nat) (w : GS) (res : (Nat ⊕ Nat) × GS), pt x0 w = some res → vx_Met l yX2_part (ws_ yX2_part cX2_part 5 (Option.some (Jvm.ClassFile.FieldType.object "PulseRent$Expression"))) (gRoom (5 * d + 12) (300 * d + 300) LC LS w) (gPc E A LC LS [.ref x0] w) (gXr E A LC LS res) (gXX E A LC LS res) (LC - gZ w) (LS - gN w) A) : ∀ n : Nat, ∀ (x0 : Nat) (x1 : Nat) (w : GS) (H : Heap) (locs : List Loc) (ls : Array Slot), B_X2_expression_p5 pt n x0 x1 w = some res → gH E A LC LS s w H locs → lv_has ls 3 [(0, .ref x0), (1, .ref x1)] → W p l e R s m args below meth c H locs (H.size - s.heap.size) (tot H - tot s.heap) (vx_MQ below (gXr E A LC LS res) (gXX E A LC LS res) args s R.cells R.slots A) (F0 m 5 ls []) := by
  intro n
  induction n with
  | zero => intro x0 x1 w H locs ls h; cases (show (none : Option ((Nat ⊕ Nat) × GS)) = some res from h)
  | succ n ih =>
    intro x0 x1 w H locs ls h hw hl
    rw [B_X2_expression_p5] at h
    refine lv_aload_n S.1 S.2.1 dX2_expression_5 rfl (lv_at hl 0 rfl) ?_
    refine glw18 S X hw dX2_expression_6 h (fun a3 h => ?_)
    obtain ⟨hrc, h⟩ := oK1 h
    refine gcVi (As := [.ref a3]) (rest := []) S X Z hw (b := x0) h (fun u h1 => met_B_X2_which l E A LC LS x0 a3 w u h1) (cb_X2_71 S.2.2.2.2 rfl rfl ⟨Nat.le_trans (show 4 + 1 ≤ 5 * d + 16 by omega) hF, Nat.le_trans (show 8 + (7 + 11) + (85) ≤ 300 * d + 460 by omega) hL⟩) (g_recv X hw (ci := 1) rfl (gcell_2 hrc)) rfl hl.1 rfl (lv_room (Nat.le_of_ble_eq_true rfl)) dX2_expression_9 (fun r5 w4 H locs h hw => ?_)
    refine lv_istore_n (lv' := [(2, .int r5), (0, .ref x0), (1, .ref x1)]) S.1 S.2.1 dX2_expression_12 rfl hl (by decide) rfl (fun ls hl => ?_)
    refine lv_iload_n S.1 S.2.1 dX2_expression_13 rfl (lv_at hl 0 rfl) ?_
    refine lv_if_ge (tgt := 19) S.1 S.2.1 dX2_expression_14 rfl (fun c6 => ?_) (fun c6 => ?_)
    · replace h := if_t c6 h
      refine lv_aload_n S.1 S.2.1 dX2_expression_19 rfl (lv_at hl 1 rfl) ?_
      obtain ⟨hrc, h⟩ := oK1 h
      refine gcVv (As := []) (rest := []) S X Z hw (b := x0) h (fun u h1 => met_B_X2_next l E A LC LS x0 w4 u h1) (cb_X2_25 S.2.2.2.2 rfl rfl ⟨Nat.le_trans (show 4 + 1 ≤ 5 * d + 16 by omega) hF, Nat.le_trans (show 8 + (1 + 11) + (91) ≤ 300 * d + 460 by omega) hL⟩) (g_recv X hw (ci := 1) rfl (gcell_2 hrc)) rfl hl.1 rfl (lv_room (Nat.le_of_ble_eq_true rfl)) dX2_expression_20 (fun w7 H locs h hw => ?_)
      refine gnX2_300 S X Z hw dX2_expression_23 h (fun w8 H h hw => ?_)
      refine lv_dup S.1 S.2.1 dX2_expression_26 rfl ?_
      refine lv_iload_n S.1 S.2.1 dX2_expression_27 rfl (lv_at hl 0 rfl) ?_
      refine lv_if_ne (tgt := 36) S.1 S.2.1 dX2_expression_28 rfl (fun c9 => ?_) (fun c9 => ?_)
      · replace h := if_f c9 h
        refine lv_bipush (v := 124) S.1 S.2.1 dX2_expression_36 rfl ?_
        exact wk_B_X2_expression_p38 S X Z hF hL hr hlocks hno hpt ih _ _ _ _ _ _ _ _ _ h hw (lv_sub hl [1, 2] rfl)
      · replace h := if_t c9 h
        refine lv_bipush (v := 38) S.1 S.2.1 dX2_expression_31 rfl ?_
        refine lv_goto (tgt := 38) S.1 S.2.1 dX2_expression_33 rfl ?_
        exact wk_B_X2_expression_p38 S X Z hF hL hr hlocks hno hpt ih _ _ _ _ _ _ _ _ _ h hw (lv_sub hl [1, 2] rfl)
    · replace h := if_f c6 h
      refine lv_aload_n S.1 S.2.1 dX2_expression_17 rfl (lv_at hl 2 rfl) ?_
      exact x_aret S Z hr (Or.inl ⟨_, rfl⟩) hlocks hw (so1 h) dX2_expression_18
set_option maxRecDepth 100000 in
set_option maxHeartbeats 4000000 in
theorem met_B_X2_expression (l : Launch) (E : gE) (A : Nat → Prop) (LC LS : Nat) {d : Nat} {pt : Nat → GS → Option ((Nat ⊕ Nat) × GS)} (hpt : ∀ (x0 : Nat) (w : GS) (res : (Nat ⊕ Nat) × GS), pt x0 w = some res → vx_Met l yX2_part (ws_ yX2_part cX2_part 5 (Option.some (Jvm.ClassFile.FieldType.object "PulseRent$Expression"))) (gRoom (5 * d + 12) (300 * d + 300) LC LS w) (gPc E A LC LS [.ref x0] w) (gXr E A LC LS res) (gXX E A LC LS res) (LC - gZ w) (LS - gN w) A) (x0 : Nat) (w : GS) (res : (Nat ⊕ Nat) × GS) (h : B_X2_expression pt x0 w = some res) : vx_Met l yX2_expression (ws_ yX2_expression cX2_expression 3 (Option.some (Jvm.ClassFile.FieldType.object "PulseRent$Expression"))) (gRoom (5 * d + 16) (300 * d + 460) LC LS w) (gPc E A LC LS [.ref x0] w) (gXr E A LC LS res) (gXX E A LC LS res) (LC - gZ w) (LS - gN w) A := by
  refine gMetx (by decide) rfl (Nat.le_of_ble_eq_true rfl) ?_
  intro p e s m below meth c R S hr hlocks hno X Z hF hL H ls hw hl
  replace hl : lv_has ls 3 [(0, .ref x0)] := hl
  unfold B_X2_expression at h
  refine lv_aload_n S.1 S.2.1 dX2_expression_0 rfl (lv_at hl 0 rfl) ?_
  obtain ⟨hrc, h⟩ := oK1 h
  refine gxVr (As := []) (rest := []) S X Z hw (b := x0) hno hlocks h (fun u h1 => met_B_X2_test l E A LC LS hpt x0 w u h1) (cb_X2_295 S.2.2.2.2 rfl rfl ⟨Nat.le_trans (show 5 * d + 15 + 1 ≤ 5 * d + 16 by omega) hF, Nat.le_trans (show 8 + (3 + 11) + (300 * d + 420) ≤ 300 * d + 460 by omega) hL⟩) (g_recv X hw (ci := 1) rfl (gcell_2 hrc)) rfl hl.1 rfl (lv_room (Nat.le_of_ble_eq_true rfl)) dX2_expression_1 (fun a2 w1 H locs h hw => ?_)
  refine lv_astore_n (lv' := [(1, .ref a2), (0, .ref x0)]) S.1 S.2.1 dX2_expression_4 rfl hl (by decide) rfl (fun ls hl => ?_)
  exact wk_B_X2_expression_p5 S X Z hF hL hr hlocks hno hpt FU _ _ _ _ _ _ h hw (lv_sub hl [1, 0] rfl)
theorem cb_X2_128 {R : Room} {s : State} {args : Array Value} {rm : Room} {mc ms : Nat} (hts : ∀ w ∈ lw_all, w.before args s = true) (hc : rm.cells = mc) (hs : rm.slots = ms) (hR : rm.frames + 1 ≤ R.frames ∧ 8 + (3 + 11) + rm.locals ≤ R.locals) : CallW R s args RX2 RX2 128 yX2_expression cX2_expression 3 (Option.some (Jvm.ClassFile.FieldType.object "PulseRent$Expression")) (ws_ yX2_expression cX2_expression 3 (Option.some (Jvm.ClassFile.FieldType.object "PulseRent$Expression"))) rm mc ms 0 := cwV 0 hts (lw_V q1106 q1108 qs21 q136 q1109) rfl hc hs (by decide +kernel) hR
theorem cb_X2_165 {R : Room} {s : State} {args : Array Value} {rm : Room} {mc ms : Nat} (hts : ∀ w ∈ lw_all, w.before args s = true) (hc : rm.cells = mc) (hs : rm.slots = ms) (hR : rm.frames + 1 ≤ R.frames ∧ 8 + (2 + 11) + rm.locals ≤ R.locals) : CallW R s args RX2 RX2 165 yX2_need_2 cX2_need_2 2 (Option.none : Option Jvm.ClassFile.FieldType) (ws_ yX2_need_2 cX2_need_2 2 (Option.none : Option Jvm.ClassFile.FieldType)) rm mc ms 1 := cwV 1 hts (lw_V q1164 q1166 qs27 q136 q1167) rfl hc hs (by decide +kernel) hR
theorem cb_X2_324 {R : Room} {s : State} {args : Array Value} {rm : Room} {mc ms : Nat} (hts : ∀ w ∈ lw_all, w.before args s = true) (hc : rm.cells = mc) (hs : rm.slots = ms) (hR : rm.frames + 1 ≤ R.frames ∧ 8 + (2 + 11) + rm.locals ≤ R.locals) : CallB R s args RX2 324 yX16_init cX16_init 2 none (ws_ yX16_init cX16_init 2 (Option.none : Option Jvm.ClassFile.FieldType)) rm mc ms 1 ∧ yX16_init.name = "<init>" ∧ (Cond.instanceMethod yX16_init).before args s = true := cwI 1 hts (lw_meth q1158) rfl hc hs (hts _ q168) (hts _ q1156) (hts _ q1157) rfl (by decide +kernel) hR
theorem cb_X2_321 {R : Room} {s : State} {args : Array Value} {rm : Room} {mc ms : Nat} (hts : ∀ w ∈ lw_all, w.before args s = true) (hc : rm.cells = mc) (hs : rm.slots = ms) (hR : rm.frames + 1 ≤ R.frames ∧ 8 + (2 + 11) + rm.locals ≤ R.locals) : CallB R s args RX2 321 yX15_init cX15_init 2 none (ws_ yX15_init cX15_init 2 (Option.none : Option Jvm.ClassFile.FieldType)) rm mc ms 1 ∧ yX15_init.name = "<init>" ∧ (Cond.instanceMethod yX15_init).before args s = true := cwI 1 hts (lw_meth q1148) rfl hc hs (hts _ q167) (hts _ q1146) (hts _ q1147) rfl (by decide +kernel) hR
theorem cb_X2_318 {R : Room} {s : State} {args : Array Value} {rm : Room} {mc ms : Nat} (hts : ∀ w ∈ lw_all, w.before args s = true) (hc : rm.cells = mc) (hs : rm.slots = ms) (hR : rm.frames + 1 ≤ R.frames ∧ 8 + (2 + 11) + rm.locals ≤ R.locals) : CallB R s args RX2 318 yX14_init cX14_init 2 none (ws_ yX14_init cX14_init 2 (Option.none : Option Jvm.ClassFile.FieldType)) rm mc ms 1 ∧ yX14_init.name = "<init>" ∧ (Cond.instanceMethod yX14_init).before args s = true := cwI 1 hts (lw_meth q1135) rfl hc hs (hts _ q166) (hts _ q1133) (hts _ q1134) rfl (by decide +kernel) hR
def B_X2_part_p157 (pt : Nat → GS → Option ((Nat ⊕ Nat) × GS)) (x0 : Nat) (x4 : Nat) (w : GS) : Option ((Nat ⊕ Nat) × GS) :=
  bd1 (oI w x0 2 2 6) fun v22 =>
  bd1 (pI w x0 2 2 6 (v22 - (1 : Int32))) fun w23 =>
  some (.inl x4, w23)
def B_X2_part_p145 (pt : Nat → GS → Option ((Nat ⊕ Nat) × GS)) (x0 : Nat) (x3 : Int32) (t0 : Nat) (w : GS) : Option ((Nat ⊕ Nat) × GS) :=
  if x3 = 0 then
    B_X2_part_p157 pt x0 t0 w
  else
    bd1 (oK w x0 2 2) fun _ =>
    bdx (B_X2_need_2 x0 (41 : Int32) w) fun _ w24 =>
    B_X2_part_p157 pt x0 t0 w24
def B_X2_part_p58 (pt : Nat → GS → Option ((Nat ⊕ Nat) × GS)) (x0 : Nat) (x1 : Int32) (x2 : Int32) (x3 : Int32) (w : GS) : Option ((Nat ⊕ Nat) × GS) :=
  bd1 (oI w x0 2 2 6) fun v10 =>
  if v10 = (5 : Int32) then
    bd1 (oK w x0 2 2) fun _ =>
    bd2 (B_X2_wrong x0 (5 : Int32) w) fun a36 w35 =>
    bd1 (oK w35 a36 6 6) fun _ => some (.inr a36, w35)
  else
    bd1 (oI w x0 2 2 3) fun v12 =>
    if v12 = (2 : Int32) then
      bd1 (onw w 13 0 1) fun w31 =>
      bd1 (oK w31 x0 2 2) fun _ =>
      bdx (B_X2_number_2 x0 (0 : Int32) (9999 : Int32) w31) fun r33 w32 =>
      bd1 (B_X14_init (gZ w) r33 w32) fun w34 =>
      some (.inl (gZ w), w34)
    else
      bd1 (oK w x0 2 2) fun _ =>
      bd1 (B_X2_next x0 w) fun w14 =>
      if x1 < 0 then
        bd1 (oI w14 x0 2 2 6) fun v16 =>
        bd1 (pI w14 x0 2 2 6 (v16 + (1 : Int32))) fun w17 =>
        if x2 = 0 then
          bd1 (oK w17 x0 2 2) fun _ =>
          bdx (B_X2_expression pt x0 w17) fun a20 w19 =>
          B_X2_part_p145 pt x0 x3 a20 w19
        else
          bd1 (onw w17 15 0 1) fun w25 =>
          bd1 (oK w25 x0 2 2) fun _ =>
          bdx (pt x0 w25) fun a27 w26 =>
          bd1 (B_X16_init (gZ w17) a27 w26) fun w28 =>
          B_X2_part_p145 pt x0 x3 (gZ w17) w28
      else
        bd1 (onw w14 14 0 1) fun w29 =>
        bd1 (B_X15_init (gZ w14) x1 w29) fun w30 =>
        some (.inl (gZ w14), w30)
def B_X2_part_p24 (pt : Nat → GS → Option ((Nat ⊕ Nat) × GS)) (x0 : Nat) (x1 : Int32) (t0 : Int32) (w : GS) : Option ((Nat ⊕ Nat) × GS) :=
  bd1 (oK w x0 2 2) fun _ =>
  bd1 (B_X2_isSign x0 (40 : Int32) w) fun r8 =>
  if 0 ≤ x1 then
    B_X2_part_p58 pt x0 x1 t0 r8 w
  else
    if t0 = 0 then
      if r8 = 0 then
        bd1 (oI w x0 2 2 3) fun v39 =>
        if v39 = (2 : Int32) then
          B_X2_part_p58 pt x0 x1 t0 r8 w
        else
          bd1 (oK w x0 2 2) fun _ =>
          bd2 (B_X2_wrong x0 (1 : Int32) w) fun a42 w41 =>
          bd1 (oK w41 a42 6 6) fun _ => some (.inr a42, w41)
      else
        B_X2_part_p58 pt x0 x1 t0 r8 w
    else
      B_X2_part_p58 pt x0 x1 t0 r8 w
def B_X2_partb (pt : Nat → GS → Option ((Nat ⊕ Nat) × GS)) (x0 : Nat) (w : GS) : Option ((Nat ⊕ Nat) × GS) :=
  bd1 (oRn w x0 2 2 8) fun a1 =>
  bd1 (oK w x0 2 2) fun _ =>
  bd2 (B_X2_which x0 a1 w) fun r3 w2 =>
  bd1 (gT w2 29) fun a4 =>
  bd1 (oK w2 x0 2 2) fun _ =>
  bd2 (B_X2_which x0 a4 w2) fun r6 w5 =>
  if r6 < 0 then
    B_X2_part_p24 pt x0 r3 (0 : Int32) w5
  else
    B_X2_part_p24 pt x0 r3 (1 : Int32) w5
def B_X2_part : Nat → Nat → GS → Option ((Nat ⊕ Nat) × GS)
  | 0 => fun _ _ => none
  | d + 1 => B_X2_partb (B_X2_part d)
set_option maxRecDepth 100000 in
set_option maxHeartbeats 4000000 in
theorem wk_B_X2_part_p157 {p : Program} {l : Launch} {e : Env} {R : Room} {s : State} {m : MethodId} {args : Array Value} {below : List Frame} {meth : Method} {c : Code} {E : gE} {A : Nat → Prop} {LC LS : Nat} {d : Nat} (S : CallFix p m c cX2_part 5 s args lw_all RX2) (X : gCtx E A s) (Z : gRm R s LC LS) (hF : 5 * (d + 1) + 12 ≤ R.frames) (hL : 300 * (d + 1) + 300 ≤ R.locals) (hr : meth.sig.returnType = (Option.some (Jvm.ClassFile.FieldType.object "PulseRent$Expression"))) (hlocks : meth.locks = false) (hno : ∀ x ∈ c.exceptionTable.toList, False) {res : (Nat ⊕ Nat) × GS} {pt : Nat → GS → Option ((Nat ⊕ Nat) × GS)} (hpt : ∀ (x0 : Nat) (w : GS) (res : (Nat ⊕ Nat) × GS), pt x0 w = some res → vx_Met l yX2_part (ws_ yX2_part cX2_part 5 (Option.some (Jvm.ClassFile.FieldType.object "PulseRent$Expression"))) (gRoom (5 * d + 12) (300 * d + 300) LC LS w) (gPc E A LC LS [.ref x0] w) (gXr E A LC LS res) (gXX E A LC LS res) (LC - gZ w) (LS - gN w) A) : ∀ (x0 : Nat) (x4 : Nat) (w : GS) (H : Heap) (locs : List Loc) (ls : Array Slot), B_X2_part_p157 pt x0 x4 w = some res → gH E A LC LS s w H locs → lv_has ls 5 [(0, .ref x0), (4, .ref x4)] → W p l e R s m args below meth c H locs (H.size - s.heap.size) (tot H - tot s.heap) (vx_MQ below (gXr E A LC LS res) (gXX E A LC LS res) args s R.cells R.slots A) (F0 m 157 ls []) := by
  intro x0 x4 w H locs ls h hw hl
  unfold B_X2_part_p157 at h
  refine lv_aload_n S.1 S.2.1 dX2_part_157 rfl (lv_at hl 0 rfl) ?_
  refine lv_dup S.1 S.2.1 dX2_part_158 rfl ?_
  refine ggX2_22 S X hw dX2_part_159 h (fun v22 h => ?_)
  refine lv_iconst (v := 1) S.1 S.2.1 dX2_part_162 rfl ?_
  refine lv_isub S.1 S.2.1 dX2_part_163 ?_
  refine gpX2_22 S X hw dX2_part_164 h (fun w23 H locs h hw => ?_)
  refine lv_aload S.1 S.2.1 dX2_part_167 (lv_at hl 1 rfl) ?_
  exact x_aret S Z hr (Or.inl ⟨_, rfl⟩) hlocks hw (so1 h) dX2_part_169
set_option maxRecDepth 100000 in
set_option maxHeartbeats 4000000 in
theorem wk_B_X2_part_p145 {p : Program} {l : Launch} {e : Env} {R : Room} {s : State} {m : MethodId} {args : Array Value} {below : List Frame} {meth : Method} {c : Code} {E : gE} {A : Nat → Prop} {LC LS : Nat} {d : Nat} (S : CallFix p m c cX2_part 5 s args lw_all RX2) (X : gCtx E A s) (Z : gRm R s LC LS) (hF : 5 * (d + 1) + 12 ≤ R.frames) (hL : 300 * (d + 1) + 300 ≤ R.locals) (hr : meth.sig.returnType = (Option.some (Jvm.ClassFile.FieldType.object "PulseRent$Expression"))) (hlocks : meth.locks = false) (hno : ∀ x ∈ c.exceptionTable.toList, False) {res : (Nat ⊕ Nat) × GS} {pt : Nat → GS → Option ((Nat ⊕ Nat) × GS)} (hpt : ∀ (x0 : Nat) (w : GS) (res : (Nat ⊕ Nat) × GS), pt x0 w = some res → vx_Met l yX2_part (ws_ yX2_part cX2_part 5 (Option.some (Jvm.ClassFile.FieldType.object "PulseRent$Expression"))) (gRoom (5 * d + 12) (300 * d + 300) LC LS w) (gPc E A LC LS [.ref x0] w) (gXr E A LC LS res) (gXX E A LC LS res) (LC - gZ w) (LS - gN w) A) : ∀ (x0 : Nat) (x3 : Int32) (t0 : Nat) (w : GS) (H : Heap) (locs : List Loc) (ls : Array Slot), B_X2_part_p145 pt x0 x3 t0 w = some res → gH E A LC LS s w H locs → lv_has ls 5 [(0, .ref x0), (3, .int x3)] → W p l e R s m args below meth c H locs (H.size - s.heap.size) (tot H - tot s.heap) (vx_MQ below (gXr E A LC LS res) (gXX E A LC LS res) args s R.cells R.slots A) (F0 m 145 ls [.ref t0]) := by
  intro x0 x3 t0 w H locs ls h hw hl
  unfold B_X2_part_p145 at h
  refine lv_astore (lv' := [(4, .ref t0), (0, .ref x0), (3, .int x3)]) S.1 S.2.1 dX2_part_145 hl (by decide) rfl (fun ls hl => ?_)
  refine lv_iload_n S.1 S.2.1 dX2_part_147 rfl (lv_at hl 2 rfl) ?_
  refine lv_if_eq (tgt := 157) S.1 S.2.1 dX2_part_148 rfl (fun c21 => ?_) (fun c21 => ?_)
  · replace h := if_t c21 h
    exact wk_B_X2_part_p157 S X Z hF hL hr hlocks hno hpt _ _ _ _ _ _ h hw (lv_sub hl [1, 0] rfl)
  · replace h := if_f c21 h
    refine lv_aload_n S.1 S.2.1 dX2_part_151 rfl (lv_at hl 1 rfl) ?_
    refine lv_bipush (v := 41) S.1 S.2.1 dX2_part_152 rfl ?_
    obtain ⟨hrc, h⟩ := oK1 h
    refine gxVv (As := [.int (41 : Int32)]) (rest := []) S X Z hw (b := x0) hno hlocks h (fun u h1 => met_B_X2_need_2 l E A LC LS x0 (41 : Int32) w u h1) (cb_X2_165 S.2.2.2.2 rfl rfl ⟨Nat.le_trans (show 6 + 1 ≤ 5 * (d + 1) + 12 by omega) hF, Nat.le_trans (show 8 + (2 + 11) + (135) ≤ 300 * (d + 1) + 300 by omega) hL⟩) (g_recv X hw (ci := 1) rfl (gcell_2 hrc)) rfl hl.1 rfl (lv_room (Nat.le_of_ble_eq_true rfl)) dX2_part_154 (fun _ w24 H locs h hw => ?_)
    exact wk_B_X2_part_p157 S X Z hF hL hr hlocks hno hpt _ _ _ _ _ _ h hw (lv_sub hl [1, 0] rfl)
set_option maxRecDepth 100000 in
set_option maxHeartbeats 4000000 in
theorem wk_B_X2_part_p58 {p : Program} {l : Launch} {e : Env} {R : Room} {s : State} {m : MethodId} {args : Array Value} {below : List Frame} {meth : Method} {c : Code} {E : gE} {A : Nat → Prop} {LC LS : Nat} {d : Nat} (S : CallFix p m c cX2_part 5 s args lw_all RX2) (X : gCtx E A s) (Z : gRm R s LC LS) (hF : 5 * (d + 1) + 12 ≤ R.frames) (hL : 300 * (d + 1) + 300 ≤ R.locals) (hr : meth.sig.returnType = (Option.some (Jvm.ClassFile.FieldType.object "PulseRent$Expression"))) (hlocks : meth.locks = false) (hno : ∀ x ∈ c.exceptionTable.toList, False) {res : (Nat ⊕ Nat) × GS} {pt : Nat → GS → Option ((Nat ⊕ Nat) × GS)} (hpt : ∀ (x0 : Nat) (w : GS) (res : (Nat ⊕ Nat) × GS), pt x0 w = some res → vx_Met l yX2_part (ws_ yX2_part cX2_part 5 (Option.some (Jvm.ClassFile.FieldType.object "PulseRent$Expression"))) (gRoom (5 * d + 12) (300 * d + 300) LC LS w) (gPc E A LC LS [.ref x0] w) (gXr E A LC LS res) (gXX E A LC LS res) (LC - gZ w) (LS - gN w) A) : ∀ (x0 : Nat) (x1 : Int32) (x2 : Int32) (x3 : Int32) (w : GS) (H : Heap) (locs : List Loc) (ls : Array Slot), B_X2_part_p58 pt x0 x1 x2 x3 w = some res → gH E A LC LS s w H locs → lv_has ls 5 [(0, .ref x0), (1, .int x1), (2, .int x2), (3, .int x3)] → W p l e R s m args below meth c H locs (H.size - s.heap.size) (tot H - tot s.heap) (vx_MQ below (gXr E A LC LS res) (gXX E A LC LS res) args s R.cells R.slots A) (F0 m 58 ls []) := by
  intro x0 x1 x2 x3 w H locs ls h hw hl
  unfold B_X2_part_p58 at h
  refine lv_aload_n S.1 S.2.1 dX2_part_58 rfl (lv_at hl 0 rfl) ?_
  refine ggX2_22 S X hw dX2_part_59 h (fun v10 h => ?_)
  refine lv_iconst (v := 5) S.1 S.2.1 dX2_part_62 rfl ?_
  refine lv_icmp_ne (tgt := 72) S.1 S.2.1 dX2_part_63 rfl (fun c11 => ?_) (fun c11 => ?_)
  · replace h := if_f c11 h
    refine lv_aload_n S.1 S.2.1 dX2_part_72 rfl (lv_at hl 0 rfl) ?_
    refine ggX2_31 S X hw dX2_part_73 h (fun v12 h => ?_)
    refine lv_iconst (v := 2) S.1 S.2.1 dX2_part_76 rfl ?_
    refine lv_icmp_ne (tgt := 96) S.1 S.2.1 dX2_part_77 rfl (fun c13 => ?_) (fun c13 => ?_)
    · replace h := if_f c13 h
      refine lv_aload_n S.1 S.2.1 dX2_part_96 rfl (lv_at hl 0 rfl) ?_
      obtain ⟨hrc, h⟩ := oK1 h
      refine gcVv (As := []) (rest := []) S X Z hw (b := x0) h (fun u h1 => met_B_X2_next l E A LC LS x0 w u h1) (cb_X2_25 S.2.2.2.2 rfl rfl ⟨Nat.le_trans (show 4 + 1 ≤ 5 * (d + 1) + 12 by omega) hF, Nat.le_trans (show 8 + (1 + 11) + (91) ≤ 300 * (d + 1) + 300 by omega) hL⟩) (g_recv X hw (ci := 1) rfl (gcell_2 hrc)) rfl hl.1 rfl (lv_room (Nat.le_of_ble_eq_true rfl)) dX2_part_97 (fun w14 H locs h hw => ?_)
      refine lv_iload_n S.1 S.2.1 dX2_part_100 rfl (lv_at hl 1 rfl) ?_
      refine lv_if_lt (tgt := 113) S.1 S.2.1 dX2_part_101 rfl (fun c15 => ?_) (fun c15 => ?_)
      · replace h := if_t c15 h
        refine lv_aload_n S.1 S.2.1 dX2_part_113 rfl (lv_at hl 0 rfl) ?_
        refine lv_dup S.1 S.2.1 dX2_part_114 rfl ?_
        refine ggX2_22 S X hw dX2_part_115 h (fun v16 h => ?_)
        refine lv_iconst (v := 1) S.1 S.2.1 dX2_part_118 rfl ?_
        refine lv_iadd S.1 S.2.1 dX2_part_119 ?_
        refine gpX2_22 S X hw dX2_part_120 h (fun w17 H locs h hw => ?_)
        refine lv_iload_n S.1 S.2.1 dX2_part_123 rfl (lv_at hl 2 rfl) ?_
        refine lv_if_eq (tgt := 141) S.1 S.2.1 dX2_part_124 rfl (fun c18 => ?_) (fun c18 => ?_)
        · replace h := if_t c18 h
          refine lv_aload_n S.1 S.2.1 dX2_part_141 rfl (lv_at hl 0 rfl) ?_
          obtain ⟨hrc, h⟩ := oK1 h
          refine gxVr (As := []) (rest := []) S X Z hw (b := x0) hno hlocks h (fun u h1 => met_B_X2_expression l E A LC LS hpt x0 w17 u h1) (cb_X2_128 S.2.2.2.2 rfl rfl ⟨Nat.le_trans (show 5 * d + 16 + 1 ≤ 5 * (d + 1) + 12 by omega) hF, Nat.le_trans (show 8 + (3 + 11) + (300 * d + 460) ≤ 300 * (d + 1) + 300 by omega) hL⟩) (g_recv X hw (ci := 1) rfl (gcell_2 hrc)) rfl hl.1 rfl (lv_room (Nat.le_of_ble_eq_true rfl)) dX2_part_142 (fun a20 w19 H locs h hw => ?_)
          exact wk_B_X2_part_p145 S X Z hF hL hr hlocks hno hpt _ _ _ _ _ _ _ h hw (lv_sub hl [0, 3] rfl)
        · replace h := if_f c18 h
          refine gnX2_322 S X Z hw dX2_part_127 h (fun w25 H h hw => ?_)
          refine lv_dup S.1 S.2.1 dX2_part_130 rfl ?_
          refine lv_aload_n S.1 S.2.1 dX2_part_131 rfl (lv_at hl 0 rfl) ?_
          obtain ⟨hrc, h⟩ := oK1 h
          refine gxVr (As := []) (rest := [.ref (gZ w17), .ref (gZ w17)]) S X Z hw (b := x0) hno hlocks h (fun u h1 => hpt x0 w25 u h1) (cb_X2_311 S.2.2.2.2 rfl rfl ⟨Nat.le_trans (show 5 * d + 12 + 1 ≤ 5 * (d + 1) + 12 by omega) hF, Nat.le_trans (show 8 + (5 + 11) + (300 * d + 300) ≤ 300 * (d + 1) + 300 by omega) hL⟩) (g_recv X hw (ci := 1) rfl (gcell_2 hrc)) rfl hl.1 rfl (lv_room (Nat.le_of_ble_eq_true rfl)) dX2_part_132 (fun a27 w26 H locs h hw => ?_)
          refine gcIv (As := [.ref a27]) (rest := [.ref (gZ w17)]) S X Z hw (b := (gZ w17)) h (fun u h1 => met_B_X16_init l E A LC LS (gZ w17) a27 w26 u h1) (cb_X2_324 S.2.2.2.2 rfl rfl ⟨Nat.le_trans (show 2 + 1 ≤ 5 * (d + 1) + 12 by omega) hF, Nat.le_trans (show 8 + (2 + 11) + (40) ≤ 300 * (d + 1) + 300 by omega) hL⟩) rfl hl.1 rfl (lv_room (Nat.le_of_ble_eq_true rfl)) dX2_part_135 (fun w28 H locs h hw => ?_)
          refine lv_goto (tgt := 145) S.1 S.2.1 dX2_part_138 rfl ?_
          exact wk_B_X2_part_p145 S X Z hF hL hr hlocks hno hpt _ _ _ _ _ _ _ h hw (lv_sub hl [0, 3] rfl)
      · replace h := if_f c15 h
        refine gnX2_319 S X Z hw dX2_part_104 h (fun w29 H h hw => ?_)
        refine lv_dup S.1 S.2.1 dX2_part_107 rfl ?_
        refine lv_iload_n S.1 S.2.1 dX2_part_108 rfl (lv_at hl 1 rfl) ?_
        refine gcIv (As := [.int x1]) (rest := [.ref (gZ w14)]) S X Z hw (b := (gZ w14)) h (fun u h1 => met_B_X15_init l E A LC LS (gZ w14) x1 w29 u h1) (cb_X2_321 S.2.2.2.2 rfl rfl ⟨Nat.le_trans (show 2 + 1 ≤ 5 * (d + 1) + 12 by omega) hF, Nat.le_trans (show 8 + (2 + 11) + (40) ≤ 300 * (d + 1) + 300 by omega) hL⟩) rfl hl.1 rfl (lv_room (Nat.le_of_ble_eq_true rfl)) dX2_part_109 (fun w30 H locs h hw => ?_)
        exact x_aret S Z hr (Or.inl ⟨_, rfl⟩) hlocks hw (so1 h) dX2_part_112
    · replace h := if_t c13 h
      refine gnX2_316 S X Z hw dX2_part_80 h (fun w31 H h hw => ?_)
      refine lv_dup S.1 S.2.1 dX2_part_83 rfl ?_
      refine lv_aload_n S.1 S.2.1 dX2_part_84 rfl (lv_at hl 0 rfl) ?_
      refine lv_iconst (v := 0) S.1 S.2.1 dX2_part_85 rfl ?_
      refine lv_sipush (v := 9999) S.1 S.2.1 dX2_part_86 rfl ?_
      obtain ⟨hrc, h⟩ := oK1 h
      refine gxVi (As := [.int (0 : Int32), .int (9999 : Int32)]) (rest := [.ref (gZ w), .ref (gZ w)]) S X Z hw (b := x0) hno hlocks h (fun u h1 => met_B_X2_number_2 l E A LC LS x0 (0 : Int32) (9999 : Int32) w31 u h1) (cb_X2_121 S.2.2.2.2 rfl rfl ⟨Nat.le_trans (show 6 + 1 ≤ 5 * (d + 1) + 12 by omega) hF, Nat.le_trans (show 8 + (4 + 11) + (135) ≤ 300 * (d + 1) + 300 by omega) hL⟩) (g_recv X hw (ci := 1) rfl (gcell_2 hrc)) rfl hl.1 rfl (lv_room (Nat.le_of_ble_eq_true rfl)) dX2_part_89 (fun r33 w32 H locs h hw => ?_)
      refine gcIv (As := [.int r33]) (rest := [.ref (gZ w)]) S X Z hw (b := (gZ w)) h (fun u h1 => met_B_X14_init l E A LC LS (gZ w) r33 w32 u h1) (cb_X2_318 S.2.2.2.2 rfl rfl ⟨Nat.le_trans (show 2 + 1 ≤ 5 * (d + 1) + 12 by omega) hF, Nat.le_trans (show 8 + (2 + 11) + (40) ≤ 300 * (d + 1) + 300 by omega) hL⟩) rfl hl.1 rfl (lv_room (Nat.le_of_ble_eq_true rfl)) dX2_part_92 (fun w34 H locs h hw => ?_)
      exact x_aret S Z hr (Or.inl ⟨_, rfl⟩) hlocks hw (so1 h) dX2_part_95
  · replace h := if_t c11 h
    refine lv_aload_n S.1 S.2.1 dX2_part_66 rfl (lv_at hl 0 rfl) ?_
    refine lv_iconst (v := 5) S.1 S.2.1 dX2_part_67 rfl ?_
    obtain ⟨hrc, h⟩ := oK1 h
    refine gcVr (As := [.int (5 : Int32)]) (rest := []) S X Z hw (b := x0) h (fun u h1 => met_B_X2_wrong l E A LC LS x0 (5 : Int32) w u h1) (cb_X2_75 S.2.2.2.2 rfl rfl ⟨Nat.le_trans (show 5 + 1 ≤ 5 * (d + 1) + 12 by omega) hF, Nat.le_trans (show 8 + (2 + 11) + (114) ≤ 300 * (d + 1) + 300 by omega) hL⟩) (g_recv X hw (ci := 1) rfl (gcell_2 hrc)) rfl hl.1 rfl (lv_room (Nat.le_of_ble_eq_true rfl)) dX2_part_68 (fun a36 w35 H locs h hw => ?_)
    exact x_throw S X hno hlocks Z hw dX2_part_71 h
set_option maxRecDepth 100000 in
set_option maxHeartbeats 4000000 in
theorem wk_B_X2_part_p24 {p : Program} {l : Launch} {e : Env} {R : Room} {s : State} {m : MethodId} {args : Array Value} {below : List Frame} {meth : Method} {c : Code} {E : gE} {A : Nat → Prop} {LC LS : Nat} {d : Nat} (S : CallFix p m c cX2_part 5 s args lw_all RX2) (X : gCtx E A s) (Z : gRm R s LC LS) (hF : 5 * (d + 1) + 12 ≤ R.frames) (hL : 300 * (d + 1) + 300 ≤ R.locals) (hr : meth.sig.returnType = (Option.some (Jvm.ClassFile.FieldType.object "PulseRent$Expression"))) (hlocks : meth.locks = false) (hno : ∀ x ∈ c.exceptionTable.toList, False) {res : (Nat ⊕ Nat) × GS} {pt : Nat → GS → Option ((Nat ⊕ Nat) × GS)} (hpt : ∀ (x0 : Nat) (w : GS) (res : (Nat ⊕ Nat) × GS), pt x0 w = some res → vx_Met l yX2_part (ws_ yX2_part cX2_part 5 (Option.some (Jvm.ClassFile.FieldType.object "PulseRent$Expression"))) (gRoom (5 * d + 12) (300 * d + 300) LC LS w) (gPc E A LC LS [.ref x0] w) (gXr E A LC LS res) (gXX E A LC LS res) (LC - gZ w) (LS - gN w) A) : ∀ (x0 : Nat) (x1 : Int32) (t0 : Int32) (w : GS) (H : Heap) (locs : List Loc) (ls : Array Slot), B_X2_part_p24 pt x0 x1 t0 w = some res → gH E A LC LS s w H locs → lv_has ls 5 [(0, .ref x0), (1, .int x1)] → W p l e R s m args below meth c H locs (H.size - s.heap.size) (tot H - tot s.heap) (vx_MQ below (gXr E A LC LS res) (gXX E A LC LS res) args s R.cells R.slots A) (F0 m 24 ls [.int t0]) := by
  intro x0 x1 t0 w H locs ls h hw hl
  unfold B_X2_part_p24 at h
  refine lv_istore_n (lv' := [(2, .int t0), (0, .ref x0), (1, .int x1)]) S.1 S.2.1 dX2_part_24 rfl hl (by decide) rfl (fun ls hl => ?_)
  refine lv_aload_n S.1 S.2.1 dX2_part_25 rfl (lv_at hl 1 rfl) ?_
  refine lv_bipush (v := 40) S.1 S.2.1 dX2_part_26 rfl ?_
  obtain ⟨hrc, h⟩ := oK1 h
  refine gcVri (As := [.int (40 : Int32)]) (rest := []) S X Z hw (b := x0) h (fun u h1 => met_B_X2_isSign l E A LC LS x0 (40 : Int32) w u h1) (cb_X2_79 S.2.2.2.2 rfl rfl ⟨Nat.le_trans (show 0 + 1 ≤ 5 * (d + 1) + 12 by omega) hF, Nat.le_trans (show 8 + (2 + 11) + (0) ≤ 300 * (d + 1) + 300 by omega) hL⟩) (g_recv X hw (ci := 1) rfl (gcell_2 hrc)) rfl hl.1 rfl (lv_room (Nat.le_of_ble_eq_true rfl)) dX2_part_28 (fun r8 H locs h hw => ?_)
  refine lv_istore_n (lv' := [(3, .int r8), (2, .int t0), (0, .ref x0), (1, .int x1)]) S.1 S.2.1 dX2_part_31 rfl hl (by decide) rfl (fun ls hl => ?_)
  refine lv_iload_n S.1 S.2.1 dX2_part_32 rfl (lv_at hl 3 rfl) ?_
  refine lv_if_ge (tgt := 58) S.1 S.2.1 dX2_part_33 rfl (fun c9 => ?_) (fun c9 => ?_)
  · replace h := if_t c9 h
    exact wk_B_X2_part_p58 S X Z hF hL hr hlocks hno hpt _ _ _ _ _ _ _ _ h hw (lv_sub hl [2, 3, 1, 0] rfl)
  · replace h := if_f c9 h
    refine lv_iload_n S.1 S.2.1 dX2_part_36 rfl (lv_at hl 1 rfl) ?_
    refine lv_if_ne (tgt := 58) S.1 S.2.1 dX2_part_37 rfl (fun c37 => ?_) (fun c37 => ?_)
    · replace h := if_f c37 h
      exact wk_B_X2_part_p58 S X Z hF hL hr hlocks hno hpt _ _ _ _ _ _ _ _ h hw (lv_sub hl [2, 3, 1, 0] rfl)
    · replace h := if_t c37 h
      refine lv_iload_n S.1 S.2.1 dX2_part_40 rfl (lv_at hl 0 rfl) ?_
      refine lv_if_ne (tgt := 58) S.1 S.2.1 dX2_part_41 rfl (fun c38 => ?_) (fun c38 => ?_)
      · replace h := if_f c38 h
        exact wk_B_X2_part_p58 S X Z hF hL hr hlocks hno hpt _ _ _ _ _ _ _ _ h hw (lv_sub hl [2, 3, 1, 0] rfl)
      · replace h := if_t c38 h
        refine lv_aload_n S.1 S.2.1 dX2_part_44 rfl (lv_at hl 2 rfl) ?_
        refine ggX2_31 S X hw dX2_part_45 h (fun v39 h => ?_)
        refine lv_iconst (v := 2) S.1 S.2.1 dX2_part_48 rfl ?_
        refine lv_icmp_eq (tgt := 58) S.1 S.2.1 dX2_part_49 rfl (fun c40 => ?_) (fun c40 => ?_)
        · replace h := if_t c40 h
          exact wk_B_X2_part_p58 S X Z hF hL hr hlocks hno hpt _ _ _ _ _ _ _ _ h hw (lv_sub hl [2, 3, 1, 0] rfl)
        · replace h := if_f c40 h
          refine lv_aload_n S.1 S.2.1 dX2_part_52 rfl (lv_at hl 2 rfl) ?_
          refine lv_iconst (v := 1) S.1 S.2.1 dX2_part_53 rfl ?_
          obtain ⟨hrc, h⟩ := oK1 h
          refine gcVr (As := [.int (1 : Int32)]) (rest := []) S X Z hw (b := x0) h (fun u h1 => met_B_X2_wrong l E A LC LS x0 (1 : Int32) w u h1) (cb_X2_75 S.2.2.2.2 rfl rfl ⟨Nat.le_trans (show 5 + 1 ≤ 5 * (d + 1) + 12 by omega) hF, Nat.le_trans (show 8 + (2 + 11) + (114) ≤ 300 * (d + 1) + 300 by omega) hL⟩) (g_recv X hw (ci := 1) rfl (gcell_2 hrc)) rfl hl.1 rfl (lv_room (Nat.le_of_ble_eq_true rfl)) dX2_part_54 (fun a42 w41 H locs h hw => ?_)
          exact x_throw S X hno hlocks Z hw dX2_part_57 h
set_option maxRecDepth 100000 in
set_option maxHeartbeats 4000000 in
theorem met_B_X2_partb (l : Launch) (E : gE) (A : Nat → Prop) (LC LS : Nat) {d : Nat} {pt : Nat → GS → Option ((Nat ⊕ Nat) × GS)} (hpt : ∀ (x0 : Nat) (w : GS) (res : (Nat ⊕ Nat) × GS), pt x0 w = some res → vx_Met l yX2_part (ws_ yX2_part cX2_part 5 (Option.some (Jvm.ClassFile.FieldType.object "PulseRent$Expression"))) (gRoom (5 * d + 12) (300 * d + 300) LC LS w) (gPc E A LC LS [.ref x0] w) (gXr E A LC LS res) (gXX E A LC LS res) (LC - gZ w) (LS - gN w) A) (x0 : Nat) (w : GS) (res : (Nat ⊕ Nat) × GS) (h : B_X2_partb pt x0 w = some res) : vx_Met l yX2_part (ws_ yX2_part cX2_part 5 (Option.some (Jvm.ClassFile.FieldType.object "PulseRent$Expression"))) (gRoom (5 * (d + 1) + 12) (300 * (d + 1) + 300) LC LS w) (gPc E A LC LS [.ref x0] w) (gXr E A LC LS res) (gXX E A LC LS res) (LC - gZ w) (LS - gN w) A := by
  refine gMetx (by decide) rfl (Nat.le_of_ble_eq_true rfl) ?_
  intro p e s m below meth c R S hr hlocks hno X Z hF hL H ls hw hl
  replace hl : lv_has ls 5 [(0, .ref x0)] := hl
  unfold B_X2_partb at h
  refine lv_aload_n S.1 S.2.1 dX2_part_0 rfl (lv_at hl 0 rfl) ?_
  refine lv_aload_n S.1 S.2.1 dX2_part_1 rfl (lv_at hl 0 rfl) ?_
  refine ggX2_124 S X hw dX2_part_2 h (fun a1 h => ?_)
  obtain ⟨hrc, h⟩ := oK1 h
  refine gcVi (As := [.ref a1]) (rest := []) S X Z hw (b := x0) h (fun u h1 => met_B_X2_which l E A LC LS x0 a1 w u h1) (cb_X2_71 S.2.2.2.2 rfl rfl ⟨Nat.le_trans (show 4 + 1 ≤ 5 * (d + 1) + 12 by omega) hF, Nat.le_trans (show 8 + (7 + 11) + (85) ≤ 300 * (d + 1) + 300 by omega) hL⟩) (g_recv X hw (ci := 1) rfl (gcell_2 hrc)) rfl hl.1 rfl (lv_room (Nat.le_of_ble_eq_true rfl)) dX2_part_5 (fun r3 w2 H locs h hw => ?_)
  refine lv_istore_n (lv' := [(1, .int r3), (0, .ref x0)]) S.1 S.2.1 dX2_part_8 rfl hl (by decide) rfl (fun ls hl => ?_)
  refine lv_aload_n S.1 S.2.1 dX2_part_9 rfl (lv_at hl 1 rfl) ?_
  refine glw19 S X hw dX2_part_10 h (fun a4 h => ?_)
  obtain ⟨hrc, h⟩ := oK1 h
  refine gcVi (As := [.ref a4]) (rest := []) S X Z hw (b := x0) h (fun u h1 => met_B_X2_which l E A LC LS x0 a4 w2 u h1) (cb_X2_71 S.2.2.2.2 rfl rfl ⟨Nat.le_trans (show 4 + 1 ≤ 5 * (d + 1) + 12 by omega) hF, Nat.le_trans (show 8 + (7 + 11) + (85) ≤ 300 * (d + 1) + 300 by omega) hL⟩) (g_recv X hw (ci := 1) rfl (gcell_2 hrc)) rfl hl.1 rfl (lv_room (Nat.le_of_ble_eq_true rfl)) dX2_part_13 (fun r6 w5 H locs h hw => ?_)
  refine lv_if_lt (tgt := 23) S.1 S.2.1 dX2_part_16 rfl (fun c7 => ?_) (fun c7 => ?_)
  · replace h := if_t c7 h
    refine lv_iconst (v := 0) S.1 S.2.1 dX2_part_23 rfl ?_
    exact wk_B_X2_part_p24 S X Z hF hL hr hlocks hno hpt _ _ _ _ _ _ _ h hw (lv_sub hl [1, 0] rfl)
  · replace h := if_f c7 h
    refine lv_iconst (v := 1) S.1 S.2.1 dX2_part_19 rfl ?_
    refine lv_goto (tgt := 24) S.1 S.2.1 dX2_part_20 rfl ?_
    exact wk_B_X2_part_p24 S X Z hF hL hr hlocks hno hpt _ _ _ _ _ _ _ h hw (lv_sub hl [1, 0] rfl)
theorem met_B_X2_part (l : Launch) (E : gE) (A : Nat → Prop) (LC LS : Nat) : ∀ (d : Nat) (x0 : Nat) (w : GS) (res : (Nat ⊕ Nat) × GS), B_X2_part d x0 w = some res → vx_Met l yX2_part (ws_ yX2_part cX2_part 5 (Option.some (Jvm.ClassFile.FieldType.object "PulseRent$Expression"))) (gRoom (5 * d + 12) (300 * d + 300) LC LS w) (gPc E A LC LS [.ref x0] w) (gXr E A LC LS res) (gXX E A LC LS res) (LC - gZ w) (LS - gN w) A := by
  intro d
  induction d with
  | zero => intro x0 w res h; cases (show (none : Option ((Nat ⊕ Nat) × GS)) = some res from h)
  | succ d ih => intro x0 w res h; exact met_B_X2_partb l E A LC LS ih x0 w res h
