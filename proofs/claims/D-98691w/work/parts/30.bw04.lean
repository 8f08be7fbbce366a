/-! walks over the plain heap, printed by gen/bgen.py -/
set_option maxRecDepth 100000
def B_X2_worked (x0 : Nat) (x1 : Nat) (w : GS) : Option ((Nat ⊕ Nat) × GS) :=
  bd1 (pR w x0 2 2 8 (some x1)) fun w1 =>
  bd1 (oK w1 x0 2 2) fun _ =>
  bdx (B_X2_expression (B_X2_part 8) x0 w1) fun a3 w2 =>
  some (.inl a3, w2)
set_option maxRecDepth 100000 in
set_option maxHeartbeats 4000000 in
theorem met_B_X2_worked (l : Launch) (E : gE) (A : Nat → Prop) (LC LS : Nat)  (x0 : Nat) (x1 : Nat) (w : GS) (res : (Nat ⊕ Nat) × GS) (h : B_X2_worked x0 x1 w = some res) : vx_Met l yX2_worked (ws_ yX2_worked cX2_worked 2 (Option.some (Jvm.ClassFile.FieldType.object "PulseRent$Expression"))) (gRoom 57 2882 LC LS w) (gPc E A LC LS [.ref x0, .ref x1] w) (gXr E A LC LS res) (gXX E A LC LS res) (LC - gZ w) (LS - gN w) A := by
  refine gMetx (by decide) rfl (Nat.le_of_ble_eq_true rfl) ?_
  intro p e s m below meth c R S hr hlocks hno X Z hF hL H ls hw hl
  replace hl : lv_has ls 2 [(0, .ref x0), (1, .ref x1)] := hl
  unfold B_X2_worked at h
  refine lv_aload_n S.1 S.2.1 dX2_worked_0 rfl (lv_at hl 0 rfl) ?_
  refine lv_aload_n S.1 S.2.1 dX2_worked_1 rfl (lv_at hl 1 rfl) ?_
  refine gpX2_124 (v := some x1) S X hw dX2_worked_2 h (fun w1 H locs h hw => ?_)
  refine lv_aload_n S.1 S.2.1 dX2_worked_5 rfl (lv_at hl 0 rfl) ?_
  obtain ⟨hrc, h⟩ := oK1 h
  refine gxVr (As := []) (rest := []) S X Z hw (b := x0) hno hlocks h (fun u h1 => met_B_X2_expression l E A LC LS (met_B_X2_part l E A LC LS 8) x0 w1 u h1) (cb_X2_128 S.2.2.2.2 rfl rfl ⟨Nat.le_trans (Nat.le_of_ble_eq_true rfl : 56 + 1 ≤ 57) hF, Nat.le_trans (Nat.le_of_ble_eq_true rfl : 8 + (3 + 11) + 2860 ≤ 2882) hL⟩) (g_recv X hw (ci := 1) rfl (gcell_2 hrc)) rfl hl.1 rfl (lv_room (Nat.le_of_ble_eq_true rfl)) dX2_worked_6 (fun a3 w2 H locs h hw => ?_)
  exact x_aret S Z hr (Or.inl ⟨_, rfl⟩) hlocks hw (so1 h) dX2_worked_9
theorem cb_X2_168 {R : Room} {s : State} {args : Array Value} {rm : Room} {mc ms : Nat} (hts : ∀ w ∈ lw_all, w.before args s = true) (hc : rm.cells = mc) (hs : rm.slots = ms) (hR : rm.frames + 1 ≤ R.frames ∧ 8 + (2 + 11) + rm.locals ≤ R.locals) : CallW R s args RX2 RX2 168 yX2_fresh cX2_fresh 2 (Option.some (Jvm.ClassFile.FieldType.object "java/lang/String")) (ws_ yX2_fresh cX2_fresh 2 (Option.some (Jvm.ClassFile.FieldType.object "java/lang/String"))) rm mc ms 0 := cwV 0 hts (lw_V q672 q674 qs7 q136 q675) rfl hc hs (by decide +kernel) hR
theorem cb_X2_219 {R : Room} {s : State} {args : Array Value} {rm : Room} {mc ms : Nat} (hts : ∀ w ∈ lw_all, w.before args s = true) (hc : rm.cells = mc) (hs : rm.slots = ms) (hR : rm.frames + 1 ≤ R.frames ∧ 8 + (3 + 11) + rm.locals ≤ R.locals) : CallW R s args RX2 RX2 219 yX2_one cX2_one 3 (Option.some Jvm.ClassFile.FieldType.int) (ws_ yX2_one cX2_one 3 (Option.some Jvm.ClassFile.FieldType.int)) rm mc ms 1 := cwV 1 hts (lw_V q971 q973 qs16 q136 q974) rfl hc hs (by decide +kernel) hR
theorem cb_X2_234 {R : Room} {s : State} {args : Array Value} {rm : Room} {mc ms : Nat} (hts : ∀ w ∈ lw_all, w.before args s = true) (hc : rm.cells = mc) (hs : rm.slots = ms) (hR : rm.frames + 1 ≤ R.frames ∧ 8 + (2 + 11) + rm.locals ≤ R.locals) : CallB R s args RX2 234 yX11_init cX11_init 2 none (ws_ yX11_init cX11_init 2 (Option.none : Option Jvm.ClassFile.FieldType)) rm mc ms 1 ∧ yX11_init.name = "<init>" ∧ (Cond.instanceMethod yX11_init).before args s = true := cwI 1 hts (lw_meth q1041) rfl hc hs (hts _ q163) (hts _ q1039) (hts _ q1040) rfl (by decide +kernel) hR
theorem cb_X2_173 {R : Room} {s : State} {args : Array Value} {rm : Room} {mc ms : Nat} (hts : ∀ w ∈ lw_all, w.before args s = true) (hc : rm.cells = mc) (hs : rm.slots = ms) (hR : rm.frames + 1 ≤ R.frames ∧ 8 + (4 + 11) + rm.locals ≤ R.locals) : CallW R s args RX2 RX2 173 yX2_number cX2_number 4 (Option.some Jvm.ClassFile.FieldType.int) (ws_ yX2_number cX2_number 4 (Option.some Jvm.ClassFile.FieldType.int)) rm mc ms 3 := cwV 3 hts (lw_V q865 q867 qs9 q136 q868) rfl hc hs (by decide +kernel) hR
theorem cb_X2_185 {R : Room} {s : State} {args : Array Value} {rm : Room} {mc ms : Nat} (hts : ∀ w ∈ lw_all, w.before args s = true) (hc : rm.cells = mc) (hs : rm.slots = ms) (hR : rm.frames + 1 ≤ R.frames ∧ 8 + (2 + 11) + rm.locals ≤ R.locals) : CallW R s args RX2 RJ2 185 yJ2_add cJ2_add 2 (Option.some Jvm.ClassFile.FieldType.boolean) (ws_ yJ2_add cJ2_add 2 (Option.some Jvm.ClassFile.FieldType.boolean)) rm mc ms 1 := cwV 1 hts (lw_V q907 q908 q909 q140 q910) rfl hc hs (by decide +kernel) hR
theorem cb_X2_252 {R : Room} {s : State} {args : Array Value} {rm : Room} {mc ms : Nat} (hts : ∀ w ∈ lw_all, w.before args s = true) (hc : rm.cells = mc) (hs : rm.slots = ms) (hR : rm.frames + 1 ≤ R.frames ∧ 8 + (2 + 11) + rm.locals ≤ R.locals) : CallW R s args RX2 RX2 252 yX2_room cX2_room 2 (Option.some Jvm.ClassFile.FieldType.int) (ws_ yX2_room cX2_room 2 (Option.some Jvm.ClassFile.FieldType.int)) rm mc ms 0 := cwV 0 hts (lw_V q1054 q1056 qs17 q136 q1057) rfl hc hs (by decide +kernel) hR
theorem cb_X2_256 {R : Room} {s : State} {args : Array Value} {rm : Room} {mc ms : Nat} (hts : ∀ w ∈ lw_all, w.before args s = true) (hc : rm.cells = mc) (hs : rm.slots = ms) (hR : rm.frames + 1 ≤ R.frames ∧ 8 + (3 + 11) + rm.locals ≤ R.locals) : CallW R s args RX2 RX3 256 yX3_isLet cX3_isLet 3 (Option.some Jvm.ClassFile.FieldType.boolean) (ws_ yX3_isLet cX3_isLet 3 (Option.some Jvm.ClassFile.FieldType.boolean)) rm mc ms 1 := cwV 1 hts (lw_V q1058 q1059 q1060 q137 q1061) rfl hc hs (by decide +kernel) hR
theorem cb_X2_231 {R : Room} {s : State} {args : Array Value} {rm : Room} {mc ms : Nat} (hts : ∀ w ∈ lw_all, w.before args s = true) (hc : rm.cells = mc) (hs : rm.slots = ms) (hR : rm.frames + 1 ≤ R.frames ∧ 8 + (2 + 11) + rm.locals ≤ R.locals) : CallB R s args RX2 231 yX10_init cX10_init 2 none (ws_ yX10_init cX10_init 2 (Option.none : Option Jvm.ClassFile.FieldType)) rm mc ms 1 ∧ yX10_init.name = "<init>" ∧ (Cond.instanceMethod yX10_init).before args s = true := cwI 1 hts (lw_meth q1028) rfl hc hs (hts _ q162) (hts _ q1026) (hts _ q1027) rfl (by decide +kernel) hR
theorem cb_X2_228 {R : Room} {s : State} {args : Array Value} {rm : Room} {mc ms : Nat} (hts : ∀ w ∈ lw_all, w.before args s = true) (hc : rm.cells = mc) (hs : rm.slots = ms) (hR : rm.frames + 1 ≤ R.frames ∧ 8 + (2 + 11) + rm.locals ≤ R.locals) : CallB R s args RX2 228 yX9_init cX9_init 2 none (ws_ yX9_init cX9_init 2 (Option.none : Option Jvm.ClassFile.FieldType)) rm mc ms 1 ∧ yX9_init.name = "<init>" ∧ (Cond.instanceMethod yX9_init).before args s = true := cwI 1 hts (lw_meth q1015) rfl hc hs (hts _ q161) (hts _ q1013) (hts _ q1014) rfl (by decide +kernel) hR
theorem cb_X2_224 {R : Room} {s : State} {args : Array Value} {rm : Room} {mc ms : Nat} (hts : ∀ w ∈ lw_all, w.before args s = true) (hc : rm.cells = mc) (hs : rm.slots = ms) (hR : rm.frames + 1 ≤ R.frames ∧ 8 + (2 + 11) + rm.locals ≤ R.locals) : CallB R s args RX2 224 yX8_init cX8_init 2 none (ws_ yX8_init cX8_init 2 (Option.none : Option Jvm.ClassFile.FieldType)) rm mc ms 1 ∧ yX8_init.name = "<init>" ∧ (Cond.instanceMethod yX8_init).before args s = true := cwI 1 hts (lw_meth q979) rfl hc hs (hts _ q160) (hts _ q977) (hts _ q978) rfl (by decide +kernel) hR
def B_X2_comes_p154 (x0 : Nat) (x3 : Nat) (w : GS) : Option ((Unit ⊕ Nat) × GS) :=
  bd1 (oRn w x0 2 2 7) fun a27 =>
  bd1 (oRn w a27 3 3 1) fun a28 =>
  bd1 (oK w a28 23 23) fun _ =>
  bd2 (B_J2_add a28 x3 w) fun r30 w29 =>
  some (.inl (), w29)
def B_X2_comes_p67 (x0 : Nat) (t0 : Nat) (w : GS) : Option ((Unit ⊕ Nat) × GS) :=
  bd1 (gT w 23) fun a11 =>
  bd1 (oK w x0 2 2) fun _ =>
  bdx (B_X2_number x0 a11 (40 : Int32) (99 : Int32) w) fun r13 w12 =>
  bd1 (pI w12 t0 8 11 1 r13) fun w14 =>
  bd1 (gT w14 24) fun a15 =>
  bd1 (oK w14 x0 2 2) fun _ =>
  bdx (B_X2_number x0 a15 (0 : Int32) (40 : Int32) w14) fun r17 w16 =>
  bd1 (pI w16 t0 8 11 2 r17) fun w18 =>
  bd1 (gT w18 25) fun a19 =>
  bd1 (oK w18 x0 2 2) fun _ =>
  bdx (B_X2_number x0 a19 (0 : Int32) (9999 : Int32) w18) fun r21 w20 =>
  bd1 (pI w20 t0 8 11 3 r21) fun w22 =>
  bd1 (gT w22 26) fun a23 =>
  bd1 (oK w22 x0 2 2) fun _ =>
  bd2 (B_X2_which x0 a23 w22) fun r25 w24 =>
  if r25 < 0 then
    B_X2_comes_p154 x0 t0 w24
  else
    bd1 (oK w24 x0 2 2) fun _ =>
    bd1 (B_X2_next x0 w24) fun w31 =>
    bd1 (oK w31 x0 2 2) fun _ =>
    bdx (B_X2_room x0 w31) fun r33 w32 =>
    bd1 (pI w32 t0 8 11 4 r33) fun w34 =>
    bd1 (oRn w34 x0 2 2 7) fun a35 =>
    bd1 (oI w34 t0 8 11 4) fun v36 =>
    bd1 (oK w34 a35 3 3) fun _ =>
    bd1 (B_X3_isLet a35 v36 w34) fun r37 =>
    if r37 = 0 then
      bd1 (oK w34 x0 2 2) fun _ =>
      bd1 (B_X2_next x0 w34) fun w39 =>
      B_X2_comes_p154 x0 t0 w39
    else
      bd1 (oK w34 x0 2 2) fun _ =>
      bd2 (B_X2_wrong x0 (3 : Int32) w34) fun a41 w40 =>
      bd1 (oK w40 a41 6 6) fun _ => some (.inr a41, w40)
def B_X2_comes (x0 : Nat) (w : GS) : Option ((Unit ⊕ Nat) × GS) :=
  bd1 (oK w x0 2 2) fun _ =>
  bdx (B_X2_fresh x0 w) fun a2 w1 =>
  bd1 (gT w1 22) fun a3 =>
  bd1 (oK w1 x0 2 2) fun _ =>
  bdx (B_X2_one x0 a3 w1) fun r5 w4 =>
  if r5 = 0 then
    bd1 (onw w4 8 0 6) fun w46 =>
    bd1 (B_X8_init (gZ w4) a2 w46) fun w47 =>
    B_X2_comes_p67 x0 (gZ w4) w47
  else
    if r5 = (1 : Int32) then
      bd1 (onw w4 9 0 6) fun w44 =>
      bd1 (B_X9_init (gZ w4) a2 w44) fun w45 =>
      B_X2_comes_p67 x0 (gZ w4) w45
    else
      if r5 = (2 : Int32) then
        bd1 (onw w4 10 0 6) fun w42 =>
        bd1 (B_X10_init (gZ w4) a2 w42) fun w43 =>
        B_X2_comes_p67 x0 (gZ w4) w43
      else
        bd1 (onw w4 11 0 6) fun w9 =>
        bd1 (B_X11_init (gZ w4) a2 w9) fun w10 =>
        B_X2_comes_p67 x0 (gZ w4) w10
set_option maxRecDepth 100000 in
set_option maxHeartbeats 4000000 in
theorem wk_B_X2_comes_p154 {p : Program} {l : Launch} {e : Env} {R : Room} {s : State} {m : MethodId} {args : Array Value} {below : List Frame} {meth : Method} {c : Code} {E : gE} {A : Nat → Prop} {LC LS : Nat} (S : CallFix p m c cX2_comes 4 s args lw_all RX2) (X : gCtx E A s) (Z : gRm R s LC LS) (hF : 8 ≤ R.frames) (hL : 194 ≤ R.locals) (hr : meth.sig.returnType = (Option.none : Option Jvm.ClassFile.FieldType)) (hlocks : meth.locks = false) (hno : ∀ x ∈ c.exceptionTable.toList, False) {res : (Unit ⊕ Nat) × GS}  : ∀ (x0 : Nat) (x3 : Nat) (w : GS) (H : Heap) (locs : List Loc) (ls : Array Slot), B_X2_comes_p154 x0 x3 w = some res → gH E A LC LS s w H locs → lv_has ls 4 [(0, .ref x0), (3, .ref x3)] → W p l e R s m args below meth c H locs (H.size - s.heap.size) (tot H - tot s.heap) (vx_MQ below (gXv E A LC LS res) (gXX E A LC LS res) args s R.cells R.slots A) (F0 m 154 ls []) := by
  intro x0 x3 w H locs ls h hw hl
  unfold B_X2_comes_p154 at h
  refine lv_aload_n S.1 S.2.1 dX2_comes_154 rfl (lv_at hl 0 rfl) ?_
  refine ggX2_101 S X hw dX2_comes_155 h (fun a27 h => ?_)
  refine ggX2_156 S X hw dX2_comes_158 h (fun a28 h => ?_)
  refine lv_aload_n S.1 S.2.1 dX2_comes_161 rfl (lv_at hl 1 rfl) ?_
  obtain ⟨hrc, h⟩ := oK1 h
  refine gcVi (As := [.ref x3]) (rest := []) S X Z hw (b := a28) h (fun u h1 => met_B_J2_add l E A LC LS a28 x3 w u h1) (cb_X2_185 S.2.2.2.2 rfl rfl ⟨Nat.le_trans (Nat.le_of_ble_eq_true rfl : 6 + 1 ≤ 8) hF, Nat.le_trans (Nat.le_of_ble_eq_true rfl : 8 + (2 + 11) + 150 ≤ 194) hL⟩) (g_recv X hw (ci := 22) rfl (gcell_23 hrc)) rfl hl.1 rfl (lv_room (Nat.le_of_ble_eq_true rfl)) dX2_comes_162 (fun r30 w29 H locs h hw => ?_)
  refine lv_pop S.1 S.2.1 dX2_comes_165 rfl ?_
  exact x_vret S Z hr hlocks hw (so1 h) dX2_comes_166
set_option maxRecDepth 100000 in
set_option maxHeartbeats 4000000 in
theorem wk_B_X2_comes_p67 {p : Program} {l : Launch} {e : Env} {R : Room} {s : State} {m : MethodId} {args : Array Value} {below : List Frame} {meth : Method} {c : Code} {E : gE} {A : Nat → Prop} {LC LS : Nat} (S : CallFix p m c cX2_comes 4 s args lw_all RX2) (X : gCtx E A s) (Z : gRm R s LC LS) (hF : 8 ≤ R.frames) (hL : 194 ≤ R.locals) (hr : meth.sig.returnType = (Option.none : Option Jvm.ClassFile.FieldType)) (hlocks : meth.locks = false) (hno : ∀ x ∈ c.exceptionTable.toList, False) {res : (Unit ⊕ Nat) × GS}  : ∀ (x0 : Nat) (t0 : Nat) (w : GS) (H : Heap) (locs : List Loc) (ls : Array Slot), B_X2_comes_p67 x0 t0 w = some res → gH E A LC LS s w H locs → lv_has ls 4 [(0, .ref x0)] → W p l e R s m args below meth c H locs (H.size - s.heap.size) (tot H - tot s.heap) (vx_MQ below (gXv E A LC LS res) (gXX E A LC LS res) args s R.cells R.slots A) (F0 m 67 ls [.ref t0]) := by
  intro x0 t0 w H locs ls h hw hl
  unfold B_X2_comes_p67 at h
  refine lv_astore_n (lv' := [(3, .ref t0), (0, .ref x0)]) S.1 S.2.1 dX2_comes_67 rfl hl (by decide) rfl (fun ls hl => ?_)
  refine lv_aload_n S.1 S.2.1 dX2_comes_68 rfl (lv_at hl 0 rfl) ?_
  refine lv_aload_n S.1 S.2.1 dX2_comes_69 rfl (lv_at hl 1 rfl) ?_
  refine gls13 S X hw dX2_comes_70 h (fun a11 h => ?_)
  refine lv_bipush (v := 40) S.1 S.2.1 dX2_comes_72 rfl ?_
  refine lv_bipush (v := 99) S.1 S.2.1 dX2_comes_74 rfl ?_
  obtain ⟨hrc, h⟩ := oK1 h
  refine gxVi (As := [.ref a11, .int (40 : Int32), .int (99 : Int32)]) (rest := [.ref t0]) S X Z hw (b := x0) hno hlocks h (fun u h1 => met_B_X2_number l E A LC LS x0 a11 (40 : Int32) (99 : Int32) w u h1) (cb_X2_173 S.2.2.2.2 rfl rfl ⟨Nat.le_trans (Nat.le_of_ble_eq_true rfl : 7 + 1 ≤ 8) hF, Nat.le_trans (Nat.le_of_ble_eq_true rfl : 8 + (4 + 11) + 158 ≤ 194) hL⟩) (g_recv X hw (ci := 1) rfl (gcell_2 hrc)) rfl hl.1 rfl (lv_room (Nat.le_of_ble_eq_true rfl)) dX2_comes_76 (fun r13 w12 H locs h hw => ?_)
  refine gpX2_237 S X hw dX2_comes_79 h (fun w14 H locs h hw => ?_)
  refine lv_aload_n S.1 S.2.1 dX2_comes_82 rfl (lv_at hl 0 rfl) ?_
  refine lv_aload_n S.1 S.2.1 dX2_comes_83 rfl (lv_at hl 1 rfl) ?_
  refine gls14 S X hw dX2_comes_84 h (fun a15 h => ?_)
  refine lv_iconst (v := 0) S.1 S.2.1 dX2_comes_86 rfl ?_
  refine lv_bipush (v := 40) S.1 S.2.1 dX2_comes_87 rfl ?_
  obtain ⟨hrc, h⟩ := oK1 h
  refine gxVi (As := [.ref a15, .int (0 : Int32), .int (40 : Int32)]) (rest := [.ref t0]) S X Z hw (b := x0) hno hlocks h (fun u h1 => met_B_X2_number l E A LC LS x0 a15 (0 : Int32) (40 : Int32) w14 u h1) (cb_X2_173 S.2.2.2.2 rfl rfl ⟨Nat.le_trans (Nat.le_of_ble_eq_true rfl : 7 + 1 ≤ 8) hF, Nat.le_trans (Nat.le_of_ble_eq_true rfl : 8 + (4 + 11) + 158 ≤ 194) hL⟩) (g_recv X hw (ci := 1) rfl (gcell_2 hrc)) rfl hl.1 rfl (lv_room (Nat.le_of_ble_eq_true rfl)) dX2_comes_89 (fun r17 w16 H locs h hw => ?_)
  refine gpX2_242 S X hw dX2_comes_92 h (fun w18 H locs h hw => ?_)
  refine lv_aload_n S.1 S.2.1 dX2_comes_95 rfl (lv_at hl 0 rfl) ?_
  refine lv_aload_n S.1 S.2.1 dX2_comes_96 rfl (lv_at hl 1 rfl) ?_
  refine gls15 S X hw dX2_comes_97 h (fun a19 h => ?_)
  refine lv_iconst (v := 0) S.1 S.2.1 dX2_comes_99 rfl ?_
  refine lv_sipush (v := 9999) S.1 S.2.1 dX2_comes_100 rfl ?_
  obtain ⟨hrc, h⟩ := oK1 h
  refine gxVi (As := [.ref a19, .int (0 : Int32), .int (9999 : Int32)]) (rest := [.ref t0]) S X Z hw (b := x0) hno hlocks h (fun u h1 => met_B_X2_number l E A LC LS x0 a19 (0 : Int32) (9999 : Int32) w18 u h1) (cb_X2_173 S.2.2.2.2 rfl rfl ⟨Nat.le_trans (Nat.le_of_ble_eq_true rfl : 7 + 1 ≤ 8) hF, Nat.le_trans (Nat.le_of_ble_eq_true rfl : 8 + (4 + 11) + 158 ≤ 194) hL⟩) (g_recv X hw (ci := 1) rfl (gcell_2 hrc)) rfl hl.1 rfl (lv_room (Nat.le_of_ble_eq_true rfl)) dX2_comes_103 (fun r21 w20 H locs h hw => ?_)
  refine gpX2_247 S X hw dX2_comes_106 h (fun w22 H locs h hw => ?_)
  refine lv_aload_n S.1 S.2.1 dX2_comes_109 rfl (lv_at hl 1 rfl) ?_
  refine gls16 S X hw dX2_comes_110 h (fun a23 h => ?_)
  obtain ⟨hrc, h⟩ := oK1 h
  refine gcVi (As := [.ref a23]) (rest := []) S X Z hw (b := x0) h (fun u h1 => met_B_X2_which l E A LC LS x0 a23 w22 u h1) (cb_X2_71 S.2.2.2.2 rfl rfl ⟨Nat.le_trans (Nat.le_of_ble_eq_true rfl : 4 + 1 ≤ 8) hF, Nat.le_trans (Nat.le_of_ble_eq_true rfl : 8 + (7 + 11) + 85 ≤ 194) hL⟩) (g_recv X hw (ci := 1) rfl (gcell_2 hrc)) rfl hl.1 rfl (lv_room (Nat.le_of_ble_eq_true rfl)) dX2_comes_112 (fun r25 w24 H locs h hw => ?_)
  refine lv_if_lt (tgt := 154) S.1 S.2.1 dX2_comes_115 rfl (fun c26 => ?_) (fun c26 => ?_)
  · replace h := if_t c26 h
    exact wk_B_X2_comes_p154 S X Z hF hL hr hlocks hno _ _ _ _ _ _ h hw (lv_sub hl [1, 0] rfl)
  · replace h := if_f c26 h
    refine lv_aload_n S.1 S.2.1 dX2_comes_118 rfl (lv_at hl 1 rfl) ?_
    obtain ⟨hrc, h⟩ := oK1 h
    refine gcVv (As := []) (rest := []) S X Z hw (b := x0) h (fun u h1 => met_B_X2_next l E A LC LS x0 w24 u h1) (cb_X2_25 S.2.2.2.2 rfl rfl ⟨Nat.le_trans (Nat.le_of_ble_eq_true rfl : 4 + 1 ≤ 8) hF, Nat.le_trans (Nat.le_of_ble_eq_true rfl : 8 + (1 + 11) + 91 ≤ 194) hL⟩) (g_recv X hw (ci := 1) rfl (gcell_2 hrc)) rfl hl.1 rfl (lv_room (Nat.le_of_ble_eq_true rfl)) dX2_comes_119 (fun w31 H locs h hw => ?_)
    refine lv_aload_n S.1 S.2.1 dX2_comes_122 rfl (lv_at hl 0 rfl) ?_
    refine lv_aload_n S.1 S.2.1 dX2_comes_123 rfl (lv_at hl 1 rfl) ?_
    obtain ⟨hrc, h⟩ := oK1 h
    refine gxVi (As := []) (rest := [.ref t0]) S X Z hw (b := x0) hno hlocks h (fun u h1 => met_B_X2_room l E A LC LS x0 w31 u h1) (cb_X2_252 S.2.2.2.2 rfl rfl ⟨Nat.le_trans (Nat.le_of_ble_eq_true rfl : 7 + 1 ≤ 8) hF, Nat.le_trans (Nat.le_of_ble_eq_true rfl : 8 + (2 + 11) + 173 ≤ 194) hL⟩) (g_recv X hw (ci := 1) rfl (gcell_2 hrc)) rfl hl.1 rfl (lv_room (Nat.le_of_ble_eq_true rfl)) dX2_comes_124 (fun r33 w32 H locs h hw => ?_)
    refine gpX2_254 S X hw dX2_comes_127 h (fun w34 H locs h hw => ?_)
    refine lv_aload_n S.1 S.2.1 dX2_comes_130 rfl (lv_at hl 1 rfl) ?_
    refine ggX2_101 S X hw dX2_comes_131 h (fun a35 h => ?_)
    refine lv_aload_n S.1 S.2.1 dX2_comes_134 rfl (lv_at hl 0 rfl) ?_
    refine ggX2_254 S X hw dX2_comes_135 h (fun v36 h => ?_)
    obtain ⟨hrc, h⟩ := oK1 h
    refine gcVri (As := [.int v36]) (rest := []) S X Z hw (b := a35) h (fun u h1 => met_B_X3_isLet l E A LC LS a35 v36 w34 u h1) (cb_X2_256 S.2.2.2.2 rfl rfl ⟨Nat.le_trans (Nat.le_of_ble_eq_true rfl : 3 + 1 ≤ 8) hF, Nat.le_trans (Nat.le_of_ble_eq_true rfl : 8 + (3 + 11) + 64 ≤ 194) hL⟩) (g_recv X hw (ci := 2) rfl (gcell_3 hrc)) rfl hl.1 rfl (lv_room (Nat.le_of_ble_eq_true rfl)) dX2_comes_138 (fun r37 H locs h hw => ?_)
    refine lv_if_eq (tgt := 150) S.1 S.2.1 dX2_comes_141 rfl (fun c38 => ?_) (fun c38 => ?_)
    · replace h := if_t c38 h
      refine lv_aload_n S.1 S.2.1 dX2_comes_150 rfl (lv_at hl 1 rfl) ?_
      obtain ⟨hrc, h⟩ := oK1 h
      refine gcVv (As := []) (rest := []) S X Z hw (b := x0) h (fun u h1 => met_B_X2_next l E A LC LS x0 w34 u h1) (cb_X2_25 S.2.2.2.2 rfl rfl ⟨Nat.le_trans (Nat.le_of_ble_eq_true rfl : 4 + 1 ≤ 8) hF, Nat.le_trans (Nat.le_of_ble_eq_true rfl : 8 + (1 + 11) + 91 ≤ 194) hL⟩) (g_recv X hw (ci := 1) rfl (gcell_2 hrc)) rfl hl.1 rfl (lv_room (Nat.le_of_ble_eq_true rfl)) dX2_comes_151 (fun w39 H locs h hw => ?_)
      exact wk_B_X2_comes_p154 S X Z hF hL hr hlocks hno _ _ _ _ _ _ h hw (lv_sub hl [1, 0] rfl)
    · replace h := if_f c38 h
      refine lv_aload_n S.1 S.2.1 dX2_comes_144 rfl (lv_at hl 1 rfl) ?_
      refine lv_iconst (v := 3) S.1 S.2.1 dX2_comes_145 rfl ?_
      obtain ⟨hrc, h⟩ := oK1 h
      refine gcVr (As := [.int (3 : Int32)]) (rest := []) S X Z hw (b := x0) h (fun u h1 => met_B_X2_wrong l E A LC LS x0 (3 : Int32) w34 u h1) (cb_X2_75 S.2.2.2.2 rfl rfl ⟨Nat.le_trans (Nat.le_of_ble_eq_true rfl : 5 + 1 ≤ 8) hF, Nat.le_trans (Nat.le_of_ble_eq_true rfl : 8 + (2 + 11) + 114 ≤ 194) hL⟩) (g_recv X hw (ci := 1) rfl (gcell_2 hrc)) rfl hl.1 rfl (lv_room (Nat.le_of_ble_eq_true rfl)) dX2_comes_146 (fun a41 w40 H locs h hw => ?_)
      exact x_throw S X hno hlocks Z hw dX2_comes_149 h
set_option maxRecDepth 100000 in
set_option maxHeartbeats 4000000 in
theorem met_B_X2_comes (l : Launch) (E : gE) (A : Nat → Prop) (LC LS : Nat)  (x0 : Nat) (w : GS) (res : (Unit ⊕ Nat) × GS) (h : B_X2_comes x0 w = some res) : vx_Met l yX2_comes (ws_ yX2_comes cX2_comes 4 (Option.none : Option Jvm.ClassFile.FieldType)) (gRoom 8 194 LC LS w) (gPc E A LC LS [.ref x0] w) (gXv E A LC LS res) (gXX E A LC LS res) (LC - gZ w) (LS - gN w) A := by
  refine gMetx (by decide) rfl (Nat.le_of_ble_eq_true rfl) ?_
  intro p e s m below meth c R S hr hlocks hno X Z hF hL H ls hw hl
  replace hl : lv_has ls 4 [(0, .ref x0)] := hl
  unfold B_X2_comes at h
  refine lv_aload_n S.1 S.2.1 dX2_comes_0 rfl (lv_at hl 0 rfl) ?_
  obtain ⟨hrc, h⟩ := oK1 h
  refine gxVr (As := []) (rest := []) S X Z hw (b := x0) hno hlocks h (fun u h1 => met_B_X2_fresh l E A LC LS x0 w u h1) (cb_X2_168 S.2.2.2.2 rfl rfl ⟨Nat.le_trans (Nat.le_of_ble_eq_true rfl : 7 + 1 ≤ 8) hF, Nat.le_trans (Nat.le_of_ble_eq_true rfl : 8 + (2 + 11) + 173 ≤ 194) hL⟩) (g_recv X hw (ci := 1) rfl (gcell_2 hrc)) rfl hl.1 rfl (lv_room (Nat.le_of_ble_eq_true rfl)) dX2_comes_1 (fun a2 w1 H locs h hw => ?_)
  refine lv_astore_n (lv' := [(1, .ref a2), (0, .ref x0)]) S.1 S.2.1 dX2_comes_4 rfl hl (by decide) rfl (fun ls hl => ?_)
  refine lv_aload_n S.1 S.2.1 dX2_comes_5 rfl (lv_at hl 1 rfl) ?_
  refine gls12 S X hw dX2_comes_6 h (fun a3 h => ?_)
  obtain ⟨hrc, h⟩ := oK1 h
  refine gxVi (As := [.ref a3]) (rest := []) S X Z hw (b := x0) hno hlocks h (fun u h1 => met_B_X2_one l E A LC LS x0 a3 w1 u h1) (cb_X2_219 S.2.2.2.2 rfl rfl ⟨Nat.le_trans (Nat.le_of_ble_eq_true rfl : 6 + 1 ≤ 8) hF, Nat.le_trans (Nat.le_of_ble_eq_true rfl : 8 + (3 + 11) + 135 ≤ 194) hL⟩) (g_recv X hw (ci := 1) rfl (gcell_2 hrc)) rfl hl.1 rfl (lv_room (Nat.le_of_ble_eq_true rfl)) dX2_comes_8 (fun r5 w4 H locs h hw => ?_)
  refine lv_istore_n (lv' := [(2, .int r5), (1, .ref a2), (0, .ref x0)]) S.1 S.2.1 dX2_comes_11 rfl hl (by decide) rfl (fun ls hl => ?_)
  refine lv_iload_n S.1 S.2.1 dX2_comes_12 rfl (lv_at hl 0 rfl) ?_
  refine lv_if_ne (tgt := 27) S.1 S.2.1 dX2_comes_13 rfl (fun c6 => ?_) (fun c6 => ?_)
  · replace h := if_f c6 h
    refine lv_iload_n S.1 S.2.1 dX2_comes_27 rfl (lv_at hl 0 rfl) ?_
    refine lv_iconst (v := 1) S.1 S.2.1 dX2_comes_28 rfl ?_
    refine lv_icmp_ne (tgt := 43) S.1 S.2.1 dX2_comes_29 rfl (fun c7 => ?_) (fun c7 => ?_)
    · replace h := if_f c7 h
      refine lv_iload_n S.1 S.2.1 dX2_comes_43 rfl (lv_at hl 0 rfl) ?_
      refine lv_iconst (v := 2) S.1 S.2.1 dX2_comes_44 rfl ?_
      refine lv_icmp_ne (tgt := 59) S.1 S.2.1 dX2_comes_45 rfl (fun c8 => ?_) (fun c8 => ?_)
      · replace h := if_f c8 h
        refine gnX2_232 S X Z hw dX2_comes_59 h (fun w9 H h hw => ?_)
        refine lv_dup S.1 S.2.1 dX2_comes_62 rfl ?_
        refine lv_aload_n S.1 S.2.1 dX2_comes_63 rfl (lv_at hl 1 rfl) ?_
        refine gcIv (As := [.ref a2]) (rest := [.ref (gZ w4)]) S X Z hw (b := (gZ w4)) h (fun u h1 => met_B_X11_init l E A LC LS (gZ w4) a2 w9 u h1) (cb_X2_234 S.2.2.2.2 rfl rfl ⟨Nat.le_trans (Nat.le_of_ble_eq_true rfl : 2 + 1 ≤ 8) hF, Nat.le_trans (Nat.le_of_ble_eq_true rfl : 8 + (2 + 11) + 41 ≤ 194) hL⟩) rfl hl.1 rfl (lv_room (Nat.le_of_ble_eq_true rfl)) dX2_comes_64 (fun w10 H locs h hw => ?_)
        exact wk_B_X2_comes_p67 S X Z hF hL hr hlocks hno _ _ _ _ _ _ h hw (lv_sub hl [2] rfl)
      · replace h := if_t c8 h
        refine gnX2_229 S X Z hw dX2_comes_48 h (fun w42 H h hw => ?_)
        refine lv_dup S.1 S.2.1 dX2_comes_51 rfl ?_
        refine lv_aload_n S.1 S.2.1 dX2_comes_52 rfl (lv_at hl 1 rfl) ?_
        refine gcIv (As := [.ref a2]) (rest := [.ref (gZ w4)]) S X Z hw (b := (gZ w4)) h (fun u h1 => met_B_X10_init l E A LC LS (gZ w4) a2 w42 u h1) (cb_X2_231 S.2.2.2.2 rfl rfl ⟨Nat.le_trans (Nat.le_of_ble_eq_true rfl : 2 + 1 ≤ 8) hF, Nat.le_trans (Nat.le_of_ble_eq_true rfl : 8 + (2 + 11) + 41 ≤ 194) hL⟩) rfl hl.1 rfl (lv_room (Nat.le_of_ble_eq_true rfl)) dX2_comes_53 (fun w43 H locs h hw => ?_)
        refine lv_goto (tgt := 67) S.1 S.2.1 dX2_comes_56 rfl ?_
        exact wk_B_X2_comes_p67 S X Z hF hL hr hlocks hno _ _ _ _ _ _ h hw (lv_sub hl [2] rfl)
    · replace h := if_t c7 h
      refine gnX2_226 S X Z hw dX2_comes_32 h (fun w44 H h hw => ?_)
      refine lv_dup S.1 S.2.1 dX2_comes_35 rfl ?_
      refine lv_aload_n S.1 S.2.1 dX2_comes_36 rfl (lv_at hl 1 rfl) ?_
      refine gcIv (As := [.ref a2]) (rest := [.ref (gZ w4)]) S X Z hw (b := (gZ w4)) h (fun u h1 => met_B_X9_init l E A LC LS (gZ w4) a2 w44 u h1) (cb_X2_228 S.2.2.2.2 rfl rfl ⟨Nat.le_trans (Nat.le_of_ble_eq_true rfl : 2 + 1 ≤ 8) hF, Nat.le_trans (Nat.le_of_ble_eq_true rfl : 8 + (2 + 11) + 41 ≤ 194) hL⟩) rfl hl.1 rfl (lv_room (Nat.le_of_ble_eq_true rfl)) dX2_comes_37 (fun w45 H locs h hw => ?_)
      refine lv_goto (tgt := 67) S.1 S.2.1 dX2_comes_40 rfl ?_
      exact wk_B_X2_comes_p67 S X Z hF hL hr hlocks hno _ _ _ _ _ _ h hw (lv_sub hl [2] rfl)
  · replace h := if_t c6 h
    refine gnX2_222 S X Z hw dX2_comes_16 h (fun w46 H h hw => ?_)
    refine lv_dup S.1 S.2.1 dX2_comes_19 rfl ?_
    refine lv_aload_n S.1 S.2.1 dX2_comes_20 rfl (lv_at hl 1 rfl) ?_
    refine gcIv (As := [.ref a2]) (rest := [.ref (gZ w4)]) S X Z hw (b := (gZ w4)) h (fun u h1 => met_B_X8_init l E A LC LS (gZ w4) a2 w46 u h1) (cb_X2_224 S.2.2.2.2 rfl rfl ⟨Nat.le_trans (Nat.le_of_ble_eq_true rfl : 1 + 1 ≤ 8) hF, Nat.le_trans (Nat.le_of_ble_eq_true rfl : 8 + (2 + 11) + 20 ≤ 194) hL⟩) rfl hl.1 rfl (lv_room (Nat.le_of_ble_eq_true rfl)) dX2_comes_21 (fun w47 H locs h hw => ?_)
    refine lv_goto (tgt := 67) S.1 S.2.1 dX2_comes_24 rfl ?_
    exact wk_B_X2_comes_p67 S X Z hF hL hr hlocks hno _ _ _ _ _ _ h hw (lv_sub hl [2] rfl)
theorem cb_X2_259 {R : Room} {s : State} {args : Array Value} {rm : Room} {mc ms : Nat} (hts : ∀ w ∈ lw_all, w.before args s = true) (hc : rm.cells = mc) (hs : rm.slots = ms) (hR : rm.frames + 1 ≤ R.frames ∧ 8 + (2 + 11) + rm.locals ≤ R.locals) : CallW R s args RX2 RX2 259 yX2_tenant cX2_tenant 2 (Option.some Jvm.ClassFile.FieldType.int) (ws_ yX2_tenant cX2_tenant 2 (Option.some Jvm.ClassFile.FieldType.int)) rm mc ms 0 := cwV 0 hts (lw_V q1066 q1068 qs19 q136 q1069) rfl hc hs (by decide +kernel) hR
theorem cb_X2_261 {R : Room} {s : State} {args : Array Value} {rm : Room} {mc ms : Nat} (hts : ∀ w ∈ lw_all, w.before args s = true) (hc : rm.cells = mc) (hs : rm.slots = ms) (hR : rm.frames + 1 ≤ R.frames ∧ 8 + (2 + 11) + rm.locals ≤ R.locals) : CallW R s args RX2 RJ2 261 yJ2_get cJ2_get 2 (Option.some (Jvm.ClassFile.FieldType.object "java/lang/Object")) (ws_ yJ2_get cJ2_get 2 (Option.some (Jvm.ClassFile.FieldType.object "java/lang/Object"))) rm mc ms 1 := cwV 1 hts (lw_V q1070 q354 q355 q140 q356) rfl hc hs (by decide +kernel) hR
theorem cb_X2_267 {R : Room} {s : State} {args : Array Value} {rm : Room} {mc ms : Nat} (hts : ∀ w ∈ lw_all, w.before args s = true) (hN : gNw s) (hc : rm.cells = mc) (hs : rm.slots = ms) (hR : rm.frames + 1 ≤ R.frames ∧ 8 + (2 + 11) + rm.locals ≤ R.locals) : va_CN R s args RX2 267 yX1_isIn "PulseRent" cX1_isIn 2 (Option.some Jvm.ClassFile.FieldType.boolean) (ws_ yX1_isIn cX1_isIn 2 (Option.some Jvm.ClassFile.FieldType.boolean)) rm mc ms 2 ∧ (Cond.static yX1_isIn).before args s = true ∧ True := ⟨va_cnB 2 hts (lw_meth q1073) rfl hc hs (hN _ q1071 rfl) (hts _ q135) (by decide +kernel) hR, hts _ q1072, trivial⟩
def B_X2_loves_p43 (x0 : Nat) (w : GS) : Option ((Unit ⊕ Nat) × GS) :=
  bd1 (oK w x0 2 2) fun _ =>
  bd2 (B_X2_wrong x0 (3 : Int32) w) fun a8 w7 =>
  bd1 (oK w7 a8 6 6) fun _ => some (.inr a8, w7)
def B_X2_loves (x0 : Nat) (w : GS) : Option ((Unit ⊕ Nat) × GS) :=
  bd1 (oK w x0 2 2) fun _ =>
  bdx (B_X2_tenant x0 w) fun r2 w1 =>
  bd1 (oK w1 x0 2 2) fun _ =>
  bd1 (B_X2_next x0 w1) fun w3 =>
  bd1 (oK w3 x0 2 2) fun _ =>
  bdx (B_X2_tenant x0 w3) fun r5 w4 =>
  if r2 = r5 then
    B_X2_loves_p43 x0 w4
  else
    bd1 (oRn w4 x0 2 2 7) fun a9 =>
    bd1 (oRn w4 a9 3 3 1) fun a10 =>
    bd1 (oK w4 a10 23 23) fun _ =>
    bd1 (B_J2_get a10 r2 w4) fun a11 =>
    bd1 (oK w4 a11 8 11) fun _ =>
    bd1 (oI w4 a11 8 11 5) fun v12 =>
    if (B_X1_isIn v12 r5) = 0 then
      bd1 (oK w4 x0 2 2) fun _ =>
      bd1 (B_X2_next x0 w4) fun w14 =>
      bd1 (oRn w14 x0 2 2 7) fun a15 =>
      bd1 (oRn w14 a15 3 3 1) fun a16 =>
      bd1 (oK w14 a16 23 23) fun _ =>
      bd1 (B_J2_get a16 r2 w14) fun a17 =>
      bd1 (oK w14 a17 8 11) fun _ =>
      bd1 (oI w14 a17 8 11 5) fun v18 =>
      bd1 (pI w14 a17 8 11 5 (v18 ||| ((1 : Int32) <<< (r5 &&& 31)))) fun w19 =>
      some (.inl (), w19)
    else
      B_X2_loves_p43 x0 w4
set_option maxRecDepth 100000 in
set_option maxHeartbeats 4000000 in
theorem wk_B_X2_loves_p43 {p : Program} {l : Launch} {e : Env} {R : Room} {s : State} {m : MethodId} {args : Array Value} {below : List Frame} {meth : Method} {c : Code} {E : gE} {A : Nat → Prop} {LC LS : Nat} (S : CallFix p m c cX2_loves 3 s args lw_all RX2) (X : gCtx E A s) (Z : gRm R s LC LS) (hF : 8 ≤ R.frames) (hL : 194 ≤ R.locals) (hr : meth.sig.returnType = (Option.none : Option Jvm.ClassFile.FieldType)) (hlocks : meth.locks = false) (hno : ∀ x ∈ c.exceptionTable.toList, False) {res : (Unit ⊕ Nat) × GS}  : ∀ (x0 : Nat) (w : GS) (H : Heap) (locs : List Loc) (ls : Array Slot), B_X2_loves_p43 x0 w = some res → gH E A LC LS s w H locs → lv_has ls 3 [(0, .ref x0)] → W p l e R s m args below meth c H locs (H.size - s.heap.size) (tot H - tot s.heap) (vx_MQ below (gXv E A LC LS res) (gXX E A LC LS res) args s R.cells R.slots A) (F0 m 43 ls []) := by
  intro x0 w H locs ls h hw hl
  unfold B_X2_loves_p43 at h
  refine lv_aload_n S.1 S.2.1 dX2_loves_43 rfl (lv_at hl 0 rfl) ?_
  refine lv_iconst (v := 3) S.1 S.2.1 dX2_loves_44 rfl ?_
  obtain ⟨hrc, h⟩ := oK1 h
  refine gcVr (As := [.int (3 : Int32)]) (rest := []) S X Z hw (b := x0) h (fun u h1 => met_B_X2_wrong l E A LC LS x0 (3 : Int32) w u h1) (cb_X2_75 S.2.2.2.2 rfl rfl ⟨Nat.le_trans (Nat.le_of_ble_eq_true rfl : 5 + 1 ≤ 8) hF, Nat.le_trans (Nat.le_of_ble_eq_true rfl : 8 + (2 + 11) + 114 ≤ 194) hL⟩) (g_recv X hw (ci := 1) rfl (gcell_2 hrc)) rfl hl.1 rfl (lv_room (Nat.le_of_ble_eq_true rfl)) dX2_loves_45 (fun a8 w7 H locs h hw => ?_)
  exact x_throw S X hno hlocks Z hw dX2_loves_48 h
set_option maxRecDepth 100000 in
set_option maxHeartbeats 4000000 in
theorem met_B_X2_loves (l : Launch) (E : gE) (A : Nat → Prop) (LC LS : Nat)  (x0 : Nat) (w : GS) (res : (Unit ⊕ Nat) × GS) (h : B_X2_loves x0 w = some res) : vx_Met l yX2_loves (ws_ yX2_loves cX2_loves 3 (Option.none : Option Jvm.ClassFile.FieldType)) (gRoom 8 194 LC LS w) (gPc E A LC LS [.ref x0] w) (gXv E A LC LS res) (gXX E A LC LS res) (LC - gZ w) (LS - gN w) A := by
  refine gMetx (by decide) rfl (Nat.le_of_ble_eq_true rfl) ?_
  intro p e s m below meth c R S hr hlocks hno X Z hF hL H ls hw hl
  replace hl : lv_has ls 3 [(0, .ref x0)] := hl
  unfold B_X2_loves at h
  refine lv_aload_n S.1 S.2.1 dX2_loves_0 rfl (lv_at hl 0 rfl) ?_
  obtain ⟨hrc, h⟩ := oK1 h
  refine gxVi (As := []) (rest := []) S X Z hw (b := x0) hno hlocks h (fun u h1 => met_B_X2_tenant l E A LC LS x0 w u h1) (cb_X2_259 S.2.2.2.2 rfl rfl ⟨Nat.le_trans (Nat.le_of_ble_eq_true rfl : 7 + 1 ≤ 8) hF, Nat.le_trans (Nat.le_of_ble_eq_true rfl : 8 + (2 + 11) + 173 ≤ 194) hL⟩) (g_recv X hw (ci := 1) rfl (gcell_2 hrc)) rfl hl.1 rfl (lv_room (Nat.le_of_ble_eq_true rfl)) dX2_loves_1 (fun r2 w1 H locs h hw => ?_)
  refine lv_istore_n (lv' := [(1, .int r2), (0, .ref x0)]) S.1 S.2.1 dX2_loves_4 rfl hl (by decide) rfl (fun ls hl => ?_)
  refine lv_aload_n S.1 S.2.1 dX2_loves_5 rfl (lv_at hl 1 rfl) ?_
  obtain ⟨hrc, h⟩ := oK1 h
  refine gcVv (As := []) (rest := []) S X Z hw (b := x0) h (fun u h1 => met_B_X2_next l E A LC LS x0 w1 u h1) (cb_X2_25 S.2.2.2.2 rfl rfl ⟨Nat.le_trans (Nat.le_of_ble_eq_true rfl : 4 + 1 ≤ 8) hF, Nat.le_trans (Nat.le_of_ble_eq_true rfl : 8 + (1 + 11) + 91 ≤ 194) hL⟩) (g_recv X hw (ci := 1) rfl (gcell_2 hrc)) rfl hl.1 rfl (lv_room (Nat.le_of_ble_eq_true rfl)) dX2_loves_6 (fun w3 H locs h hw => ?_)
  refine lv_aload_n S.1 S.2.1 dX2_loves_9 rfl (lv_at hl 1 rfl) ?_
  obtain ⟨hrc, h⟩ := oK1 h
  refine gxVi (As := []) (rest := []) S X Z hw (b := x0) hno hlocks h (fun u h1 => met_B_X2_tenant l E A LC LS x0 w3 u h1) (cb_X2_259 S.2.2.2.2 rfl rfl ⟨Nat.le_trans (Nat.le_of_ble_eq_true rfl : 7 + 1 ≤ 8) hF, Nat.le_trans (Nat.le_of_ble_eq_true rfl : 8 + (2 + 11) + 173 ≤ 194) hL⟩) (g_recv X hw (ci := 1) rfl (gcell_2 hrc)) rfl hl.1 rfl (lv_room (Nat.le_of_ble_eq_true rfl)) dX2_loves_10 (fun r5 w4 H locs h hw => ?_)
  refine lv_istore_n (lv' := [(2, .int r5), (1, .int r2), (0, .ref x0)]) S.1 S.2.1 dX2_loves_13 rfl hl (by decide) rfl (fun ls hl => ?_)
  refine lv_iload_n S.1 S.2.1 dX2_loves_14 rfl (lv_at hl 1 rfl) ?_
  refine lv_iload_n S.1 S.2.1 dX2_loves_15 rfl (lv_at hl 0 rfl) ?_
  refine lv_icmp_eq (tgt := 43) S.1 S.2.1 dX2_loves_16 rfl (fun c6 => ?_) (fun c6 => ?_)
  · replace h := if_t c6 h
    exact wk_B_X2_loves_p43 S X Z hF hL hr hlocks hno _ _ _ _ _ h hw (lv_sub hl [2] rfl)
  · replace h := if_f c6 h
    refine lv_aload_n S.1 S.2.1 dX2_loves_19 rfl (lv_at hl 2 rfl) ?_
    refine ggX2_101 S X hw dX2_loves_20 h (fun a9 h => ?_)
    refine ggX2_156 S X hw dX2_loves_23 h (fun a10 h => ?_)
    refine lv_iload_n S.1 S.2.1 dX2_loves_26 rfl (lv_at hl 1 rfl) ?_
    obtain ⟨hrc, h⟩ := oK1 h
    refine gcVrr (As := [.int r2]) (rest := []) S X Z hw (b := a10) h (fun u h1 => met_B_J2_get l E A LC LS a10 r2 w4 u h1) (cb_X2_261 S.2.2.2.2 rfl rfl ⟨Nat.le_trans (Nat.le_of_ble_eq_true rfl : 2 + 1 ≤ 8) hF, Nat.le_trans (Nat.le_of_ble_eq_true rfl : 8 + (2 + 11) + 43 ≤ 194) hL⟩) (g_recv X hw (ci := 22) rfl (gcell_23 hrc)) rfl hl.1 rfl (lv_room (Nat.le_of_ble_eq_true rfl)) dX2_loves_27 (fun a11 H locs h hw => ?_)
    refine gckX2_222 S X hw dX2_loves_30 h (fun _ h => ?_)
    refine ggX2_265 S X hw dX2_loves_33 h (fun v12 h => ?_)
    refine lv_iload_n S.1 S.2.1 dX2_loves_36 rfl (lv_at hl 0 rfl) ?_
    refine gcSNti (As := [.int v12, .int r5]) (rest := []) S X Z hw (met_B_X1_isIn l E A LC LS v12 r5 w4 _ rfl) (cb_X2_267 S.2.2.2.2 X.2.2.2.2.2.1 rfl rfl ⟨Nat.le_trans (Nat.le_of_ble_eq_true rfl : 0 + 1 ≤ 8) hF, Nat.le_trans (Nat.le_of_ble_eq_true rfl : 8 + (2 + 11) + 0 ≤ 194) hL⟩) rfl hl.1 rfl (lv_room (Nat.le_of_ble_eq_true rfl)) dX2_loves_37 (fun H locs hw => ?_)
    refine lv_if_eq (tgt := 49) S.1 S.2.1 dX2_loves_40 rfl (fun c13 => ?_) (fun c13 => ?_)
    · replace h := if_t c13 h
      refine lv_aload_n S.1 S.2.1 dX2_loves_49 rfl (lv_at hl 2 rfl) ?_
      obtain ⟨hrc, h⟩ := oK1 h
      refine gcVv (As := []) (rest := []) S X Z hw (b := x0) h (fun u h1 => met_B_X2_next l E A LC LS x0 w4 u h1) (cb_X2_25 S.2.2.2.2 rfl rfl ⟨Nat.le_trans (Nat.le_of_ble_eq_true rfl : 4 + 1 ≤ 8) hF, Nat.le_trans (Nat.le_of_ble_eq_true rfl : 8 + (1 + 11) + 91 ≤ 194) hL⟩) (g_recv X hw (ci := 1) rfl (gcell_2 hrc)) rfl hl.1 rfl (lv_room (Nat.le_of_ble_eq_true rfl)) dX2_loves_50 (fun w14 H locs h hw => ?_)
      refine lv_aload_n S.1 S.2.1 dX2_loves_53 rfl (lv_at hl 2 rfl) ?_
      refine ggX2_101 S X hw dX2_loves_54 h (fun a15 h => ?_)
      refine ggX2_156 S X hw dX2_loves_57 h (fun a16 h => ?_)
      refine lv_iload_n S.1 S.2.1 dX2_loves_60 rfl (lv_at hl 1 rfl) ?_
      obtain ⟨hrc, h⟩ := oK1 h
      refine gcVrr (As := [.int r2]) (rest := []) S X Z hw (b := a16) h (fun u h1 => met_B_J2_get l E A LC LS a16 r2 w14 u h1) (cb_X2_261 S.2.2.2.2 rfl rfl ⟨Nat.le_trans (Nat.le_of_ble_eq_true rfl : 2 + 1 ≤ 8) hF, Nat.le_trans (Nat.le_of_ble_eq_true rfl : 8 + (2 + 11) + 43 ≤ 194) hL⟩) (g_recv X hw (ci := 22) rfl (gcell_23 hrc)) rfl hl.1 rfl (lv_room (Nat.le_of_ble_eq_true rfl)) dX2_loves_61 (fun a17 H locs h hw => ?_)
      refine gckX2_222 S X hw dX2_loves_64 h (fun _ h => ?_)
      refine lv_dup S.1 S.2.1 dX2_loves_67 rfl ?_
      refine ggX2_265 S X hw dX2_loves_68 h (fun v18 h => ?_)
      refine lv_iconst (v := 1) S.1 S.2.1 dX2_loves_71 rfl ?_
      refine lv_iload_n S.1 S.2.1 dX2_loves_72 rfl (lv_at hl 0 rfl) ?_
      refine lv_ishl S.1 S.2.1 dX2_loves_73 ?_
      refine lv_ior S.1 S.2.1 dX2_loves_74 ?_
      refine gpX2_265 S X hw dX2_loves_75 h (fun w19 H locs h hw => ?_)
      exact x_vret S Z hr hlocks hw (so1 h) dX2_loves_78
    · replace h := if_f c13 h
      exact wk_B_X2_loves_p43 S X Z hF hL hr hlocks hno _ _ _ _ _ h hw (lv_sub hl [2] rfl)
theorem cb_X2_294 {R : Room} {s : State} {args : Array Value} {rm : Room} {mc ms : Nat} (hts : ∀ w ∈ lw_all, w.before args s = true) (hc : rm.cells = mc) (hs : rm.slots = ms) (hR : rm.frames + 1 ≤ R.frames ∧ 8 + (3 + 11) + rm.locals ≤ R.locals) : CallB R s args RX2 294 yX24_init cX24_init 3 none (ws_ yX24_init cX24_init 3 (Option.none : Option Jvm.ClassFile.FieldType)) rm mc ms 2 ∧ yX24_init.name = "<init>" ∧ (Cond.instanceMethod yX24_init).before args s = true := cwI 2 hts (lw_meth q1258) rfl hc hs (hts _ q176) (hts _ q1256) (hts _ q1257) rfl (by decide +kernel) hR
theorem cb_X2_291 {R : Room} {s : State} {args : Array Value} {rm : Room} {mc ms : Nat} (hts : ∀ w ∈ lw_all, w.before args s = true) (hc : rm.cells = mc) (hs : rm.slots = ms) (hR : rm.frames + 1 ≤ R.frames ∧ 8 + (2 + 11) + rm.locals ≤ R.locals) : CallB R s args RX2 291 yX23_init cX23_init 2 none (ws_ yX23_init cX23_init 2 (Option.none : Option Jvm.ClassFile.FieldType)) rm mc ms 1 ∧ yX23_init.name = "<init>" ∧ (Cond.instanceMethod yX23_init).before args s = true := cwI 1 hts (lw_meth q1248) rfl hc hs (hts _ q175) (hts _ q1246) (hts _ q1247) rfl (by decide +kernel) hR
theorem cb_X2_288 {R : Room} {s : State} {args : Array Value} {rm : Room} {mc ms : Nat} (hts : ∀ w ∈ lw_all, w.before args s = true) (hc : rm.cells = mc) (hs : rm.slots = ms) (hR : rm.frames + 1 ≤ R.frames ∧ 8 + (3 + 11) + rm.locals ≤ R.locals) : CallB R s args RX2 288 yX22_init cX22_init 3 none (ws_ yX22_init cX22_init 3 (Option.none : Option Jvm.ClassFile.FieldType)) rm mc ms 2 ∧ yX22_init.name = "<init>" ∧ (Cond.instanceMethod yX22_init).before args s = true := cwI 2 hts (lw_meth q1235) rfl hc hs (hts _ q174) (hts _ q1233) (hts _ q1234) rfl (by decide +kernel) hR
theorem cb_X2_285 {R : Room} {s : State} {args : Array Value} {rm : Room} {mc ms : Nat} (hts : ∀ w ∈ lw_all, w.before args s = true) (hc : rm.cells = mc) (hs : rm.slots = ms) (hR : rm.frames + 1 ≤ R.frames ∧ 8 + (2 + 11) + rm.locals ≤ R.locals) : CallB R s args RX2 285 yX21_init cX21_init 2 none (ws_ yX21_init cX21_init 2 (Option.none : Option Jvm.ClassFile.FieldType)) rm mc ms 1 ∧ yX21_init.name = "<init>" ∧ (Cond.instanceMethod yX21_init).before args s = true := cwI 1 hts (lw_meth q1225) rfl hc hs (hts _ q173) (hts _ q1223) (hts _ q1224) rfl (by decide +kernel) hR
theorem cb_X2_282 {R : Room} {s : State} {args : Array Value} {rm : Room} {mc ms : Nat} (hts : ∀ w ∈ lw_all, w.before args s = true) (hN : gNw s) (hc : rm.cells = mc) (hs : rm.slots = ms) (hR : rm.frames + 1 ≤ R.frames ∧ 8 + (1 + 11) + rm.locals ≤ R.locals) : va_CN R s args RX2 282 yX20_init "PulseRent" cX20_init 1 none (ws_ yX20_init cX20_init 1 (Option.none : Option Jvm.ClassFile.FieldType)) rm mc ms 0 ∧ yX20_init.name = "<init>" ∧ (Cond.instanceMethod yX20_init).before args s = true := ⟨va_cnB 0 hts (lw_meth q1218) rfl hc hs (hN _ q1216 rfl) (hts _ q172) (by decide +kernel) hR, rfl, hts _ q1217⟩
theorem cb_X2_279 {R : Room} {s : State} {args : Array Value} {rm : Room} {mc ms : Nat} (hts : ∀ w ∈ lw_all, w.before args s = true) (hc : rm.cells = mc) (hs : rm.slots = ms) (hR : rm.frames + 1 ≤ R.frames ∧ 8 + (2 + 11) + rm.locals ≤ R.locals) : CallB R s args RX2 279 yX19_init cX19_init 2 none (ws_ yX19_init cX19_init 2 (Option.none : Option Jvm.ClassFile.FieldType)) rm mc ms 1 ∧ yX19_init.name = "<init>" ∧ (Cond.instanceMethod yX19_init).before args s = true := cwI 1 hts (lw_meth q1205) rfl hc hs (hts _ q171) (hts _ q1203) (hts _ q1204) rfl (by decide +kernel) hR
def B_X2_told (x0 : Nat) (x1 : Int32) (w : GS) : Option ((Nat ⊕ Nat) × GS) :=
  if x1 = (3 : Int32) then
    bd1 (onw w 17 0 1) fun w24 =>
    bd1 (oK w24 x0 2 2) fun _ =>
    bdx (B_X2_number_2 x0 (1 : Int32) (120 : Int32) w24) fun r26 w25 =>
    bd1 (B_X19_init (gZ w) r26 w25) fun w27 =>
    some (.inl (gZ w), w27)
  else
    if x1 = (4 : Int32) then
      bd1 (onw w 22 0 0) fun w22 =>
      bd1 (B_X20_init (gZ w) w22) fun w23 =>
      some (.inl (gZ w), w23)
    else
      bd1 (oK w x0 2 2) fun _ =>
      bdx (B_X2_tenant x0 w) fun r4 w3 =>
      bd1 (oK w3 x0 2 2) fun _ =>
      bd1 (B_X2_next x0 w3) fun w5 =>
      if x1 = 0 then
        bd1 (onw w5 18 0 1) fun w20 =>
        bd1 (B_X21_init (gZ w5) r4 w20) fun w21 =>
        some (.inl (gZ w5), w21)
      else
        if x1 = (1 : Int32) then
          bd1 (onw w5 19 0 2) fun w16 =>
          bd1 (oK w16 x0 2 2) fun _ =>
          bdx (B_X2_number_2 x0 (1 : Int32) (99 : Int32) w16) fun r18 w17 =>
          bd1 (B_X22_init (gZ w5) r4 r18 w17) fun w19 =>
          some (.inl (gZ w5), w19)
        else
          if x1 = (2 : Int32) then
            bd1 (onw w5 20 0 1) fun w14 =>
            bd1 (B_X23_init (gZ w5) r4 w14) fun w15 =>
            some (.inl (gZ w5), w15)
          else
            bd1 (oK w5 x0 2 2) fun _ =>
            bdx (B_X2_room x0 w5) fun r10 w9 =>
            bd1 (oK w9 x0 2 2) fun _ =>
            bd1 (B_X2_next x0 w9) fun w11 =>
            bd1 (onw w11 21 0 2) fun w12 =>
            bd1 (B_X24_init (gZ w11) r4 r10 w12) fun w13 =>
            some (.inl (gZ w11), w13)
set_option maxRecDepth 100000 in
set_option maxHeartbeats 4000000 in
theorem met_B_X2_told (l : Launch) (E : gE) (A : Nat → Prop) (LC LS : Nat)  (x0 : Nat) (x1 : Int32) (w : GS) (res : (Nat ⊕ Nat) × GS) (h : B_X2_told x0 x1 w = some res) : vx_Met l yX2_told (ws_ yX2_told cX2_told 4 (Option.some (Jvm.ClassFile.FieldType.object "PulseRent$Line"))) (gRoom 8 194 LC LS w) (gPc E A LC LS [.ref x0, .int x1] w) (gXr E A LC LS res) (gXX E A LC LS res) (LC - gZ w) (LS - gN w) A := by
  refine gMetx (by decide) rfl (Nat.le_of_ble_eq_true rfl) ?_
  intro p e s m below meth c R S hr hlocks hno X Z hF hL H ls hw hl
  replace hl : lv_has ls 4 [(0, .ref x0), (1, .int x1)] := hl
  unfold B_X2_told at h
  refine lv_iload_n S.1 S.2.1 dX2_told_0 rfl (lv_at hl 1 rfl) ?_
  refine lv_iconst (v := 3) S.1 S.2.1 dX2_told_1 rfl ?_
  refine lv_icmp_ne (tgt := 20) S.1 S.2.1 dX2_told_2 rfl (fun c1 => ?_) (fun c1 => ?_)
  · replace h := if_f c1 h
    refine lv_iload_n S.1 S.2.1 dX2_told_20 rfl (lv_at hl 1 rfl) ?_
    refine lv_iconst (v := 4) S.1 S.2.1 dX2_told_21 rfl ?_
    refine lv_icmp_ne (tgt := 33) S.1 S.2.1 dX2_told_22 rfl (fun c2 => ?_) (fun c2 => ?_)
    · replace h := if_f c2 h
      refine lv_aload_n S.1 S.2.1 dX2_told_33 rfl (lv_at hl 0 rfl) ?_
      obtain ⟨hrc, h⟩ := oK1 h
      refine gxVi (As := []) (rest := []) S X Z hw (b := x0) hno hlocks h (fun u h1 => met_B_X2_tenant l E A LC LS x0 w u h1) (cb_X2_259 S.2.2.2.2 rfl rfl ⟨Nat.le_trans (Nat.le_of_ble_eq_true rfl : 7 + 1 ≤ 8) hF, Nat.le_trans (Nat.le_of_ble_eq_true rfl : 8 + (2 + 11) + 173 ≤ 194) hL⟩) (g_recv X hw (ci := 1) rfl (gcell_2 hrc)) rfl hl.1 rfl (lv_room (Nat.le_of_ble_eq_true rfl)) dX2_told_34 (fun r4 w3 H locs h hw => ?_)
      refine lv_istore_n (lv' := [(2, .int r4), (0, .ref x0), (1, .int x1)]) S.1 S.2.1 dX2_told_37 rfl hl (by decide) rfl (fun ls hl => ?_)
      refine lv_aload_n S.1 S.2.1 dX2_told_38 rfl (lv_at hl 1 rfl) ?_
      obtain ⟨hrc, h⟩ := oK1 h
      refine gcVv (As := []) (rest := []) S X Z hw (b := x0) h (fun u h1 => met_B_X2_next l E A LC LS x0 w3 u h1) (cb_X2_25 S.2.2.2.2 rfl rfl ⟨Nat.le_trans (Nat.le_of_ble_eq_true rfl : 4 + 1 ≤ 8) hF, Nat.le_trans (Nat.le_of_ble_eq_true rfl : 8 + (1 + 11) + 91 ≤ 194) hL⟩) (g_recv X hw (ci := 1) rfl (gcell_2 hrc)) rfl hl.1 rfl (lv_room (Nat.le_of_ble_eq_true rfl)) dX2_told_39 (fun w5 H locs h hw => ?_)
      refine lv_iload_n S.1 S.2.1 dX2_told_42 rfl (lv_at hl 2 rfl) ?_
      refine lv_if_ne (tgt := 55) S.1 S.2.1 dX2_told_43 rfl (fun c6 => ?_) (fun c6 => ?_)
      · replace h := if_f c6 h
        refine lv_iload_n S.1 S.2.1 dX2_told_55 rfl (lv_at hl 2 rfl) ?_
        refine lv_iconst (v := 1) S.1 S.2.1 dX2_told_56 rfl ?_
        refine lv_icmp_ne (tgt := 76) S.1 S.2.1 dX2_told_57 rfl (fun c7 => ?_) (fun c7 => ?_)
        · replace h := if_f c7 h
          refine lv_iload_n S.1 S.2.1 dX2_told_76 rfl (lv_at hl 2 rfl) ?_
          refine lv_iconst (v := 2) S.1 S.2.1 dX2_told_77 rfl ?_
          refine lv_icmp_ne (tgt := 90) S.1 S.2.1 dX2_told_78 rfl (fun c8 => ?_) (fun c8 => ?_)
          · replace h := if_f c8 h
            refine lv_aload_n S.1 S.2.1 dX2_told_90 rfl (lv_at hl 1 rfl) ?_
            obtain ⟨hrc, h⟩ := oK1 h
            refine gxVi (As := []) (rest := []) S X Z hw (b := x0) hno hlocks h (fun u h1 => met_B_X2_room l E A LC LS x0 w5 u h1) (cb_X2_252 S.2.2.2.2 rfl rfl ⟨Nat.le_trans (Nat.le_of_ble_eq_true rfl : 7 + 1 ≤ 8) hF, Nat.le_trans (Nat.le_of_ble_eq_true rfl : 8 + (2 + 11) + 173 ≤ 194) hL⟩) (g_recv X hw (ci := 1) rfl (gcell_2 hrc)) rfl hl.1 rfl (lv_room (Nat.le_of_ble_eq_true rfl)) dX2_told_91 (fun r10 w9 H locs h hw => ?_)
            refine lv_istore_n (lv' := [(3, .int r10), (2, .int r4), (0, .ref x0), (1, .int x1)]) S.1 S.2.1 dX2_told_94 rfl hl (by decide) rfl (fun ls hl => ?_)
            refine lv_aload_n S.1 S.2.1 dX2_told_95 rfl (lv_at hl 2 rfl) ?_
            obtain ⟨hrc, h⟩ := oK1 h
            refine gcVv (As := []) (rest := []) S X Z hw (b := x0) h (fun u h1 => met_B_X2_next l E A LC LS x0 w9 u h1) (cb_X2_25 S.2.2.2.2 rfl rfl ⟨Nat.le_trans (Nat.le_of_ble_eq_true rfl : 4 + 1 ≤ 8) hF, Nat.le_trans (Nat.le_of_ble_eq_true rfl : 8 + (1 + 11) + 91 ≤ 194) hL⟩) (g_recv X hw (ci := 1) rfl (gcell_2 hrc)) rfl hl.1 rfl (lv_room (Nat.le_of_ble_eq_true rfl)) dX2_told_96 (fun w11 H locs h hw => ?_)
            refine gnX2_292 S X Z hw dX2_told_99 h (fun w12 H h hw => ?_)
            refine lv_dup S.1 S.2.1 dX2_told_102 rfl ?_
            refine lv_iload_n S.1 S.2.1 dX2_told_103 rfl (lv_at hl 1 rfl) ?_
            refine lv_iload_n S.1 S.2.1 dX2_told_104 rfl (lv_at hl 0 rfl) ?_
            refine gcIv (As := [.int r4, .int r10]) (rest := [.ref (gZ w11)]) S X Z hw (b := (gZ w11)) h (fun u h1 => met_B_X24_init l E A LC LS (gZ w11) r4 r10 w12 u h1) (cb_X2_294 S.2.2.2.2 rfl rfl ⟨Nat.le_trans (Nat.le_of_ble_eq_true rfl : 2 + 1 ≤ 8) hF, Nat.le_trans (Nat.le_of_ble_eq_true rfl : 8 + (3 + 11) + 40 ≤ 194) hL⟩) rfl hl.1 rfl (lv_room (Nat.le_of_ble_eq_true rfl)) dX2_told_105 (fun w13 H locs h hw => ?_)
            exact x_aret S Z hr (Or.inl ⟨_, rfl⟩) hlocks hw (so1 h) dX2_told_108
          · replace h := if_t c8 h
            refine gnX2_289 S X Z hw dX2_told_81 h (fun w14 H h hw => ?_)
            refine lv_dup S.1 S.2.1 dX2_told_84 rfl ?_
            refine lv_iload_n S.1 S.2.1 dX2_told_85 rfl (lv_at hl 0 rfl) ?_
            refine gcIv (As := [.int r4]) (rest := [.ref (gZ w5)]) S X Z hw (b := (gZ w5)) h (fun u h1 => met_B_X23_init l E A LC LS (gZ w5) r4 w14 u h1) (cb_X2_291 S.2.2.2.2 rfl rfl ⟨Nat.le_trans (Nat.le_of_ble_eq_true rfl : 2 + 1 ≤ 8) hF, Nat.le_trans (Nat.le_of_ble_eq_true rfl : 8 + (2 + 11) + 40 ≤ 194) hL⟩) rfl hl.1 rfl (lv_room (Nat.le_of_ble_eq_true rfl)) dX2_told_86 (fun w15 H locs h hw => ?_)
            exact x_aret S Z hr (Or.inl ⟨_, rfl⟩) hlocks hw (so1 h) dX2_told_89
        · replace h := if_t c7 h
          refine gnX2_286 S X Z hw dX2_told_60 h (fun w16 H h hw => ?_)
          refine lv_dup S.1 S.2.1 dX2_told_63 rfl ?_
          refine lv_iload_n S.1 S.2.1 dX2_told_64 rfl (lv_at hl 0 rfl) ?_
          refine lv_aload_n S.1 S.2.1 dX2_told_65 rfl (lv_at hl 1 rfl) ?_
          refine lv_iconst (v := 1) S.1 S.2.1 dX2_told_66 rfl ?_
          refine lv_bipush (v := 99) S.1 S.2.1 dX2_told_67 rfl ?_
          obtain ⟨hrc, h⟩ := oK1 h
          refine gxVi (As := [.int (1 : Int32), .int (99 : Int32)]) (rest := [.int r4, .ref (gZ w5), .ref (gZ w5)]) S X Z hw (b := x0) hno hlocks h (fun u h1 => met_B_X2_number_2 l E A LC LS x0 (1 : Int32) (99 : Int32) w16 u h1) (cb_X2_121 S.2.2.2.2 rfl rfl ⟨Nat.le_trans (Nat.le_of_ble_eq_true rfl : 6 + 1 ≤ 8) hF, Nat.le_trans (Nat.le_of_ble_eq_true rfl : 8 + (4 + 11) + 135 ≤ 194) hL⟩) (g_recv X hw (ci := 1) rfl (gcell_2 hrc)) rfl hl.1 rfl (lv_room (Nat.le_of_ble_eq_true rfl)) dX2_told_69 (fun r18 w17 H locs h hw => ?_)
          refine gcIv (As := [.int r4, .int r18]) (rest := [.ref (gZ w5)]) S X Z hw (b := (gZ w5)) h (fun u h1 => met_B_X22_init l E A LC LS (gZ w5) r4 r18 w17 u h1) (cb_X2_288 S.2.2.2.2 rfl rfl ⟨Nat.le_trans (Nat.le_of_ble_eq_true rfl : 2 + 1 ≤ 8) hF, Nat.le_trans (Nat.le_of_ble_eq_true rfl : 8 + (3 + 11) + 40 ≤ 194) hL⟩) rfl hl.1 rfl (lv_room (Nat.le_of_ble_eq_true rfl)) dX2_told_72 (fun w19 H locs h hw => ?_)
          exact x_aret S Z hr (Or.inl ⟨_, rfl⟩) hlocks hw (so1 h) dX2_told_75
      · replace h := if_t c6 h
        refine gnX2_283 S X Z hw dX2_told_46 h (fun w20 H h hw => ?_)
        refine lv_dup S.1 S.2.1 dX2_told_49 rfl ?_
        refine lv_iload_n S.1 S.2.1 dX2_told_50 rfl (lv_at hl 0 rfl) ?_
        refine gcIv (As := [.int r4]) (rest := [.ref (gZ w5)]) S X Z hw (b := (gZ w5)) h (fun u h1 => met_B_X21_init l E A LC LS (gZ w5) r4 w20 u h1) (cb_X2_285 S.2.2.2.2 rfl rfl ⟨Nat.le_trans (Nat.le_of_ble_eq_true rfl : 2 + 1 ≤ 8) hF, Nat.le_trans (Nat.le_of_ble_eq_true rfl : 8 + (2 + 11) + 40 ≤ 194) hL⟩) rfl hl.1 rfl (lv_room (Nat.le_of_ble_eq_true rfl)) dX2_told_51 (fun w21 H locs h hw => ?_)
        exact x_aret S Z hr (Or.inl ⟨_, rfl⟩) hlocks hw (so1 h) dX2_told_54
    · replace h := if_t c2 h
      refine gnX2_280 S X Z hw dX2_told_25 h (fun w22 H h hw => ?_)
      refine lv_dup S.1 S.2.1 dX2_told_28 rfl ?_
      refine gcINv (As := []) (rest := [.ref (gZ w)]) S X Z hw (b := (gZ w)) h (fun u h1 => met_B_X20_init l E A LC LS (gZ w) w22 u h1) (cb_X2_282 S.2.2.2.2 X.2.2.2.2.2.1 rfl rfl ⟨Nat.le_trans (Nat.le_of_ble_eq_true rfl : 2 + 1 ≤ 8) hF, Nat.le_trans (Nat.le_of_ble_eq_true rfl : 8 + (1 + 11) + 40 ≤ 194) hL⟩) rfl hl.1 rfl (lv_room (Nat.le_of_ble_eq_true rfl)) dX2_told_29 (fun w23 H locs h hw => ?_)
      exact x_aret S Z hr (Or.inl ⟨_, rfl⟩) hlocks hw (so1 h) dX2_told_32
  · replace h := if_t c1 h
    refine gnX2_277 S X Z hw dX2_told_5 h (fun w24 H h hw => ?_)
    refine lv_dup S.1 S.2.1 dX2_told_8 rfl ?_
    refine lv_aload_n S.1 S.2.1 dX2_told_9 rfl (lv_at hl 0 rfl) ?_
    refine lv_iconst (v := 1) S.1 S.2.1 dX2_told_10 rfl ?_
    refine lv_bipush (v := 120) S.1 S.2.1 dX2_told_11 rfl ?_
    obtain ⟨hrc, h⟩ := oK1 h
    refine gxVi (As := [.int (1 : Int32), .int (120 : Int32)]) (rest := [.ref (gZ w), .ref (gZ w)]) S X Z hw (b := x0) hno hlocks h (fun u h1 => met_B_X2_number_2 l E A LC LS x0 (1 : Int32) (120 : Int32) w24 u h1) (cb_X2_121 S.2.2.2.2 rfl rfl ⟨Nat.le_trans (Nat.le_of_ble_eq_true rfl : 6 + 1 ≤ 8) hF, Nat.le_trans (Nat.le_of_ble_eq_true rfl : 8 + (4 + 11) + 135 ≤ 194) hL⟩) (g_recv X hw (ci := 1) rfl (gcell_2 hrc)) rfl hl.1 rfl (lv_room (Nat.le_of_ble_eq_true rfl)) dX2_told_13 (fun r26 w25 H locs h hw => ?_)
    refine gcIv (As := [.int r26]) (rest := [.ref (gZ w)]) S X Z hw (b := (gZ w)) h (fun u h1 => met_B_X19_init l E A LC LS (gZ w) r26 w25 u h1) (cb_X2_279 S.2.2.2.2 rfl rfl ⟨Nat.le_trans (Nat.le_of_ble_eq_true rfl : 2 + 1 ≤ 8) hF, Nat.le_trans (Nat.le_of_ble_eq_true rfl : 8 + (2 + 11) + 40 ≤ 194) hL⟩) rfl hl.1 rfl (lv_room (Nat.le_of_ble_eq_true rfl)) dX2_told_16 (fun w27 H locs h hw => ?_)
    exact x_aret S Z hr (Or.inl ⟨_, rfl⟩) hlocks hw (so1 h) dX2_told_19
theorem cb_X2_271 {R : Room} {s : State} {args : Array Value} {rm : Room} {mc ms : Nat} (hts : ∀ w ∈ lw_all, w.before args s = true) (hc : rm.cells = mc) (hs : rm.slots = ms) (hR : rm.frames + 1 ≤ R.frames ∧ 8 + (2 + 11) + rm.locals ≤ R.locals) : CallB R s args RX2 271 yJ2_init cJ2_init 2 none (ws_ yJ2_init cJ2_init 2 (Option.none : Option Jvm.ClassFile.FieldType)) rm mc ms 1 ∧ yJ2_init.name = "<init>" ∧ (Cond.instanceMethod yJ2_init).before args s = true := cwI 1 hts (lw_meth q233) rfl hc hs (hts _ q140) (hts _ q1195) (hts _ q232) rfl (by decide +kernel) hR
theorem cb_X2_152 {R : Room} {s : State} {args : Array Value} {rm : Room} {mc ms : Nat} (hts : ∀ w ∈ lw_all, w.before args s = true) (hc : rm.cells = mc) (hs : rm.slots = ms) (hR : rm.frames + 1 ≤ R.frames ∧ 8 + (1 + 11) + rm.locals ≤ R.locals) : CallW R s args RX2 RJ2 152 yJ2_size cJ2_size 1 (Option.some Jvm.ClassFile.FieldType.int) (ws_ yJ2_size cJ2_size 1 (Option.some Jvm.ClassFile.FieldType.int)) rm mc ms 0 := cwV 0 hts (lw_V q667 q350 q351 q140 q352) rfl hc hs (by decide +kernel) hR
theorem cb_X2_274 {R : Room} {s : State} {args : Array Value} {rm : Room} {mc ms : Nat} (hts : ∀ w ∈ lw_all, w.before args s = true) (hc : rm.cells = mc) (hs : rm.slots = ms) (hR : rm.frames + 1 ≤ R.frames ∧ 8 + (4 + 11) + rm.locals ≤ R.locals) : CallW R s args RX2 RX2 274 yX2_told cX2_told 4 (Option.some (Jvm.ClassFile.FieldType.object "PulseRent$Line")) (ws_ yX2_told cX2_told 4 (Option.some (Jvm.ClassFile.FieldType.object "PulseRent$Line"))) rm mc ms 1 := cwV 1 hts (lw_V q1197 q1199 qs28 q136 q1200) rfl hc hs (by decide +kernel) hR
def B_X2_months_p14 : Nat → Nat → Nat → GS → Option ((Nat ⊕ Nat) × GS)
  | 0, _, _, _ => none
  | n + 1, x0, x2, w =>
    bd1 (oI w x0 2 2 3) fun v4 =>
    if v4 = 0 then
      some (.inl x2, w)
    else
      bd1 (gT w 27) fun a6 =>
      bd1 (oK w x0 2 2) fun _ =>
      bd2 (B_X2_which x0 a6 w) fun r8 w7 =>
      if 0 ≤ r8 then
        bd1 (oK w7 x2 23 23) fun _ =>
        bd1 (B_J2_size x2 w7) fun r10 =>
        if r10 = (30 : Int32) then
          bd1 (oK w7 x0 2 2) fun _ =>
          bd2 (B_X2_wrong x0 (5 : Int32) w7) fun a19 w18 =>
          bd1 (oK w18 a19 6 6) fun _ => some (.inr a19, w18)
        else
          bd1 (oK w7 x0 2 2) fun _ =>
          bd1 (B_X2_next x0 w7) fun w12 =>
          bd1 (oK w12 x0 2 2) fun _ =>
          bdx (B_X2_told x0 r8 w12) fun a14 w13 =>
          bd1 (oK w13 x2 23 23) fun _ =>
          bd2 (B_J2_add x2 a14 w13) fun r16 w15 =>
          bd1 (oK w15 x0 2 2) fun _ =>
          bdx (B_X2_need_2 x0 (59 : Int32) w15) fun _ w17 =>
          (B_X2_months_p14 n) x0 x2 w17
      else
        bd1 (oK w7 x0 2 2) fun _ =>
        bd2 (B_X2_wrong x0 (1 : Int32) w7) fun a21 w20 =>
        bd1 (oK w20 a21 6 6) fun _ => some (.inr a21, w20)
def B_X2_months (x0 : Nat) (x1 : Nat) (w : GS) : Option ((Nat ⊕ Nat) × GS) :=
  bd1 (pR w x0 2 2 7 (some x1)) fun w1 =>
  bd1 (onw w1 23 0 3) fun w2 =>
  bd1 (B_J2_init (gZ w1) (4 : Int32) w2) fun w3 =>
  B_X2_months_p14 FU x0 (gZ w1) w3
set_option maxRecDepth 100000 in
set_option maxHeartbeats 4000000 in
theorem wk_B_X2_months_p14 {p : Program} {l : Launch} {e : Env} {R : Room} {s : State} {m : MethodId} {args : Array Value} {below : List Frame} {meth : Method} {c : Code} {E : gE} {A : Nat → Prop} {LC LS : Nat} (S : CallFix p m c cX2_months 4 s args lw_all RX2) (X : gCtx E A s) (Z : gRm R s LC LS) (hF : 9 ≤ R.frames) (hL : 217 ≤ R.locals) (hr : meth.sig.returnType = (Option.some (Jvm.ClassFile.FieldType.object "java/util/ArrayList"))) (hlocks : meth.locks = false) (hno : ∀ x ∈ c.exceptionTable.toList, False) {res : (Nat ⊕ Nat) × GS}  : ∀ n : Nat, ∀ (x0 : Nat) (x2 : Nat) (w : GS) (H : Heap) (locs : List Loc) (ls : Array Slot), B_X2_months_p14 n x0 x2 w = some res → gH E A LC LS s w H locs → lv_has ls 4 [(0, .ref x0), (2, .ref x2)] → W p l e R s m args below meth c H locs (H.size - s.heap.size) (tot H - tot s.heap) (vx_MQ below (gXr E A LC LS res) (gXX E A LC LS res) args s R.cells R.slots A) (F0 m 14 ls []) := by
  intro n
  induction n with
  | zero => intro x0 x2 w H locs ls h; cases (show (none : Option ((Nat ⊕ Nat) × GS)) = some res from h)
  | succ n ih =>
    intro x0 x2 w H locs ls h hw hl
    rw [B_X2_months_p14] at h
    refine lv_aload_n S.1 S.2.1 dX2_months_14 rfl (lv_at hl 0 rfl) ?_
    refine ggX2_31 S X hw dX2_months_15 h (fun v4 h => ?_)
    refine lv_if_eq (tgt := 77) S.1 S.2.1 dX2_months_18 rfl (fun c5 => ?_) (fun c5 => ?_)
    · replace h := if_t c5 h
      refine lv_aload_n S.1 S.2.1 dX2_months_77 rfl (lv_at hl 1 rfl) ?_
      exact x_aret S Z hr (Or.inl ⟨_, rfl⟩) hlocks hw (so1 h) dX2_months_78
    · replace h := if_f c5 h
      refine lv_aload_n S.1 S.2.1 dX2_months_21 rfl (lv_at hl 0 rfl) ?_
      refine glw17 S X hw dX2_months_22 h (fun a6 h => ?_)
      obtain ⟨hrc, h⟩ := oK1 h
      refine gcVi (As := [.ref a6]) (rest := []) S X Z hw (b := x0) h (fun u h1 => met_B_X2_which l E A LC LS x0 a6 w u h1) (cb_X2_71 S.2.2.2.2 rfl rfl ⟨Nat.le_trans (Nat.le_of_ble_eq_true rfl : 4 + 1 ≤ 9) hF, Nat.le_trans (Nat.le_of_ble_eq_true rfl : 8 + (7 + 11) + 85 ≤ 217) hL⟩) (g_recv X hw (ci := 1) rfl (gcell_2 hrc)) rfl hl.1 rfl (lv_room (Nat.le_of_ble_eq_true rfl)) dX2_months_25 (fun r8 w7 H locs h hw => ?_)
      refine lv_istore_n (lv' := [(3, .int r8), (0, .ref x0), (2, .ref x2)]) S.1 S.2.1 dX2_months_28 rfl hl (by decide) rfl (fun ls hl => ?_)
      refine lv_iload_n S.1 S.2.1 dX2_months_29 rfl (lv_at hl 0 rfl) ?_
      refine lv_if_ge (tgt := 39) S.1 S.2.1 dX2_months_30 rfl (fun c9 => ?_) (fun c9 => ?_)
      · replace h := if_t c9 h
        refine lv_aload_n S.1 S.2.1 dX2_months_39 rfl (lv_at hl 2 rfl) ?_
        obtain ⟨hrc, h⟩ := oK1 h
        refine gcVri (As := []) (rest := []) S X Z hw (b := x2) h (fun u h1 => met_B_J2_size l E A LC LS x2 w7 u h1) (cb_X2_152 S.2.2.2.2 rfl rfl ⟨Nat.le_trans (Nat.le_of_ble_eq_true rfl : 0 + 1 ≤ 9) hF, Nat.le_trans (Nat.le_of_ble_eq_true rfl : 8 + (1 + 11) + 0 ≤ 217) hL⟩) (g_recv X hw (ci := 22) rfl (gcell_23 hrc)) rfl hl.1 rfl (lv_room (Nat.le_of_ble_eq_true rfl)) dX2_months_40 (fun r10 H locs h hw => ?_)
        refine lv_bipush (v := 30) S.1 S.2.1 dX2_months_43 rfl ?_
        refine lv_icmp_ne (tgt := 54) S.1 S.2.1 dX2_months_45 rfl (fun c11 => ?_) (fun c11 => ?_)
        · replace h := if_f c11 h
          refine lv_aload_n S.1 S.2.1 dX2_months_54 rfl (lv_at hl 1 rfl) ?_
          obtain ⟨hrc, h⟩ := oK1 h
          refine gcVv (As := []) (rest := []) S X Z hw (b := x0) h (fun u h1 => met_B_X2_next l E A LC LS x0 w7 u h1) (cb_X2_25 S.2.2.2.2 rfl rfl ⟨Nat.le_trans (Nat.le_of_ble_eq_true rfl : 4 + 1 ≤ 9) hF, Nat.le_trans (Nat.le_of_ble_eq_true rfl : 8 + (1 + 11) + 91 ≤ 217) hL⟩) (g_recv X hw (ci := 1) rfl (gcell_2 hrc)) rfl hl.1 rfl (lv_room (Nat.le_of_ble_eq_true rfl)) dX2_months_55 (fun w12 H locs h hw => ?_)
          refine lv_aload_n S.1 S.2.1 dX2_months_58 rfl (lv_at hl 2 rfl) ?_
          refine lv_aload_n S.1 S.2.1 dX2_months_59 rfl (lv_at hl 1 rfl) ?_
          refine lv_iload_n S.1 S.2.1 dX2_months_60 rfl (lv_at hl 0 rfl) ?_
          obtain ⟨hrc, h⟩ := oK1 h
          refine gxVr (As := [.int r8]) (rest := [.ref x2]) S X Z hw (b := x0) hno hlocks h (fun u h1 => met_B_X2_told l E A LC LS x0 r8 w12 u h1) (cb_X2_274 S.2.2.2.2 rfl rfl ⟨Nat.le_trans (Nat.le_of_ble_eq_true rfl : 8 + 1 ≤ 9) hF, Nat.le_trans (Nat.le_of_ble_eq_true rfl : 8 + (4 + 11) + 194 ≤ 217) hL⟩) (g_recv X hw (ci := 1) rfl (gcell_2 hrc)) rfl hl.1 rfl (lv_room (Nat.le_of_ble_eq_true rfl)) dX2_months_61 (fun a14 w13 H locs h hw => ?_)
          obtain ⟨hrc, h⟩ := oK1 h
          refine gcVi (As := [.ref a14]) (rest := []) S X Z hw (b := x2) h (fun u h1 => met_B_J2_add l E A LC LS x2 a14 w13 u h1) (cb_X2_185 S.2.2.2.2 rfl rfl ⟨Nat.le_trans (Nat.le_of_ble_eq_true rfl : 6 + 1 ≤ 9) hF, Nat.le_trans (Nat.le_of_ble_eq_true rfl : 8 + (2 + 11) + 150 ≤ 217) hL⟩) (g_recv X hw (ci := 22) rfl (gcell_23 hrc)) rfl hl.1 rfl (lv_room (Nat.le_of_ble_eq_true rfl)) dX2_months_64 (fun r16 w15 H locs h hw => ?_)
          refine lv_pop S.1 S.2.1 dX2_months_67 rfl ?_
          refine lv_aload_n S.1 S.2.1 dX2_months_68 rfl (lv_at hl 1 rfl) ?_
          refine lv_bipush (v := 59) S.1 S.2.1 dX2_months_69 rfl ?_
          obtain ⟨hrc, h⟩ := oK1 h
          refine gxVv (As := [.int (59 : Int32)]) (rest := []) S X Z hw (b := x0) hno hlocks h (fun u h1 => met_B_X2_need_2 l E A LC LS x0 (59 : Int32) w15 u h1) (cb_X2_165 S.2.2.2.2 rfl rfl ⟨Nat.le_trans (Nat.le_of_ble_eq_true rfl : 6 + 1 ≤ 9) hF, Nat.le_trans (Nat.le_of_ble_eq_true rfl : 8 + (2 + 11) + 135 ≤ 217) hL⟩) (g_recv X hw (ci := 1) rfl (gcell_2 hrc)) rfl hl.1 rfl (lv_room (Nat.le_of_ble_eq_true rfl)) dX2_months_71 (fun _ w17 H locs h hw => ?_)
          refine lv_goto (tgt := 14) S.1 S.2.1 dX2_months_74 rfl ?_
          exact ih _ _ _ _ _ _ h hw (lv_sub hl [1, 2] rfl)
        · replace h := if_t c11 h
          refine lv_aload_n S.1 S.2.1 dX2_months_48 rfl (lv_at hl 1 rfl) ?_
          refine lv_iconst (v := 5) S.1 S.2.1 dX2_months_49 rfl ?_
          obtain ⟨hrc, h⟩ := oK1 h
          refine gcVr (As := [.int (5 : Int32)]) (rest := []) S X Z hw (b := x0) h (fun u h1 => met_B_X2_wrong l E A LC LS x0 (5 : Int32) w7 u h1) (cb_X2_75 S.2.2.2.2 rfl rfl ⟨Nat.le_trans (Nat.le_of_ble_eq_true rfl : 5 + 1 ≤ 9) hF, Nat.le_trans (Nat.le_of_ble_eq_true rfl : 8 + (2 + 11) + 114 ≤ 217) hL⟩) (g_recv X hw (ci := 1) rfl (gcell_2 hrc)) rfl hl.1 rfl (lv_room (Nat.le_of_ble_eq_true rfl)) dX2_months_50 (fun a19 w18 H locs h hw => ?_)
          exact x_throw S X hno hlocks Z hw dX2_months_53 h
      · replace h := if_f c9 h
        refine lv_aload_n S.1 S.2.1 dX2_months_33 rfl (lv_at hl 1 rfl) ?_
        refine lv_iconst (v := 1) S.1 S.2.1 dX2_months_34 rfl ?_
        obtain ⟨hrc, h⟩ := oK1 h
        refine gcVr (As := [.int (1 : Int32)]) (rest := []) S X Z hw (b := x0) h (fun u h1 => met_B_X2_wrong l E A LC LS x0 (1 : Int32) w7 u h1) (cb_X2_75 S.2.2.2.2 rfl rfl ⟨Nat.le_trans (Nat.le_of_ble_eq_true rfl : 5 + 1 ≤ 9) hF, Nat.le_trans (Nat.le_of_ble_eq_true rfl : 8 + (2 + 11) + 114 ≤ 217) hL⟩) (g_recv X hw (ci := 1) rfl (gcell_2 hrc)) rfl hl.1 rfl (lv_room (Nat.le_of_ble_eq_true rfl)) dX2_months_35 (fun a21 w20 H locs h hw => ?_)
        exact x_throw S X hno hlocks Z hw dX2_months_38 h
set_option maxRecDepth 100000 in
set_option maxHeartbeats 4000000 in
theorem met_B_X2_months (l : Launch) (E : gE) (A : Nat → Prop) (LC LS : Nat)  (x0 : Nat) (x1 : Nat) (w : GS) (res : (Nat ⊕ Nat) × GS) (h : B_X2_months x0 x1 w = some res) : vx_Met l yX2_months (ws_ yX2_months cX2_months 4 (Option.some (Jvm.ClassFile.FieldType.object "java/util/ArrayList"))) (gRoom 9 217 LC LS w) (gPc E A LC LS [.ref x0, .ref x1] w) (gXr E A LC LS res) (gXX E A LC LS res) (LC - gZ w) (LS - gN w) A := by
  refine gMetx (by decide) rfl (Nat.le_of_ble_eq_true rfl) ?_
  intro p e s m below meth c R S hr hlocks hno X Z hF hL H ls hw hl
  replace hl : lv_has ls 4 [(0, .ref x0), (1, .ref x1)] := hl
  unfold B_X2_months at h
  refine lv_aload_n S.1 S.2.1 dX2_months_0 rfl (lv_at hl 0 rfl) ?_
  refine lv_aload_n S.1 S.2.1 dX2_months_1 rfl (lv_at hl 1 rfl) ?_
  refine gpX2_101 (v := some x1) S X hw dX2_months_2 h (fun w1 H locs h hw => ?_)
  refine gnX2_153 S X Z hw dX2_months_5 h (fun w2 H h hw => ?_)
  refine lv_dup S.1 S.2.1 dX2_months_8 rfl ?_
  refine lv_iconst (v := 4) S.1 S.2.1 dX2_months_9 rfl ?_
  refine gcIv (As := [.int (4 : Int32)]) (rest := [.ref (gZ w1)]) S X Z hw (b := (gZ w1)) h (fun u h1 => met_B_J2_init l E A LC LS (gZ w1) (4 : Int32) w2 u h1) (cb_X2_271 S.2.2.2.2 rfl rfl ⟨Nat.le_trans (Nat.le_of_ble_eq_true rfl : 3 + 1 ≤ 9) hF, Nat.le_trans (Nat.le_of_ble_eq_true rfl : 8 + (2 + 11) + 60 ≤ 217) hL⟩) rfl hl.1 rfl (lv_room (Nat.le_of_ble_eq_true rfl)) dX2_months_10 (fun w3 H locs h hw => ?_)
  refine lv_astore_n (lv' := [(2, .ref (gZ w1)), (0, .ref x0), (1, .ref x1)]) S.1 S.2.1 dX2_months_13 rfl hl (by decide) rfl (fun ls hl => ?_)
  exact wk_B_X2_months_p14 S X Z hF hL hr hlocks hno FU _ _ _ _ _ _ h hw (lv_sub hl [1, 0] rfl)
theorem cb_X2_211 {R : Room} {s : State} {args : Array Value} {rm : Room} {mc ms : Nat} (hts : ∀ w ∈ lw_all, w.before args s = true) (hc : rm.cells = mc) (hs : rm.slots = ms) (hR : rm.frames + 1 ≤ R.frames ∧ 8 + (2 + 11) + rm.locals ≤ R.locals) : CallW R s args RX2 RX2 211 yX2_worked cX2_worked 2 (Option.some (Jvm.ClassFile.FieldType.object "PulseRent$Expression")) (ws_ yX2_worked cX2_worked 2 (Option.some (Jvm.ClassFile.FieldType.object "PulseRent$Expression"))) rm mc ms 1 := cwV 1 hts (lw_V q1102 q1104 qs20 q136 q1105) rfl hc hs (by decide +kernel) hR
theorem cb_X2_182 {R : Room} {s : State} {args : Array Value} {rm : Room} {mc ms : Nat} (hts : ∀ w ∈ lw_all, w.before args s = true) (hc : rm.cells = mc) (hs : rm.slots = ms) (hR : rm.frames + 1 ≤ R.frames ∧ 8 + (5 + 11) + rm.locals ≤ R.locals) : CallB R s args RX2 182 yX7_init cX7_init 5 none (ws_ yX7_init cX7_init 5 (Option.none : Option Jvm.ClassFile.FieldType)) rm mc ms 4 ∧ yX7_init.name = "<init>" ∧ (Cond.instanceMethod yX7_init).before args s = true := cwI 4 hts (lw_meth q883) rfl hc hs (hts _ q159) (hts _ q881) (hts _ q882) rfl (by decide +kernel) hR
theorem cb_X2_189 {R : Room} {s : State} {args : Array Value} {rm : Room} {mc ms : Nat} (hts : ∀ w ∈ lw_all, w.before args s = true) (hc : rm.cells = mc) (hs : rm.slots = ms) (hR : rm.frames + 1 ≤ R.frames ∧ 8 + (4 + 11) + rm.locals ≤ R.locals) : CallW R s args RX2 RX2 189 yX2_comes cX2_comes 4 (Option.none : Option Jvm.ClassFile.FieldType) (ws_ yX2_comes cX2_comes 4 (Option.none : Option Jvm.ClassFile.FieldType)) rm mc ms 0 := cwV 0 hts (lw_V q966 q968 qs15 q136 q969) rfl hc hs (by decide +kernel) hR
theorem cb_X2_192 {R : Room} {s : State} {args : Array Value} {rm : Room} {mc ms : Nat} (hts : ∀ w ∈ lw_all, w.before args s = true) (hc : rm.cells = mc) (hs : rm.slots = ms) (hR : rm.frames + 1 ≤ R.frames ∧ 8 + (3 + 11) + rm.locals ≤ R.locals) : CallW R s args RX2 RX2 192 yX2_loves cX2_loves 3 (Option.none : Option Jvm.ClassFile.FieldType) (ws_ yX2_loves cX2_loves 3 (Option.none : Option Jvm.ClassFile.FieldType)) rm mc ms 0 := cwV 0 hts (lw_V q1062 q1064 qs18 q136 q1065) rfl hc hs (by decide +kernel) hR
theorem cb_X2_203 {R : Room} {s : State} {args : Array Value} {rm : Room} {mc ms : Nat} (hts : ∀ w ∈ lw_all, w.before args s = true) (hc : rm.cells = mc) (hs : rm.slots = ms) (hR : rm.frames + 1 ≤ R.frames ∧ 8 + (5 + 11) + rm.locals ≤ R.locals) : CallB R s args RX2 203 yX12_init cX12_init 5 none (ws_ yX12_init cX12_init 5 (Option.none : Option Jvm.ClassFile.FieldType)) rm mc ms 4 ∧ yX12_init.name = "<init>" ∧ (Cond.instanceMethod yX12_init).before args s = true := cwI 4 hts (lw_meth q1081) rfl hc hs (hts _ q164) (hts _ q1079) (hts _ q1080) rfl (by decide +kernel) hR
def B_X2_line (x0 : Nat) (x1 : Int32) (w : GS) : Option ((Unit ⊕ Nat) × GS) :=
  if x1 = (0 : Int32) then
    bd1 (oK w x0 2 2) fun _ =>
    bdx (B_X2_fresh x0 w) fun a7 w6 =>
    bd1 (gT w6 13) fun a8 =>
    bd1 (oK w6 x0 2 2) fun _ =>
    bdx (B_X2_number x0 a8 (0 : Int32) (60 : Int32) w6) fun r10 w9 =>
    bd1 (gT w9 14) fun a11 =>
    bd1 (oK w9 x0 2 2) fun _ =>
    bdx (B_X2_number x0 a11 (0 : Int32) (20 : Int32) w9) fun r13 w12 =>
    bd1 (oRn w12 x0 2 2 7) fun a14 =>
    bd1 (oRn w12 a14 3 3 0) fun a15 =>
    bd1 (onw w12 7 0 4) fun w16 =>
    bd1 (gT w16 15) fun a17 =>
    bd1 (oK w16 x0 2 2) fun _ =>
    bdx (B_X2_number x0 a17 (0 : Int32) (999 : Int32) w16) fun r19 w18 =>
    bd1 (B_X7_init (gZ w12) a7 r10 r13 r19 w18) fun w20 =>
    bd1 (oK w20 a15 23 23) fun _ =>
    bd2 (B_J2_add a15 (gZ w12) w20) fun r22 w21 =>
    some (.inl (), w21)
  else
    if x1 = (1 : Int32) then
      bd1 (oK w x0 2 2) fun _ =>
      bdx (B_X2_comes x0 w) fun _ w23 =>
      some (.inl (), w23)
    else
      if x1 = (2 : Int32) then
        bd1 (oK w x0 2 2) fun _ =>
        bdx (B_X2_loves x0 w) fun _ w24 =>
        some (.inl (), w24)
      else
        if x1 = (3 : Int32) then
          bd1 (oK w x0 2 2) fun _ =>
          bdx (B_X2_fresh x0 w) fun a26 w25 =>
          bd1 (gT w25 16) fun a27 =>
          bd1 (oK w25 x0 2 2) fun _ =>
          bdx (B_X2_number x0 a27 (0 : Int32) (99 : Int32) w25) fun r29 w28 =>
          bd1 (gT w28 17) fun a30 =>
          bd1 (oK w28 x0 2 2) fun _ =>
          bdx (B_X2_number x0 a30 (1 : Int32) (20 : Int32) w28) fun r32 w31 =>
          bd1 (oRn w31 x0 2 2 7) fun a33 =>
          bd1 (oRn w31 a33 3 3 2) fun a34 =>
          bd1 (onw w31 12 0 4) fun w35 =>
          bd1 (gT w35 18) fun a36 =>
          bd1 (oK w35 x0 2 2) fun _ =>
          bdx (B_X2_number x0 a36 (0 : Int32) (60 : Int32) w35) fun r38 w37 =>
          bd1 (B_X12_init (gZ w31) a26 r29 r32 r38 w37) fun w39 =>
          bd1 (oK w39 a34 23 23) fun _ =>
          bd2 (B_J2_add a34 (gZ w31) w39) fun r41 w40 =>
          some (.inl (), w40)
        else
          if x1 = (4 : Int32) then
            bd1 (oK w x0 2 2) fun _ =>
            bdx (B_X2_number_2 x0 (0 : Int32) (60 : Int32) w) fun r43 w42 =>
            bd1 (oRn w42 x0 2 2 7) fun a44 =>
            bd1 (gT w42 19) fun a45 =>
            bd1 (oK w42 x0 2 2) fun _ =>
            bdx (B_X2_number x0 a45 (1 : Int32) (120 : Int32) w42) fun r47 w46 =>
            bd1 (pI w46 a44 3 3 4 r47) fun w48 =>
            bd1 (oRn w48 x0 2 2 7) fun a49 =>
            bd1 (pI w48 a49 3 3 3 r43) fun w50 =>
            some (.inl (), w50)
          else
            if x1 = (5 : Int32) then
              bd1 (oRn w x0 2 2 7) fun a51 =>
              bd1 (oK w x0 2 2) fun _ =>
              bdx (B_X2_number_2 x0 (1 : Int32) (30 : Int32) w) fun r53 w52 =>
              bd1 (pI w52 a51 3 3 5 r53) fun w54 =>
              some (.inl (), w54)
            else
              if x1 = (6 : Int32) then
                bd1 (oRn w x0 2 2 7) fun a55 =>
                bd1 (gT w 20) fun a56 =>
                bd1 (oK w x0 2 2) fun _ =>
                bdx (B_X2_worked x0 a56 w) fun a58 w57 =>
                bd1 (pR w57 a55 3 3 6 (some a58)) fun w59 =>
                some (.inl (), w59)
              else
                bd1 (oRn w x0 2 2 7) fun a1 =>
                bd1 (gT w 21) fun a2 =>
                bd1 (oK w x0 2 2) fun _ =>
                bdx (B_X2_worked x0 a2 w) fun a4 w3 =>
                bd1 (pR w3 a1 3 3 7 (some a4)) fun w5 =>
                some (.inl (), w5)
set_option maxRecDepth 100000 in
set_option maxHeartbeats 4000000 in
theorem met_B_X2_line (l : Launch) (E : gE) (A : Nat → Prop) (LC LS : Nat)  (x0 : Nat) (x1 : Int32) (w : GS) (res : (Unit ⊕ Nat) × GS) (h : B_X2_line x0 x1 w = some res) : vx_Met l yX2_line (ws_ yX2_line cX2_line 5 (Option.none : Option Jvm.ClassFile.FieldType)) (gRoom 58 2903 LC LS w) (gPc E A LC LS [.ref x0, .int x1] w) (gXv E A LC LS res) (gXX E A LC LS res) (LC - gZ w) (LS - gN w) A := by
  refine gMetx (by decide) rfl (Nat.le_of_ble_eq_true rfl) ?_
  intro p e s m below meth c R S hr hlocks hno X Z hF hL H ls hw hl
  replace hl : lv_has ls 5 [(0, .ref x0), (1, .int x1)] := hl
  unfold B_X2_line at h
  refine lv_iload_n S.1 S.2.1 dX2_line_0 rfl (lv_at hl 1 rfl) ?_
  by_cases e0 : x1 = (0 : Int32)
  · replace h := if_t e0 h
    refine lv_tableIn (tgt := 44) S.1 S.2.1 dX2_line_1 (by rw [e0]; decide) (by rw [e0]; decide) (by rw [e0]; rfl) rfl ?_
    refine lv_aload_n S.1 S.2.1 dX2_line_44 rfl (lv_at hl 0 rfl) ?_
    obtain ⟨hrc, h⟩ := oK1 h
    refine gxVr (As := []) (rest := []) S X Z hw (b := x0) hno hlocks h (fun u h1 => met_B_X2_fresh l E A LC LS x0 w u h1) (cb_X2_168 S.2.2.2.2 rfl rfl ⟨Nat.le_trans (Nat.le_of_ble_eq_true rfl : 7 + 1 ≤ 58) hF, Nat.le_trans (Nat.le_of_ble_eq_true rfl : 8 + (2 + 11) + 173 ≤ 2903) hL⟩) (g_recv X hw (ci := 1) rfl (gcell_2 hrc)) rfl hl.1 rfl (lv_room (Nat.le_of_ble_eq_true rfl)) dX2_line_45 (fun a7 w6 H locs h hw => ?_)
    refine lv_astore_n (lv' := [(2, .ref a7), (0, .ref x0), (1, .int x1)]) S.1 S.2.1 dX2_line_48 rfl hl (by decide) rfl (fun ls hl => ?_)
    refine lv_aload_n S.1 S.2.1 dX2_line_49 rfl (lv_at hl 1 rfl) ?_
    refine gls3 S X hw dX2_line_50 h (fun a8 h => ?_)
    refine lv_iconst (v := 0) S.1 S.2.1 dX2_line_52 rfl ?_
    refine lv_bipush (v := 60) S.1 S.2.1 dX2_line_53 rfl ?_
    obtain ⟨hrc, h⟩ := oK1 h
    refine gxVi (As := [.ref a8, .int (0 : Int32), .int (60 : Int32)]) (rest := []) S X Z hw (b := x0) hno hlocks h (fun u h1 => met_B_X2_number l E A LC LS x0 a8 (0 : Int32) (60 : Int32) w6 u h1) (cb_X2_173 S.2.2.2.2 rfl rfl ⟨Nat.le_trans (Nat.le_of_ble_eq_true rfl : 7 + 1 ≤ 58) hF, Nat.le_trans (Nat.le_of_ble_eq_true rfl : 8 + (4 + 11) + 158 ≤ 2903) hL⟩) (g_recv X hw (ci := 1) rfl (gcell_2 hrc)) rfl hl.1 rfl (lv_room (Nat.le_of_ble_eq_true rfl)) dX2_line_55 (fun r10 w9 H locs h hw => ?_)
    refine lv_istore_n (lv' := [(3, .int r10), (2, .ref a7), (0, .ref x0), (1, .int x1)]) S.1 S.2.1 dX2_line_58 rfl hl (by decide) rfl (fun ls hl => ?_)
    refine lv_aload_n S.1 S.2.1 dX2_line_59 rfl (lv_at hl 2 rfl) ?_
    refine gls4 S X hw dX2_line_60 h (fun a11 h => ?_)
    refine lv_iconst (v := 0) S.1 S.2.1 dX2_line_62 rfl ?_
    refine lv_bipush (v := 20) S.1 S.2.1 dX2_line_63 rfl ?_
    obtain ⟨hrc, h⟩ := oK1 h
    refine gxVi (As := [.ref a11, .int (0 : Int32), .int (20 : Int32)]) (rest := []) S X Z hw (b := x0) hno hlocks h (fun u h1 => met_B_X2_number l E A LC LS x0 a11 (0 : Int32) (20 : Int32) w9 u h1) (cb_X2_173 S.2.2.2.2 rfl rfl ⟨Nat.le_trans (Nat.le_of_ble_eq_true rfl : 7 + 1 ≤ 58) hF, Nat.le_trans (Nat.le_of_ble_eq_true rfl : 8 + (4 + 11) + 158 ≤ 2903) hL⟩) (g_recv X hw (ci := 1) rfl (gcell_2 hrc)) rfl hl.1 rfl (lv_room (Nat.le_of_ble_eq_true rfl)) dX2_line_65 (fun r13 w12 H locs h hw => ?_)
    refine lv_istore (lv' := [(4, .int r13), (3, .int r10), (2, .ref a7), (0, .ref x0), (1, .int x1)]) S.1 S.2.1 dX2_line_68 hl (by decide) rfl (fun ls hl => ?_)
    refine lv_aload_n S.1 S.2.1 dX2_line_70 rfl (lv_at hl 3 rfl) ?_
    refine ggX2_101 S X hw dX2_line_71 h (fun a14 h => ?_)
    refine ggX2_148 S X hw dX2_line_74 h (fun a15 h => ?_)
    refine gnX2_178 S X Z hw dX2_line_77 h (fun w16 H h hw => ?_)
    refine lv_dup S.1 S.2.1 dX2_line_80 rfl ?_
    refine lv_aload_n S.1 S.2.1 dX2_line_81 rfl (lv_at hl 2 rfl) ?_
    refine lv_iload_n S.1 S.2.1 dX2_line_82 rfl (lv_at hl 1 rfl) ?_
    refine lv_iload S.1 S.2.1 dX2_line_83 (lv_at hl 0 rfl) ?_
    refine lv_aload_n S.1 S.2.1 dX2_line_85 rfl (lv_at hl 3 rfl) ?_
    refine gls5 S X hw dX2_line_86 h (fun a17 h => ?_)
    refine lv_iconst (v := 0) S.1 S.2.1 dX2_line_88 rfl ?_
    refine lv_sipush (v := 999) S.1 S.2.1 dX2_line_89 rfl ?_
    obtain ⟨hrc, h⟩ := oK1 h
    refine gxVi (As := [.ref a17, .int (0 : Int32), .int (999 : Int32)]) (rest := [.int r13, .int r10, .ref a7, .ref (gZ w12), .ref (gZ w12), .ref a15]) S X Z hw (b := x0) hno hlocks h (fun u h1 => met_B_X2_number l E A LC LS x0 a17 (0 : Int32) (999 : Int32) w16 u h1) (cb_X2_173 S.2.2.2.2 rfl rfl ⟨Nat.le_trans (Nat.le_of_ble_eq_true rfl : 7 + 1 ≤ 58) hF, Nat.le_trans (Nat.le_of_ble_eq_true rfl : 8 + (4 + 11) + 158 ≤ 2903) hL⟩) (g_recv X hw (ci := 1) rfl (gcell_2 hrc)) rfl hl.1 rfl (lv_room (Nat.le_of_ble_eq_true rfl)) dX2_line_92 (fun r19 w18 H locs h hw => ?_)
    refine gcIv (As := [.ref a7, .int r10, .int r13, .int r19]) (rest := [.ref (gZ w12), .ref a15]) S X Z hw (b := (gZ w12)) h (fun u h1 => met_B_X7_init l E A LC LS (gZ w12) a7 r10 r13 r19 w18 u h1) (cb_X2_182 S.2.2.2.2 rfl rfl ⟨Nat.le_trans (Nat.le_of_ble_eq_true rfl : 1 + 1 ≤ 58) hF, Nat.le_trans (Nat.le_of_ble_eq_true rfl : 8 + (5 + 11) + 20 ≤ 2903) hL⟩) rfl hl.1 rfl (lv_room (Nat.le_of_ble_eq_true rfl)) dX2_line_95 (fun w20 H locs h hw => ?_)
    obtain ⟨hrc, h⟩ := oK1 h
    refine gcVi (As := [.ref (gZ w12)]) (rest := []) S X Z hw (b := a15) h (fun u h1 => met_B_J2_add l E A LC LS a15 (gZ w12) w20 u h1) (cb_X2_185 S.2.2.2.2 rfl rfl ⟨Nat.le_trans (Nat.le_of_ble_eq_true rfl : 6 + 1 ≤ 58) hF, Nat.le_trans (Nat.le_of_ble_eq_true rfl : 8 + (2 + 11) + 150 ≤ 2903) hL⟩) (g_recv X hw (ci := 22) rfl (gcell_23 hrc)) rfl hl.1 rfl (lv_room (Nat.le_of_ble_eq_true rfl)) dX2_line_98 (fun r22 w21 H locs h hw => ?_)
    refine lv_pop S.1 S.2.1 dX2_line_101 rfl ?_
    refine lv_goto (tgt := 260) S.1 S.2.1 dX2_line_102 rfl ?_
    exact x_vret S Z hr hlocks hw (so1 h) dX2_line_260
  · replace h := if_f e0 h
    by_cases e1 : x1 = (1 : Int32)
    · replace h := if_t e1 h
      refine lv_tableIn (tgt := 105) S.1 S.2.1 dX2_line_1 (by rw [e1]; decide) (by rw [e1]; decide) (by rw [e1]; rfl) rfl ?_
      refine lv_aload_n S.1 S.2.1 dX2_line_105 rfl (lv_at hl 0 rfl) ?_
      obtain ⟨hrc, h⟩ := oK1 h
      refine gxVv (As := []) (rest := []) S X Z hw (b := x0) hno hlocks h (fun u h1 => met_B_X2_comes l E A LC LS x0 w u h1) (cb_X2_189 S.2.2.2.2 rfl rfl ⟨Nat.le_trans (Nat.le_of_ble_eq_true rfl : 8 + 1 ≤ 58) hF, Nat.le_trans (Nat.le_of_ble_eq_true rfl : 8 + (4 + 11) + 194 ≤ 2903) hL⟩) (g_recv X hw (ci := 1) rfl (gcell_2 hrc)) rfl hl.1 rfl (lv_room (Nat.le_of_ble_eq_true rfl)) dX2_line_106 (fun _ w23 H locs h hw => ?_)
      refine lv_goto (tgt := 260) S.1 S.2.1 dX2_line_109 rfl ?_
      exact x_vret S Z hr hlocks hw (so1 h) dX2_line_260
    · replace h := if_f e1 h
      by_cases e2 : x1 = (2 : Int32)
      · replace h := if_t e2 h
        refine lv_tableIn (tgt := 112) S.1 S.2.1 dX2_line_1 (by rw [e2]; decide) (by rw [e2]; decide) (by rw [e2]; rfl) rfl ?_
        refine lv_aload_n S.1 S.2.1 dX2_line_112 rfl (lv_at hl 0 rfl) ?_
        obtain ⟨hrc, h⟩ := oK1 h
        refine gxVv (As := []) (rest := []) S X Z hw (b := x0) hno hlocks h (fun u h1 => met_B_X2_loves l E A LC LS x0 w u h1) (cb_X2_192 S.2.2.2.2 rfl rfl ⟨Nat.le_trans (Nat.le_of_ble_eq_true rfl : 8 + 1 ≤ 58) hF, Nat.le_trans (Nat.le_of_ble_eq_true rfl : 8 + (3 + 11) + 194 ≤ 2903) hL⟩) (g_recv X hw (ci := 1) rfl (gcell_2 hrc)) rfl hl.1 rfl (lv_room (Nat.le_of_ble_eq_true rfl)) dX2_line_113 (fun _ w24 H locs h hw => ?_)
        refine lv_goto (tgt := 260) S.1 S.2.1 dX2_line_116 rfl ?_
        exact x_vret S Z hr hlocks hw (so1 h) dX2_line_260
      · replace h := if_f e2 h
        by_cases e3 : x1 = (3 : Int32)
        · replace h := if_t e3 h
          refine lv_tableIn (tgt := 119) S.1 S.2.1 dX2_line_1 (by rw [e3]; decide) (by rw [e3]; decide) (by rw [e3]; rfl) rfl ?_
          refine lv_aload_n S.1 S.2.1 dX2_line_119 rfl (lv_at hl 0 rfl) ?_
          obtain ⟨hrc, h⟩ := oK1 h
          refine gxVr (As := []) (rest := []) S X Z hw (b := x0) hno hlocks h (fun u h1 => met_B_X2_fresh l E A LC LS x0 w u h1) (cb_X2_168 S.2.2.2.2 rfl rfl ⟨Nat.le_trans (Nat.le_of_ble_eq_true rfl : 7 + 1 ≤ 58) hF, Nat.le_trans (Nat.le_of_ble_eq_true rfl : 8 + (2 + 11) + 173 ≤ 2903) hL⟩) (g_recv X hw (ci := 1) rfl (gcell_2 hrc)) rfl hl.1 rfl (lv_room (Nat.le_of_ble_eq_true rfl)) dX2_line_120 (fun a26 w25 H locs h hw => ?_)
          refine lv_astore_n (lv' := [(2, .ref a26), (0, .ref x0), (1, .int x1)]) S.1 S.2.1 dX2_line_123 rfl hl (by decide) rfl (fun ls hl => ?_)
          refine lv_aload_n S.1 S.2.1 dX2_line_124 rfl (lv_at hl 1 rfl) ?_
          refine gls6 S X hw dX2_line_125 h (fun a27 h => ?_)
          refine lv_iconst (v := 0) S.1 S.2.1 dX2_line_127 rfl ?_
          refine lv_bipush (v := 99) S.1 S.2.1 dX2_line_128 rfl ?_
          obtain ⟨hrc, h⟩ := oK1 h
          refine gxVi (As := [.ref a27, .int (0 : Int32), .int (99 : Int32)]) (rest := []) S X Z hw (b := x0) hno hlocks h (fun u h1 => met_B_X2_number l E A LC LS x0 a27 (0 : Int32) (99 : Int32) w25 u h1) (cb_X2_173 S.2.2.2.2 rfl rfl ⟨Nat.le_trans (Nat.le_of_ble_eq_true rfl : 7 + 1 ≤ 58) hF, Nat.le_trans (Nat.le_of_ble_eq_true rfl : 8 + (4 + 11) + 158 ≤ 2903) hL⟩) (g_recv X hw (ci := 1) rfl (gcell_2 hrc)) rfl hl.1 rfl (lv_room (Nat.le_of_ble_eq_true rfl)) dX2_line_130 (fun r29 w28 H locs h hw => ?_)
          refine lv_istore_n (lv' := [(3, .int r29), (2, .ref a26), (0, .ref x0), (1, .int x1)]) S.1 S.2.1 dX2_line_133 rfl hl (by decide) rfl (fun ls hl => ?_)
          refine lv_aload_n S.1 S.2.1 dX2_line_134 rfl (lv_at hl 2 rfl) ?_
          refine gls7 S X hw dX2_line_135 h (fun a30 h => ?_)
          refine lv_iconst (v := 1) S.1 S.2.1 dX2_line_137 rfl ?_
          refine lv_bipush (v := 20) S.1 S.2.1 dX2_line_138 rfl ?_
          obtain ⟨hrc, h⟩ := oK1 h
          refine gxVi (As := [.ref a30, .int (1 : Int32), .int (20 : Int32)]) (rest := []) S X Z hw (b := x0) hno hlocks h (fun u h1 => met_B_X2_number l E A LC LS x0 a30 (1 : Int32) (20 : Int32) w28 u h1) (cb_X2_173 S.2.2.2.2 rfl rfl ⟨Nat.le_trans (Nat.le_of_ble_eq_true rfl : 7 + 1 ≤ 58) hF, Nat.le_trans (Nat.le_of_ble_eq_true rfl : 8 + (4 + 11) + 158 ≤ 2903) hL⟩) (g_recv X hw (ci := 1) rfl (gcell_2 hrc)) rfl hl.1 rfl (lv_room (Nat.le_of_ble_eq_true rfl)) dX2_line_140 (fun r32 w31 H locs h hw => ?_)
          refine lv_istore (lv' := [(4, .int r32), (3, .int r29), (2, .ref a26), (0, .ref x0), (1, .int x1)]) S.1 S.2.1 dX2_line_143 hl (by decide) rfl (fun ls hl => ?_)
          refine lv_aload_n S.1 S.2.1 dX2_line_145 rfl (lv_at hl 3 rfl) ?_
          refine ggX2_101 S X hw dX2_line_146 h (fun a33 h => ?_)
          refine ggX2_159 S X hw dX2_line_149 h (fun a34 h => ?_)
          refine gnX2_199 S X Z hw dX2_line_152 h (fun w35 H h hw => ?_)
          refine lv_dup S.1 S.2.1 dX2_line_155 rfl ?_
          refine lv_aload_n S.1 S.2.1 dX2_line_156 rfl (lv_at hl 2 rfl) ?_
          refine lv_iload_n S.1 S.2.1 dX2_line_157 rfl (lv_at hl 1 rfl) ?_
          refine lv_iload S.1 S.2.1 dX2_line_158 (lv_at hl 0 rfl) ?_
          refine lv_aload_n S.1 S.2.1 dX2_line_160 rfl (lv_at hl 3 rfl) ?_
          refine gls8 S X hw dX2_line_161 h (fun a36 h => ?_)
          refine lv_iconst (v := 0) S.1 S.2.1 dX2_line_163 rfl ?_
          refine lv_bipush (v := 60) S.1 S.2.1 dX2_line_164 rfl ?_
          obtain ⟨hrc, h⟩ := oK1 h
          refine gxVi (As := [.ref a36, .int (0 : Int32), .int (60 : Int32)]) (rest := [.int r32, .int r29, .ref a26, .ref (gZ w31), .ref (gZ w31), .ref a34]) S X Z hw (b := x0) hno hlocks h (fun u h1 => met_B_X2_number l E A LC LS x0 a36 (0 : Int32) (60 : Int32) w35 u h1) (cb_X2_173 S.2.2.2.2 rfl rfl ⟨Nat.le_trans (Nat.le_of_ble_eq_true rfl : 7 + 1 ≤ 58) hF, Nat.le_trans (Nat.le_of_ble_eq_true rfl : 8 + (4 + 11) + 158 ≤ 2903) hL⟩) (g_recv X hw (ci := 1) rfl (gcell_2 hrc)) rfl hl.1 rfl (lv_room (Nat.le_of_ble_eq_true rfl)) dX2_line_166 (fun r38 w37 H locs h hw => ?_)
          refine gcIv (As := [.ref a26, .int r29, .int r32, .int r38]) (rest := [.ref (gZ w31), .ref a34]) S X Z hw (b := (gZ w31)) h (fun u h1 => met_B_X12_init l E A LC LS (gZ w31) a26 r29 r32 r38 w37 u h1) (cb_X2_203 S.2.2.2.2 rfl rfl ⟨Nat.le_trans (Nat.le_of_ble_eq_true rfl : 1 + 1 ≤ 58) hF, Nat.le_trans (Nat.le_of_ble_eq_true rfl : 8 + (5 + 11) + 20 ≤ 2903) hL⟩) rfl hl.1 rfl (lv_room (Nat.le_of_ble_eq_true rfl)) dX2_line_169 (fun w39 H locs h hw => ?_)
          obtain ⟨hrc, h⟩ := oK1 h
          refine gcVi (As := [.ref (gZ w31)]) (rest := []) S X Z hw (b := a34) h (fun u h1 => met_B_J2_add l E A LC LS a34 (gZ w31) w39 u h1) (cb_X2_185 S.2.2.2.2 rfl rfl ⟨Nat.le_trans (Nat.le_of_ble_eq_true rfl : 6 + 1 ≤ 58) hF, Nat.le_trans (Nat.le_of_ble_eq_true rfl : 8 + (2 + 11) + 150 ≤ 2903) hL⟩) (g_recv X hw (ci := 22) rfl (gcell_23 hrc)) rfl hl.1 rfl (lv_room (Nat.le_of_ble_eq_true rfl)) dX2_line_172 (fun r41 w40 H locs h hw => ?_)
          refine lv_pop S.1 S.2.1 dX2_line_175 rfl ?_
          refine lv_goto (tgt := 260) S.1 S.2.1 dX2_line_176 rfl ?_
          exact x_vret S Z hr hlocks hw (so1 h) dX2_line_260
        · replace h := if_f e3 h
          by_cases e4 : x1 = (4 : Int32)
          · replace h := if_t e4 h
            refine lv_tableIn (tgt := 179) S.1 S.2.1 dX2_line_1 (by rw [e4]; decide) (by rw [e4]; decide) (by rw [e4]; rfl) rfl ?_
            refine lv_aload_n S.1 S.2.1 dX2_line_179 rfl (lv_at hl 0 rfl) ?_
            refine lv_iconst (v := 0) S.1 S.2.1 dX2_line_180 rfl ?_
            refine lv_bipush (v := 60) S.1 S.2.1 dX2_line_181 rfl ?_
            obtain ⟨hrc, h⟩ := oK1 h
            refine gxVi (As := [.int (0 : Int32), .int (60 : Int32)]) (rest := []) S X Z hw (b := x0) hno hlocks h (fun u h1 => met_B_X2_number_2 l E A LC LS x0 (0 : Int32) (60 : Int32) w u h1) (cb_X2_121 S.2.2.2.2 rfl rfl ⟨Nat.le_trans (Nat.le_of_ble_eq_true rfl : 6 + 1 ≤ 58) hF, Nat.le_trans (Nat.le_of_ble_eq_true rfl : 8 + (4 + 11) + 135 ≤ 2903) hL⟩) (g_recv X hw (ci := 1) rfl (gcell_2 hrc)) rfl hl.1 rfl (lv_room (Nat.le_of_ble_eq_true rfl)) dX2_line_183 (fun r43 w42 H locs h hw => ?_)
            refine lv_istore_n (lv' := [(2, .int r43), (0, .ref x0), (1, .int x1)]) S.1 S.2.1 dX2_line_186 rfl hl (by decide) rfl (fun ls hl => ?_)
            refine lv_aload_n S.1 S.2.1 dX2_line_187 rfl (lv_at hl 1 rfl) ?_
            refine ggX2_101 S X hw dX2_line_188 h (fun a44 h => ?_)
            refine lv_aload_n S.1 S.2.1 dX2_line_191 rfl (lv_at hl 1 rfl) ?_
            refine gls9 S X hw dX2_line_192 h (fun a45 h => ?_)
            refine lv_iconst (v := 1) S.1 S.2.1 dX2_line_194 rfl ?_
            refine lv_bipush (v := 120) S.1 S.2.1 dX2_line_195 rfl ?_
            obtain ⟨hrc, h⟩ := oK1 h
            refine gxVi (As := [.ref a45, .int (1 : Int32), .int (120 : Int32)]) (rest := [.ref a44]) S X Z hw (b := x0) hno hlocks h (fun u h1 => met_B_X2_number l E A LC LS x0 a45 (1 : Int32) (120 : Int32) w42 u h1) (cb_X2_173 S.2.2.2.2 rfl rfl ⟨Nat.le_trans (Nat.le_of_ble_eq_true rfl : 7 + 1 ≤ 58) hF, Nat.le_trans (Nat.le_of_ble_eq_true rfl : 8 + (4 + 11) + 158 ≤ 2903) hL⟩) (g_recv X hw (ci := 1) rfl (gcell_2 hrc)) rfl hl.1 rfl (lv_room (Nat.le_of_ble_eq_true rfl)) dX2_line_197 (fun r47 w46 H locs h hw => ?_)
            refine gpX2_206 S X hw dX2_line_200 h (fun w48 H locs h hw => ?_)
            refine lv_aload_n S.1 S.2.1 dX2_line_203 rfl (lv_at hl 1 rfl) ?_
            refine ggX2_101 S X hw dX2_line_204 h (fun a49 h => ?_)
            refine lv_iload_n S.1 S.2.1 dX2_line_207 rfl (lv_at hl 0 rfl) ?_
            refine gpX2_135 S X hw dX2_line_208 h (fun w50 H locs h hw => ?_)
            refine lv_goto (tgt := 260) S.1 S.2.1 dX2_line_211 rfl ?_
            exact x_vret S Z hr hlocks hw (so1 h) dX2_line_260
          · replace h := if_f e4 h
            by_cases e5 : x1 = (5 : Int32)
            · replace h := if_t e5 h
              refine lv_tableIn (tgt := 214) S.1 S.2.1 dX2_line_1 (by rw [e5]; decide) (by rw [e5]; decide) (by rw [e5]; rfl) rfl ?_
              refine lv_aload_n S.1 S.2.1 dX2_line_214 rfl (lv_at hl 0 rfl) ?_
              refine ggX2_101 S X hw dX2_line_215 h (fun a51 h => ?_)
              refine lv_aload_n S.1 S.2.1 dX2_line_218 rfl (lv_at hl 0 rfl) ?_
              refine lv_iconst (v := 1) S.1 S.2.1 dX2_line_219 rfl ?_
              refine lv_bipush (v := 30) S.1 S.2.1 dX2_line_220 rfl ?_
              obtain ⟨hrc, h⟩ := oK1 h
              refine gxVi (As := [.int (1 : Int32), .int (30 : Int32)]) (rest := [.ref a51]) S X Z hw (b := x0) hno hlocks h (fun u h1 => met_B_X2_number_2 l E A LC LS x0 (1 : Int32) (30 : Int32) w u h1) (cb_X2_121 S.2.2.2.2 rfl rfl ⟨Nat.le_trans (Nat.le_of_ble_eq_true rfl : 6 + 1 ≤ 58) hF, Nat.le_trans (Nat.le_of_ble_eq_true rfl : 8 + (4 + 11) + 135 ≤ 2903) hL⟩) (g_recv X hw (ci := 1) rfl (gcell_2 hrc)) rfl hl.1 rfl (lv_room (Nat.le_of_ble_eq_true rfl)) dX2_line_222 (fun r53 w52 H locs h hw => ?_)
              refine gpX2_138 S X hw dX2_line_225 h (fun w54 H locs h hw => ?_)
              refine lv_goto (tgt := 260) S.1 S.2.1 dX2_line_228 rfl ?_
              exact x_vret S Z hr hlocks hw (so1 h) dX2_line_260
            · replace h := if_f e5 h
              by_cases e6 : x1 = (6 : Int32)
              · replace h := if_t e6 h
                refine lv_tableIn (tgt := 231) S.1 S.2.1 dX2_line_1 (by rw [e6]; decide) (by rw [e6]; decide) (by rw [e6]; rfl) rfl ?_
                refine lv_aload_n S.1 S.2.1 dX2_line_231 rfl (lv_at hl 0 rfl) ?_
                refine ggX2_101 S X hw dX2_line_232 h (fun a55 h => ?_)
                refine lv_aload_n S.1 S.2.1 dX2_line_235 rfl (lv_at hl 0 rfl) ?_
                refine gls10 S X hw dX2_line_236 h (fun a56 h => ?_)
                obtain ⟨hrc, h⟩ := oK1 h
                refine gxVr (As := [.ref a56]) (rest := [.ref a55]) S X Z hw (b := x0) hno hlocks h (fun u h1 => met_B_X2_worked l E A LC LS x0 a56 w u h1) (cb_X2_211 S.2.2.2.2 rfl rfl ⟨Nat.le_trans (Nat.le_of_ble_eq_true rfl : 57 + 1 ≤ 58) hF, Nat.le_trans (Nat.le_of_ble_eq_true rfl : 8 + (2 + 11) + 2882 ≤ 2903) hL⟩) (g_recv X hw (ci := 1) rfl (gcell_2 hrc)) rfl hl.1 rfl (lv_room (Nat.le_of_ble_eq_true rfl)) dX2_line_238 (fun a58 w57 H locs h hw => ?_)
                refine gpX2_141 (v := some a58) S X hw dX2_line_241 h (fun w59 H locs h hw => ?_)
                refine lv_goto (tgt := 260) S.1 S.2.1 dX2_line_244 rfl ?_
                exact x_vret S Z hr hlocks hw (so1 h) dX2_line_260
              · replace h := if_f e6 h
                refine lv_tableOut (tgt := 247) S.1 S.2.1 dX2_line_1 (by have z0 := ne_toInt e0 (j := 0) rfl; have z1 := ne_toInt e1 (j := 1) rfl; have z2 := ne_toInt e2 (j := 2) rfl; have z3 := ne_toInt e3 (j := 3) rfl; have z4 := ne_toInt e4 (j := 4) rfl; have z5 := ne_toInt e5 (j := 5) rfl; have z6 := ne_toInt e6 (j := 6) rfl; omega) rfl ?_
                refine lv_aload_n S.1 S.2.1 dX2_line_247 rfl (lv_at hl 0 rfl) ?_
                refine ggX2_101 S X hw dX2_line_248 h (fun a1 h => ?_)
                refine lv_aload_n S.1 S.2.1 dX2_line_251 rfl (lv_at hl 0 rfl) ?_
                refine gls11 S X hw dX2_line_252 h (fun a2 h => ?_)
                obtain ⟨hrc, h⟩ := oK1 h
                refine gxVr (As := [.ref a2]) (rest := [.ref a1]) S X Z hw (b := x0) hno hlocks h (fun u h1 => met_B_X2_worked l E A LC LS x0 a2 w u h1) (cb_X2_211 S.2.2.2.2 rfl rfl ⟨Nat.le_trans (Nat.le_of_ble_eq_true rfl : 57 + 1 ≤ 58) hF, Nat.le_trans (Nat.le_of_ble_eq_true rfl : 8 + (2 + 11) + 2882 ≤ 2903) hL⟩) (g_recv X hw (ci := 1) rfl (gcell_2 hrc)) rfl hl.1 rfl (lv_room (Nat.le_of_ble_eq_true rfl)) dX2_line_254 (fun a4 w3 H locs h hw => ?_)
                refine gpX2_145 (v := some a4) S X hw dX2_line_257 h (fun w5 H locs h hw => ?_)
                exact x_vret S Z hr hlocks hw (so1 h) dX2_line_260
theorem cb_X2_132 {R : Room} {s : State} {args : Array Value} {rm : Room} {mc ms : Nat} (hts : ∀ w ∈ lw_all, w.before args s = true) (hN : gNw s) (hc : rm.cells = mc) (hs : rm.slots = ms) (hR : rm.frames + 1 ≤ R.frames ∧ 8 + (1 + 11) + rm.locals ≤ R.locals) : va_CN R s args RX2 132 yX3_init "PulseRent" cX3_init 1 none (ws_ yX3_init cX3_init 1 (Option.none : Option Jvm.ClassFile.FieldType)) rm mc ms 0 ∧ yX3_init.name = "<init>" ∧ (Cond.instanceMethod yX3_init).before args s = true := ⟨va_cnB 0 hts (lw_meth q227) rfl hc hs (hN _ q568 rfl) (hts _ q137) (by decide +kernel) hR, rfl, hts _ q226⟩
theorem cb_X2_162 {R : Room} {s : State} {args : Array Value} {rm : Room} {mc ms : Nat} (hts : ∀ w ∈ lw_all, w.before args s = true) (hc : rm.cells = mc) (hs : rm.slots = ms) (hR : rm.frames + 1 ≤ R.frames ∧ 8 + (5 + 11) + rm.locals ≤ R.locals) : CallW R s args RX2 RX2 162 yX2_line cX2_line 5 (Option.none : Option Jvm.ClassFile.FieldType) (ws_ yX2_line cX2_line 5 (Option.none : Option Jvm.ClassFile.FieldType)) rm mc ms 1 := cwV 1 hts (lw_V q668 q670 qs6 q136 q671) rfl hc hs (by decide +kernel) hR
def B_X2_house_p168 (k11 : Nat → GS → Option ((Nat ⊕ Nat) × GS)) (x0 : Nat) (x1 : Int32) (w : GS) : Option ((Nat ⊕ Nat) × GS) :=
  bd1 (oK w x0 2 2) fun _ =>
  bd1 (B_X2_next x0 w) fun w18 =>
  bd1 (oK w18 x0 2 2) fun _ =>
  bdx (B_X2_line x0 x1 w18) fun _ w19 =>
  bd1 (oK w19 x0 2 2) fun _ =>
  bdx (B_X2_need_2 x0 (59 : Int32) w19) fun _ w20 =>
  k11 x0 w20
def B_X2_house_p162 (x0 : Nat) (w : GS) : Option ((Nat ⊕ Nat) × GS) :=
  bd1 (oK w x0 2 2) fun _ =>
  bd2 (B_X2_wrong x0 (5 : Int32) w) fun a26 w25 =>
  bd1 (oK w25 a26 6 6) fun _ => some (.inr a26, w25)
def B_X2_house_p142 (k11 : Nat → GS → Option ((Nat ⊕ Nat) × GS)) (x0 : Nat) (x1 : Int32) (w : GS) : Option ((Nat ⊕ Nat) × GS) :=
  if x1 = (3 : Int32) then
    bd1 (oRn w x0 2 2 7) fun a21 =>
    bd1 (oRn w a21 3 3 2) fun a22 =>
    bd1 (oK w a22 23 23) fun _ =>
    bd1 (B_J2_size a22 w) fun r23 =>
    if r23 = (6 : Int32) then
      B_X2_house_p162 x0 w
    else
      B_X2_house_p168 k11 x0 x1 w
  else
    B_X2_house_p168 k11 x0 x1 w
def B_X2_house_p122 (k11 : Nat → GS → Option ((Nat ⊕ Nat) × GS)) (x0 : Nat) (x1 : Int32) (w : GS) : Option ((Nat ⊕ Nat) × GS) :=
  if x1 = (1 : Int32) then
    bd1 (oRn w x0 2 2 7) fun a27 =>
    bd1 (oRn w a27 3 3 1) fun a28 =>
    bd1 (oK w a28 23 23) fun _ =>
    bd1 (B_J2_size a28 w) fun r29 =>
    if r29 = (6 : Int32) then
      B_X2_house_p162 x0 w
    else
      B_X2_house_p142 k11 x0 x1 w
  else
    B_X2_house_p142 k11 x0 x1 w
def B_X2_house_p103 (k11 : Nat → GS → Option ((Nat ⊕ Nat) × GS)) (x0 : Nat) (x1 : Int32) (w : GS) : Option ((Nat ⊕ Nat) × GS) :=
  if x1 = 0 then
    bd1 (oRn w x0 2 2 7) fun a31 =>
    bd1 (oRn w a31 3 3 0) fun a32 =>
    bd1 (oK w a32 23 23) fun _ =>
    bd1 (B_J2_size a32 w) fun r33 =>
    if r33 = (6 : Int32) then
      B_X2_house_p162 x0 w
    else
      B_X2_house_p122 k11 x0 x1 w
  else
    B_X2_house_p122 k11 x0 x1 w
def B_X2_house_p97 (x0 : Nat) (w : GS) : Option ((Nat ⊕ Nat) × GS) :=
  bd1 (oK w x0 2 2) fun _ =>
  bd2 (B_X2_wrong x0 (3 : Int32) w) fun a38 w37 =>
  bd1 (oK w37 a38 6 6) fun _ => some (.inr a38, w37)
def B_X2_house_p81 (k11 : Nat → GS → Option ((Nat ⊕ Nat) × GS)) (x0 : Nat) (x1 : Int32) (w : GS) : Option ((Nat ⊕ Nat) × GS) :=
  if x1 = (7 : Int32) then
    bd1 (oRn w x0 2 2 7) fun a35 =>
    bd1 (oR w a35 3 3 7) fun a36 =>
    bq a36 (
      B_X2_house_p103 k11 x0 x1 w) fun _ =>
    B_X2_house_p97 x0 w
  else
    B_X2_house_p103 k11 x0 x1 w
def B_X2_house_p65 (k11 : Nat → GS → Option ((Nat ⊕ Nat) × GS)) (x0 : Nat) (x1 : Int32) (w : GS) : Option ((Nat ⊕ Nat) × GS) :=
  if x1 = (6 : Int32) then
    bd1 (oRn w x0 2 2 7) fun a39 =>
    bd1 (oR w a39 3 3 6) fun a40 =>
    bq a40 (
      B_X2_house_p81 k11 x0 x1 w) fun _ =>
    B_X2_house_p97 x0 w
  else
    B_X2_house_p81 k11 x0 x1 w
def B_X2_house_p50 (k11 : Nat → GS → Option ((Nat ⊕ Nat) × GS)) (x0 : Nat) (x1 : Int32) (w : GS) : Option ((Nat ⊕ Nat) × GS) :=
  if x1 = (5 : Int32) then
    bd1 (oRn w x0 2 2 7) fun a41 =>
    bd1 (oI w a41 3 3 5) fun v42 =>
    if 0 ≤ v42 then
      B_X2_house_p97 x0 w
    else
      B_X2_house_p65 k11 x0 x1 w
  else
    B_X2_house_p65 k11 x0 x1 w
def B_X2_house_p11 : Nat → Nat → GS → Option ((Nat ⊕ Nat) × GS)
  | 0, _, _ => none
  | n + 1, x0, w =>
    bd1 (oI w x0 2 2 3) fun v4 =>
    if v4 = 0 then
      bd1 (oRn w x0 2 2 7) fun a6 =>
      some (.inl a6, w)
    else
      bd1 (gT w 12) fun a7 =>
      bd1 (oK w x0 2 2) fun _ =>
      bd2 (B_X2_which x0 a7 w) fun r9 w8 =>
      if 0 ≤ r9 then
        if r9 = (4 : Int32) then
          bd1 (oRn w8 x0 2 2 7) fun a44 =>
          bd1 (oI w8 a44 3 3 3) fun v45 =>
          if 0 ≤ v45 then
            B_X2_house_p97 x0 w8
          else
            B_X2_house_p50 (B_X2_house_p11 n) x0 r9 w8
        else
          B_X2_house_p50 (B_X2_house_p11 n) x0 r9 w8
      else
        bd1 (oK w8 x0 2 2) fun _ =>
        bd2 (B_X2_wrong x0 (1 : Int32) w8) fun a48 w47 =>
        bd1 (oK w47 a48 6 6) fun _ => some (.inr a48, w47)
def B_X2_house (x0 : Nat) (w : GS) : Option ((Nat ⊕ Nat) × GS) :=
  bd1 (onw w 3 0 8) fun w1 =>
  bd1 (B_X3_init (gZ w) w1) fun w2 =>
  bd1 (pR w2 x0 2 2 7 (some (gZ w))) fun w3 =>
  B_X2_house_p11 FU x0 w3
set_option maxRecDepth 100000 in
set_option maxHeartbeats 4000000 in
theorem wk_B_X2_house_p168 {p : Program} {l : Launch} {e : Env} {R : Room} {s : State} {m : MethodId} {args : Array Value} {below : List Frame} {meth : Method} {c : Code} {E : gE} {A : Nat → Prop} {LC LS : Nat} (S : CallFix p m c cX2_house 2 s args lw_all RX2) (X : gCtx E A s) (Z : gRm R s LC LS) (hF : 59 ≤ R.frames) (hL : 2927 ≤ R.locals) (hr : meth.sig.returnType = (Option.some (Jvm.ClassFile.FieldType.object "PulseRent$House"))) (hlocks : meth.locks = false) (hno : ∀ x ∈ c.exceptionTable.toList, False) {res : (Nat ⊕ Nat) × GS}  {k11 : Nat → GS → Option ((Nat ⊕ Nat) × GS)} (hk11 : ∀ (x0 : Nat) (w : GS) (H : Heap) (locs : List Loc) (ls : Array Slot), k11 x0 w = some res → gH E A LC LS s w H locs → lv_has ls 2 [(0, .ref x0)] → W p l e R s m args below meth c H locs (H.size - s.heap.size) (tot H - tot s.heap) (vx_MQ below (gXr E A LC LS res) (gXX E A LC LS res) args s R.cells R.slots A) (F0 m 11 ls [])) : ∀ (x0 : Nat) (x1 : Int32) (w : GS) (H : Heap) (locs : List Loc) (ls : Array Slot), B_X2_house_p168 k11 x0 x1 w = some res → gH E A LC LS s w H locs → lv_has ls 2 [(0, .ref x0), (1, .int x1)] → W p l e R s m args below meth c H locs (H.size - s.heap.size) (tot H - tot s.heap) (vx_MQ below (gXr E A LC LS res) (gXX E A LC LS res) args s R.cells R.slots A) (F0 m 168 ls []) := by
  intro x0 x1 w H locs ls h hw hl
  unfold B_X2_house_p168 at h
  refine lv_aload_n S.1 S.2.1 dX2_house_168 rfl (lv_at hl 0 rfl) ?_
  obtain ⟨hrc, h⟩ := oK1 h
  refine gcVv (As := []) (rest := []) S X Z hw (b := x0) h (fun u h1 => met_B_X2_next l E A LC LS x0 w u h1) (cb_X2_25 S.2.2.2.2 rfl rfl ⟨Nat.le_trans (Nat.le_of_ble_eq_true rfl : 4 + 1 ≤ 59) hF, Nat.le_trans (Nat.le_of_ble_eq_true rfl : 8 + (1 + 11) + 91 ≤ 2927) hL⟩) (g_recv X hw (ci := 1) rfl (gcell_2 hrc)) rfl hl.1 rfl (lv_room (Nat.le_of_ble_eq_true rfl)) dX2_house_169 (fun w18 H locs h hw => ?_)
  refine lv_aload_n S.1 S.2.1 dX2_house_172 rfl (lv_at hl 0 rfl) ?_
  refine lv_iload_n S.1 S.2.1 dX2_house_173 rfl (lv_at hl 1 rfl) ?_
  obtain ⟨hrc, h⟩ := oK1 h
  refine gxVv (As := [.int x1]) (rest := []) S X Z hw (b := x0) hno hlocks h (fun u h1 => met_B_X2_line l E A LC LS x0 x1 w18 u h1) (cb_X2_162 S.2.2.2.2 rfl rfl ⟨Nat.le_trans (Nat.le_of_ble_eq_true rfl : 58 + 1 ≤ 59) hF, Nat.le_trans (Nat.le_of_ble_eq_true rfl : 8 + (5 + 11) + 2903 ≤ 2927) hL⟩) (g_recv X hw (ci := 1) rfl (gcell_2 hrc)) rfl hl.1 rfl (lv_room (Nat.le_of_ble_eq_true rfl)) dX2_house_174 (fun _ w19 H locs h hw => ?_)
  refine lv_aload_n S.1 S.2.1 dX2_house_177 rfl (lv_at hl 0 rfl) ?_
  refine lv_bipush (v := 59) S.1 S.2.1 dX2_house_178 rfl ?_
  obtain ⟨hrc, h⟩ := oK1 h
  refine gxVv (As := [.int (59 : Int32)]) (rest := []) S X Z hw (b := x0) hno hlocks h (fun u h1 => met_B_X2_need_2 l E A LC LS x0 (59 : Int32) w19 u h1) (cb_X2_165 S.2.2.2.2 rfl rfl ⟨Nat.le_trans (Nat.le_of_ble_eq_true rfl : 6 + 1 ≤ 59) hF, Nat.le_trans (Nat.le_of_ble_eq_true rfl : 8 + (2 + 11) + 135 ≤ 2927) hL⟩) (g_recv X hw (ci := 1) rfl (gcell_2 hrc)) rfl hl.1 rfl (lv_room (Nat.le_of_ble_eq_true rfl)) dX2_house_180 (fun _ w20 H locs h hw => ?_)
  refine lv_goto (tgt := 11) S.1 S.2.1 dX2_house_183 rfl ?_
  exact hk11 _ _ _ _ _ h hw (lv_sub hl [0] rfl)
set_option maxRecDepth 100000 in
set_option maxHeartbeats 4000000 in
theorem wk_B_X2_house_p162 {p : Program} {l : Launch} {e : Env} {R : Room} {s : State} {m : MethodId} {args : Array Value} {below : List Frame} {meth : Method} {c : Code} {E : gE} {A : Nat → Prop} {LC LS : Nat} (S : CallFix p m c cX2_house 2 s args lw_all RX2) (X : gCtx E A s) (Z : gRm R s LC LS) (hF : 59 ≤ R.frames) (hL : 2927 ≤ R.locals) (hr : meth.sig.returnType = (Option.some (Jvm.ClassFile.FieldType.object "PulseRent$House"))) (hlocks : meth.locks = false) (hno : ∀ x ∈ c.exceptionTable.toList, False) {res : (Nat ⊕ Nat) × GS}  : ∀ (x0 : Nat) (w : GS) (H : Heap) (locs : List Loc) (ls : Array Slot), B_X2_house_p162 x0 w = some res → gH E A LC LS s w H locs → lv_has ls 2 [(0, .ref x0)] → W p l e R s m args below meth c H locs (H.size - s.heap.size) (tot H - tot s.heap) (vx_MQ below (gXr E A LC LS res) (gXX E A LC LS res) args s R.cells R.slots A) (F0 m 162 ls []) := by
  intro x0 w H locs ls h hw hl
  unfold B_X2_house_p162 at h
  refine lv_aload_n S.1 S.2.1 dX2_house_162 rfl (lv_at hl 0 rfl) ?_
  refine lv_iconst (v := 5) S.1 S.2.1 dX2_house_163 rfl ?_
  obtain ⟨hrc, h⟩ := oK1 h
  refine gcVr (As := [.int (5 : Int32)]) (rest := []) S X Z hw (b := x0) h (fun u h1 => met_B_X2_wrong l E A LC LS x0 (5 : Int32) w u h1) (cb_X2_75 S.2.2.2.2 rfl rfl ⟨Nat.le_trans (Nat.le_of_ble_eq_true rfl : 5 + 1 ≤ 59) hF, Nat.le_trans (Nat.le_of_ble_eq_true rfl : 8 + (2 + 11) + 114 ≤ 2927) hL⟩) (g_recv X hw (ci := 1) rfl (gcell_2 hrc)) rfl hl.1 rfl (lv_room (Nat.le_of_ble_eq_true rfl)) dX2_house_164 (fun a26 w25 H locs h hw => ?_)
  exact x_throw S X hno hlocks Z hw dX2_house_167 h
set_option maxRecDepth 100000 in
set_option maxHeartbeats 4000000 in
theorem wk_B_X2_house_p142 {p : Program} {l : Launch} {e : Env} {R : Room} {s : State} {m : MethodId} {args : Array Value} {below : List Frame} {meth : Method} {c : Code} {E : gE} {A : Nat → Prop} {LC LS : Nat} (S : CallFix p m c cX2_house 2 s args lw_all RX2) (X : gCtx E A s) (Z : gRm R s LC LS) (hF : 59 ≤ R.frames) (hL : 2927 ≤ R.locals) (hr : meth.sig.returnType = (Option.some (Jvm.ClassFile.FieldType.object "PulseRent$House"))) (hlocks : meth.locks = false) (hno : ∀ x ∈ c.exceptionTable.toList, False) {res : (Nat ⊕ Nat) × GS}  {k11 : Nat → GS → Option ((Nat ⊕ Nat) × GS)} (hk11 : ∀ (x0 : Nat) (w : GS) (H : Heap) (locs : List Loc) (ls : Array Slot), k11 x0 w = some res → gH E A LC LS s w H locs → lv_has ls 2 [(0, .ref x0)] → W p l e R s m args below meth c H locs (H.size - s.heap.size) (tot H - tot s.heap) (vx_MQ below (gXr E A LC LS res) (gXX E A LC LS res) args s R.cells R.slots A) (F0 m 11 ls [])) : ∀ (x0 : Nat) (x1 : Int32) (w : GS) (H : Heap) (locs : List Loc) (ls : Array Slot), B_X2_house_p142 k11 x0 x1 w = some res → gH E A LC LS s w H locs → lv_has ls 2 [(0, .ref x0), (1, .int x1)] → W p l e R s m args below meth c H locs (H.size - s.heap.size) (tot H - tot s.heap) (vx_MQ below (gXr E A LC LS res) (gXX E A LC LS res) args s R.cells R.slots A) (F0 m 142 ls []) := by
  intro x0 x1 w H locs ls h hw hl
  unfold B_X2_house_p142 at h
  refine lv_iload_n S.1 S.2.1 dX2_house_142 rfl (lv_at hl 1 rfl) ?_
  refine lv_iconst (v := 3) S.1 S.2.1 dX2_house_143 rfl ?_
  refine lv_icmp_ne (tgt := 168) S.1 S.2.1 dX2_house_144 rfl (fun c17 => ?_) (fun c17 => ?_)
  · replace h := if_f c17 h
    exact wk_B_X2_house_p168 S X Z hF hL hr hlocks hno hk11 _ _ _ _ _ _ h hw (lv_sub hl [0, 1] rfl)
  · replace h := if_t c17 h
    refine lv_aload_n S.1 S.2.1 dX2_house_147 rfl (lv_at hl 0 rfl) ?_
    refine ggX2_101 S X hw dX2_house_148 h (fun a21 h => ?_)
    refine ggX2_159 S X hw dX2_house_151 h (fun a22 h => ?_)
    obtain ⟨hrc, h⟩ := oK1 h
    refine gcVri (As := []) (rest := []) S X Z hw (b := a22) h (fun u h1 => met_B_J2_size l E A LC LS a22 w u h1) (cb_X2_152 S.2.2.2.2 rfl rfl ⟨Nat.le_trans (Nat.le_of_ble_eq_true rfl : 0 + 1 ≤ 59) hF, Nat.le_trans (Nat.le_of_ble_eq_true rfl : 8 + (1 + 11) + 0 ≤ 2927) hL⟩) (g_recv X hw (ci := 22) rfl (gcell_23 hrc)) rfl hl.1 rfl (lv_room (Nat.le_of_ble_eq_true rfl)) dX2_house_154 (fun r23 H locs h hw => ?_)
    refine lv_bipush (v := 6) S.1 S.2.1 dX2_house_157 rfl ?_
    refine lv_icmp_ne (tgt := 168) S.1 S.2.1 dX2_house_159 rfl (fun c24 => ?_) (fun c24 => ?_)
    · replace h := if_f c24 h
      exact wk_B_X2_house_p168 S X Z hF hL hr hlocks hno hk11 _ _ _ _ _ _ h hw (lv_sub hl [0, 1] rfl)
    · replace h := if_t c24 h
      exact wk_B_X2_house_p162 S X Z hF hL hr hlocks hno _ _ _ _ _ h hw (lv_sub hl [0] rfl)
set_option maxRecDepth 100000 in
set_option maxHeartbeats 4000000 in
theorem wk_B_X2_house_p122 {p : Program} {l : Launch} {e : Env} {R : Room} {s : State} {m : MethodId} {args : Array Value} {below : List Frame} {meth : Method} {c : Code} {E : gE} {A : Nat → Prop} {LC LS : Nat} (S : CallFix p m c cX2_house 2 s args lw_all RX2) (X : gCtx E A s) (Z : gRm R s LC LS) (hF : 59 ≤ R.frames) (hL : 2927 ≤ R.locals) (hr : meth.sig.returnType = (Option.some (Jvm.ClassFile.FieldType.object "PulseRent$House"))) (hlocks : meth.locks = false) (hno : ∀ x ∈ c.exceptionTable.toList, False) {res : (Nat ⊕ Nat) × GS}  {k11 : Nat → GS → Option ((Nat ⊕ Nat) × GS)} (hk11 : ∀ (x0 : Nat) (w : GS) (H : Heap) (locs : List Loc) (ls : Array Slot), k11 x0 w = some res → gH E A LC LS s w H locs → lv_has ls 2 [(0, .ref x0)] → W p l e R s m args below meth c H locs (H.size - s.heap.size) (tot H - tot s.heap) (vx_MQ below (gXr E A LC LS res) (gXX E A LC LS res) args s R.cells R.slots A) (F0 m 11 ls [])) : ∀ (x0 : Nat) (x1 : Int32) (w : GS) (H : Heap) (locs : List Loc) (ls : Array Slot), B_X2_house_p122 k11 x0 x1 w = some res → gH E A LC LS s w H locs → lv_has ls 2 [(0, .ref x0), (1, .int x1)] → W p l e R s m args below meth c H locs (H.size - s.heap.size) (tot H - tot s.heap) (vx_MQ below (gXr E A LC LS res) (gXX E A LC LS res) args s R.cells R.slots A) (F0 m 122 ls []) := by
  intro x0 x1 w H locs ls h hw hl
  unfold B_X2_house_p122 at h
  refine lv_iload_n S.1 S.2.1 dX2_house_122 rfl (lv_at hl 1 rfl) ?_
  refine lv_iconst (v := 1) S.1 S.2.1 dX2_house_123 rfl ?_
  refine lv_icmp_ne (tgt := 142) S.1 S.2.1 dX2_house_124 rfl (fun c16 => ?_) (fun c16 => ?_)
  · replace h := if_f c16 h
    exact wk_B_X2_house_p142 S X Z hF hL hr hlocks hno hk11 _ _ _ _ _ _ h hw (lv_sub hl [0, 1] rfl)
  · replace h := if_t c16 h
    refine lv_aload_n S.1 S.2.1 dX2_house_127 rfl (lv_at hl 0 rfl) ?_
    refine ggX2_101 S X hw dX2_house_128 h (fun a27 h => ?_)
    refine ggX2_156 S X hw dX2_house_131 h (fun a28 h => ?_)
    obtain ⟨hrc, h⟩ := oK1 h
    refine gcVri (As := []) (rest := []) S X Z hw (b := a28) h (fun u h1 => met_B_J2_size l E A LC LS a28 w u h1) (cb_X2_152 S.2.2.2.2 rfl rfl ⟨Nat.le_trans (Nat.le_of_ble_eq_true rfl : 0 + 1 ≤ 59) hF, Nat.le_trans (Nat.le_of_ble_eq_true rfl : 8 + (1 + 11) + 0 ≤ 2927) hL⟩) (g_recv X hw (ci := 22) rfl (gcell_23 hrc)) rfl hl.1 rfl (lv_room (Nat.le_of_ble_eq_true rfl)) dX2_house_134 (fun r29 H locs h hw => ?_)
    refine lv_bipush (v := 6) S.1 S.2.1 dX2_house_137 rfl ?_
    refine lv_icmp_eq (tgt := 162) S.1 S.2.1 dX2_house_139 rfl (fun c30 => ?_) (fun c30 => ?_)
    · replace h := if_t c30 h
      exact wk_B_X2_house_p162 S X Z hF hL hr hlocks hno _ _ _ _ _ h hw (lv_sub hl [0] rfl)
    · replace h := if_f c30 h
      exact wk_B_X2_house_p142 S X Z hF hL hr hlocks hno hk11 _ _ _ _ _ _ h hw (lv_sub hl [0, 1] rfl)
set_option maxRecDepth 100000 in
set_option maxHeartbeats 4000000 in
theorem wk_B_X2_house_p103 {p : Program} {l : Launch} {e : Env} {R : Room} {s : State} {m : MethodId} {args : Array Value} {below : List Frame} {meth : Method} {c : Code} {E : gE} {A : Nat → Prop} {LC LS : Nat} (S : CallFix p m c cX2_house 2 s args lw_all RX2) (X : gCtx E A s) (Z : gRm R s LC LS) (hF : 59 ≤ R.frames) (hL : 2927 ≤ R.locals) (hr : meth.sig.returnType = (Option.some (Jvm.ClassFile.FieldType.object "PulseRent$House"))) (hlocks : meth.locks = false) (hno : ∀ x ∈ c.exceptionTable.toList, False) {res : (Nat ⊕ Nat) × GS}  {k11 : Nat → GS → Option ((Nat ⊕ Nat) × GS)} (hk11 : ∀ (x0 : Nat) (w : GS) (H : Heap) (locs : List Loc) (ls : Array Slot), k11 x0 w = some res → gH E A LC LS s w H locs → lv_has ls 2 [(0, .ref x0)] → W p l e R s m args below meth c H locs (H.size - s.heap.size) (tot H - tot s.heap) (vx_MQ below (gXr E A LC LS res) (gXX E A LC LS res) args s R.cells R.slots A) (F0 m 11 ls [])) : ∀ (x0 : Nat) (x1 : Int32) (w : GS) (H : Heap) (locs : List Loc) (ls : Array Slot), B_X2_house_p103 k11 x0 x1 w = some res → gH E A LC LS s w H locs → lv_has ls 2 [(0, .ref x0), (1, .int x1)] → W p l e R s m args below meth c H locs (H.size - s.heap.size) (tot H - tot s.heap) (vx_MQ below (gXr E A LC LS res) (gXX E A LC LS res) args s R.cells R.slots A) (F0 m 103 ls []) := by
  intro x0 x1 w H locs ls h hw hl
  unfold B_X2_house_p103 at h
  refine lv_iload_n S.1 S.2.1 dX2_house_103 rfl (lv_at hl 1 rfl) ?_
  refine lv_if_ne (tgt := 122) S.1 S.2.1 dX2_house_104 rfl (fun c15 => ?_) (fun c15 => ?_)
  · replace h := if_f c15 h
    exact wk_B_X2_house_p122 S X Z hF hL hr hlocks hno hk11 _ _ _ _ _ _ h hw (lv_sub hl [0, 1] rfl)
  · replace h := if_t c15 h
    refine lv_aload_n S.1 S.2.1 dX2_house_107 rfl (lv_at hl 0 rfl) ?_
    refine ggX2_101 S X hw dX2_house_108 h (fun a31 h => ?_)
    refine ggX2_148 S X hw dX2_house_111 h (fun a32 h => ?_)
    obtain ⟨hrc, h⟩ := oK1 h
    refine gcVri (As := []) (rest := []) S X Z hw (b := a32) h (fun u h1 => met_B_J2_size l E A LC LS a32 w u h1) (cb_X2_152 S.2.2.2.2 rfl rfl ⟨Nat.le_trans (Nat.le_of_ble_eq_true rfl : 0 + 1 ≤ 59) hF, Nat.le_trans (Nat.le_of_ble_eq_true rfl : 8 + (1 + 11) + 0 ≤ 2927) hL⟩) (g_recv X hw (ci := 22) rfl (gcell_23 hrc)) rfl hl.1 rfl (lv_room (Nat.le_of_ble_eq_true rfl)) dX2_house_114 (fun r33 H locs h hw => ?_)
    refine lv_bipush (v := 6) S.1 S.2.1 dX2_house_117 rfl ?_
    refine lv_icmp_eq (tgt := 162) S.1 S.2.1 dX2_house_119 rfl (fun c34 => ?_) (fun c34 => ?_)
    · replace h := if_t c34 h
      exact wk_B_X2_house_p162 S X Z hF hL hr hlocks hno _ _ _ _ _ h hw (lv_sub hl [0] rfl)
    · replace h := if_f c34 h
      exact wk_B_X2_house_p122 S X Z hF hL hr hlocks hno hk11 _ _ _ _ _ _ h hw (lv_sub hl [0, 1] rfl)
set_option maxRecDepth 100000 in
set_option maxHeartbeats 4000000 in
theorem wk_B_X2_house_p97 {p : Program} {l : Launch} {e : Env} {R : Room} {s : State} {m : MethodId} {args : Array Value} {below : List Frame} {meth : Method} {c : Code} {E : gE} {A : Nat → Prop} {LC LS : Nat} (S : CallFix p m c cX2_house 2 s args lw_all RX2) (X : gCtx E A s) (Z : gRm R s LC LS) (hF : 59 ≤ R.frames) (hL : 2927 ≤ R.locals) (hr : meth.sig.returnType = (Option.some (Jvm.ClassFile.FieldType.object "PulseRent$House"))) (hlocks : meth.locks = false) (hno : ∀ x ∈ c.exceptionTable.toList, False) {res : (Nat ⊕ Nat) × GS}  : ∀ (x0 : Nat) (w : GS) (H : Heap) (locs : List Loc) (ls : Array Slot), B_X2_house_p97 x0 w = some res → gH E A LC LS s w H locs → lv_has ls 2 [(0, .ref x0)] → W p l e R s m args below meth c H locs (H.size - s.heap.size) (tot H - tot s.heap) (vx_MQ below (gXr E A LC LS res) (gXX E A LC LS res) args s R.cells R.slots A) (F0 m 97 ls []) := by
  intro x0 w H locs ls h hw hl
  unfold B_X2_house_p97 at h
  refine lv_aload_n S.1 S.2.1 dX2_house_97 rfl (lv_at hl 0 rfl) ?_
  refine lv_iconst (v := 3) S.1 S.2.1 dX2_house_98 rfl ?_
  obtain ⟨hrc, h⟩ := oK1 h
  refine gcVr (As := [.int (3 : Int32)]) (rest := []) S X Z hw (b := x0) h (fun u h1 => met_B_X2_wrong l E A LC LS x0 (3 : Int32) w u h1) (cb_X2_75 S.2.2.2.2 rfl rfl ⟨Nat.le_trans (Nat.le_of_ble_eq_true rfl : 5 + 1 ≤ 59) hF, Nat.le_trans (Nat.le_of_ble_eq_true rfl : 8 + (2 + 11) + 114 ≤ 2927) hL⟩) (g_recv X hw (ci := 1) rfl (gcell_2 hrc)) rfl hl.1 rfl (lv_room (Nat.le_of_ble_eq_true rfl)) dX2_house_99 (fun a38 w37 H locs h hw => ?_)
  exact x_throw S X hno hlocks Z hw dX2_house_102 h
set_option maxRecDepth 100000 in
set_option maxHeartbeats 4000000 in
theorem wk_B_X2_house_p81 {p : Program} {l : Launch} {e : Env} {R : Room} {s : State} {m : MethodId} {args : Array Value} {below : List Frame} {meth : Method} {c : Code} {E : gE} {A : Nat → Prop} {LC LS : Nat} (S : CallFix p m c cX2_house 2 s args lw_all RX2) (X : gCtx E A s) (Z : gRm R s LC LS) (hF : 59 ≤ R.frames) (hL : 2927 ≤ R.locals) (hr : meth.sig.returnType = (Option.some (Jvm.ClassFile.FieldType.object "PulseRent$House"))) (hlocks : meth.locks = false) (hno : ∀ x ∈ c.exceptionTable.toList, False) {res : (Nat ⊕ Nat) × GS}  {k11 : Nat → GS → Option ((Nat ⊕ Nat) × GS)} (hk11 : ∀ (x0 : Nat) (w : GS) (H : Heap) (locs : List Loc) (ls : Array Slot), k11 x0 w = some res → gH E A LC LS s w H locs → lv_has ls 2 [(0, .ref x0)] → W p l e R s m args below meth c H locs (H.size - s.heap.size) (tot H - tot s.heap) (vx_MQ below (gXr E A LC LS res) (gXX E A LC LS res) args s R.cells R.slots A) (F0 m 11 ls [])) : ∀ (x0 : Nat) (x1 : Int32) (w : GS) (H : Heap) (locs : List Loc) (ls : Array Slot), B_X2_house_p81 k11 x0 x1 w = some res → gH E A LC LS s w H locs → lv_has ls 2 [(0, .ref x0), (1, .int x1)] → W p l e R s m args below meth c H locs (H.size - s.heap.size) (tot H - tot s.heap) (vx_MQ below (gXr E A LC LS res) (gXX E A LC LS res) args s R.cells R.slots A) (F0 m 81 ls []) := by
  intro x0 x1 w H locs ls h hw hl
  unfold B_X2_house_p81 at h
  refine lv_iload_n S.1 S.2.1 dX2_house_81 rfl (lv_at hl 1 rfl) ?_
  refine lv_bipush (v := 7) S.1 S.2.1 dX2_house_82 rfl ?_
  refine lv_icmp_ne (tgt := 103) S.1 S.2.1 dX2_house_84 rfl (fun c14 => ?_) (fun c14 => ?_)
  · replace h := if_f c14 h
    exact wk_B_X2_house_p103 S X Z hF hL hr hlocks hno hk11 _ _ _ _ _ _ h hw (lv_sub hl [0, 1] rfl)
  · replace h := if_t c14 h
    refine lv_aload_n S.1 S.2.1 dX2_house_87 rfl (lv_at hl 0 rfl) ?_
    refine ggX2_101 S X hw dX2_house_88 h (fun a35 h => ?_)
    refine ggX2_145q S X hw dX2_house_91 h (fun a36 h => ?_)
    refine g_ifnull (tgt := 103) S.1 S.2.1 dX2_house_94 rfl h (fun h => ?_) (fun _ h => ?_)
    · exact wk_B_X2_house_p103 S X Z hF hL hr hlocks hno hk11 _ _ _ _ _ _ h hw (lv_sub hl [0, 1] rfl)
    · exact wk_B_X2_house_p97 S X Z hF hL hr hlocks hno _ _ _ _ _ h hw (lv_sub hl [0] rfl)
set_option maxRecDepth 100000 in
set_option maxHeartbeats 4000000 in
theorem wk_B_X2_house_p65 {p : Program} {l : Launch} {e : Env} {R : Room} {s : State} {m : MethodId} {args : Array Value} {below : List Frame} {meth : Method} {c : Code} {E : gE} {A : Nat → Prop} {LC LS : Nat} (S : CallFix p m c cX2_house 2 s args lw_all RX2) (X : gCtx E A s) (Z : gRm R s LC LS) (hF : 59 ≤ R.frames) (hL : 2927 ≤ R.locals) (hr : meth.sig.returnType = (Option.some (Jvm.ClassFile.FieldType.object "PulseRent$House"))) (hlocks : meth.locks = false) (hno : ∀ x ∈ c.exceptionTable.toList, False) {res : (Nat ⊕ Nat) × GS}  {k11 : Nat → GS → Option ((Nat ⊕ Nat) × GS)} (hk11 : ∀ (x0 : Nat) (w : GS) (H : Heap) (locs : List Loc) (ls : Array Slot), k11 x0 w = some res → gH E A LC LS s w H locs → lv_has ls 2 [(0, .ref x0)] → W p l e R s m args below meth c H locs (H.size - s.heap.size) (tot H - tot s.heap) (vx_MQ below (gXr E A LC LS res) (gXX E A LC LS res) args s R.cells R.slots A) (F0 m 11 ls [])) : ∀ (x0 : Nat) (x1 : Int32) (w : GS) (H : Heap) (locs : List Loc) (ls : Array Slot), B_X2_house_p65 k11 x0 x1 w = some res → gH E A LC LS s w H locs → lv_has ls 2 [(0, .ref x0), (1, .int x1)] → W p l e R s m args below meth c H locs (H.size - s.heap.size) (tot H - tot s.heap) (vx_MQ below (gXr E A LC LS res) (gXX E A LC LS res) args s R.cells R.slots A) (F0 m 65 ls []) := by
  intro x0 x1 w H locs ls h hw hl
  unfold B_X2_house_p65 at h
  refine lv_iload_n S.1 S.2.1 dX2_house_65 rfl (lv_at hl 1 rfl) ?_
  refine lv_bipush (v := 6) S.1 S.2.1 dX2_house_66 rfl ?_
  refine lv_icmp_ne (tgt := 81) S.1 S.2.1 dX2_house_68 rfl (fun c13 => ?_) (fun c13 => ?_)
  · replace h := if_f c13 h
    exact wk_B_X2_house_p81 S X Z hF hL hr hlocks hno hk11 _ _ _ _ _ _ h hw (lv_sub hl [0, 1] rfl)
  · replace h := if_t c13 h
    refine lv_aload_n S.1 S.2.1 dX2_house_71 rfl (lv_at hl 0 rfl) ?_
    refine ggX2_101 S X hw dX2_house_72 h (fun a39 h => ?_)
    refine ggX2_141q S X hw dX2_house_75 h (fun a40 h => ?_)
    refine g_ifnonnull (tgt := 97) S.1 S.2.1 dX2_house_78 rfl h (fun h => ?_) (fun _ h => ?_)
    · exact wk_B_X2_house_p81 S X Z hF hL hr hlocks hno hk11 _ _ _ _ _ _ h hw (lv_sub hl [0, 1] rfl)
    · exact wk_B_X2_house_p97 S X Z hF hL hr hlocks hno _ _ _ _ _ h hw (lv_sub hl [0] rfl)
set_option maxRecDepth 100000 in
set_option maxHeartbeats 4000000 in
theorem wk_B_X2_house_p50 {p : Program} {l : Launch} {e : Env} {R : Room} {s : State} {m : MethodId} {args : Array Value} {below : List Frame} {meth : Method} {c : Code} {E : gE} {A : Nat → Prop} {LC LS : Nat} (S : CallFix p m c cX2_house 2 s args lw_all RX2) (X : gCtx E A s) (Z : gRm R s LC LS) (hF : 59 ≤ R.frames) (hL : 2927 ≤ R.locals) (hr : meth.sig.returnType = (Option.some (Jvm.ClassFile.FieldType.object "PulseRent$House"))) (hlocks : meth.locks = false) (hno : ∀ x ∈ c.exceptionTable.toList, False) {res : (Nat ⊕ Nat) × GS}  {k11 : Nat → GS → Option ((Nat ⊕ Nat) × GS)} (hk11 : ∀ (x0 : Nat) (w : GS) (H : Heap) (locs : List Loc) (ls : Array Slot), k11 x0 w = some res → gH E A LC LS s w H locs → lv_has ls 2 [(0, .ref x0)] → W p l e R s m args below meth c H locs (H.size - s.heap.size) (tot H - tot s.heap) (vx_MQ below (gXr E A LC LS res) (gXX E A LC LS res) args s R.cells R.slots A) (F0 m 11 ls [])) : ∀ (x0 : Nat) (x1 : Int32) (w : GS) (H : Heap) (locs : List Loc) (ls : Array Slot), B_X2_house_p50 k11 x0 x1 w = some res → gH E A LC LS s w H locs → lv_has ls 2 [(0, .ref x0), (1, .int x1)] → W p l e R s m args below meth c H locs (H.size - s.heap.size) (tot H - tot s.heap) (vx_MQ below (gXr E A LC LS res) (gXX E A LC LS res) args s R.cells R.slots A) (F0 m 50 ls []) := by
  intro x0 x1 w H locs ls h hw hl
  unfold B_X2_house_p50 at h
  refine lv_iload_n S.1 S.2.1 dX2_house_50 rfl (lv_at hl 1 rfl) ?_
  refine lv_iconst (v := 5) S.1 S.2.1 dX2_house_51 rfl ?_
  refine lv_icmp_ne (tgt := 65) S.1 S.2.1 dX2_house_52 rfl (fun c12 => ?_) (fun c12 => ?_)
  · replace h := if_f c12 h
    exact wk_B_X2_house_p65 S X Z hF hL hr hlocks hno hk11 _ _ _ _ _ _ h hw (lv_sub hl [0, 1] rfl)
  · replace h := if_t c12 h
    refine lv_aload_n S.1 S.2.1 dX2_house_55 rfl (lv_at hl 0 rfl) ?_
    refine ggX2_101 S X hw dX2_house_56 h (fun a41 h => ?_)
    refine ggX2_138 S X hw dX2_house_59 h (fun v42 h => ?_)
    refine lv_if_ge (tgt := 97) S.1 S.2.1 dX2_house_62 rfl (fun c43 => ?_) (fun c43 => ?_)
    · replace h := if_t c43 h
      exact wk_B_X2_house_p97 S X Z hF hL hr hlocks hno _ _ _ _ _ h hw (lv_sub hl [0] rfl)
    · replace h := if_f c43 h
      exact wk_B_X2_house_p65 S X Z hF hL hr hlocks hno hk11 _ _ _ _ _ _ h hw (lv_sub hl [0, 1] rfl)
set_option maxRecDepth 100000 in
set_option maxHeartbeats 4000000 in
theorem wk_B_X2_house_p11 {p : Program} {l : Launch} {e : Env} {R : Room} {s : State} {m : MethodId} {args : Array Value} {below : List Frame} {meth : Method} {c : Code} {E : gE} {A : Nat → Prop} {LC LS : Nat} (S : CallFix p m c cX2_house 2 s args lw_all RX2) (X : gCtx E A s) (Z : gRm R s LC LS) (hF : 59 ≤ R.frames) (hL : 2927 ≤ R.locals) (hr : meth.sig.returnType = (Option.some (Jvm.ClassFile.FieldType.object "PulseRent$House"))) (hlocks : meth.locks = false) (hno : ∀ x ∈ c.exceptionTable.toList, False) {res : (Nat ⊕ Nat) × GS}  : ∀ n : Nat, ∀ (x0 : Nat) (w : GS) (H : Heap) (locs : List Loc) (ls : Array Slot), B_X2_house_p11 n x0 w = some res → gH E A LC LS s w H locs → lv_has ls 2 [(0, .ref x0)] → W p l e R s m args below meth c H locs (H.size - s.heap.size) (tot H - tot s.heap) (vx_MQ below (gXr E A LC LS res) (gXX E A LC LS res) args s R.cells R.slots A) (F0 m 11 ls []) := by
  intro n
  induction n with
  | zero => intro x0 w H locs ls h; cases (show (none : Option ((Nat ⊕ Nat) × GS)) = some res from h)
  | succ n ih =>
    intro x0 w H locs ls h hw hl
    rw [B_X2_house_p11] at h
    refine lv_aload_n S.1 S.2.1 dX2_house_11 rfl (lv_at hl 0 rfl) ?_
    refine ggX2_31 S X hw dX2_house_12 h (fun v4 h => ?_)
    refine lv_if_eq (tgt := 186) S.1 S.2.1 dX2_house_15 rfl (fun c5 => ?_) (fun c5 => ?_)
    · replace h := if_t c5 h
      refine lv_aload_n S.1 S.2.1 dX2_house_186 rfl (lv_at hl 0 rfl) ?_
      refine ggX2_101 S X hw dX2_house_187 h (fun a6 h => ?_)
      exact x_aret S Z hr (Or.inl ⟨_, rfl⟩) hlocks hw (so1 h) dX2_house_190
    · replace h := if_f c5 h
      refine lv_aload_n S.1 S.2.1 dX2_house_18 rfl (lv_at hl 0 rfl) ?_
      refine gls2 S X hw dX2_house_19 h (fun a7 h => ?_)
      obtain ⟨hrc, h⟩ := oK1 h
      refine gcVi (As := [.ref a7]) (rest := []) S X Z hw (b := x0) h (fun u h1 => met_B_X2_which l E A LC LS x0 a7 w u h1) (cb_X2_71 S.2.2.2.2 rfl rfl ⟨Nat.le_trans (Nat.le_of_ble_eq_true rfl : 4 + 1 ≤ 59) hF, Nat.le_trans (Nat.le_of_ble_eq_true rfl : 8 + (7 + 11) + 85 ≤ 2927) hL⟩) (g_recv X hw (ci := 1) rfl (gcell_2 hrc)) rfl hl.1 rfl (lv_room (Nat.le_of_ble_eq_true rfl)) dX2_house_21 (fun r9 w8 H locs h hw => ?_)
      refine lv_istore_n (lv' := [(1, .int r9), (0, .ref x0)]) S.1 S.2.1 dX2_house_24 rfl hl (by decide) rfl (fun ls hl => ?_)
      refine lv_iload_n S.1 S.2.1 dX2_house_25 rfl (lv_at hl 0 rfl) ?_
      refine lv_if_ge (tgt := 35) S.1 S.2.1 dX2_house_26 rfl (fun c10 => ?_) (fun c10 => ?_)
      · replace h := if_t c10 h
        refine lv_iload_n S.1 S.2.1 dX2_house_35 rfl (lv_at hl 0 rfl) ?_
        refine lv_iconst (v := 4) S.1 S.2.1 dX2_house_36 rfl ?_
        refine lv_icmp_ne (tgt := 50) S.1 S.2.1 dX2_house_37 rfl (fun c11 => ?_) (fun c11 => ?_)
        · replace h := if_f c11 h
          exact wk_B_X2_house_p50 S X Z hF hL hr hlocks hno ih _ _ _ _ _ _ h hw (lv_sub hl [1, 0] rfl)
        · replace h := if_t c11 h
          refine lv_aload_n S.1 S.2.1 dX2_house_40 rfl (lv_at hl 1 rfl) ?_
          refine ggX2_101 S X hw dX2_house_41 h (fun a44 h => ?_)
          refine ggX2_135 S X hw dX2_house_44 h (fun v45 h => ?_)
          refine lv_if_ge (tgt := 97) S.1 S.2.1 dX2_house_47 rfl (fun c46 => ?_) (fun c46 => ?_)
          · replace h := if_t c46 h
            exact wk_B_X2_house_p97 S X Z hF hL hr hlocks hno _ _ _ _ _ h hw (lv_sub hl [1] rfl)
          · replace h := if_f c46 h
            exact wk_B_X2_house_p50 S X Z hF hL hr hlocks hno ih _ _ _ _ _ _ h hw (lv_sub hl [1, 0] rfl)
      · replace h := if_f c10 h
        refine lv_aload_n S.1 S.2.1 dX2_house_29 rfl (lv_at hl 1 rfl) ?_
        refine lv_iconst (v := 1) S.1 S.2.1 dX2_house_30 rfl ?_
        obtain ⟨hrc, h⟩ := oK1 h
        refine gcVr (As := [.int (1 : Int32)]) (rest := []) S X Z hw (b := x0) h (fun u h1 => met_B_X2_wrong l E A LC LS x0 (1 : Int32) w8 u h1) (cb_X2_75 S.2.2.2.2 rfl rfl ⟨Nat.le_trans (Nat.le_of_ble_eq_true rfl : 5 + 1 ≤ 59) hF, Nat.le_trans (Nat.le_of_ble_eq_true rfl : 8 + (2 + 11) + 114 ≤ 2927) hL⟩) (g_recv X hw (ci := 1) rfl (gcell_2 hrc)) rfl hl.1 rfl (lv_room (Nat.le_of_ble_eq_true rfl)) dX2_house_31 (fun a48 w47 H locs h hw => ?_)
        exact x_throw S X hno hlocks Z hw dX2_house_34 h
set_option maxRecDepth 100000 in
set_option maxHeartbeats 4000000 in
theorem met_B_X2_house (l : Launch) (E : gE) (A : Nat → Prop) (LC LS : Nat)  (x0 : Nat) (w : GS) (res : (Nat ⊕ Nat) × GS) (h : B_X2_house x0 w = some res) : vx_Met l yX2_house (ws_ yX2_house cX2_house 2 (Option.some (Jvm.ClassFile.FieldType.object "PulseRent$House"))) (gRoom 59 2927 LC LS w) (gPc E A LC LS [.ref x0] w) (gXr E A LC LS res) (gXX E A LC LS res) (LC - gZ w) (LS - gN w) A := by
  refine gMetx (by decide) rfl (Nat.le_of_ble_eq_true rfl) ?_
  intro p e s m below meth c R S hr hlocks hno X Z hF hL H ls hw hl
  replace hl : lv_has ls 2 [(0, .ref x0)] := hl
  unfold B_X2_house at h
  refine lv_aload_n S.1 S.2.1 dX2_house_0 rfl (lv_at hl 0 rfl) ?_
  refine gnX2_106 S X Z hw dX2_house_1 h (fun w1 H h hw => ?_)
  refine lv_dup S.1 S.2.1 dX2_house_4 rfl ?_
  refine gcINv (As := []) (rest := [.ref (gZ w), .ref x0]) S X Z hw (b := (gZ w)) h (fun u h1 => met_B_X3_init l E A LC LS (gZ w) w1 u h1) (cb_X2_132 S.2.2.2.2 X.2.2.2.2.2.1 rfl rfl ⟨Nat.le_trans (Nat.le_of_ble_eq_true rfl : 4 + 1 ≤ 59) hF, Nat.le_trans (Nat.le_of_ble_eq_true rfl : 8 + (1 + 11) + 81 ≤ 2927) hL⟩) rfl hl.1 rfl (lv_room (Nat.le_of_ble_eq_true rfl)) dX2_house_5 (fun w2 H locs h hw => ?_)
  refine gpX2_101 (v := some (gZ w)) S X hw dX2_house_8 h (fun w3 H locs h hw => ?_)
  exact wk_B_X2_house_p11 S X Z hF hL hr hlocks hno FU _ _ _ _ _ h hw (lv_sub hl [0] rfl)
