/-! walks over the plain heap, printed by gen/bgen.py -/
set_option maxRecDepth 100000
def B_X1_law_p79 : Nat → Nat → Int32 → Int32 → Int32 → GS → Option (Int32 × GS)
  | 0, _, _, _, _, _ => none
  | n + 1, x0, x1, x2, x3, w =>
    if x2 ≤ x3 then
      bd1 (oRn w x0 1 1 5) fun a9 =>
      bd1 (oK w x0 1 1) fun _ =>
      bd2 (B_X1_collects x0 a9 w) fun r11 w10 =>
      bd1 (oRn w10 x0 1 1 5) fun a12 =>
      bd1 (oI w10 a12 4 4 7) fun v13 =>
      bd1 (oRn w10 x0 1 1 4) fun a14 =>
      bd1 (oI w10 a14 4 4 7) fun v15 =>
      some (v13 &&& (v15 ^^^ (-1 : Int32)), w10)
    else
      bd1 (oRn w x0 1 1 5) fun a16 =>
      bd1 (oK w x0 1 1) fun _ =>
      bd1 (B_X1_passesOne x0 a16 x1 w) fun w17 =>
      (B_X1_law_p79 n) x0 x1 x2 (x3 + (1 : Int32)) w17
def B_X1_law_p36 : Nat → Nat → Int32 → Int32 → Int32 → GS → Option (Int32 × GS)
  | 0, _, _, _, _, _ => none
  | n + 1, x0, x1, x2, x3, w =>
    bd1 (oK w x0 1 1) fun _ =>
    bd1 (B_X1_tenants x0 w) fun r6 =>
    if r6 ≤ x3 then
      B_X1_law_p79 FU x0 x1 x2 (0 : Int32) w
    else
      bd1 (oRn w x0 1 1 5) fun a18 =>
      bd1 (oK w a18 4 4) fun _ =>
      bd1 (B_X4_isIn a18 x3 w) fun r19 =>
      if r19 = 0 then
        (B_X1_law_p36 n) x0 x1 x2 (x3 + (1 : Int32)) w
      else
        bd1 (oRn w x0 1 1 5) fun a21 =>
        bd1 (oRn w a21 4 4 2) fun a22 =>
        bd1 (oRn w x0 1 1 2) fun a23 =>
        bd1 (oI w a23 3 3 4) fun v24 =>
        bd1 (xI w a22 40 x3 v24) fun w25 =>
        (B_X1_law_p36 n) x0 x1 x2 (x3 + (1 : Int32)) w25
def B_X1_law (x0 : Nat) (x1 : Int32) (x2 : Int32) (w : GS) : Option (Int32 × GS) :=
  if (B_X1_in x1 (0 : Int32) (60 : Int32)) = 0 then
    some ((-1 : Int32), w)
  else
    if (B_X1_in x2 (1 : Int32) (240 : Int32)) = 0 then
      some ((-1 : Int32), w)
    else
      bd1 (oRn w x0 1 1 5) fun a3 =>
      bd1 (oRn w x0 1 1 4) fun a4 =>
      bd1 (oK w a3 4 4) fun _ =>
      bd1 (B_X4_be a3 a4 w) fun w5 =>
      B_X1_law_p36 FU x0 x1 x2 (0 : Int32) w5
set_option maxRecDepth 100000 in
set_option maxHeartbeats 4000000 in
theorem wk_B_X1_law_p79 {p : Program} {l : Launch} {e : Env} {R : Room} {s : State} {m : MethodId} {args : Array Value} {below : List Frame} {meth : Method} {c : Code} {E : gE} {A : Nat → Prop} {LC LS : Nat} (S : CallFix p m c cX1_law 4 s args lw_all RX1) (X : gCtx E A s) (Z : gRm R s LC LS) (hF : 1105 ≤ R.frames) (hL : 33123 ≤ R.locals) (hr : meth.sig.returnType = (Option.some Jvm.ClassFile.FieldType.int)) (hlocks : meth.locks = false) {res : Int32 × GS}  : ∀ n : Nat, ∀ (x0 : Nat) (x1 : Int32) (x2 : Int32) (x3 : Int32) (w : GS) (H : Heap) (locs : List Loc) (ls : Array Slot), B_X1_law_p79 n x0 x1 x2 x3 w = some res → gH E A LC LS s w H locs → lv_has ls 4 [(0, .ref x0), (1, .int x1), (2, .int x2), (3, .int x3)] → W p l e R s m args below meth c H locs (H.size - s.heap.size) (tot H - tot s.heap) (MQ below (gQi E A LC LS res.1 res.2) args s R.cells R.slots A) (F0 m 79 ls []) := by
  intro n
  induction n with
  | zero => intro x0 x1 x2 x3 w H locs ls h; cases (show (none : Option (Int32 × GS)) = some res from h)
  | succ n ih =>
    intro x0 x1 x2 x3 w H locs ls h hw hl
    rw [B_X1_law_p79] at h
    refine lv_iload_n S.1 S.2.1 dX1_law_79 rfl (lv_at hl 3 rfl) ?_
    refine lv_iload_n S.1 S.2.1 dX1_law_80 rfl (lv_at hl 2 rfl) ?_
    refine lv_icmp_ge (tgt := 99) S.1 S.2.1 dX1_law_81 rfl (fun c8 => ?_) (fun c8 => ?_)
    · replace h := if_t c8 h
      refine lv_aload_n S.1 S.2.1 dX1_law_99 rfl (lv_at hl 0 rfl) ?_
      refine lv_aload_n S.1 S.2.1 dX1_law_100 rfl (lv_at hl 0 rfl) ?_
      refine ggX1_55 S X hw dX1_law_101 h (fun a9 h => ?_)
      obtain ⟨hrc, h⟩ := oK1 h
      refine gcVi (As := [.ref a9]) (rest := []) S X Z hw (b := x0) h (fun u h1 => met_B_X1_collects l E A LC LS x0 a9 w u h1) (cb_X1_298 S.2.2.2.2 rfl rfl ⟨Nat.le_trans (Nat.le_of_ble_eq_true rfl : 1104 + 1 ≤ 1105) hF, Nat.le_trans (Nat.le_of_ble_eq_true rfl : 8 + (6 + 11) + 33098 ≤ 33123) hL⟩) (g_recv X hw (ci := 0) rfl (gcell_1 hrc)) rfl hl.1 rfl (lv_room (Nat.le_of_ble_eq_true rfl)) dX1_law_104 (fun r11 w10 H locs h hw => ?_)
      refine lv_pop S.1 S.2.1 dX1_law_107 rfl ?_
      refine lv_aload_n S.1 S.2.1 dX1_law_108 rfl (lv_at hl 0 rfl) ?_
      refine ggX1_55 S X hw dX1_law_109 h (fun a12 h => ?_)
      refine ggX1_249 S X hw dX1_law_112 h (fun v13 h => ?_)
      refine lv_aload_n S.1 S.2.1 dX1_law_115 rfl (lv_at hl 0 rfl) ?_
      refine ggX1_51 S X hw dX1_law_116 h (fun a14 h => ?_)
      refine ggX1_249 S X hw dX1_law_119 h (fun v15 h => ?_)
      refine lv_iconst (v := -1) S.1 S.2.1 dX1_law_122 rfl ?_
      refine lv_ixor S.1 S.2.1 dX1_law_123 ?_
      refine lv_iand S.1 S.2.1 dX1_law_124 ?_
      exact g_iret S Z hr hlocks hw (so2 h) dX1_law_125
    · replace h := if_f c8 h
      refine lv_aload_n S.1 S.2.1 dX1_law_84 rfl (lv_at hl 0 rfl) ?_
      refine lv_aload_n S.1 S.2.1 dX1_law_85 rfl (lv_at hl 0 rfl) ?_
      refine ggX1_55 S X hw dX1_law_86 h (fun a16 h => ?_)
      refine lv_iload_n S.1 S.2.1 dX1_law_89 rfl (lv_at hl 1 rfl) ?_
      obtain ⟨hrc, h⟩ := oK1 h
      refine gcVv (As := [.ref a16, .int x1]) (rest := []) S X Z hw (b := x0) h (fun u h1 => met_B_X1_passesOne l E A LC LS x0 a16 x1 w u h1) (cb_X1_213 S.2.2.2.2 rfl rfl ⟨Nat.le_trans (Nat.le_of_ble_eq_true rfl : 5 + 1 ≤ 1105) hF, Nat.le_trans (Nat.le_of_ble_eq_true rfl : 8 + (5 + 11) + 110 ≤ 33123) hL⟩) (g_recv X hw (ci := 0) rfl (gcell_1 hrc)) rfl hl.1 rfl (lv_room (Nat.le_of_ble_eq_true rfl)) dX1_law_90 (fun w17 H locs h hw => ?_)
      refine lv_iinc (v := x3 + (1 : Int32)) (lv' := [(3, .int (x3 + (1 : Int32))), (0, .ref x0), (1, .int x1), (2, .int x2)]) S.1 S.2.1 dX1_law_93 hl (k := 3) rfl rfl (by decide) rfl (fun ls hl => ?_)
      refine lv_goto (tgt := 79) S.1 S.2.1 dX1_law_96 rfl ?_
      exact ih _ _ _ _ _ _ _ _ h hw (lv_sub hl [1, 2, 3, 0] rfl)
set_option maxRecDepth 100000 in
set_option maxHeartbeats 4000000 in
theorem wk_B_X1_law_p36 {p : Program} {l : Launch} {e : Env} {R : Room} {s : State} {m : MethodId} {args : Array Value} {below : List Frame} {meth : Method} {c : Code} {E : gE} {A : Nat → Prop} {LC LS : Nat} (S : CallFix p m c cX1_law 4 s args lw_all RX1) (X : gCtx E A s) (Z : gRm R s LC LS) (hF : 1105 ≤ R.frames) (hL : 33123 ≤ R.locals) (hr : meth.sig.returnType = (Option.some Jvm.ClassFile.FieldType.int)) (hlocks : meth.locks = false) {res : Int32 × GS}  : ∀ n : Nat, ∀ (x0 : Nat) (x1 : Int32) (x2 : Int32) (x3 : Int32) (w : GS) (H : Heap) (locs : List Loc) (ls : Array Slot), B_X1_law_p36 n x0 x1 x2 x3 w = some res → gH E A LC LS s w H locs → lv_has ls 4 [(0, .ref x0), (1, .int x1), (2, .int x2), (3, .int x3)] → W p l e R s m args below meth c H locs (H.size - s.heap.size) (tot H - tot s.heap) (MQ below (gQi E A LC LS res.1 res.2) args s R.cells R.slots A) (F0 m 36 ls []) := by
  intro n
  induction n with
  | zero => intro x0 x1 x2 x3 w H locs ls h; cases (show (none : Option (Int32 × GS)) = some res from h)
  | succ n ih =>
    intro x0 x1 x2 x3 w H locs ls h hw hl
    rw [B_X1_law_p36] at h
    refine lv_iload_n S.1 S.2.1 dX1_law_36 rfl (lv_at hl 3 rfl) ?_
    refine lv_aload_n S.1 S.2.1 dX1_law_37 rfl (lv_at hl 0 rfl) ?_
    obtain ⟨hrc, h⟩ := oK1 h
    refine gcVri (As := []) (rest := [.int x3]) S X Z hw (b := x0) h (fun u h1 => met_B_X1_tenants l E A LC LS x0 w u h1) (cb_X1_157 S.2.2.2.2 rfl rfl ⟨Nat.le_trans (Nat.le_of_ble_eq_true rfl : 1 + 1 ≤ 1105) hF, Nat.le_trans (Nat.le_of_ble_eq_true rfl : 8 + (1 + 11) + 20 ≤ 33123) hL⟩) (g_recv X hw (ci := 0) rfl (gcell_1 hrc)) rfl hl.1 rfl (lv_room (Nat.le_of_ble_eq_true rfl)) dX1_law_38 (fun r6 H locs h hw => ?_)
    refine lv_icmp_ge (tgt := 77) S.1 S.2.1 dX1_law_41 rfl (fun c7 => ?_) (fun c7 => ?_)
    · replace h := if_t c7 h
      refine lv_iconst (v := 0) S.1 S.2.1 dX1_law_77 rfl ?_
      refine lv_istore_n (lv' := [(3, .int (0 : Int32)), (0, .ref x0), (1, .int x1), (2, .int x2)]) S.1 S.2.1 dX1_law_78 rfl hl (by decide) rfl (fun ls hl => ?_)
      exact wk_B_X1_law_p79 S X Z hF hL hr hlocks  FU _ _ _ _ _ _ _ _ h hw (lv_sub hl [1, 2, 3, 0] rfl)
    · replace h := if_f c7 h
      refine lv_aload_n S.1 S.2.1 dX1_law_44 rfl (lv_at hl 0 rfl) ?_
      refine ggX1_55 S X hw dX1_law_45 h (fun a18 h => ?_)
      refine lv_iload_n S.1 S.2.1 dX1_law_48 rfl (lv_at hl 3 rfl) ?_
      obtain ⟨hrc, h⟩ := oK1 h
      refine gcVri (As := [.int x3]) (rest := []) S X Z hw (b := a18) h (fun u h1 => met_B_X4_isIn l E A LC LS a18 x3 w u h1) (cb_X1_163 S.2.2.2.2 rfl rfl ⟨Nat.le_trans (Nat.le_of_ble_eq_true rfl : 0 + 1 ≤ 1105) hF, Nat.le_trans (Nat.le_of_ble_eq_true rfl : 8 + (2 + 11) + 0 ≤ 33123) hL⟩) (g_recv X hw (ci := 3) rfl (gcell_4 hrc)) rfl hl.1 rfl (lv_room (Nat.le_of_ble_eq_true rfl)) dX1_law_49 (fun r19 H locs h hw => ?_)
      refine lv_if_eq (tgt := 71) S.1 S.2.1 dX1_law_52 rfl (fun c20 => ?_) (fun c20 => ?_)
      · replace h := if_t c20 h
        refine lv_iinc (v := x3 + (1 : Int32)) (lv' := [(3, .int (x3 + (1 : Int32))), (0, .ref x0), (1, .int x1), (2, .int x2)]) S.1 S.2.1 dX1_law_71 hl (k := 3) rfl rfl (by decide) rfl (fun ls hl => ?_)
        refine lv_goto (tgt := 36) S.1 S.2.1 dX1_law_74 rfl ?_
        exact ih _ _ _ _ _ _ _ _ h hw (lv_sub hl [1, 2, 3, 0] rfl)
      · replace h := if_f c20 h
        refine lv_aload_n S.1 S.2.1 dX1_law_55 rfl (lv_at hl 0 rfl) ?_
        refine ggX1_55 S X hw dX1_law_56 h (fun a21 h => ?_)
        refine ggX1_185 S X hw dX1_law_59 h (fun a22 h => ?_)
        refine lv_iload_n S.1 S.2.1 dX1_law_62 rfl (lv_at hl 3 rfl) ?_
        refine lv_aload_n S.1 S.2.1 dX1_law_63 rfl (lv_at hl 0 rfl) ?_
        refine ggX1_35 S X hw dX1_law_64 h (fun a23 h => ?_)
        refine ggX1_292 S X hw dX1_law_67 h (fun v24 h => ?_)
        refine gast40 S X hw dX1_law_70 h (fun w25 H locs h hw => ?_)
        refine lv_iinc (v := x3 + (1 : Int32)) (lv' := [(3, .int (x3 + (1 : Int32))), (0, .ref x0), (1, .int x1), (2, .int x2)]) S.1 S.2.1 dX1_law_71 hl (k := 3) rfl rfl (by decide) rfl (fun ls hl => ?_)
        refine lv_goto (tgt := 36) S.1 S.2.1 dX1_law_74 rfl ?_
        exact ih _ _ _ _ _ _ _ _ h hw (lv_sub hl [1, 2, 3, 0] rfl)
set_option maxRecDepth 100000 in
set_option maxHeartbeats 4000000 in
theorem met_B_X1_law (l : Launch) (E : gE) (A : Nat → Prop) (LC LS : Nat)  (x0 : Nat) (x1 : Int32) (x2 : Int32) (w : GS) (res : Int32 × GS) (h : B_X1_law x0 x1 x2 w = some res) : Met l yX1_law (ws_ yX1_law cX1_law 4 (Option.some Jvm.ClassFile.FieldType.int)) (gRoom 1105 33123 LC LS w) (gPc E A LC LS [.ref x0, .int x1, .int x2] w) (gQi E A LC LS res.1 res.2) (LC - gZ w) (LS - gN w) A := by
  refine gMet (by decide) rfl (Nat.le_of_ble_eq_true rfl) ?_
  intro p e s m below meth c R S hr hlocks hin2 X Z hF hL H ls hw hl
  replace hl : lv_has ls 4 [(0, .ref x0), (1, .int x1), (2, .int x2)] := hl
  unfold B_X1_law at h
  refine lv_iload_n S.1 S.2.1 dX1_law_0 rfl (lv_at hl 1 rfl) ?_
  refine lv_iconst (v := 0) S.1 S.2.1 dX1_law_1 rfl ?_
  refine lv_bipush (v := 60) S.1 S.2.1 dX1_law_2 rfl ?_
  refine gcSti (As := [.int x1, .int (0 : Int32), .int (60 : Int32)]) (rest := []) S X Z hw (met_B_X1_in l E A LC LS x1 (0 : Int32) (60 : Int32) w _ rfl) (cb_X1_153 S.2.2.2.2 rfl rfl ⟨Nat.le_trans (Nat.le_of_ble_eq_true rfl : 0 + 1 ≤ 1105) hF, Nat.le_trans (Nat.le_of_ble_eq_true rfl : 8 + (3 + 11) + 0 ≤ 33123) hL⟩) rfl hl.1 rfl (lv_room (Nat.le_of_ble_eq_true rfl)) dX1_law_4 (fun H locs hw => ?_)
  refine lv_if_eq (tgt := 21) S.1 S.2.1 dX1_law_7 rfl (fun c1 => ?_) (fun c1 => ?_)
  · replace h := if_t c1 h
    refine lv_iconst (v := -1) S.1 S.2.1 dX1_law_21 rfl ?_
    exact g_iret S Z hr hlocks hw (so2 h) dX1_law_22
  · replace h := if_f c1 h
    refine lv_iload_n S.1 S.2.1 dX1_law_10 rfl (lv_at hl 2 rfl) ?_
    refine lv_iconst (v := 1) S.1 S.2.1 dX1_law_11 rfl ?_
    refine lv_sipush (v := 240) S.1 S.2.1 dX1_law_12 rfl ?_
    refine gcSti (As := [.int x2, .int (1 : Int32), .int (240 : Int32)]) (rest := []) S X Z hw (met_B_X1_in l E A LC LS x2 (1 : Int32) (240 : Int32) w _ rfl) (cb_X1_153 S.2.2.2.2 rfl rfl ⟨Nat.le_trans (Nat.le_of_ble_eq_true rfl : 0 + 1 ≤ 1105) hF, Nat.le_trans (Nat.le_of_ble_eq_true rfl : 8 + (3 + 11) + 0 ≤ 33123) hL⟩) rfl hl.1 rfl (lv_room (Nat.le_of_ble_eq_true rfl)) dX1_law_15 (fun H locs hw => ?_)
    refine lv_if_ne (tgt := 23) S.1 S.2.1 dX1_law_18 rfl (fun c2 => ?_) (fun c2 => ?_)
    · replace h := if_f c2 h
      refine lv_aload_n S.1 S.2.1 dX1_law_23 rfl (lv_at hl 0 rfl) ?_
      refine ggX1_55 S X hw dX1_law_24 h (fun a3 h => ?_)
      refine lv_aload_n S.1 S.2.1 dX1_law_27 rfl (lv_at hl 0 rfl) ?_
      refine ggX1_51 S X hw dX1_law_28 h (fun a4 h => ?_)
      obtain ⟨hrc, h⟩ := oK1 h
      refine gcVv (As := [.ref a4]) (rest := []) S X Z hw (b := a3) h (fun u h1 => met_B_X4_be l E A LC LS a3 a4 w u h1) (cb_X1_276 S.2.2.2.2 rfl rfl ⟨Nat.le_trans (Nat.le_of_ble_eq_true rfl : 1 + 1 ≤ 1105) hF, Nat.le_trans (Nat.le_of_ble_eq_true rfl : 8 + (2 + 11) + 22 ≤ 33123) hL⟩) (g_recv X hw (ci := 3) rfl (gcell_4 hrc)) rfl hl.1 rfl (lv_room (Nat.le_of_ble_eq_true rfl)) dX1_law_31 (fun w5 H locs h hw => ?_)
      refine lv_iconst (v := 0) S.1 S.2.1 dX1_law_34 rfl ?_
      refine lv_istore_n (lv' := [(3, .int (0 : Int32)), (0, .ref x0), (1, .int x1), (2, .int x2)]) S.1 S.2.1 dX1_law_35 rfl hl (by decide) rfl (fun ls hl => ?_)
      exact wk_B_X1_law_p36 S X Z hF hL hr hlocks  FU _ _ _ _ _ _ _ _ h hw (lv_sub hl [1, 2, 3, 0] rfl)
    · replace h := if_t c2 h
      refine lv_iconst (v := -1) S.1 S.2.1 dX1_law_21 rfl ?_
      exact g_iret S Z hr hlocks hw (so2 h) dX1_law_22
def B_X1_sample (x0 : Nat) (x1 : Int32) (x2 : Int32) (w : GS) : Option (Int32 × GS) :=
  if (B_X1_in x1 (0 : Int32) (5 : Int32)) = 0 then
    some ((0 : Int32), w)
  else
    if (B_X1_in x2 (0 : Int32) (240 : Int32)) = 0 then
      some ((0 : Int32), w)
    else
      bd1 (oI w x0 1 1 18) fun v3 =>
      if v3 = (6 : Int32) then
        some ((0 : Int32), w)
      else
        bd1 (oRn w x0 1 1 16) fun a5 =>
        bd1 (oI w x0 1 1 18) fun v6 =>
        bd1 (xI w a5 40 v6 x1) fun w7 =>
        bd1 (oRn w7 x0 1 1 17) fun a8 =>
        bd1 (oI w7 x0 1 1 18) fun v9 =>
        bd1 (pI w7 x0 1 1 18 (v9 + (1 : Int32))) fun w10 =>
        bd1 (xI w10 a8 40 v9 x2) fun w11 =>
        some ((1 : Int32), w11)
set_option maxRecDepth 100000 in
set_option maxHeartbeats 4000000 in
theorem met_B_X1_sample (l : Launch) (E : gE) (A : Nat → Prop) (LC LS : Nat)  (x0 : Nat) (x1 : Int32) (x2 : Int32) (w : GS) (res : Int32 × GS) (h : B_X1_sample x0 x1 x2 w = some res) : Met l yX1_sample (ws_ yX1_sample cX1_sample 3 (Option.some Jvm.ClassFile.FieldType.boolean)) (gRoom 1 22 LC LS w) (gPc E A LC LS [.ref x0, .int x1, .int x2] w) (gQi E A LC LS res.1 res.2) (LC - gZ w) (LS - gN w) A := by
  refine gMet (by decide) rfl (Nat.le_of_ble_eq_true rfl) ?_
  intro p e s m below meth c R S hr hlocks hin2 X Z hF hL H ls hw hl
  replace hl : lv_has ls 3 [(0, .ref x0), (1, .int x1), (2, .int x2)] := hl
  unfold B_X1_sample at h
  refine lv_iload_n S.1 S.2.1 dX1_sample_0 rfl (lv_at hl 1 rfl) ?_
  refine lv_iconst (v := 0) S.1 S.2.1 dX1_sample_1 rfl ?_
  refine lv_iconst (v := 5) S.1 S.2.1 dX1_sample_2 rfl ?_
  refine gcSti (As := [.int x1, .int (0 : Int32), .int (5 : Int32)]) (rest := []) S X Z hw (met_B_X1_in l E A LC LS x1 (0 : Int32) (5 : Int32) w _ rfl) (cb_X1_153 S.2.2.2.2 rfl rfl ⟨Nat.le_trans (Nat.le_of_ble_eq_true rfl : 0 + 1 ≤ 1) hF, Nat.le_trans (Nat.le_of_ble_eq_true rfl : 8 + (3 + 11) + 0 ≤ 22) hL⟩) rfl hl.1 rfl (lv_room (Nat.le_of_ble_eq_true rfl)) dX1_sample_3 (fun H locs hw => ?_)
  refine lv_if_eq (tgt := 29) S.1 S.2.1 dX1_sample_6 rfl (fun c1 => ?_) (fun c1 => ?_)
  · replace h := if_t c1 h
    refine lv_iconst (v := 0) S.1 S.2.1 dX1_sample_29 rfl ?_
    exact g_zret S Z hr hlocks hw rfl (so2 h) dX1_sample_30
  · replace h := if_f c1 h
    refine lv_iload_n S.1 S.2.1 dX1_sample_9 rfl (lv_at hl 2 rfl) ?_
    refine lv_iconst (v := 0) S.1 S.2.1 dX1_sample_10 rfl ?_
    refine lv_sipush (v := 240) S.1 S.2.1 dX1_sample_11 rfl ?_
    refine gcSti (As := [.int x2, .int (0 : Int32), .int (240 : Int32)]) (rest := []) S X Z hw (met_B_X1_in l E A LC LS x2 (0 : Int32) (240 : Int32) w _ rfl) (cb_X1_153 S.2.2.2.2 rfl rfl ⟨Nat.le_trans (Nat.le_of_ble_eq_true rfl : 0 + 1 ≤ 1) hF, Nat.le_trans (Nat.le_of_ble_eq_true rfl : 8 + (3 + 11) + 0 ≤ 22) hL⟩) rfl hl.1 rfl (lv_room (Nat.le_of_ble_eq_true rfl)) dX1_sample_14 (fun H locs hw => ?_)
    refine lv_if_eq (tgt := 29) S.1 S.2.1 dX1_sample_17 rfl (fun c2 => ?_) (fun c2 => ?_)
    · replace h := if_t c2 h
      refine lv_iconst (v := 0) S.1 S.2.1 dX1_sample_29 rfl ?_
      exact g_zret S Z hr hlocks hw rfl (so2 h) dX1_sample_30
    · replace h := if_f c2 h
      refine lv_aload_n S.1 S.2.1 dX1_sample_20 rfl (lv_at hl 0 rfl) ?_
      refine ggX1_123 S X hw dX1_sample_21 h (fun v3 h => ?_)
      refine lv_bipush (v := 6) S.1 S.2.1 dX1_sample_24 rfl ?_
      refine lv_icmp_ne (tgt := 31) S.1 S.2.1 dX1_sample_26 rfl (fun c4 => ?_) (fun c4 => ?_)
      · replace h := if_f c4 h
        refine lv_aload_n S.1 S.2.1 dX1_sample_31 rfl (lv_at hl 0 rfl) ?_
        refine ggX1_81 S X hw dX1_sample_32 h (fun a5 h => ?_)
        refine lv_aload_n S.1 S.2.1 dX1_sample_35 rfl (lv_at hl 0 rfl) ?_
        refine ggX1_123 S X hw dX1_sample_36 h (fun v6 h => ?_)
        refine lv_iload_n S.1 S.2.1 dX1_sample_39 rfl (lv_at hl 1 rfl) ?_
        refine gast40 S X hw dX1_sample_40 h (fun w7 H locs h hw => ?_)
        refine lv_aload_n S.1 S.2.1 dX1_sample_41 rfl (lv_at hl 0 rfl) ?_
        refine ggX1_84 S X hw dX1_sample_42 h (fun a8 h => ?_)
        refine lv_aload_n S.1 S.2.1 dX1_sample_45 rfl (lv_at hl 0 rfl) ?_
        refine lv_dup S.1 S.2.1 dX1_sample_46 rfl ?_
        refine ggX1_123 S X hw dX1_sample_47 h (fun v9 h => ?_)
        refine lv_dup_x1 S.1 S.2.1 dX1_sample_50 rfl rfl ?_
        refine lv_iconst (v := 1) S.1 S.2.1 dX1_sample_51 rfl ?_
        refine lv_iadd S.1 S.2.1 dX1_sample_52 ?_
        refine gpX1_123 S X hw dX1_sample_53 h (fun w10 H locs h hw => ?_)
        refine lv_iload_n S.1 S.2.1 dX1_sample_56 rfl (lv_at hl 2 rfl) ?_
        refine gast40 S X hw dX1_sample_57 h (fun w11 H locs h hw => ?_)
        refine lv_iconst (v := 1) S.1 S.2.1 dX1_sample_58 rfl ?_
        exact g_zret S Z hr hlocks hw rfl (so2 h) dX1_sample_59
      · replace h := if_t c4 h
        refine lv_iconst (v := 0) S.1 S.2.1 dX1_sample_29 rfl ?_
        exact g_zret S Z hr hlocks hw rfl (so2 h) dX1_sample_30
def B_X1_didIn_p6 : Nat → Int32 → Int32 → GS → Option Int32
  | 0, _, _, _ => none
  | n + 1, x2, x3, w =>
    if (6 : Int32) ≤ x3 then
      some (x2 - x2 / (3 : Int32) * (3 : Int32))
    else
      bdp (x2 / (3 : Int32)) fun y3 =>
      (B_X1_didIn_p6 n) y3 (x3 + (1 : Int32)) w
def B_X1_didIn (x0 : Int32) (x1 : Int32) (w : GS) : Option Int32 :=
  bdp (x1 + (1 : Int32)) fun y1 =>
  B_X1_didIn_p6 FU x0 y1 w
set_option maxRecDepth 100000 in
set_option maxHeartbeats 4000000 in
theorem wk_B_X1_didIn_p6 {p : Program} {l : Launch} {e : Env} {R : Room} {s : State} {m : MethodId} {args : Array Value} {below : List Frame} {meth : Method} {c : Code} {E : gE} {A : Nat → Prop} {LC LS : Nat} (S : CallFix p m c cX1_didIn 4 s args lw_all RX1) (X : gCtx E A s) (Z : gRm R s LC LS) (hF : 0 ≤ R.frames) (hL : 0 ≤ R.locals) (hr : meth.sig.returnType = (Option.some Jvm.ClassFile.FieldType.int)) (hlocks : meth.locks = false) {res : Int32}  : ∀ n : Nat, ∀ (x2 : Int32) (x3 : Int32) (w : GS) (H : Heap) (locs : List Loc) (ls : Array Slot), B_X1_didIn_p6 n x2 x3 w = some res → gH E A LC LS s w H locs → lv_has ls 4 [(2, .int x2), (3, .int x3)] → W p l e R s m args below meth c H locs (H.size - s.heap.size) (tot H - tot s.heap) (MQ below (gQi E A LC LS res w) args s R.cells R.slots A) (F0 m 6 ls []) := by
  intro n
  induction n with
  | zero => intro x2 x3 w H locs ls h; cases (show (none : Option Int32) = some res from h)
  | succ n ih =>
    intro x2 x3 w H locs ls h hw hl
    rw [B_X1_didIn_p6] at h
    refine lv_iload_n S.1 S.2.1 dX1_didIn_6 rfl (lv_at hl 1 rfl) ?_
    refine lv_bipush (v := 6) S.1 S.2.1 dX1_didIn_7 rfl ?_
    refine lv_icmp_ge (tgt := 22) S.1 S.2.1 dX1_didIn_9 rfl (fun c2 => ?_) (fun c2 => ?_)
    · replace h := if_t c2 h
      refine lv_iload_n S.1 S.2.1 dX1_didIn_22 rfl (lv_at hl 0 rfl) ?_
      refine lv_iconst (v := 3) S.1 S.2.1 dX1_didIn_23 rfl ?_
      refine lv_irem S.1 S.2.1 dX1_didIn_24 (by decide) ?_
      exact g_iret S Z hr hlocks hw ⟨so1 h, rfl⟩ dX1_didIn_25
    · replace h := if_f c2 h
      refine lv_iload_n S.1 S.2.1 dX1_didIn_12 rfl (lv_at hl 0 rfl) ?_
      refine lv_iconst (v := 3) S.1 S.2.1 dX1_didIn_13 rfl ?_
      refine lv_idiv S.1 S.2.1 dX1_didIn_14 (by decide) ?_
      refine lv_topi (fun y3 ey => ?_)
      replace h := bdp_e ey h
      refine lv_istore_n (lv' := [(2, .int y3), (3, .int x3)]) S.1 S.2.1 dX1_didIn_15 rfl hl (by decide) rfl (fun ls hl => ?_)
      refine lv_iinc (v := x3 + (1 : Int32)) (lv' := [(3, .int (x3 + (1 : Int32))), (2, .int y3)]) S.1 S.2.1 dX1_didIn_16 hl (k := 1) rfl rfl (by decide) rfl (fun ls hl => ?_)
      refine lv_goto (tgt := 6) S.1 S.2.1 dX1_didIn_19 rfl ?_
      exact ih _ _ _ _ _ _ h hw (lv_sub hl [1, 0] rfl)
set_option maxRecDepth 100000 in
set_option maxHeartbeats 4000000 in
theorem met_B_X1_didIn (l : Launch) (E : gE) (A : Nat → Prop) (LC LS : Nat)  (x0 : Int32) (x1 : Int32) (w : GS) (res : Int32) (h : B_X1_didIn x0 x1 w = some res) : Met l yX1_didIn (ws_ yX1_didIn cX1_didIn 4 (Option.some Jvm.ClassFile.FieldType.int)) (gRoom 0 0 LC LS w) (gPc E A LC LS [.int x0, .int x1] w) (gQi E A LC LS res w) (LC - gZ w) (LS - gN w) A := by
  refine gMet (by decide) rfl (Nat.le_of_ble_eq_true rfl) ?_
  intro p e s m below meth c R S hr hlocks hin2 X Z hF hL H ls hw hl
  replace hl : lv_has ls 4 [(0, .int x0), (1, .int x1)] := hl
  unfold B_X1_didIn at h
  refine lv_iload_n S.1 S.2.1 dX1_didIn_0 rfl (lv_at hl 0 rfl) ?_
  refine lv_istore_n (lv' := [(2, .int x0), (0, .int x0), (1, .int x1)]) S.1 S.2.1 dX1_didIn_1 rfl hl (by decide) rfl (fun ls hl => ?_)
  refine lv_iload_n S.1 S.2.1 dX1_didIn_2 rfl (lv_at hl 2 rfl) ?_
  refine lv_iconst (v := 1) S.1 S.2.1 dX1_didIn_3 rfl ?_
  refine lv_iadd S.1 S.2.1 dX1_didIn_4 ?_
  refine lv_topi (fun y1 ey => ?_)
  replace h := bdp_e ey h
  refine lv_istore_n (lv' := [(3, .int y1), (2, .int x0), (0, .int x0), (1, .int x1)]) S.1 S.2.1 dX1_didIn_5 rfl hl (by decide) rfl (fun ls hl => ?_)
  exact wk_B_X1_didIn_p6 S X Z hF hL hr hlocks  FU _ _ _ _ _ _ h hw (lv_sub hl [1, 0] rfl)
theorem cb_X1_372 {R : Room} {s : State} {args : Array Value} {rm : Room} {mc ms : Nat} (hts : ∀ w ∈ lw_all, w.before args s = true) (hc : rm.cells = mc) (hs : rm.slots = ms) (hR : rm.frames + 1 ≤ R.frames ∧ 8 + (4 + 11) + rm.locals ≤ R.locals) : CallB R s args RX1 372 yX1_didIn cX1_didIn 4 (Option.some Jvm.ClassFile.FieldType.int) (ws_ yX1_didIn cX1_didIn 4 (Option.some Jvm.ClassFile.FieldType.int)) rm mc ms 2 ∧ (Cond.static yX1_didIn).before args s = true := va_cwS 2 hts (lw_S q1615 q1616 q135 q1617) rfl hc hs (by decide +kernel) hR
def B_X1_lives_p66 (k8 : Nat → Nat → Int32 → Int32 → Int32 → Int32 → GS → Option GS) (x0 : Nat) (x1 : Nat) (x2 : Int32) (x3 : Int32) (x4 : Int32) (x5 : Int32) (w : GS) : Option GS :=
  bd1 (oRn w x0 1 1 19) fun a5 =>
  bd1 (V_rest x1 w) fun r6 =>
  bd1 (xI w a5 40 x5 (if (r6 + x3) < (240 : Int32) then (r6 + x3) else (240 : Int32))) fun w7 =>
  bd1 (V_settles x1 x3 w7) fun r8 =>
  k8 x0 x1 x2 r8 x4 (x5 + (1 : Int32)) w7
def B_X1_lives_p38 (k8 : Nat → Nat → Int32 → Int32 → Int32 → Int32 → GS → Option GS) (x0 : Nat) (x1 : Nat) (x2 : Int32) (x3 : Int32) (x4 : Int32) (x5 : Int32) (x6 : Int32) (w : GS) : Option GS :=
  if x6 = (2 : Int32) then
    bd1 (oI w x1 8 11 2) fun v9 =>
    bd1 (o_idiv (if (0 : Int32) < ((40 : Int32) - v9) then ((40 : Int32) - v9) else (0 : Int32)) ((1 : Int32) + x4)) fun d10 =>
    bdp (x3 + d10) fun y11 =>
    B_X1_lives_p66 k8 x0 x1 x2 y11 (x4 + (1 : Int32)) x5 w
  else
    B_X1_lives_p66 k8 x0 x1 x2 x3 x4 x5 w
def B_X1_lives_p8 : Nat → Nat → Nat → Int32 → Int32 → Int32 → Int32 → GS → Option GS
  | 0, _, _, _, _, _, _, _ => none
  | n + 1, x0, x1, x2, x3, x4, x5, w =>
    if (6 : Int32) ≤ x5 then
      some w
    else
      bd1 (B_X1_didIn x2 x5 w) fun r2 =>
      if r2 = (1 : Int32) then
        bd1 (V_climbs x1 (20 : Int32) w) fun r12 =>
        bdp (x3 + r12) fun y13 =>
        B_X1_lives_p38 (B_X1_lives_p8 n) x0 x1 x2 y13 x4 x5 r2 w
      else
        B_X1_lives_p38 (B_X1_lives_p8 n) x0 x1 x2 x3 x4 x5 r2 w
def B_X1_lives (x0 : Nat) (x1 : Nat) (x2 : Int32) (w : GS) : Option GS :=
  B_X1_lives_p8 FU x0 x1 x2 (0 : Int32) (0 : Int32) (0 : Int32) w
set_option maxRecDepth 100000 in
set_option maxHeartbeats 4000000 in
theorem wk_B_X1_lives_p66 {p : Program} {l : Launch} {e : Env} {R : Room} {s : State} {m : MethodId} {args : Array Value} {below : List Frame} {meth : Method} {c : Code} {E : gE} {A : Nat → Prop} {LC LS : Nat} (S : CallFix p m c cX1_lives 7 s args lw_all RX1) (X : gCtx E A s) (Z : gRm R s LC LS) (hF : 1 ≤ R.frames) (hL : 23 ≤ R.locals) (hr : meth.sig.returnType = (Option.none : Option Jvm.ClassFile.FieldType)) (hlocks : meth.locks = false) {res : GS}  {k8 : Nat → Nat → Int32 → Int32 → Int32 → Int32 → GS → Option GS} (hk8 : ∀ (x0 : Nat) (x1 : Nat) (x2 : Int32) (x3 : Int32) (x4 : Int32) (x5 : Int32) (w : GS) (H : Heap) (locs : List Loc) (ls : Array Slot), k8 x0 x1 x2 x3 x4 x5 w = some res → gH E A LC LS s w H locs → lv_has ls 7 [(0, .ref x0), (1, .ref x1), (2, .int x2), (3, .int x3), (4, .int x4), (5, .int x5)] → W p l e R s m args below meth c H locs (H.size - s.heap.size) (tot H - tot s.heap) (MQ below (gQv E A LC LS res) args s R.cells R.slots A) (F0 m 8 ls [])) : ∀ (x0 : Nat) (x1 : Nat) (x2 : Int32) (x3 : Int32) (x4 : Int32) (x5 : Int32) (w : GS) (H : Heap) (locs : List Loc) (ls : Array Slot), B_X1_lives_p66 k8 x0 x1 x2 x3 x4 x5 w = some res → gH E A LC LS s w H locs → lv_has ls 7 [(0, .ref x0), (1, .ref x1), (2, .int x2), (3, .int x3), (4, .int x4), (5, .int x5)] → W p l e R s m args below meth c H locs (H.size - s.heap.size) (tot H - tot s.heap) (MQ below (gQv E A LC LS res) args s R.cells R.slots A) (F0 m 66 ls []) := by
  intro x0 x1 x2 x3 x4 x5 w H locs ls h hw hl
  unfold B_X1_lives_p66 at h
  refine lv_aload_n S.1 S.2.1 dX1_lives_66 rfl (lv_at hl 0 rfl) ?_
  refine ggX1_87 S X hw dX1_lives_67 h (fun a5 h => ?_)
  refine lv_iload S.1 S.2.1 dX1_lives_70 (lv_at hl 5 rfl) ?_
  refine lv_sipush (v := 240) S.1 S.2.1 dX1_lives_72 rfl ?_
  refine lv_aload_n S.1 S.2.1 dX1_lives_75 rfl (lv_at hl 1 rfl) ?_
  refine dv_X1_170  (rest := [.int (240 : Int32), .int x5, .ref a5]) S X Z hw h (fun u h1 => dm_rest l E A LC LS x1 w u h1) ⟨Nat.le_trans (Nat.le_of_ble_eq_true rfl : 0 + 1 ≤ 1) hF, Nat.le_trans (Nat.le_of_ble_eq_true rfl : 8 + (1 + 11) + 0 ≤ 23) hL⟩ hl.1 rfl (lv_room (Nat.le_of_ble_eq_true rfl)) dX1_lives_76 (fun r6 H locs h hw => ?_)
  refine lv_iload_n S.1 S.2.1 dX1_lives_79 rfl (lv_at hl 3 rfl) ?_
  refine lv_iadd S.1 S.2.1 dX1_lives_80 ?_
  refine va_mmin (x := (240 : Int32)) (y := (r6 + x3)) (rest := [.int x5, .ref a5]) S.1 S.2.1 (S.2.2.1.trans hl.1.symm) S.2.2.2.1 (S.2.2.2.2 _ q1360) (S.2.2.2.2 _ q509) (S.2.2.2.2 _ q147) (S.2.2.2.2 _ q510) (Nat.le_trans (Nat.le_of_ble_eq_true rfl) hF) (Nat.le_trans (Nat.le_of_ble_eq_true rfl : (([.int x5, .ref a5] : List Value).map fun v : Value => v.category).sum + 13 ≤ 21) (Nat.le_trans (Nat.le_of_ble_eq_true rfl) hL)) (gRm_le Z hw).1 (gRm_le Z hw).2 dX1_lives_81 ?_
  refine gast40 S X hw dX1_lives_84 h (fun w7 H locs h hw => ?_)
  refine lv_aload_n S.1 S.2.1 dX1_lives_85 rfl (lv_at hl 1 rfl) ?_
  refine lv_iload_n S.1 S.2.1 dX1_lives_86 rfl (lv_at hl 3 rfl) ?_
  refine dv_X1_206  (rest := []) S X Z hw h (fun u h1 => dm_settles l E A LC LS x1 x3 w7 u h1) ⟨Nat.le_trans (Nat.le_of_ble_eq_true rfl : 0 + 1 ≤ 1) hF, Nat.le_trans (Nat.le_of_ble_eq_true rfl : 8 + (2 + 11) + 0 ≤ 23) hL⟩ hl.1 rfl (lv_room (Nat.le_of_ble_eq_true rfl)) dX1_lives_87 (fun r8 H locs h hw => ?_)
  refine lv_istore_n (lv' := [(3, .int r8), (0, .ref x0), (1, .ref x1), (2, .int x2), (4, .int x4), (5, .int x5)]) S.1 S.2.1 dX1_lives_90 rfl hl (by decide) rfl (fun ls hl => ?_)
  refine lv_iinc (v := x5 + (1 : Int32)) (lv' := [(5, .int (x5 + (1 : Int32))), (3, .int r8), (0, .ref x0), (1, .ref x1), (2, .int x2), (4, .int x4)]) S.1 S.2.1 dX1_lives_91 hl (k := 5) rfl rfl (by decide) rfl (fun ls hl => ?_)
  refine lv_goto (tgt := 8) S.1 S.2.1 dX1_lives_94 rfl ?_
  exact hk8 _ _ _ _ _ _ _ _ _ _ h hw (lv_sub hl [2, 3, 4, 1, 5, 0] rfl)
set_option maxRecDepth 100000 in
set_option maxHeartbeats 4000000 in
theorem wk_B_X1_lives_p38 {p : Program} {l : Launch} {e : Env} {R : Room} {s : State} {m : MethodId} {args : Array Value} {below : List Frame} {meth : Method} {c : Code} {E : gE} {A : Nat → Prop} {LC LS : Nat} (S : CallFix p m c cX1_lives 7 s args lw_all RX1) (X : gCtx E A s) (Z : gRm R s LC LS) (hF : 1 ≤ R.frames) (hL : 23 ≤ R.locals) (hr : meth.sig.returnType = (Option.none : Option Jvm.ClassFile.FieldType)) (hlocks : meth.locks = false) {res : GS}  {k8 : Nat → Nat → Int32 → Int32 → Int32 → Int32 → GS → Option GS} (hk8 : ∀ (x0 : Nat) (x1 : Nat) (x2 : Int32) (x3 : Int32) (x4 : Int32) (x5 : Int32) (w : GS) (H : Heap) (locs : List Loc) (ls : Array Slot), k8 x0 x1 x2 x3 x4 x5 w = some res → gH E A LC LS s w H locs → lv_has ls 7 [(0, .ref x0), (1, .ref x1), (2, .int x2), (3, .int x3), (4, .int x4), (5, .int x5)] → W p l e R s m args below meth c H locs (H.size - s.heap.size) (tot H - tot s.heap) (MQ below (gQv E A LC LS res) args s R.cells R.slots A) (F0 m 8 ls [])) : ∀ (x0 : Nat) (x1 : Nat) (x2 : Int32) (x3 : Int32) (x4 : Int32) (x5 : Int32) (x6 : Int32) (w : GS) (H : Heap) (locs : List Loc) (ls : Array Slot), B_X1_lives_p38 k8 x0 x1 x2 x3 x4 x5 x6 w = some res → gH E A LC LS s w H locs → lv_has ls 7 [(0, .ref x0), (1, .ref x1), (2, .int x2), (3, .int x3), (4, .int x4), (5, .int x5), (6, .int x6)] → W p l e R s m args below meth c H locs (H.size - s.heap.size) (tot H - tot s.heap) (MQ below (gQv E A LC LS res) args s R.cells R.slots A) (F0 m 38 ls []) := by
  intro x0 x1 x2 x3 x4 x5 x6 w H locs ls h hw hl
  unfold B_X1_lives_p38 at h
  refine lv_iload S.1 S.2.1 dX1_lives_38 (lv_at hl 6 rfl) ?_
  refine lv_iconst (v := 2) S.1 S.2.1 dX1_lives_40 rfl ?_
  refine lv_icmp_ne (tgt := 66) S.1 S.2.1 dX1_lives_41 rfl (fun c4 => ?_) (fun c4 => ?_)
  · replace h := if_f c4 h
    exact wk_B_X1_lives_p66 S X Z hF hL hr hlocks  hk8 _ _ _ _ _ _ _ _ _ _ h hw (lv_sub hl [0, 1, 2, 3, 4, 5] rfl)
  · replace h := if_t c4 h
    refine lv_iload_n S.1 S.2.1 dX1_lives_44 rfl (lv_at hl 3 rfl) ?_
    refine lv_iconst (v := 0) S.1 S.2.1 dX1_lives_45 rfl ?_
    refine lv_bipush (v := 40) S.1 S.2.1 dX1_lives_46 rfl ?_
    refine lv_aload_n S.1 S.2.1 dX1_lives_48 rfl (lv_at hl 1 rfl) ?_
    refine ggX1_267 S X hw dX1_lives_49 h (fun v9 h => ?_)
    refine lv_isub S.1 S.2.1 dX1_lives_52 ?_
    refine va_mmax (x := (0 : Int32)) (y := ((40 : Int32) - v9)) (rest := [.int x3]) S.1 S.2.1 (S.2.2.1.trans hl.1.symm) S.2.2.2.1 (S.2.2.2.2 _ q1398) (S.2.2.2.2 _ q506) (S.2.2.2.2 _ q147) (S.2.2.2.2 _ q507) (Nat.le_trans (Nat.le_of_ble_eq_true rfl) hF) (Nat.le_trans (Nat.le_of_ble_eq_true rfl : (([.int x3] : List Value).map fun v : Value => v.category).sum + 13 ≤ 21) (Nat.le_trans (Nat.le_of_ble_eq_true rfl) hL)) (gRm_le Z hw).1 (gRm_le Z hw).2 dX1_lives_53 ?_
    refine lv_iconst (v := 1) S.1 S.2.1 dX1_lives_56 rfl ?_
    refine lv_iload S.1 S.2.1 dX1_lives_57 (lv_at hl 4 rfl) ?_
    refine lv_iinc (v := x4 + (1 : Int32)) (lv' := [(4, .int (x4 + (1 : Int32))), (0, .ref x0), (1, .ref x1), (2, .int x2), (3, .int x3), (5, .int x5), (6, .int x6)]) S.1 S.2.1 dX1_lives_59 hl (k := 4) rfl rfl (by decide) rfl (fun ls hl => ?_)
    refine lv_iadd S.1 S.2.1 dX1_lives_62 ?_
    refine r_idiv S.1 S.2.1 dX1_lives_63 h (fun d10 h => ?_)
    refine lv_iadd S.1 S.2.1 dX1_lives_64 ?_
    refine lv_topi (fun y11 ey => ?_)
    replace h := bdp_e ey h
    refine lv_istore_n (lv' := [(3, .int y11), (4, .int (x4 + (1 : Int32))), (0, .ref x0), (1, .ref x1), (2, .int x2), (5, .int x5), (6, .int x6)]) S.1 S.2.1 dX1_lives_65 rfl hl (by decide) rfl (fun ls hl => ?_)
    exact wk_B_X1_lives_p66 S X Z hF hL hr hlocks  hk8 _ _ _ _ _ _ _ _ _ _ h hw (lv_sub hl [2, 3, 4, 0, 1, 5] rfl)
set_option maxRecDepth 100000 in
set_option maxHeartbeats 4000000 in
theorem wk_B_X1_lives_p8 {p : Program} {l : Launch} {e : Env} {R : Room} {s : State} {m : MethodId} {args : Array Value} {below : List Frame} {meth : Method} {c : Code} {E : gE} {A : Nat → Prop} {LC LS : Nat} (S : CallFix p m c cX1_lives 7 s args lw_all RX1) (X : gCtx E A s) (Z : gRm R s LC LS) (hF : 1 ≤ R.frames) (hL : 23 ≤ R.locals) (hr : meth.sig.returnType = (Option.none : Option Jvm.ClassFile.FieldType)) (hlocks : meth.locks = false) {res : GS}  : ∀ n : Nat, ∀ (x0 : Nat) (x1 : Nat) (x2 : Int32) (x3 : Int32) (x4 : Int32) (x5 : Int32) (w : GS) (H : Heap) (locs : List Loc) (ls : Array Slot), B_X1_lives_p8 n x0 x1 x2 x3 x4 x5 w = some res → gH E A LC LS s w H locs → lv_has ls 7 [(0, .ref x0), (1, .ref x1), (2, .int x2), (3, .int x3), (4, .int x4), (5, .int x5)] → W p l e R s m args below meth c H locs (H.size - s.heap.size) (tot H - tot s.heap) (MQ below (gQv E A LC LS res) args s R.cells R.slots A) (F0 m 8 ls []) := by
  intro n
  induction n with
  | zero => intro x0 x1 x2 x3 x4 x5 w H locs ls h; cases (show (none : Option GS) = some res from h)
  | succ n ih =>
    intro x0 x1 x2 x3 x4 x5 w H locs ls h hw hl
    rw [B_X1_lives_p8] at h
    refine lv_iload S.1 S.2.1 dX1_lives_8 (lv_at hl 5 rfl) ?_
    refine lv_bipush (v := 6) S.1 S.2.1 dX1_lives_10 rfl ?_
    refine lv_icmp_ge (tgt := 97) S.1 S.2.1 dX1_lives_12 rfl (fun c1 => ?_) (fun c1 => ?_)
    · replace h := if_t c1 h
      exact g_vret S Z hr hlocks hw (so1 h) dX1_lives_97
    · replace h := if_f c1 h
      refine lv_iload_n S.1 S.2.1 dX1_lives_15 rfl (lv_at hl 2 rfl) ?_
      refine lv_iload S.1 S.2.1 dX1_lives_16 (lv_at hl 5 rfl) ?_
      refine gcSri (As := [.int x2, .int x5]) (rest := []) S X Z hw h (fun u h1 => met_B_X1_didIn l E A LC LS x2 x5 w u h1) (cb_X1_372 S.2.2.2.2 rfl rfl ⟨Nat.le_trans (Nat.le_of_ble_eq_true rfl : 0 + 1 ≤ 1) hF, Nat.le_trans (Nat.le_of_ble_eq_true rfl : 8 + (4 + 11) + 0 ≤ 23) hL⟩) rfl hl.1 rfl (lv_room (Nat.le_of_ble_eq_true rfl)) dX1_lives_18 (fun r2 H locs h hw => ?_)
      refine lv_istore (lv' := [(6, .int r2), (0, .ref x0), (1, .ref x1), (2, .int x2), (3, .int x3), (4, .int x4), (5, .int x5)]) S.1 S.2.1 dX1_lives_21 hl (by decide) rfl (fun ls hl => ?_)
      refine lv_iload S.1 S.2.1 dX1_lives_23 (lv_at hl 0 rfl) ?_
      refine lv_iconst (v := 1) S.1 S.2.1 dX1_lives_25 rfl ?_
      refine lv_icmp_ne (tgt := 38) S.1 S.2.1 dX1_lives_26 rfl (fun c3 => ?_) (fun c3 => ?_)
      · replace h := if_f c3 h
        exact wk_B_X1_lives_p38 S X Z hF hL hr hlocks  ih _ _ _ _ _ _ _ _ _ _ _ h hw (lv_sub hl [1, 2, 3, 4, 5, 6, 0] rfl)
      · replace h := if_t c3 h
        refine lv_iload_n S.1 S.2.1 dX1_lives_29 rfl (lv_at hl 4 rfl) ?_
        refine lv_aload_n S.1 S.2.1 dX1_lives_30 rfl (lv_at hl 2 rfl) ?_
        refine lv_bipush (v := 20) S.1 S.2.1 dX1_lives_31 rfl ?_
        refine dv_X1_280  (rest := [.int x3]) S X Z hw h (fun u h1 => dm_climbs l E A LC LS x1 (20 : Int32) w u h1) ⟨Nat.le_trans (Nat.le_of_ble_eq_true rfl : 0 + 1 ≤ 1) hF, Nat.le_trans (Nat.le_of_ble_eq_true rfl : 8 + (2 + 11) + 0 ≤ 23) hL⟩ hl.1 rfl (lv_room (Nat.le_of_ble_eq_true rfl)) dX1_lives_33 (fun r12 H locs h hw => ?_)
        refine lv_iadd S.1 S.2.1 dX1_lives_36 ?_
        refine lv_topi (fun y13 ey => ?_)
        replace h := bdp_e ey h
        refine lv_istore_n (lv' := [(3, .int y13), (6, .int r2), (0, .ref x0), (1, .ref x1), (2, .int x2), (4, .int x4), (5, .int x5)]) S.1 S.2.1 dX1_lives_37 rfl hl (by decide) rfl (fun ls hl => ?_)
        exact wk_B_X1_lives_p38 S X Z hF hL hr hlocks  ih _ _ _ _ _ _ _ _ _ _ _ h hw (lv_sub hl [2, 3, 4, 0, 5, 6, 1] rfl)
set_option maxRecDepth 100000 in
set_option maxHeartbeats 4000000 in
theorem met_B_X1_lives (l : Launch) (E : gE) (A : Nat → Prop) (LC LS : Nat)  (x0 : Nat) (x1 : Nat) (x2 : Int32) (w : GS) (res : GS) (h : B_X1_lives x0 x1 x2 w = some res) : Met l yX1_lives (ws_ yX1_lives cX1_lives 7 (Option.none : Option Jvm.ClassFile.FieldType)) (gRoom 1 23 LC LS w) (gPc E A LC LS [.ref x0, .ref x1, .int x2] w) (gQv E A LC LS res) (LC - gZ w) (LS - gN w) A := by
  refine gMet (by decide) rfl (Nat.le_of_ble_eq_true rfl) ?_
  intro p e s m below meth c R S hr hlocks hin2 X Z hF hL H ls hw hl
  replace hl : lv_has ls 7 [(0, .ref x0), (1, .ref x1), (2, .int x2)] := hl
  unfold B_X1_lives at h
  refine lv_iconst (v := 0) S.1 S.2.1 dX1_lives_0 rfl ?_
  refine lv_istore_n (lv' := [(3, .int (0 : Int32)), (0, .ref x0), (1, .ref x1), (2, .int x2)]) S.1 S.2.1 dX1_lives_1 rfl hl (by decide) rfl (fun ls hl => ?_)
  refine lv_iconst (v := 0) S.1 S.2.1 dX1_lives_2 rfl ?_
  refine lv_istore (lv' := [(4, .int (0 : Int32)), (3, .int (0 : Int32)), (0, .ref x0), (1, .ref x1), (2, .int x2)]) S.1 S.2.1 dX1_lives_3 hl (by decide) rfl (fun ls hl => ?_)
  refine lv_iconst (v := 0) S.1 S.2.1 dX1_lives_5 rfl ?_
  refine lv_istore (lv' := [(5, .int (0 : Int32)), (4, .int (0 : Int32)), (3, .int (0 : Int32)), (0, .ref x0), (1, .ref x1), (2, .int x2)]) S.1 S.2.1 dX1_lives_6 hl (by decide) rfl (fun ls hl => ?_)
  exact wk_B_X1_lives_p8 S X Z hF hL hr hlocks  FU _ _ _ _ _ _ _ _ _ _ h hw (lv_sub hl [3, 4, 5, 2, 1, 0] rfl)
def B_X1_isSampled_p2 : Nat → Nat → Int32 → GS → Option Int32
  | 0, _, _, _ => none
  | n + 1, x0, x1, w =>
    bd1 (oI w x0 1 1 18) fun v1 =>
    if v1 ≤ x1 then
      some (1 : Int32)
    else
      bd1 (oRn w x0 1 1 19) fun a3 =>
      bd1 (oRn w x0 1 1 16) fun a4 =>
      bd1 (aI w a4 40 x1) fun v5 =>
      bd1 (aI w a3 40 v5) fun v6 =>
      bd1 (oRn w x0 1 1 17) fun a7 =>
      bd1 (aI w a7 40 x1) fun v8 =>
      if v6 = v8 then
        (B_X1_isSampled_p2 n) x0 (x1 + (1 : Int32)) w
      else
        some (0 : Int32)
def B_X1_isSampled (x0 : Nat) (w : GS) : Option Int32 :=
  B_X1_isSampled_p2 FU x0 (0 : Int32) w
set_option maxRecDepth 100000 in
set_option maxHeartbeats 4000000 in
theorem wk_B_X1_isSampled_p2 {p : Program} {l : Launch} {e : Env} {R : Room} {s : State} {m : MethodId} {args : Array Value} {below : List Frame} {meth : Method} {c : Code} {E : gE} {A : Nat → Prop} {LC LS : Nat} (S : CallFix p m c cX1_isSampled 2 s args lw_all RX1) (X : gCtx E A s) (Z : gRm R s LC LS) (hF : 0 ≤ R.frames) (hL : 0 ≤ R.locals) (hr : meth.sig.returnType = (Option.some Jvm.ClassFile.FieldType.boolean)) (hlocks : meth.locks = false) {res : Int32}  : ∀ n : Nat, ∀ (x0 : Nat) (x1 : Int32) (w : GS) (H : Heap) (locs : List Loc) (ls : Array Slot), B_X1_isSampled_p2 n x0 x1 w = some res → gH E A LC LS s w H locs → lv_has ls 2 [(0, .ref x0), (1, .int x1)] → W p l e R s m args below meth c H locs (H.size - s.heap.size) (tot H - tot s.heap) (MQ below (gQi E A LC LS res w) args s R.cells R.slots A) (F0 m 2 ls []) := by
  intro n
  induction n with
  | zero => intro x0 x1 w H locs ls h; cases (show (none : Option Int32) = some res from h)
  | succ n ih =>
    intro x0 x1 w H locs ls h hw hl
    rw [B_X1_isSampled_p2] at h
    refine lv_iload_n S.1 S.2.1 dX1_isSampled_2 rfl (lv_at hl 1 rfl) ?_
    refine lv_aload_n S.1 S.2.1 dX1_isSampled_3 rfl (lv_at hl 0 rfl) ?_
    refine ggX1_123 S X hw dX1_isSampled_4 h (fun v1 h => ?_)
    refine lv_icmp_ge (tgt := 38) S.1 S.2.1 dX1_isSampled_7 rfl (fun c2 => ?_) (fun c2 => ?_)
    · replace h := if_t c2 h
      refine lv_iconst (v := 1) S.1 S.2.1 dX1_isSampled_38 rfl ?_
      exact g_zret S Z hr hlocks hw rfl ⟨so1 h, rfl⟩ dX1_isSampled_39
    · replace h := if_f c2 h
      refine lv_aload_n S.1 S.2.1 dX1_isSampled_10 rfl (lv_at hl 0 rfl) ?_
      refine ggX1_87 S X hw dX1_isSampled_11 h (fun a3 h => ?_)
      refine lv_aload_n S.1 S.2.1 dX1_isSampled_14 rfl (lv_at hl 0 rfl) ?_
      refine ggX1_81 S X hw dX1_isSampled_15 h (fun a4 h => ?_)
      refine lv_iload_n S.1 S.2.1 dX1_isSampled_18 rfl (lv_at hl 1 rfl) ?_
      refine gald40 S X hw dX1_isSampled_19 h (fun v5 h => ?_)
      refine gald40 S X hw dX1_isSampled_20 h (fun v6 h => ?_)
      refine lv_aload_n S.1 S.2.1 dX1_isSampled_21 rfl (lv_at hl 0 rfl) ?_
      refine ggX1_84 S X hw dX1_isSampled_22 h (fun a7 h => ?_)
      refine lv_iload_n S.1 S.2.1 dX1_isSampled_25 rfl (lv_at hl 1 rfl) ?_
      refine gald40 S X hw dX1_isSampled_26 h (fun v8 h => ?_)
      refine lv_icmp_eq (tgt := 32) S.1 S.2.1 dX1_isSampled_27 rfl (fun c9 => ?_) (fun c9 => ?_)
      · replace h := if_t c9 h
        refine lv_iinc (v := x1 + (1 : Int32)) (lv' := [(1, .int (x1 + (1 : Int32))), (0, .ref x0)]) S.1 S.2.1 dX1_isSampled_32 hl (k := 1) rfl rfl (by decide) rfl (fun ls hl => ?_)
        refine lv_goto (tgt := 2) S.1 S.2.1 dX1_isSampled_35 rfl ?_
        exact ih _ _ _ _ _ _ h hw (lv_sub hl [1, 0] rfl)
      · replace h := if_f c9 h
        refine lv_iconst (v := 0) S.1 S.2.1 dX1_isSampled_30 rfl ?_
        exact g_zret S Z hr hlocks hw rfl ⟨so1 h, rfl⟩ dX1_isSampled_31
set_option maxRecDepth 100000 in
set_option maxHeartbeats 4000000 in
theorem met_B_X1_isSampled (l : Launch) (E : gE) (A : Nat → Prop) (LC LS : Nat)  (x0 : Nat) (w : GS) (res : Int32) (h : B_X1_isSampled x0 w = some res) : Met l yX1_isSampled (ws_ yX1_isSampled cX1_isSampled 2 (Option.some Jvm.ClassFile.FieldType.boolean)) (gRoom 0 0 LC LS w) (gPc E A LC LS [.ref x0] w) (gQi E A LC LS res w) (LC - gZ w) (LS - gN w) A := by
  refine gMet (by decide) rfl (Nat.le_of_ble_eq_true rfl) ?_
  intro p e s m below meth c R S hr hlocks hin2 X Z hF hL H ls hw hl
  replace hl : lv_has ls 2 [(0, .ref x0)] := hl
  unfold B_X1_isSampled at h
  refine lv_iconst (v := 0) S.1 S.2.1 dX1_isSampled_0 rfl ?_
  refine lv_istore_n (lv' := [(1, .int (0 : Int32)), (0, .ref x0)]) S.1 S.2.1 dX1_isSampled_1 rfl hl (by decide) rfl (fun ls hl => ?_)
  exact wk_B_X1_isSampled_p2 S X Z hF hL hr hlocks  FU _ _ _ _ _ _ h hw (lv_sub hl [1, 0] rfl)
theorem cb_X1_381 {R : Room} {s : State} {args : Array Value} {rm : Room} {mc ms : Nat} (hts : ∀ w ∈ lw_all, w.before args s = true) (hc : rm.cells = mc) (hs : rm.slots = ms) (hR : rm.frames + 1 ≤ R.frames ∧ 8 + (7 + 11) + rm.locals ≤ R.locals) : CallW R s args RX1 RX1 381 yX1_lives cX1_lives 7 (Option.none : Option Jvm.ClassFile.FieldType) (ws_ yX1_lives cX1_lives 7 (Option.none : Option Jvm.ClassFile.FieldType)) rm mc ms 2 := cwV 2 hts (lw_V q1611 q1613 qs53 q135 q1614) rfl hc hs (by decide +kernel) hR
theorem cb_X1_385 {R : Room} {s : State} {args : Array Value} {rm : Room} {mc ms : Nat} (hts : ∀ w ∈ lw_all, w.before args s = true) (hc : rm.cells = mc) (hs : rm.slots = ms) (hR : rm.frames + 1 ≤ R.frames ∧ 8 + (2 + 11) + rm.locals ≤ R.locals) : CallW R s args RX1 RX1 385 yX1_isSampled cX1_isSampled 2 (Option.some Jvm.ClassFile.FieldType.boolean) (ws_ yX1_isSampled cX1_isSampled 2 (Option.some Jvm.ClassFile.FieldType.boolean)) rm mc ms 0 := cwV 0 hts (lw_V q1618 q1620 qs54 q135 q1621) rfl hc hs (by decide +kernel) hR
def B_X1_looks_p94 (k50 : Nat → Nat → Int32 → GS → Option GS) : Nat → Nat → Nat → Int32 → Int32 → GS → Option GS
  | 0, _, _, _, _, _ => none
  | n + 1, x0, x1, x2, x3, w =>
    if (6 : Int32) ≤ x3 then
      k50 x0 x1 (x2 + (1 : Int32)) w
    else
      bd1 (oRn w x0 1 1 20) fun a12 =>
      bd1 (aRn w a12 46 x3) fun a13 =>
      bd1 (oRn w x0 1 1 19) fun a14 =>
      bd1 (aI w a14 40 x3) fun v15 =>
      bd1 (aI w a13 40 v15) fun v16 =>
      bd1 (xI w a13 40 v15 (v16 + (1 : Int32))) fun w17 =>
      (B_X1_looks_p94 k50 n) x0 x1 x2 (x3 + (1 : Int32)) w17
def B_X1_looks_p50 : Nat → Nat → Nat → Int32 → GS → Option GS
  | 0, _, _, _, _ => none
  | n + 1, x0, x1, x2, w =>
    if (729 : Int32) ≤ x2 then
      some w
    else
      bd1 (oK w x0 1 1) fun _ =>
      bd1 (B_X1_lives x0 x1 x2 w) fun w5 =>
      bd1 (oK w5 x0 1 1) fun _ =>
      bd1 (B_X1_isSampled x0 w5) fun r6 =>
      if r6 = 0 then
        (B_X1_looks_p50 n) x0 x1 (x2 + (1 : Int32)) w5
      else
        bd1 (oI w5 x0 1 1 21) fun v8 =>
        bd1 (pI w5 x0 1 1 21 (v8 + (1 : Int32))) fun w9 =>
        if v8 = 0 then
          bd1 (pI w9 x0 1 1 22 x2) fun w18 =>
          B_X1_looks_p94 (B_X1_looks_p50 n) FU x0 x1 x2 (0 : Int32) w18
        else
          B_X1_looks_p94 (B_X1_looks_p50 n) FU x0 x1 x2 (0 : Int32) w9
def B_X1_looks_p10 (k2 : Nat → Nat → Int32 → GS → Option GS) : Nat → Nat → Nat → Int32 → Int32 → GS → Option GS
  | 0, _, _, _, _, _ => none
  | n + 1, x0, x1, x2, x3, w =>
    if (240 : Int32) < x3 then
      k2 x0 x1 (x2 + (1 : Int32)) w
    else
      bd1 (oRn w x0 1 1 20) fun a20 =>
      bd1 (aRn w a20 46 x2) fun a21 =>
      bd1 (xI w a21 40 x3 (0 : Int32)) fun w22 =>
      (B_X1_looks_p10 k2 n) x0 x1 x2 (x3 + (1 : Int32)) w22
def B_X1_looks_p2 : Nat → Nat → Nat → Int32 → GS → Option GS
  | 0, _, _, _, _ => none
  | n + 1, x0, x1, x2, w =>
    if (6 : Int32) ≤ x2 then
      bd1 (pI w x0 1 1 21 (0 : Int32)) fun w2 =>
      bd1 (pI w2 x0 1 1 22 (-1 : Int32)) fun w3 =>
      B_X1_looks_p50 FU x0 x1 (0 : Int32) w3
    else
      B_X1_looks_p10 (B_X1_looks_p2 n) FU x0 x1 x2 (0 : Int32) w
def B_X1_looks (x0 : Nat) (x1 : Nat) (w : GS) : Option GS :=
  B_X1_looks_p2 FU x0 x1 (0 : Int32) w
set_option maxRecDepth 100000 in
set_option maxHeartbeats 4000000 in
theorem wk_B_X1_looks_p94 {p : Program} {l : Launch} {e : Env} {R : Room} {s : State} {m : MethodId} {args : Array Value} {below : List Frame} {meth : Method} {c : Code} {E : gE} {A : Nat → Prop} {LC LS : Nat} (S : CallFix p m c cX1_looks 4 s args lw_all RX1) (X : gCtx E A s) (Z : gRm R s LC LS) (hF : 2 ≤ R.frames) (hL : 49 ≤ R.locals) (hr : meth.sig.returnType = (Option.none : Option Jvm.ClassFile.FieldType)) (hlocks : meth.locks = false) {res : GS}  {k50 : Nat → Nat → Int32 → GS → Option GS} (hk50 : ∀ (x0 : Nat) (x1 : Nat) (x2 : Int32) (w : GS) (H : Heap) (locs : List Loc) (ls : Array Slot), k50 x0 x1 x2 w = some res → gH E A LC LS s w H locs → lv_has ls 4 [(0, .ref x0), (1, .ref x1), (2, .int x2)] → W p l e R s m args below meth c H locs (H.size - s.heap.size) (tot H - tot s.heap) (MQ below (gQv E A LC LS res) args s R.cells R.slots A) (F0 m 50 ls [])) : ∀ n : Nat, ∀ (x0 : Nat) (x1 : Nat) (x2 : Int32) (x3 : Int32) (w : GS) (H : Heap) (locs : List Loc) (ls : Array Slot), B_X1_looks_p94 k50 n x0 x1 x2 x3 w = some res → gH E A LC LS s w H locs → lv_has ls 4 [(0, .ref x0), (1, .ref x1), (2, .int x2), (3, .int x3)] → W p l e R s m args below meth c H locs (H.size - s.heap.size) (tot H - tot s.heap) (MQ below (gQv E A LC LS res) args s R.cells R.slots A) (F0 m 94 ls []) := by
  intro n
  induction n with
  | zero => intro x0 x1 x2 x3 w H locs ls h; cases (show (none : Option GS) = some res from h)
  | succ n ih =>
    intro x0 x1 x2 x3 w H locs ls h hw hl
    rw [B_X1_looks_p94] at h
    refine lv_iload_n S.1 S.2.1 dX1_looks_94 rfl (lv_at hl 3 rfl) ?_
    refine lv_bipush (v := 6) S.1 S.2.1 dX1_looks_95 rfl ?_
    refine lv_icmp_ge (tgt := 123) S.1 S.2.1 dX1_looks_97 rfl (fun c11 => ?_) (fun c11 => ?_)
    · replace h := if_t c11 h
      refine lv_iinc (v := x2 + (1 : Int32)) (lv' := [(2, .int (x2 + (1 : Int32))), (0, .ref x0), (1, .ref x1), (3, .int x3)]) S.1 S.2.1 dX1_looks_123 hl (k := 2) rfl rfl (by decide) rfl (fun ls hl => ?_)
      refine lv_goto (tgt := 50) S.1 S.2.1 dX1_looks_126 rfl ?_
      exact hk50 _ _ _ _ _ _ _ h hw (lv_sub hl [1, 2, 0] rfl)
    · replace h := if_f c11 h
      refine lv_aload_n S.1 S.2.1 dX1_looks_100 rfl (lv_at hl 0 rfl) ?_
      refine ggX1_92 S X hw dX1_looks_101 h (fun a12 h => ?_)
      refine lv_iload_n S.1 S.2.1 dX1_looks_104 rfl (lv_at hl 3 rfl) ?_
      refine gald46 S X hw dX1_looks_105 h (fun a13 h => ?_)
      refine lv_aload_n S.1 S.2.1 dX1_looks_106 rfl (lv_at hl 0 rfl) ?_
      refine ggX1_87 S X hw dX1_looks_107 h (fun a14 h => ?_)
      refine lv_iload_n S.1 S.2.1 dX1_looks_110 rfl (lv_at hl 3 rfl) ?_
      refine gald40 S X hw dX1_looks_111 h (fun v15 h => ?_)
      refine lv_dup2_11 S.1 S.2.1 dX1_looks_112 rfl rfl ?_
      refine gald40 S X hw dX1_looks_113 h (fun v16 h => ?_)
      refine lv_iconst (v := 1) S.1 S.2.1 dX1_looks_114 rfl ?_
      refine lv_iadd S.1 S.2.1 dX1_looks_115 ?_
      refine gast40 S X hw dX1_looks_116 h (fun w17 H locs h hw => ?_)
      refine lv_iinc (v := x3 + (1 : Int32)) (lv' := [(3, .int (x3 + (1 : Int32))), (0, .ref x0), (1, .ref x1), (2, .int x2)]) S.1 S.2.1 dX1_looks_117 hl (k := 3) rfl rfl (by decide) rfl (fun ls hl => ?_)
      refine lv_goto (tgt := 94) S.1 S.2.1 dX1_looks_120 rfl ?_
      exact ih _ _ _ _ _ _ _ _ h hw (lv_sub hl [1, 2, 3, 0] rfl)
set_option maxRecDepth 100000 in
set_option maxHeartbeats 4000000 in
theorem wk_B_X1_looks_p50 {p : Program} {l : Launch} {e : Env} {R : Room} {s : State} {m : MethodId} {args : Array Value} {below : List Frame} {meth : Method} {c : Code} {E : gE} {A : Nat → Prop} {LC LS : Nat} (S : CallFix p m c cX1_looks 4 s args lw_all RX1) (X : gCtx E A s) (Z : gRm R s LC LS) (hF : 2 ≤ R.frames) (hL : 49 ≤ R.locals) (hr : meth.sig.returnType = (Option.none : Option Jvm.ClassFile.FieldType)) (hlocks : meth.locks = false) {res : GS}  : ∀ n : Nat, ∀ (x0 : Nat) (x1 : Nat) (x2 : Int32) (w : GS) (H : Heap) (locs : List Loc) (ls : Array Slot), B_X1_looks_p50 n x0 x1 x2 w = some res → gH E A LC LS s w H locs → lv_has ls 4 [(0, .ref x0), (1, .ref x1), (2, .int x2)] → W p l e R s m args below meth c H locs (H.size - s.heap.size) (tot H - tot s.heap) (MQ below (gQv E A LC LS res) args s R.cells R.slots A) (F0 m 50 ls []) := by
  intro n
  induction n with
  | zero => intro x0 x1 x2 w H locs ls h; cases (show (none : Option GS) = some res from h)
  | succ n ih =>
    intro x0 x1 x2 w H locs ls h hw hl
    rw [B_X1_looks_p50] at h
    refine lv_iload_n S.1 S.2.1 dX1_looks_50 rfl (lv_at hl 2 rfl) ?_
    refine lv_sipush (v := 729) S.1 S.2.1 dX1_looks_51 rfl ?_
    refine lv_icmp_ge (tgt := 129) S.1 S.2.1 dX1_looks_54 rfl (fun c4 => ?_) (fun c4 => ?_)
    · replace h := if_t c4 h
      exact g_vret S Z hr hlocks hw (so1 h) dX1_looks_129
    · replace h := if_f c4 h
      refine lv_aload_n S.1 S.2.1 dX1_looks_57 rfl (lv_at hl 0 rfl) ?_
      refine lv_aload_n S.1 S.2.1 dX1_looks_58 rfl (lv_at hl 1 rfl) ?_
      refine lv_iload_n S.1 S.2.1 dX1_looks_59 rfl (lv_at hl 2 rfl) ?_
      obtain ⟨hrc, h⟩ := oK1 h
      refine gcVv (As := [.ref x1, .int x2]) (rest := []) S X Z hw (b := x0) h (fun u h1 => met_B_X1_lives l E A LC LS x0 x1 x2 w u h1) (cb_X1_381 S.2.2.2.2 rfl rfl ⟨Nat.le_trans (Nat.le_of_ble_eq_true rfl : 1 + 1 ≤ 2) hF, Nat.le_trans (Nat.le_of_ble_eq_true rfl : 8 + (7 + 11) + 23 ≤ 49) hL⟩) (g_recv X hw (ci := 0) rfl (gcell_1 hrc)) rfl hl.1 rfl (lv_room (Nat.le_of_ble_eq_true rfl)) dX1_looks_60 (fun w5 H locs h hw => ?_)
      refine lv_aload_n S.1 S.2.1 dX1_looks_63 rfl (lv_at hl 0 rfl) ?_
      obtain ⟨hrc, h⟩ := oK1 h
      refine gcVri (As := []) (rest := []) S X Z hw (b := x0) h (fun u h1 => met_B_X1_isSampled l E A LC LS x0 w5 u h1) (cb_X1_385 S.2.2.2.2 rfl rfl ⟨Nat.le_trans (Nat.le_of_ble_eq_true rfl : 0 + 1 ≤ 2) hF, Nat.le_trans (Nat.le_of_ble_eq_true rfl : 8 + (2 + 11) + 0 ≤ 49) hL⟩) (g_recv X hw (ci := 0) rfl (gcell_1 hrc)) rfl hl.1 rfl (lv_room (Nat.le_of_ble_eq_true rfl)) dX1_looks_64 (fun r6 H locs h hw => ?_)
      refine lv_if_ne (tgt := 73) S.1 S.2.1 dX1_looks_67 rfl (fun c7 => ?_) (fun c7 => ?_)
      · replace h := if_f c7 h
        refine lv_aload_n S.1 S.2.1 dX1_looks_73 rfl (lv_at hl 0 rfl) ?_
        refine lv_dup S.1 S.2.1 dX1_looks_74 rfl ?_
        refine ggX1_375 S X hw dX1_looks_75 h (fun v8 h => ?_)
        refine lv_dup_x1 S.1 S.2.1 dX1_looks_78 rfl rfl ?_
        refine lv_iconst (v := 1) S.1 S.2.1 dX1_looks_79 rfl ?_
        refine lv_iadd S.1 S.2.1 dX1_looks_80 ?_
        refine gpX1_375 S X hw dX1_looks_81 h (fun w9 H locs h hw => ?_)
        refine lv_if_ne (tgt := 92) S.1 S.2.1 dX1_looks_84 rfl (fun c10 => ?_) (fun c10 => ?_)
        · replace h := if_f c10 h
          refine lv_iconst (v := 0) S.1 S.2.1 dX1_looks_92 rfl ?_
          refine lv_istore_n (lv' := [(3, .int (0 : Int32)), (0, .ref x0), (1, .ref x1), (2, .int x2)]) S.1 S.2.1 dX1_looks_93 rfl hl (by decide) rfl (fun ls hl => ?_)
          exact wk_B_X1_looks_p94 S X Z hF hL hr hlocks  ih FU _ _ _ _ _ _ _ _ h hw (lv_sub hl [1, 2, 3, 0] rfl)
        · replace h := if_t c10 h
          refine lv_aload_n S.1 S.2.1 dX1_looks_87 rfl (lv_at hl 0 rfl) ?_
          refine lv_iload_n S.1 S.2.1 dX1_looks_88 rfl (lv_at hl 2 rfl) ?_
          refine gpX1_378 S X hw dX1_looks_89 h (fun w18 H locs h hw => ?_)
          refine lv_iconst (v := 0) S.1 S.2.1 dX1_looks_92 rfl ?_
          refine lv_istore_n (lv' := [(3, .int (0 : Int32)), (0, .ref x0), (1, .ref x1), (2, .int x2)]) S.1 S.2.1 dX1_looks_93 rfl hl (by decide) rfl (fun ls hl => ?_)
          exact wk_B_X1_looks_p94 S X Z hF hL hr hlocks  ih FU _ _ _ _ _ _ _ _ h hw (lv_sub hl [1, 2, 3, 0] rfl)
      · replace h := if_t c7 h
        refine lv_goto (tgt := 123) S.1 S.2.1 dX1_looks_70 rfl ?_
        refine lv_iinc (v := x2 + (1 : Int32)) (lv' := [(2, .int (x2 + (1 : Int32))), (0, .ref x0), (1, .ref x1)]) S.1 S.2.1 dX1_looks_123 hl (k := 2) rfl rfl (by decide) rfl (fun ls hl => ?_)
        refine lv_goto (tgt := 50) S.1 S.2.1 dX1_looks_126 rfl ?_
        exact ih _ _ _ _ _ _ _ h hw (lv_sub hl [1, 2, 0] rfl)
set_option maxRecDepth 100000 in
set_option maxHeartbeats 4000000 in
theorem wk_B_X1_looks_p10 {p : Program} {l : Launch} {e : Env} {R : Room} {s : State} {m : MethodId} {args : Array Value} {below : List Frame} {meth : Method} {c : Code} {E : gE} {A : Nat → Prop} {LC LS : Nat} (S : CallFix p m c cX1_looks 4 s args lw_all RX1) (X : gCtx E A s) (Z : gRm R s LC LS) (hF : 2 ≤ R.frames) (hL : 49 ≤ R.locals) (hr : meth.sig.returnType = (Option.none : Option Jvm.ClassFile.FieldType)) (hlocks : meth.locks = false) {res : GS}  {k2 : Nat → Nat → Int32 → GS → Option GS} (hk2 : ∀ (x0 : Nat) (x1 : Nat) (x2 : Int32) (w : GS) (H : Heap) (locs : List Loc) (ls : Array Slot), k2 x0 x1 x2 w = some res → gH E A LC LS s w H locs → lv_has ls 4 [(0, .ref x0), (1, .ref x1), (2, .int x2)] → W p l e R s m args below meth c H locs (H.size - s.heap.size) (tot H - tot s.heap) (MQ below (gQv E A LC LS res) args s R.cells R.slots A) (F0 m 2 ls [])) : ∀ n : Nat, ∀ (x0 : Nat) (x1 : Nat) (x2 : Int32) (x3 : Int32) (w : GS) (H : Heap) (locs : List Loc) (ls : Array Slot), B_X1_looks_p10 k2 n x0 x1 x2 x3 w = some res → gH E A LC LS s w H locs → lv_has ls 4 [(0, .ref x0), (1, .ref x1), (2, .int x2), (3, .int x3)] → W p l e R s m args below meth c H locs (H.size - s.heap.size) (tot H - tot s.heap) (MQ below (gQv E A LC LS res) args s R.cells R.slots A) (F0 m 10 ls []) := by
  intro n
  induction n with
  | zero => intro x0 x1 x2 x3 w H locs ls h; cases (show (none : Option GS) = some res from h)
  | succ n ih =>
    intro x0 x1 x2 x3 w H locs ls h hw hl
    rw [B_X1_looks_p10] at h
    refine lv_iload_n S.1 S.2.1 dX1_looks_10 rfl (lv_at hl 3 rfl) ?_
    refine lv_sipush (v := 240) S.1 S.2.1 dX1_looks_11 rfl ?_
    refine lv_icmp_gt (tgt := 32) S.1 S.2.1 dX1_looks_14 rfl (fun c19 => ?_) (fun c19 => ?_)
    · replace h := if_t c19 h
      refine lv_iinc (v := x2 + (1 : Int32)) (lv' := [(2, .int (x2 + (1 : Int32))), (0, .ref x0), (1, .ref x1), (3, .int x3)]) S.1 S.2.1 dX1_looks_32 hl (k := 2) rfl rfl (by decide) rfl (fun ls hl => ?_)
      refine lv_goto (tgt := 2) S.1 S.2.1 dX1_looks_35 rfl ?_
      exact hk2 _ _ _ _ _ _ _ h hw (lv_sub hl [1, 2, 0] rfl)
    · replace h := if_f c19 h
      refine lv_aload_n S.1 S.2.1 dX1_looks_17 rfl (lv_at hl 0 rfl) ?_
      refine ggX1_92 S X hw dX1_looks_18 h (fun a20 h => ?_)
      refine lv_iload_n S.1 S.2.1 dX1_looks_21 rfl (lv_at hl 2 rfl) ?_
      refine gald46 S X hw dX1_looks_22 h (fun a21 h => ?_)
      refine lv_iload_n S.1 S.2.1 dX1_looks_23 rfl (lv_at hl 3 rfl) ?_
      refine lv_iconst (v := 0) S.1 S.2.1 dX1_looks_24 rfl ?_
      refine gast40 S X hw dX1_looks_25 h (fun w22 H locs h hw => ?_)
      refine lv_iinc (v := x3 + (1 : Int32)) (lv' := [(3, .int (x3 + (1 : Int32))), (0, .ref x0), (1, .ref x1), (2, .int x2)]) S.1 S.2.1 dX1_looks_26 hl (k := 3) rfl rfl (by decide) rfl (fun ls hl => ?_)
      refine lv_goto (tgt := 10) S.1 S.2.1 dX1_looks_29 rfl ?_
      exact ih _ _ _ _ _ _ _ _ h hw (lv_sub hl [1, 2, 3, 0] rfl)
set_option maxRecDepth 100000 in
set_option maxHeartbeats 4000000 in
theorem wk_B_X1_looks_p2 {p : Program} {l : Launch} {e : Env} {R : Room} {s : State} {m : MethodId} {args : Array Value} {below : List Frame} {meth : Method} {c : Code} {E : gE} {A : Nat → Prop} {LC LS : Nat} (S : CallFix p m c cX1_looks 4 s args lw_all RX1) (X : gCtx E A s) (Z : gRm R s LC LS) (hF : 2 ≤ R.frames) (hL : 49 ≤ R.locals) (hr : meth.sig.returnType = (Option.none : Option Jvm.ClassFile.FieldType)) (hlocks : meth.locks = false) {res : GS}  : ∀ n : Nat, ∀ (x0 : Nat) (x1 : Nat) (x2 : Int32) (w : GS) (H : Heap) (locs : List Loc) (ls : Array Slot), B_X1_looks_p2 n x0 x1 x2 w = some res → gH E A LC LS s w H locs → lv_has ls 4 [(0, .ref x0), (1, .ref x1), (2, .int x2)] → W p l e R s m args below meth c H locs (H.size - s.heap.size) (tot H - tot s.heap) (MQ below (gQv E A LC LS res) args s R.cells R.slots A) (F0 m 2 ls []) := by
  intro n
  induction n with
  | zero => intro x0 x1 x2 w H locs ls h; cases (show (none : Option GS) = some res from h)
  | succ n ih =>
    intro x0 x1 x2 w H locs ls h hw hl
    rw [B_X1_looks_p2] at h
    refine lv_iload_n S.1 S.2.1 dX1_looks_2 rfl (lv_at hl 2 rfl) ?_
    refine lv_bipush (v := 6) S.1 S.2.1 dX1_looks_3 rfl ?_
    refine lv_icmp_ge (tgt := 38) S.1 S.2.1 dX1_looks_5 rfl (fun c1 => ?_) (fun c1 => ?_)
    · replace h := if_t c1 h
      refine lv_aload_n S.1 S.2.1 dX1_looks_38 rfl (lv_at hl 0 rfl) ?_
      refine lv_iconst (v := 0) S.1 S.2.1 dX1_looks_39 rfl ?_
      refine gpX1_375 S X hw dX1_looks_40 h (fun w2 H locs h hw => ?_)
      refine lv_aload_n S.1 S.2.1 dX1_looks_43 rfl (lv_at hl 0 rfl) ?_
      refine lv_iconst (v := -1) S.1 S.2.1 dX1_looks_44 rfl ?_
      refine gpX1_378 S X hw dX1_looks_45 h (fun w3 H locs h hw => ?_)
      refine lv_iconst (v := 0) S.1 S.2.1 dX1_looks_48 rfl ?_
      refine lv_istore_n (lv' := [(2, .int (0 : Int32)), (0, .ref x0), (1, .ref x1)]) S.1 S.2.1 dX1_looks_49 rfl hl (by decide) rfl (fun ls hl => ?_)
      exact wk_B_X1_looks_p50 S X Z hF hL hr hlocks  FU _ _ _ _ _ _ _ h hw (lv_sub hl [1, 2, 0] rfl)
    · replace h := if_f c1 h
      refine lv_iconst (v := 0) S.1 S.2.1 dX1_looks_8 rfl ?_
      refine lv_istore_n (lv' := [(3, .int (0 : Int32)), (0, .ref x0), (1, .ref x1), (2, .int x2)]) S.1 S.2.1 dX1_looks_9 rfl hl (by decide) rfl (fun ls hl => ?_)
      exact wk_B_X1_looks_p10 S X Z hF hL hr hlocks  ih FU _ _ _ _ _ _ _ _ h hw (lv_sub hl [1, 2, 3, 0] rfl)
set_option maxRecDepth 100000 in
set_option maxHeartbeats 4000000 in
theorem met_B_X1_looks (l : Launch) (E : gE) (A : Nat → Prop) (LC LS : Nat)  (x0 : Nat) (x1 : Nat) (w : GS) (res : GS) (h : B_X1_looks x0 x1 w = some res) : Met l yX1_looks (ws_ yX1_looks cX1_looks 4 (Option.none : Option Jvm.ClassFile.FieldType)) (gRoom 2 49 LC LS w) (gPc E A LC LS [.ref x0, .ref x1] w) (gQv E A LC LS res) (LC - gZ w) (LS - gN w) A := by
  refine gMet (by decide) rfl (Nat.le_of_ble_eq_true rfl) ?_
  intro p e s m below meth c R S hr hlocks hin2 X Z hF hL H ls hw hl
  replace hl : lv_has ls 4 [(0, .ref x0), (1, .ref x1)] := hl
  unfold B_X1_looks at h
  refine lv_iconst (v := 0) S.1 S.2.1 dX1_looks_0 rfl ?_
  refine lv_istore_n (lv' := [(2, .int (0 : Int32)), (0, .ref x0), (1, .ref x1)]) S.1 S.2.1 dX1_looks_1 rfl hl (by decide) rfl (fun ls hl => ?_)
  exact wk_B_X1_looks_p2 S X Z hF hL hr hlocks  FU _ _ _ _ _ _ _ h hw (lv_sub hl [1, 2, 0] rfl)
theorem cb_X1_389 {R : Room} {s : State} {args : Array Value} {rm : Room} {mc ms : Nat} (hts : ∀ w ∈ lw_all, w.before args s = true) (hc : rm.cells = mc) (hs : rm.slots = ms) (hR : rm.frames + 1 ≤ R.frames ∧ 8 + (4 + 11) + rm.locals ≤ R.locals) : CallW R s args RX1 RX1 389 yX1_looks cX1_looks 4 (Option.none : Option Jvm.ClassFile.FieldType) (ws_ yX1_looks cX1_looks 4 (Option.none : Option Jvm.ClassFile.FieldType)) rm mc ms 1 := cwV 1 hts (lw_V q1607 q1609 qs52 q135 q1610) rfl hc hs (by decide +kernel) hR
def B_X1_days (x0 : Nat) (x1 : Int32) (w : GS) : Option (Int32 × GS) :=
  bd1 (oK w x0 1 1) fun _ =>
  bd1 (B_X1_isTenant x0 x1 w) fun r1 =>
  if r1 = 0 then
    some ((-1 : Int32), w)
  else
    bd1 (oK w x0 1 1) fun _ =>
    bd1 (B_X1_tenant_2 x0 x1 w) fun a3 =>
    bd1 (oK w x0 1 1) fun _ =>
    bd1 (B_X1_looks x0 a3 w) fun w4 =>
    bd1 (oI w4 x0 1 1 21) fun v5 =>
    some (v5, w4)
set_option maxRecDepth 100000 in
set_option maxHeartbeats 4000000 in
theorem met_B_X1_days (l : Launch) (E : gE) (A : Nat → Prop) (LC LS : Nat)  (x0 : Nat) (x1 : Int32) (w : GS) (res : Int32 × GS) (h : B_X1_days x0 x1 w = some res) : Met l yX1_days (ws_ yX1_days cX1_days 2 (Option.some Jvm.ClassFile.FieldType.int)) (gRoom 4 85 LC LS w) (gPc E A LC LS [.ref x0, .int x1] w) (gQi E A LC LS res.1 res.2) (LC - gZ w) (LS - gN w) A := by
  refine gMet (by decide) rfl (Nat.le_of_ble_eq_true rfl) ?_
  intro p e s m below meth c R S hr hlocks hin2 X Z hF hL H ls hw hl
  replace hl : lv_has ls 2 [(0, .ref x0), (1, .int x1)] := hl
  unfold B_X1_days at h
  refine lv_aload_n S.1 S.2.1 dX1_days_0 rfl (lv_at hl 0 rfl) ?_
  refine lv_iload_n S.1 S.2.1 dX1_days_1 rfl (lv_at hl 1 rfl) ?_
  obtain ⟨hrc, h⟩ := oK1 h
  refine gcVri (As := [.int x1]) (rest := []) S X Z hw (b := x0) h (fun u h1 => met_B_X1_isTenant l E A LC LS x0 x1 w u h1) (cb_X1_159 S.2.2.2.2 rfl rfl ⟨Nat.le_trans (Nat.le_of_ble_eq_true rfl : 2 + 1 ≤ 4) hF, Nat.le_trans (Nat.le_of_ble_eq_true rfl : 8 + (2 + 11) + 40 ≤ 85) hL⟩) (g_recv X hw (ci := 0) rfl (gcell_1 hrc)) rfl hl.1 rfl (lv_room (Nat.le_of_ble_eq_true rfl)) dX1_days_2 (fun r1 H locs h hw => ?_)
  refine lv_if_ne (tgt := 10) S.1 S.2.1 dX1_days_5 rfl (fun c2 => ?_) (fun c2 => ?_)
  · replace h := if_f c2 h
    refine lv_aload_n S.1 S.2.1 dX1_days_10 rfl (lv_at hl 0 rfl) ?_
    refine lv_aload_n S.1 S.2.1 dX1_days_11 rfl (lv_at hl 0 rfl) ?_
    refine lv_iload_n S.1 S.2.1 dX1_days_12 rfl (lv_at hl 1 rfl) ?_
    obtain ⟨hrc, h⟩ := oK1 h
    refine gcVrr (As := [.int x1]) (rest := [.ref x0]) S X Z hw (b := x0) h (fun u h1 => met_B_X1_tenant_2 l E A LC LS x0 x1 w u h1) (cb_X1_166 S.2.2.2.2 rfl rfl ⟨Nat.le_trans (Nat.le_of_ble_eq_true rfl : 3 + 1 ≤ 4) hF, Nat.le_trans (Nat.le_of_ble_eq_true rfl : 8 + (2 + 11) + 64 ≤ 85) hL⟩) (g_recv X hw (ci := 0) rfl (gcell_1 hrc)) rfl hl.1 rfl (lv_room (Nat.le_of_ble_eq_true rfl)) dX1_days_13 (fun a3 H locs h hw => ?_)
    obtain ⟨hrc, h⟩ := oK1 h
    refine gcVv (As := [.ref a3]) (rest := []) S X Z hw (b := x0) h (fun u h1 => met_B_X1_looks l E A LC LS x0 a3 w u h1) (cb_X1_389 S.2.2.2.2 rfl rfl ⟨Nat.le_trans (Nat.le_of_ble_eq_true rfl : 2 + 1 ≤ 4) hF, Nat.le_trans (Nat.le_of_ble_eq_true rfl : 8 + (4 + 11) + 49 ≤ 85) hL⟩) (g_recv X hw (ci := 0) rfl (gcell_1 hrc)) rfl hl.1 rfl (lv_room (Nat.le_of_ble_eq_true rfl)) dX1_days_16 (fun w4 H locs h hw => ?_)
    refine lv_aload_n S.1 S.2.1 dX1_days_19 rfl (lv_at hl 0 rfl) ?_
    refine ggX1_375 S X hw dX1_days_20 h (fun v5 h => ?_)
    exact g_iret S Z hr hlocks hw (so2 h) dX1_days_23
  · replace h := if_t c2 h
    refine lv_iconst (v := -1) S.1 S.2.1 dX1_days_8 rfl ?_
    exact g_iret S Z hr hlocks hw (so2 h) dX1_days_9
def B_X1_did (x0 : Nat) (x1 : Int32) (x2 : Int32) (w : GS) : Option (Int32 × GS) :=
  bd1 (oK w x0 1 1) fun _ =>
  bd1 (B_X1_isTenant x0 x1 w) fun r1 =>
  if r1 = 0 then
    some ((-1 : Int32), w)
  else
    if (B_X1_in x2 (0 : Int32) (5 : Int32)) = 0 then
      some ((-1 : Int32), w)
    else
      bd1 (oK w x0 1 1) fun _ =>
      bd1 (B_X1_tenant_2 x0 x1 w) fun a4 =>
      bd1 (oK w x0 1 1) fun _ =>
      bd1 (B_X1_looks x0 a4 w) fun w5 =>
      bd1 (oI w5 x0 1 1 21) fun v6 =>
      if v6 = 0 then
        some ((-1 : Int32), w5)
      else
        bd1 (oI w5 x0 1 1 22) fun v8 =>
        bd1 (B_X1_didIn v8 x2 w5) fun r9 =>
        some (r9, w5)
set_option maxRecDepth 100000 in
set_option maxHeartbeats 4000000 in
theorem met_B_X1_did (l : Launch) (E : gE) (A : Nat → Prop) (LC LS : Nat)  (x0 : Nat) (x1 : Int32) (x2 : Int32) (w : GS) (res : Int32 × GS) (h : B_X1_did x0 x1 x2 w = some res) : Met l yX1_did (ws_ yX1_did cX1_did 3 (Option.some Jvm.ClassFile.FieldType.int)) (gRoom 4 85 LC LS w) (gPc E A LC LS [.ref x0, .int x1, .int x2] w) (gQi E A LC LS res.1 res.2) (LC - gZ w) (LS - gN w) A := by
  refine gMet (by decide) rfl (Nat.le_of_ble_eq_true rfl) ?_
  intro p e s m below meth c R S hr hlocks hin2 X Z hF hL H ls hw hl
  replace hl : lv_has ls 3 [(0, .ref x0), (1, .int x1), (2, .int x2)] := hl
  unfold B_X1_did at h
  refine lv_aload_n S.1 S.2.1 dX1_did_0 rfl (lv_at hl 0 rfl) ?_
  refine lv_iload_n S.1 S.2.1 dX1_did_1 rfl (lv_at hl 1 rfl) ?_
  obtain ⟨hrc, h⟩ := oK1 h
  refine gcVri (As := [.int x1]) (rest := []) S X Z hw (b := x0) h (fun u h1 => met_B_X1_isTenant l E A LC LS x0 x1 w u h1) (cb_X1_159 S.2.2.2.2 rfl rfl ⟨Nat.le_trans (Nat.le_of_ble_eq_true rfl : 2 + 1 ≤ 4) hF, Nat.le_trans (Nat.le_of_ble_eq_true rfl : 8 + (2 + 11) + 40 ≤ 85) hL⟩) (g_recv X hw (ci := 0) rfl (gcell_1 hrc)) rfl hl.1 rfl (lv_room (Nat.le_of_ble_eq_true rfl)) dX1_did_2 (fun r1 H locs h hw => ?_)
  refine lv_if_eq (tgt := 17) S.1 S.2.1 dX1_did_5 rfl (fun c2 => ?_) (fun c2 => ?_)
  · replace h := if_t c2 h
    refine lv_iconst (v := -1) S.1 S.2.1 dX1_did_17 rfl ?_
    exact g_iret S Z hr hlocks hw (so2 h) dX1_did_18
  · replace h := if_f c2 h
    refine lv_iload_n S.1 S.2.1 dX1_did_8 rfl (lv_at hl 2 rfl) ?_
    refine lv_iconst (v := 0) S.1 S.2.1 dX1_did_9 rfl ?_
    refine lv_iconst (v := 5) S.1 S.2.1 dX1_did_10 rfl ?_
    refine gcSti (As := [.int x2, .int (0 : Int32), .int (5 : Int32)]) (rest := []) S X Z hw (met_B_X1_in l E A LC LS x2 (0 : Int32) (5 : Int32) w _ rfl) (cb_X1_153 S.2.2.2.2 rfl rfl ⟨Nat.le_trans (Nat.le_of_ble_eq_true rfl : 0 + 1 ≤ 4) hF, Nat.le_trans (Nat.le_of_ble_eq_true rfl : 8 + (3 + 11) + 0 ≤ 85) hL⟩) rfl hl.1 rfl (lv_room (Nat.le_of_ble_eq_true rfl)) dX1_did_11 (fun H locs hw => ?_)
    refine lv_if_ne (tgt := 19) S.1 S.2.1 dX1_did_14 rfl (fun c3 => ?_) (fun c3 => ?_)
    · replace h := if_f c3 h
      refine lv_aload_n S.1 S.2.1 dX1_did_19 rfl (lv_at hl 0 rfl) ?_
      refine lv_aload_n S.1 S.2.1 dX1_did_20 rfl (lv_at hl 0 rfl) ?_
      refine lv_iload_n S.1 S.2.1 dX1_did_21 rfl (lv_at hl 1 rfl) ?_
      obtain ⟨hrc, h⟩ := oK1 h
      refine gcVrr (As := [.int x1]) (rest := [.ref x0]) S X Z hw (b := x0) h (fun u h1 => met_B_X1_tenant_2 l E A LC LS x0 x1 w u h1) (cb_X1_166 S.2.2.2.2 rfl rfl ⟨Nat.le_trans (Nat.le_of_ble_eq_true rfl : 3 + 1 ≤ 4) hF, Nat.le_trans (Nat.le_of_ble_eq_true rfl : 8 + (2 + 11) + 64 ≤ 85) hL⟩) (g_recv X hw (ci := 0) rfl (gcell_1 hrc)) rfl hl.1 rfl (lv_room (Nat.le_of_ble_eq_true rfl)) dX1_did_22 (fun a4 H locs h hw => ?_)
      obtain ⟨hrc, h⟩ := oK1 h
      refine gcVv (As := [.ref a4]) (rest := []) S X Z hw (b := x0) h (fun u h1 => met_B_X1_looks l E A LC LS x0 a4 w u h1) (cb_X1_389 S.2.2.2.2 rfl rfl ⟨Nat.le_trans (Nat.le_of_ble_eq_true rfl : 2 + 1 ≤ 4) hF, Nat.le_trans (Nat.le_of_ble_eq_true rfl : 8 + (4 + 11) + 49 ≤ 85) hL⟩) (g_recv X hw (ci := 0) rfl (gcell_1 hrc)) rfl hl.1 rfl (lv_room (Nat.le_of_ble_eq_true rfl)) dX1_did_25 (fun w5 H locs h hw => ?_)
      refine lv_aload_n S.1 S.2.1 dX1_did_28 rfl (lv_at hl 0 rfl) ?_
      refine ggX1_375 S X hw dX1_did_29 h (fun v6 h => ?_)
      refine lv_if_ne (tgt := 39) S.1 S.2.1 dX1_did_32 rfl (fun c7 => ?_) (fun c7 => ?_)
      · replace h := if_f c7 h
        refine lv_aload_n S.1 S.2.1 dX1_did_39 rfl (lv_at hl 0 rfl) ?_
        refine ggX1_378 S X hw dX1_did_40 h (fun v8 h => ?_)
        refine lv_iload_n S.1 S.2.1 dX1_did_43 rfl (lv_at hl 2 rfl) ?_
        refine gcSri (As := [.int v8, .int x2]) (rest := []) S X Z hw h (fun u h1 => met_B_X1_didIn l E A LC LS v8 x2 w5 u h1) (cb_X1_372 S.2.2.2.2 rfl rfl ⟨Nat.le_trans (Nat.le_of_ble_eq_true rfl : 0 + 1 ≤ 4) hF, Nat.le_trans (Nat.le_of_ble_eq_true rfl : 8 + (4 + 11) + 0 ≤ 85) hL⟩) rfl hl.1 rfl (lv_room (Nat.le_of_ble_eq_true rfl)) dX1_did_44 (fun r9 H locs h hw => ?_)
        exact g_iret S Z hr hlocks hw (so2 h) dX1_did_47
      · replace h := if_t c7 h
        refine lv_iconst (v := -1) S.1 S.2.1 dX1_did_35 rfl ?_
        refine lv_goto (tgt := 47) S.1 S.2.1 dX1_did_36 rfl ?_
        exact g_iret S Z hr hlocks hw (so2 h) dX1_did_47
    · replace h := if_t c3 h
      refine lv_iconst (v := -1) S.1 S.2.1 dX1_did_17 rfl ?_
      exact g_iret S Z hr hlocks hw (so2 h) dX1_did_18
def B_X1_next_p42 (k29 : Nat → Int32 → Int32 → Int32 → GS → Option (Int32 × GS)) : Nat → Nat → Int32 → Int32 → Int32 → Int32 → Int32 → GS → Option (Int32 × GS)
  | 0, _, _, _, _, _, _, _ => none
  | n + 1, x0, x2, x3, x4, x5, x6, w =>
    if (240 : Int32) < x6 then
      if x5 < x3 then
        k29 x0 x4 x5 (x4 + (1 : Int32)) w
      else
        k29 x0 x2 x3 (x4 + (1 : Int32)) w
    else
      bd1 (oRn w x0 1 1 20) fun a9 =>
      bd1 (aRn w a9 46 x4) fun a10 =>
      bd1 (aI w a10 40 x6) fun v11 =>
      bdp ((if x5 < v11 then v11 else x5)) fun y12 =>
      (B_X1_next_p42 k29 n) x0 x2 x3 x4 y12 (x6 + (1 : Int32)) w
def B_X1_next_p29 : Nat → Nat → Int32 → Int32 → Int32 → GS → Option (Int32 × GS)
  | 0, _, _, _, _, _ => none
  | n + 1, x0, x2, x3, x4, w =>
    if (6 : Int32) ≤ x4 then
      some (x2, w)
    else
      B_X1_next_p42 (B_X1_next_p29 n) FU x0 x2 x3 x4 (0 : Int32) (0 : Int32) w
def B_X1_next (x0 : Nat) (x1 : Int32) (w : GS) : Option (Int32 × GS) :=
  bd1 (oK w x0 1 1) fun _ =>
  bd1 (B_X1_isTenant x0 x1 w) fun r1 =>
  if r1 = 0 then
    some ((-1 : Int32), w)
  else
    bd1 (oK w x0 1 1) fun _ =>
    bd1 (B_X1_tenant_2 x0 x1 w) fun a3 =>
    bd1 (oK w x0 1 1) fun _ =>
    bd1 (B_X1_looks x0 a3 w) fun w4 =>
    bd1 (oI w4 x0 1 1 21) fun v5 =>
    B_X1_next_p29 FU x0 (-1 : Int32) v5 (0 : Int32) w4
set_option maxRecDepth 100000 in
set_option maxHeartbeats 4000000 in
theorem wk_B_X1_next_p42 {p : Program} {l : Launch} {e : Env} {R : Room} {s : State} {m : MethodId} {args : Array Value} {below : List Frame} {meth : Method} {c : Code} {E : gE} {A : Nat → Prop} {LC LS : Nat} (S : CallFix p m c cX1_next 7 s args lw_all RX1) (X : gCtx E A s) (Z : gRm R s LC LS) (hF : 4 ≤ R.frames) (hL : 85 ≤ R.locals) (hr : meth.sig.returnType = (Option.some Jvm.ClassFile.FieldType.int)) (hlocks : meth.locks = false) {res : Int32 × GS}  {k29 : Nat → Int32 → Int32 → Int32 → GS → Option (Int32 × GS)} (hk29 : ∀ (x0 : Nat) (x2 : Int32) (x3 : Int32) (x4 : Int32) (w : GS) (H : Heap) (locs : List Loc) (ls : Array Slot), k29 x0 x2 x3 x4 w = some res → gH E A LC LS s w H locs → lv_has ls 7 [(0, .ref x0), (2, .int x2), (3, .int x3), (4, .int x4)] → W p l e R s m args below meth c H locs (H.size - s.heap.size) (tot H - tot s.heap) (MQ below (gQi E A LC LS res.1 res.2) args s R.cells R.slots A) (F0 m 29 ls [])) : ∀ n : Nat, ∀ (x0 : Nat) (x2 : Int32) (x3 : Int32) (x4 : Int32) (x5 : Int32) (x6 : Int32) (w : GS) (H : Heap) (locs : List Loc) (ls : Array Slot), B_X1_next_p42 k29 n x0 x2 x3 x4 x5 x6 w = some res → gH E A LC LS s w H locs → lv_has ls 7 [(0, .ref x0), (2, .int x2), (3, .int x3), (4, .int x4), (5, .int x5), (6, .int x6)] → W p l e R s m args below meth c H locs (H.size - s.heap.size) (tot H - tot s.heap) (MQ below (gQi E A LC LS res.1 res.2) args s R.cells R.slots A) (F0 m 42 ls []) := by
  intro n
  induction n with
  | zero => intro x0 x2 x3 x4 x5 x6 w H locs ls h; cases (show (none : Option (Int32 × GS)) = some res from h)
  | succ n ih =>
    intro x0 x2 x3 x4 x5 x6 w H locs ls h hw hl
    rw [B_X1_next_p42] at h
    refine lv_iload S.1 S.2.1 dX1_next_42 (lv_at hl 5 rfl) ?_
    refine lv_sipush (v := 240) S.1 S.2.1 dX1_next_44 rfl ?_
    refine lv_icmp_gt (tgt := 73) S.1 S.2.1 dX1_next_47 rfl (fun c7 => ?_) (fun c7 => ?_)
    · replace h := if_t c7 h
      refine lv_iload S.1 S.2.1 dX1_next_73 (lv_at hl 4 rfl) ?_
      refine lv_iload_n S.1 S.2.1 dX1_next_75 rfl (lv_at hl 2 rfl) ?_
      refine lv_icmp_lt (tgt := 82) S.1 S.2.1 dX1_next_76 rfl (fun c8 => ?_) (fun c8 => ?_)
      · replace h := if_t c8 h
        refine lv_iload S.1 S.2.1 dX1_next_82 (lv_at hl 4 rfl) ?_
        refine lv_istore_n (lv' := [(3, .int x5), (0, .ref x0), (2, .int x2), (4, .int x4), (5, .int x5), (6, .int x6)]) S.1 S.2.1 dX1_next_84 rfl hl (by decide) rfl (fun ls hl => ?_)
        refine lv_iload S.1 S.2.1 dX1_next_85 (lv_at hl 3 rfl) ?_
        refine lv_istore_n (lv' := [(2, .int x4), (3, .int x5), (0, .ref x0), (4, .int x4), (5, .int x5), (6, .int x6)]) S.1 S.2.1 dX1_next_87 rfl hl (by decide) rfl (fun ls hl => ?_)
        refine lv_iinc (v := x4 + (1 : Int32)) (lv' := [(4, .int (x4 + (1 : Int32))), (2, .int x4), (3, .int x5), (0, .ref x0), (5, .int x5), (6, .int x6)]) S.1 S.2.1 dX1_next_88 hl (k := 3) rfl rfl (by decide) rfl (fun ls hl => ?_)
        refine lv_goto (tgt := 29) S.1 S.2.1 dX1_next_91 rfl ?_
        exact hk29 _ _ _ _ _ _ _ _ h hw (lv_sub hl [3, 1, 2, 0] rfl)
      · replace h := if_f c8 h
        refine lv_goto (tgt := 88) S.1 S.2.1 dX1_next_79 rfl ?_
        refine lv_iinc (v := x4 + (1 : Int32)) (lv' := [(4, .int (x4 + (1 : Int32))), (0, .ref x0), (2, .int x2), (3, .int x3), (5, .int x5), (6, .int x6)]) S.1 S.2.1 dX1_next_88 hl (k := 3) rfl rfl (by decide) rfl (fun ls hl => ?_)
        refine lv_goto (tgt := 29) S.1 S.2.1 dX1_next_91 rfl ?_
        exact hk29 _ _ _ _ _ _ _ _ h hw (lv_sub hl [1, 2, 3, 0] rfl)
    · replace h := if_f c7 h
      refine lv_iload S.1 S.2.1 dX1_next_50 (lv_at hl 4 rfl) ?_
      refine lv_aload_n S.1 S.2.1 dX1_next_52 rfl (lv_at hl 0 rfl) ?_
      refine ggX1_92 S X hw dX1_next_53 h (fun a9 h => ?_)
      refine lv_iload S.1 S.2.1 dX1_next_56 (lv_at hl 3 rfl) ?_
      refine gald46 S X hw dX1_next_58 h (fun a10 h => ?_)
      refine lv_iload S.1 S.2.1 dX1_next_59 (lv_at hl 5 rfl) ?_
      refine gald40 S X hw dX1_next_61 h (fun v11 h => ?_)
      refine va_mmax (x := x5) (y := v11) (rest := []) S.1 S.2.1 (S.2.2.1.trans hl.1.symm) S.2.2.2.1 (S.2.2.2.2 _ q1398) (S.2.2.2.2 _ q506) (S.2.2.2.2 _ q147) (S.2.2.2.2 _ q507) (Nat.le_trans (Nat.le_of_ble_eq_true rfl) hF) (Nat.le_trans (Nat.le_of_ble_eq_true rfl : (([] : List Value).map fun v : Value => v.category).sum + 13 ≤ 21) (Nat.le_trans (Nat.le_of_ble_eq_true rfl) hL)) (gRm_le Z hw).1 (gRm_le Z hw).2 dX1_next_62 ?_
      refine lv_topi (fun y12 ey => ?_)
      replace h := bdp_e ey h
      refine lv_istore (lv' := [(5, .int y12), (0, .ref x0), (2, .int x2), (3, .int x3), (4, .int x4), (6, .int x6)]) S.1 S.2.1 dX1_next_65 hl (by decide) rfl (fun ls hl => ?_)
      refine lv_iinc (v := x6 + (1 : Int32)) (lv' := [(6, .int (x6 + (1 : Int32))), (5, .int y12), (0, .ref x0), (2, .int x2), (3, .int x3), (4, .int x4)]) S.1 S.2.1 dX1_next_67 hl (k := 5) rfl rfl (by decide) rfl (fun ls hl => ?_)
      refine lv_goto (tgt := 42) S.1 S.2.1 dX1_next_70 rfl ?_
      exact ih _ _ _ _ _ _ _ _ _ _ h hw (lv_sub hl [2, 3, 4, 5, 1, 0] rfl)
set_option maxRecDepth 100000 in
set_option maxHeartbeats 4000000 in
theorem wk_B_X1_next_p29 {p : Program} {l : Launch} {e : Env} {R : Room} {s : State} {m : MethodId} {args : Array Value} {below : List Frame} {meth : Method} {c : Code} {E : gE} {A : Nat → Prop} {LC LS : Nat} (S : CallFix p m c cX1_next 7 s args lw_all RX1) (X : gCtx E A s) (Z : gRm R s LC LS) (hF : 4 ≤ R.frames) (hL : 85 ≤ R.locals) (hr : meth.sig.returnType = (Option.some Jvm.ClassFile.FieldType.int)) (hlocks : meth.locks = false) {res : Int32 × GS}  : ∀ n : Nat, ∀ (x0 : Nat) (x2 : Int32) (x3 : Int32) (x4 : Int32) (w : GS) (H : Heap) (locs : List Loc) (ls : Array Slot), B_X1_next_p29 n x0 x2 x3 x4 w = some res → gH E A LC LS s w H locs → lv_has ls 7 [(0, .ref x0), (2, .int x2), (3, .int x3), (4, .int x4)] → W p l e R s m args below meth c H locs (H.size - s.heap.size) (tot H - tot s.heap) (MQ below (gQi E A LC LS res.1 res.2) args s R.cells R.slots A) (F0 m 29 ls []) := by
  intro n
  induction n with
  | zero => intro x0 x2 x3 x4 w H locs ls h; cases (show (none : Option (Int32 × GS)) = some res from h)
  | succ n ih =>
    intro x0 x2 x3 x4 w H locs ls h hw hl
    rw [B_X1_next_p29] at h
    refine lv_iload S.1 S.2.1 dX1_next_29 (lv_at hl 3 rfl) ?_
    refine lv_bipush (v := 6) S.1 S.2.1 dX1_next_31 rfl ?_
    refine lv_icmp_ge (tgt := 94) S.1 S.2.1 dX1_next_33 rfl (fun c6 => ?_) (fun c6 => ?_)
    · replace h := if_t c6 h
      refine lv_iload_n S.1 S.2.1 dX1_next_94 rfl (lv_at hl 1 rfl) ?_
      exact g_iret S Z hr hlocks hw (so2 h) dX1_next_95
    · replace h := if_f c6 h
      refine lv_iconst (v := 0) S.1 S.2.1 dX1_next_36 rfl ?_
      refine lv_istore (lv' := [(5, .int (0 : Int32)), (0, .ref x0), (2, .int x2), (3, .int x3), (4, .int x4)]) S.1 S.2.1 dX1_next_37 hl (by decide) rfl (fun ls hl => ?_)
      refine lv_iconst (v := 0) S.1 S.2.1 dX1_next_39 rfl ?_
      refine lv_istore (lv' := [(6, .int (0 : Int32)), (5, .int (0 : Int32)), (0, .ref x0), (2, .int x2), (3, .int x3), (4, .int x4)]) S.1 S.2.1 dX1_next_40 hl (by decide) rfl (fun ls hl => ?_)
      exact wk_B_X1_next_p42 S X Z hF hL hr hlocks  ih FU _ _ _ _ _ _ _ _ _ _ h hw (lv_sub hl [2, 3, 4, 5, 1, 0] rfl)
set_option maxRecDepth 100000 in
set_option maxHeartbeats 4000000 in
theorem met_B_X1_next (l : Launch) (E : gE) (A : Nat → Prop) (LC LS : Nat)  (x0 : Nat) (x1 : Int32) (w : GS) (res : Int32 × GS) (h : B_X1_next x0 x1 w = some res) : Met l yX1_next (ws_ yX1_next cX1_next 7 (Option.some Jvm.ClassFile.FieldType.int)) (gRoom 4 85 LC LS w) (gPc E A LC LS [.ref x0, .int x1] w) (gQi E A LC LS res.1 res.2) (LC - gZ w) (LS - gN w) A := by
  refine gMet (by decide) rfl (Nat.le_of_ble_eq_true rfl) ?_
  intro p e s m below meth c R S hr hlocks hin2 X Z hF hL H ls hw hl
  replace hl : lv_has ls 7 [(0, .ref x0), (1, .int x1)] := hl
  unfold B_X1_next at h
  refine lv_aload_n S.1 S.2.1 dX1_next_0 rfl (lv_at hl 0 rfl) ?_
  refine lv_iload_n S.1 S.2.1 dX1_next_1 rfl (lv_at hl 1 rfl) ?_
  obtain ⟨hrc, h⟩ := oK1 h
  refine gcVri (As := [.int x1]) (rest := []) S X Z hw (b := x0) h (fun u h1 => met_B_X1_isTenant l E A LC LS x0 x1 w u h1) (cb_X1_159 S.2.2.2.2 rfl rfl ⟨Nat.le_trans (Nat.le_of_ble_eq_true rfl : 2 + 1 ≤ 4) hF, Nat.le_trans (Nat.le_of_ble_eq_true rfl : 8 + (2 + 11) + 40 ≤ 85) hL⟩) (g_recv X hw (ci := 0) rfl (gcell_1 hrc)) rfl hl.1 rfl (lv_room (Nat.le_of_ble_eq_true rfl)) dX1_next_2 (fun r1 H locs h hw => ?_)
  refine lv_if_ne (tgt := 10) S.1 S.2.1 dX1_next_5 rfl (fun c2 => ?_) (fun c2 => ?_)
  · replace h := if_f c2 h
    refine lv_aload_n S.1 S.2.1 dX1_next_10 rfl (lv_at hl 0 rfl) ?_
    refine lv_aload_n S.1 S.2.1 dX1_next_11 rfl (lv_at hl 0 rfl) ?_
    refine lv_iload_n S.1 S.2.1 dX1_next_12 rfl (lv_at hl 1 rfl) ?_
    obtain ⟨hrc, h⟩ := oK1 h
    refine gcVrr (As := [.int x1]) (rest := [.ref x0]) S X Z hw (b := x0) h (fun u h1 => met_B_X1_tenant_2 l E A LC LS x0 x1 w u h1) (cb_X1_166 S.2.2.2.2 rfl rfl ⟨Nat.le_trans (Nat.le_of_ble_eq_true rfl : 3 + 1 ≤ 4) hF, Nat.le_trans (Nat.le_of_ble_eq_true rfl : 8 + (2 + 11) + 64 ≤ 85) hL⟩) (g_recv X hw (ci := 0) rfl (gcell_1 hrc)) rfl hl.1 rfl (lv_room (Nat.le_of_ble_eq_true rfl)) dX1_next_13 (fun a3 H locs h hw => ?_)
    obtain ⟨hrc, h⟩ := oK1 h
    refine gcVv (As := [.ref a3]) (rest := []) S X Z hw (b := x0) h (fun u h1 => met_B_X1_looks l E A LC LS x0 a3 w u h1) (cb_X1_389 S.2.2.2.2 rfl rfl ⟨Nat.le_trans (Nat.le_of_ble_eq_true rfl : 2 + 1 ≤ 4) hF, Nat.le_trans (Nat.le_of_ble_eq_true rfl : 8 + (4 + 11) + 49 ≤ 85) hL⟩) (g_recv X hw (ci := 0) rfl (gcell_1 hrc)) rfl hl.1 rfl (lv_room (Nat.le_of_ble_eq_true rfl)) dX1_next_16 (fun w4 H locs h hw => ?_)
    refine lv_iconst (v := -1) S.1 S.2.1 dX1_next_19 rfl ?_
    refine lv_istore_n (lv' := [(2, .int (-1 : Int32)), (0, .ref x0), (1, .int x1)]) S.1 S.2.1 dX1_next_20 rfl hl (by decide) rfl (fun ls hl => ?_)
    refine lv_aload_n S.1 S.2.1 dX1_next_21 rfl (lv_at hl 1 rfl) ?_
    refine ggX1_375 S X hw dX1_next_22 h (fun v5 h => ?_)
    refine lv_istore_n (lv' := [(3, .int v5), (2, .int (-1 : Int32)), (0, .ref x0), (1, .int x1)]) S.1 S.2.1 dX1_next_25 rfl hl (by decide) rfl (fun ls hl => ?_)
    refine lv_iconst (v := 0) S.1 S.2.1 dX1_next_26 rfl ?_
    refine lv_istore (lv' := [(4, .int (0 : Int32)), (3, .int v5), (2, .int (-1 : Int32)), (0, .ref x0), (1, .int x1)]) S.1 S.2.1 dX1_next_27 hl (by decide) rfl (fun ls hl => ?_)
    exact wk_B_X1_next_p29 S X Z hF hL hr hlocks  FU _ _ _ _ _ _ _ _ h hw (lv_sub hl [3, 2, 1, 0] rfl)
  · replace h := if_t c2 h
    refine lv_iconst (v := -1) S.1 S.2.1 dX1_next_8 rfl ?_
    exact g_iret S Z hr hlocks hw (so2 h) dX1_next_9
def B_X1_draws (x0 : Nat) (x1 : Int32) (w : GS) : Option (Int32 × GS) :=
  bd1 (oL w x0 1 1 23) fun v1 =>
  bd1 (pL w x0 1 1 23 (((v1 * (1103515245 : Int64)) + (12345 : Int64)) - ((v1 * (1103515245 : Int64)) + (12345 : Int64)) / (2147483648 : Int64) * (2147483648 : Int64))) fun w2 =>
  bd1 (oL w2 x0 1 1 23) fun v3 =>
  bd1 (o_lrem (v3 / (65536 : Int64)) x1.toInt64) fun d4 =>
  some (d4.toInt32, w2)
set_option maxRecDepth 100000 in
set_option maxHeartbeats 4000000 in
theorem met_B_X1_draws (l : Launch) (E : gE) (A : Nat → Prop) (LC LS : Nat)  (x0 : Nat) (x1 : Int32) (w : GS) (res : Int32 × GS) (h : B_X1_draws x0 x1 w = some res) : Met l yX1_draws (ws_ yX1_draws cX1_draws 2 (Option.some Jvm.ClassFile.FieldType.int)) (gRoom 0 0 LC LS w) (gPc E A LC LS [.ref x0, .int x1] w) (gQi E A LC LS res.1 res.2) (LC - gZ w) (LS - gN w) A := by
  refine gMet (by decide) rfl (Nat.le_of_ble_eq_true rfl) ?_
  intro p e s m below meth c R S hr hlocks hin2 X Z hF hL H ls hw hl
  replace hl : lv_has ls 2 [(0, .ref x0), (1, .int x1)] := hl
  unfold B_X1_draws at h
  refine lv_aload_n S.1 S.2.1 dX1_draws_0 rfl (lv_at hl 0 rfl) ?_
  refine lv_aload_n S.1 S.2.1 dX1_draws_1 rfl (lv_at hl 0 rfl) ?_
  refine ggX1_393 S X hw dX1_draws_2 h (fun v1 h => ?_)
  refine lv_ldc2 (v := 1103515245) S.1 S.2.1 S.2.2.2.1 (S.2.2.2.2 _ q1638) dX1_draws_5 ?_
  refine lv_lmul S.1 S.2.1 dX1_draws_8 ?_
  refine lv_ldc2 (v := 12345) S.1 S.2.1 S.2.2.2.1 (S.2.2.2.2 _ q1639) dX1_draws_9 ?_
  refine lv_ladd S.1 S.2.1 dX1_draws_12 ?_
  refine lv_ldc2 (v := 2147483648) S.1 S.2.1 S.2.2.2.1 (S.2.2.2.2 _ q1640) dX1_draws_13 ?_
  refine lv_lrem S.1 S.2.1 dX1_draws_16 (by decide) ?_
  refine gpX1_393 S X hw dX1_draws_17 h (fun w2 H locs h hw => ?_)
  refine lv_aload_n S.1 S.2.1 dX1_draws_20 rfl (lv_at hl 0 rfl) ?_
  refine ggX1_393 S X hw dX1_draws_21 h (fun v3 h => ?_)
  refine lv_ldc2 (v := 65536) S.1 S.2.1 S.2.2.2.1 (S.2.2.2.2 _ q1641) dX1_draws_24 ?_
  refine lv_ldiv S.1 S.2.1 dX1_draws_27 (by decide) ?_
  refine lv_iload_n S.1 S.2.1 dX1_draws_28 rfl (lv_at hl 1 rfl) ?_
  refine lv_i2l S.1 S.2.1 dX1_draws_29 rfl ?_
  refine r_lrem S.1 S.2.1 dX1_draws_30 h (fun d4 h => ?_)
  refine lv_l2i S.1 S.2.1 dX1_draws_31 rfl ?_
  exact g_iret S Z hr hlocks hw (so2 h) dX1_draws_32
def B_X1_sum_p4 : Nat → Nat → Int32 → Int32 → GS → Option Int32
  | 0, _, _, _, _ => none
  | n + 1, x0, x1, x2, w =>
    bd1 (aLen w x0 40) fun v1 =>
    if v1 ≤ x2 then
      some x1
    else
      bd1 (aI w x0 40 x2) fun v3 =>
      bdp (x1 + v3) fun y4 =>
      (B_X1_sum_p4 n) x0 y4 (x2 + (1 : Int32)) w
def B_X1_sum (x0 : Nat) (w : GS) : Option Int32 :=
  B_X1_sum_p4 FU x0 (0 : Int32) (0 : Int32) w
set_option maxRecDepth 100000 in
set_option maxHeartbeats 4000000 in
theorem wk_B_X1_sum_p4 {p : Program} {l : Launch} {e : Env} {R : Room} {s : State} {m : MethodId} {args : Array Value} {below : List Frame} {meth : Method} {c : Code} {E : gE} {A : Nat → Prop} {LC LS : Nat} (S : CallFix p m c cX1_sum 3 s args lw_all RX1) (X : gCtx E A s) (Z : gRm R s LC LS) (hF : 0 ≤ R.frames) (hL : 0 ≤ R.locals) (hr : meth.sig.returnType = (Option.some Jvm.ClassFile.FieldType.int)) (hlocks : meth.locks = false) {res : Int32}  : ∀ n : Nat, ∀ (x0 : Nat) (x1 : Int32) (x2 : Int32) (w : GS) (H : Heap) (locs : List Loc) (ls : Array Slot), B_X1_sum_p4 n x0 x1 x2 w = some res → gH E A LC LS s w H locs → lv_has ls 3 [(0, .ref x0), (1, .int x1), (2, .int x2)] → W p l e R s m args below meth c H locs (H.size - s.heap.size) (tot H - tot s.heap) (MQ below (gQi E A LC LS res w) args s R.cells R.slots A) (F0 m 4 ls []) := by
  intro n
  induction n with
  | zero => intro x0 x1 x2 w H locs ls h; cases (show (none : Option Int32) = some res from h)
  | succ n ih =>
    intro x0 x1 x2 w H locs ls h hw hl
    rw [B_X1_sum_p4] at h
    refine lv_iload_n S.1 S.2.1 dX1_sum_4 rfl (lv_at hl 2 rfl) ?_
    refine lv_aload_n S.1 S.2.1 dX1_sum_5 rfl (lv_at hl 0 rfl) ?_
    refine galen40 S X hw dX1_sum_6 h (fun v1 h => ?_)
    refine lv_icmp_ge (tgt := 22) S.1 S.2.1 dX1_sum_7 rfl (fun c2 => ?_) (fun c2 => ?_)
    · replace h := if_t c2 h
      refine lv_iload_n S.1 S.2.1 dX1_sum_22 rfl (lv_at hl 1 rfl) ?_
      exact g_iret S Z hr hlocks hw ⟨so1 h, rfl⟩ dX1_sum_23
    · replace h := if_f c2 h
      refine lv_iload_n S.1 S.2.1 dX1_sum_10 rfl (lv_at hl 1 rfl) ?_
      refine lv_aload_n S.1 S.2.1 dX1_sum_11 rfl (lv_at hl 0 rfl) ?_
      refine lv_iload_n S.1 S.2.1 dX1_sum_12 rfl (lv_at hl 2 rfl) ?_
      refine gald40 S X hw dX1_sum_13 h (fun v3 h => ?_)
      refine lv_iadd S.1 S.2.1 dX1_sum_14 ?_
      refine lv_topi (fun y4 ey => ?_)
      replace h := bdp_e ey h
      refine lv_istore_n (lv' := [(1, .int y4), (0, .ref x0), (2, .int x2)]) S.1 S.2.1 dX1_sum_15 rfl hl (by decide) rfl (fun ls hl => ?_)
      refine lv_iinc (v := x2 + (1 : Int32)) (lv' := [(2, .int (x2 + (1 : Int32))), (1, .int y4), (0, .ref x0)]) S.1 S.2.1 dX1_sum_16 hl (k := 2) rfl rfl (by decide) rfl (fun ls hl => ?_)
      refine lv_goto (tgt := 4) S.1 S.2.1 dX1_sum_19 rfl ?_
      exact ih _ _ _ _ _ _ _ h hw (lv_sub hl [2, 1, 0] rfl)
set_option maxRecDepth 100000 in
set_option maxHeartbeats 4000000 in
theorem met_B_X1_sum (l : Launch) (E : gE) (A : Nat → Prop) (LC LS : Nat)  (x0 : Nat) (w : GS) (res : Int32) (h : B_X1_sum x0 w = some res) : Met l yX1_sum (ws_ yX1_sum cX1_sum 3 (Option.some Jvm.ClassFile.FieldType.int)) (gRoom 0 0 LC LS w) (gPc E A LC LS [.ref x0] w) (gQi E A LC LS res w) (LC - gZ w) (LS - gN w) A := by
  refine gMet (by decide) rfl (Nat.le_of_ble_eq_true rfl) ?_
  intro p e s m below meth c R S hr hlocks hin2 X Z hF hL H ls hw hl
  replace hl : lv_has ls 3 [(0, .ref x0)] := hl
  unfold B_X1_sum at h
  refine lv_iconst (v := 0) S.1 S.2.1 dX1_sum_0 rfl ?_
  refine lv_istore_n (lv' := [(1, .int (0 : Int32)), (0, .ref x0)]) S.1 S.2.1 dX1_sum_1 rfl hl (by decide) rfl (fun ls hl => ?_)
  refine lv_iconst (v := 0) S.1 S.2.1 dX1_sum_2 rfl ?_
  refine lv_istore_n (lv' := [(2, .int (0 : Int32)), (1, .int (0 : Int32)), (0, .ref x0)]) S.1 S.2.1 dX1_sum_3 rfl hl (by decide) rfl (fun ls hl => ?_)
  exact wk_B_X1_sum_p4 S X Z hF hL hr hlocks  FU _ _ _ _ _ _ _ h hw (lv_sub hl [2, 1, 0] rfl)
theorem cb_X1_408 {R : Room} {s : State} {args : Array Value} {rm : Room} {mc ms : Nat} (hts : ∀ w ∈ lw_all, w.before args s = true) (hc : rm.cells = mc) (hs : rm.slots = ms) (hR : rm.frames + 1 ≤ R.frames ∧ 8 + (3 + 11) + rm.locals ≤ R.locals) : CallB R s args RX1 408 yX1_sum cX1_sum 3 (Option.some Jvm.ClassFile.FieldType.int) (ws_ yX1_sum cX1_sum 3 (Option.some Jvm.ClassFile.FieldType.int)) rm mc ms 1 ∧ (Cond.static yX1_sum).before args s = true := va_cwS 1 hts (lw_S q1642 q1643 q135 q1644) rfl hc hs (by decide +kernel) hR
theorem cb_X1_405 {R : Room} {s : State} {args : Array Value} {rm : Room} {mc ms : Nat} (hts : ∀ w ∈ lw_all, w.before args s = true) (hc : rm.cells = mc) (hs : rm.slots = ms) (hR : rm.frames + 1 ≤ R.frames ∧ 8 + (2 + 11) + rm.locals ≤ R.locals) : CallW R s args RX1 RX1 405 yX1_draws cX1_draws 2 (Option.some Jvm.ClassFile.FieldType.int) (ws_ yX1_draws cX1_draws 2 (Option.some Jvm.ClassFile.FieldType.int)) rm mc ms 1 := cwV 1 hts (lw_V q1634 q1636 qs55 q135 q1637) rfl hc hs (by decide +kernel) hR
def B_X1_years_p133 (k58 : Nat → Int32 → Int32 → Int32 → Int32 → Int32 → GS → Option (Int32 × GS)) (k67 : Nat → Int32 → Int32 → Int32 → Int32 → Int32 → Int32 → GS → Option (Int32 × GS)) (x0 : Nat) (x2 : Int32) (x3 : Int32) (x4 : Int32) (x5 : Int32) (x6 : Int32) (x7 : Int32) (x8 : Int32) (w : GS) : Option (Int32 × GS) :=
  if x8 = (2 : Int32) then
    bd1 (oRn w x0 1 1 5) fun a34 =>
    bd1 (oRn w a34 4 4 2) fun a35 =>
    bd1 (oRn w x0 1 1 2) fun a36 =>
    bd1 (oI w a36 3 3 4) fun v37 =>
    bd1 (xI w a35 40 x7 v37) fun w38 =>
    k67 x0 x2 x3 x4 x5 x6 (x7 + (1 : Int32)) w38
  else
    k67 x0 x2 x3 x4 x5 x6 (x7 + (1 : Int32)) w
def B_X1_years_p115 (k58 : Nat → Int32 → Int32 → Int32 → Int32 → Int32 → GS → Option (Int32 × GS)) (k67 : Nat → Int32 → Int32 → Int32 → Int32 → Int32 → Int32 → GS → Option (Int32 × GS)) (x0 : Nat) (x2 : Int32) (x3 : Int32) (x4 : Int32) (x5 : Int32) (x6 : Int32) (x7 : Int32) (x8 : Int32) (w : GS) : Option (Int32 × GS) :=
  if x8 = (1 : Int32) then
    bd1 (oRn w x0 1 1 5) fun a39 =>
    bd1 (oK w x0 1 1) fun _ =>
    bd1 (B_X1_frightens x0 a39 x7 (30 : Int32) w) fun w40 =>
    B_X1_years_p133 k58 k67 x0 x2 x3 x4 x5 x6 x7 x8 w40
  else
    B_X1_years_p133 k58 k67 x0 x2 x3 x4 x5 x6 x7 x8 w
def B_X1_years_p98 (k58 : Nat → Int32 → Int32 → Int32 → Int32 → Int32 → GS → Option (Int32 × GS)) (k67 : Nat → Int32 → Int32 → Int32 → Int32 → Int32 → Int32 → GS → Option (Int32 × GS)) (x0 : Nat) (x2 : Int32) (x3 : Int32) (x4 : Int32) (x5 : Int32) (x6 : Int32) (x7 : Int32) (t0 : Int32) (w : GS) : Option (Int32 × GS) :=
  if t0 = 0 then
    bd1 (oRn w x0 1 1 5) fun a41 =>
    bd1 (oK w x0 1 1) fun _ =>
    bd1 (B_X1_climbs x0 a41 x7 w) fun w42 =>
    B_X1_years_p115 k58 k67 x0 x2 x3 x4 x5 x6 x7 t0 w42
  else
    B_X1_years_p115 k58 k67 x0 x2 x3 x4 x5 x6 x7 t0 w
def B_X1_years_p67 (k58 : Nat → Int32 → Int32 → Int32 → Int32 → Int32 → GS → Option (Int32 × GS)) : Nat → Nat → Int32 → Int32 → Int32 → Int32 → Int32 → Int32 → GS → Option (Int32 × GS)
  | 0, _, _, _, _, _, _, _, _ => none
  | n + 1, x0, x2, x3, x4, x5, x6, x7, w =>
    bd1 (oK w x0 1 1) fun _ =>
    bd1 (B_X1_tenants x0 w) fun r13 =>
    if r13 ≤ x7 then
      bd1 (oRn w x0 1 1 5) fun a15 =>
      bd1 (oRn w a15 4 4 4) fun a16 =>
      bd1 (B_X1_sum a16 w) fun r17 =>
      bd1 (oRn w x0 1 1 5) fun a18 =>
      bd1 (oK w x0 1 1) fun _ =>
      bd1 (B_X1_pass x0 a18 (10 : Int32) w) fun w19 =>
      bd1 (oRn w19 x0 1 1 5) fun a20 =>
      bd1 (oRn w19 a20 4 4 4) fun a21 =>
      bd1 (B_X1_sum a21 w19) fun r22 =>
      bdp (x5 + (r22 - r17)) fun y23 =>
      bd1 (oRn w19 x0 1 1 5) fun a24 =>
      bd1 (oK w19 x0 1 1) fun _ =>
      bd2 (B_X1_collects x0 a24 w19) fun r26 w25 =>
      bdp (x4 + r26) fun y27 =>
      k58 x0 x2 x3 y27 y23 (x6 + (1 : Int32)) w25
    else
      bd1 (oRn w x0 1 1 5) fun a28 =>
      bd1 (oK w a28 4 4) fun _ =>
      bd1 (B_X4_isIn a28 x7 w) fun r29 =>
      if r29 = 0 then
        B_X1_years_p98 k58 (B_X1_years_p67 k58 n) x0 x2 x3 x4 x5 x6 x7 (-1 : Int32) w
      else
        bd1 (oK w x0 1 1) fun _ =>
        bd2 (B_X1_draws x0 (6 : Int32) w) fun r44 w43 =>
        B_X1_years_p98 k58 (B_X1_years_p67 k58 n) x0 x2 x3 x4 x5 x6 x7 r44 w43
def B_X1_years_p58 : Nat → Nat → Int32 → Int32 → Int32 → Int32 → Int32 → GS → Option (Int32 × GS)
  | 0, _, _, _, _, _, _, _ => none
  | n + 1, x0, x2, x3, x4, x5, x6, w =>
    if x2 ≤ x6 then
      if x3 = 0 then
        some (x4, w)
      else
        if x3 = (1 : Int32) then
          bd1 (oRn w x0 1 1 5) fun a11 =>
          bd1 (oK w a11 4 4) fun _ =>
          bd1 (B_X4_in a11 w) fun r12 =>
          some (B_J17_bitCount r12, w)
        else
          some (x5, w)
    else
      B_X1_years_p67 (B_X1_years_p58 n) FU x0 x2 x3 x4 x5 x6 (0 : Int32) w
def B_X1_years (x0 : Nat) (x1 : Int32) (x2 : Int32) (x3 : Int32) (w : GS) : Option (Int32 × GS) :=
  if (B_X1_in x1 (0 : Int32) (9999 : Int32)) = 0 then
    some ((-1 : Int32), w)
  else
    if (B_X1_in x2 (1 : Int32) (30 : Int32)) = 0 then
      some ((-1 : Int32), w)
    else
      if (B_X1_in x3 (0 : Int32) (2 : Int32)) = 0 then
        some ((-1 : Int32), w)
      else
        bd1 (pL w x0 1 1 23 x1.toInt64) fun w4 =>
        bd1 (oRn w4 x0 1 1 5) fun a5 =>
        bd1 (oRn w4 x0 1 1 4) fun a6 =>
        bd1 (oK w4 a5 4 4) fun _ =>
        bd1 (B_X4_be a5 a6 w4) fun w7 =>
        B_X1_years_p58 FU x0 x2 x3 (0 : Int32) (0 : Int32) (0 : Int32) w7
set_option maxRecDepth 100000 in
set_option maxHeartbeats 4000000 in
theorem wk_B_X1_years_p133 {p : Program} {l : Launch} {e : Env} {R : Room} {s : State} {m : MethodId} {args : Array Value} {below : List Frame} {meth : Method} {c : Code} {E : gE} {A : Nat → Prop} {LC LS : Nat} (S : CallFix p m c cX1_years 9 s args lw_all RX1) (X : gCtx E A s) (Z : gRm R s LC LS) (hF : 1105 ≤ R.frames) (hL : 33123 ≤ R.locals) (hr : meth.sig.returnType = (Option.some Jvm.ClassFile.FieldType.int)) (hlocks : meth.locks = false) {res : Int32 × GS}  {k58 : Nat → Int32 → Int32 → Int32 → Int32 → Int32 → GS → Option (Int32 × GS)} (hk58 : ∀ (x0 : Nat) (x2 : Int32) (x3 : Int32) (x4 : Int32) (x5 : Int32) (x6 : Int32) (w : GS) (H : Heap) (locs : List Loc) (ls : Array Slot), k58 x0 x2 x3 x4 x5 x6 w = some res → gH E A LC LS s w H locs → lv_has ls 9 [(0, .ref x0), (2, .int x2), (3, .int x3), (4, .int x4), (5, .int x5), (6, .int x6)] → W p l e R s m args below meth c H locs (H.size - s.heap.size) (tot H - tot s.heap) (MQ below (gQi E A LC LS res.1 res.2) args s R.cells R.slots A) (F0 m 58 ls [])) {k67 : Nat → Int32 → Int32 → Int32 → Int32 → Int32 → Int32 → GS → Option (Int32 × GS)} (hk67 : ∀ (x0 : Nat) (x2 : Int32) (x3 : Int32) (x4 : Int32) (x5 : Int32) (x6 : Int32) (x7 : Int32) (w : GS) (H : Heap) (locs : List Loc) (ls : Array Slot), k67 x0 x2 x3 x4 x5 x6 x7 w = some res → gH E A LC LS s w H locs → lv_has ls 9 [(0, .ref x0), (2, .int x2), (3, .int x3), (4, .int x4), (5, .int x5), (6, .int x6), (7, .int x7)] → W p l e R s m args below meth c H locs (H.size - s.heap.size) (tot H - tot s.heap) (MQ below (gQi E A LC LS res.1 res.2) args s R.cells R.slots A) (F0 m 67 ls [])) : ∀ (x0 : Nat) (x2 : Int32) (x3 : Int32) (x4 : Int32) (x5 : Int32) (x6 : Int32) (x7 : Int32) (x8 : Int32) (w : GS) (H : Heap) (locs : List Loc) (ls : Array Slot), B_X1_years_p133 k58 k67 x0 x2 x3 x4 x5 x6 x7 x8 w = some res → gH E A LC LS s w H locs → lv_has ls 9 [(0, .ref x0), (2, .int x2), (3, .int x3), (4, .int x4), (5, .int x5), (6, .int x6), (7, .int x7), (8, .int x8)] → W p l e R s m args below meth c H locs (H.size - s.heap.size) (tot H - tot s.heap) (MQ below (gQi E A LC LS res.1 res.2) args s R.cells R.slots A) (F0 m 133 ls []) := by
  intro x0 x2 x3 x4 x5 x6 x7 x8 w H locs ls h hw hl
  unfold B_X1_years_p133 at h
  refine lv_iload S.1 S.2.1 dX1_years_133 (lv_at hl 7 rfl) ?_
  refine lv_iconst (v := 2) S.1 S.2.1 dX1_years_135 rfl ?_
  refine lv_icmp_ne (tgt := 156) S.1 S.2.1 dX1_years_136 rfl (fun c33 => ?_) (fun c33 => ?_)
  · replace h := if_f c33 h
    refine lv_iinc (v := x7 + (1 : Int32)) (lv' := [(7, .int (x7 + (1 : Int32))), (0, .ref x0), (2, .int x2), (3, .int x3), (4, .int x4), (5, .int x5), (6, .int x6), (8, .int x8)]) S.1 S.2.1 dX1_years_156 hl (k := 6) rfl rfl (by decide) rfl (fun ls hl => ?_)
    refine lv_goto (tgt := 67) S.1 S.2.1 dX1_years_159 rfl ?_
    exact hk67 _ _ _ _ _ _ _ _ _ _ _ h hw (lv_sub hl [1, 2, 3, 4, 5, 6, 0] rfl)
  · replace h := if_t c33 h
    refine lv_aload_n S.1 S.2.1 dX1_years_139 rfl (lv_at hl 0 rfl) ?_
    refine ggX1_55 S X hw dX1_years_140 h (fun a34 h => ?_)
    refine ggX1_185 S X hw dX1_years_143 h (fun a35 h => ?_)
    refine lv_iload S.1 S.2.1 dX1_years_146 (lv_at hl 6 rfl) ?_
    refine lv_aload_n S.1 S.2.1 dX1_years_148 rfl (lv_at hl 0 rfl) ?_
    refine ggX1_35 S X hw dX1_years_149 h (fun a36 h => ?_)
    refine ggX1_292 S X hw dX1_years_152 h (fun v37 h => ?_)
    refine gast40 S X hw dX1_years_155 h (fun w38 H locs h hw => ?_)
    refine lv_iinc (v := x7 + (1 : Int32)) (lv' := [(7, .int (x7 + (1 : Int32))), (0, .ref x0), (2, .int x2), (3, .int x3), (4, .int x4), (5, .int x5), (6, .int x6), (8, .int x8)]) S.1 S.2.1 dX1_years_156 hl (k := 6) rfl rfl (by decide) rfl (fun ls hl => ?_)
    refine lv_goto (tgt := 67) S.1 S.2.1 dX1_years_159 rfl ?_
    exact hk67 _ _ _ _ _ _ _ _ _ _ _ h hw (lv_sub hl [1, 2, 3, 4, 5, 6, 0] rfl)
set_option maxRecDepth 100000 in
set_option maxHeartbeats 4000000 in
theorem wk_B_X1_years_p115 {p : Program} {l : Launch} {e : Env} {R : Room} {s : State} {m : MethodId} {args : Array Value} {below : List Frame} {meth : Method} {c : Code} {E : gE} {A : Nat → Prop} {LC LS : Nat} (S : CallFix p m c cX1_years 9 s args lw_all RX1) (X : gCtx E A s) (Z : gRm R s LC LS) (hF : 1105 ≤ R.frames) (hL : 33123 ≤ R.locals) (hr : meth.sig.returnType = (Option.some Jvm.ClassFile.FieldType.int)) (hlocks : meth.locks = false) {res : Int32 × GS}  {k58 : Nat → Int32 → Int32 → Int32 → Int32 → Int32 → GS → Option (Int32 × GS)} (hk58 : ∀ (x0 : Nat) (x2 : Int32) (x3 : Int32) (x4 : Int32) (x5 : Int32) (x6 : Int32) (w : GS) (H : Heap) (locs : List Loc) (ls : Array Slot), k58 x0 x2 x3 x4 x5 x6 w = some res → gH E A LC LS s w H locs → lv_has ls 9 [(0, .ref x0), (2, .int x2), (3, .int x3), (4, .int x4), (5, .int x5), (6, .int x6)] → W p l e R s m args below meth c H locs (H.size - s.heap.size) (tot H - tot s.heap) (MQ below (gQi E A LC LS res.1 res.2) args s R.cells R.slots A) (F0 m 58 ls [])) {k67 : Nat → Int32 → Int32 → Int32 → Int32 → Int32 → Int32 → GS → Option (Int32 × GS)} (hk67 : ∀ (x0 : Nat) (x2 : Int32) (x3 : Int32) (x4 : Int32) (x5 : Int32) (x6 : Int32) (x7 : Int32) (w : GS) (H : Heap) (locs : List Loc) (ls : Array Slot), k67 x0 x2 x3 x4 x5 x6 x7 w = some res → gH E A LC LS s w H locs → lv_has ls 9 [(0, .ref x0), (2, .int x2), (3, .int x3), (4, .int x4), (5, .int x5), (6, .int x6), (7, .int x7)] → W p l e R s m args below meth c H locs (H.size - s.heap.size) (tot H - tot s.heap) (MQ below (gQi E A LC LS res.1 res.2) args s R.cells R.slots A) (F0 m 67 ls [])) : ∀ (x0 : Nat) (x2 : Int32) (x3 : Int32) (x4 : Int32) (x5 : Int32) (x6 : Int32) (x7 : Int32) (x8 : Int32) (w : GS) (H : Heap) (locs : List Loc) (ls : Array Slot), B_X1_years_p115 k58 k67 x0 x2 x3 x4 x5 x6 x7 x8 w = some res → gH E A LC LS s w H locs → lv_has ls 9 [(0, .ref x0), (2, .int x2), (3, .int x3), (4, .int x4), (5, .int x5), (6, .int x6), (7, .int x7), (8, .int x8)] → W p l e R s m args below meth c H locs (H.size - s.heap.size) (tot H - tot s.heap) (MQ below (gQi E A LC LS res.1 res.2) args s R.cells R.slots A) (F0 m 115 ls []) := by
  intro x0 x2 x3 x4 x5 x6 x7 x8 w H locs ls h hw hl
  unfold B_X1_years_p115 at h
  refine lv_iload S.1 S.2.1 dX1_years_115 (lv_at hl 7 rfl) ?_
  refine lv_iconst (v := 1) S.1 S.2.1 dX1_years_117 rfl ?_
  refine lv_icmp_ne (tgt := 133) S.1 S.2.1 dX1_years_118 rfl (fun c32 => ?_) (fun c32 => ?_)
  · replace h := if_f c32 h
    exact wk_B_X1_years_p133 S X Z hF hL hr hlocks  hk58 hk67 _ _ _ _ _ _ _ _ _ _ _ _ h hw (lv_sub hl [0, 1, 2, 3, 4, 5, 6, 7] rfl)
  · replace h := if_t c32 h
    refine lv_aload_n S.1 S.2.1 dX1_years_121 rfl (lv_at hl 0 rfl) ?_
    refine lv_aload_n S.1 S.2.1 dX1_years_122 rfl (lv_at hl 0 rfl) ?_
    refine ggX1_55 S X hw dX1_years_123 h (fun a39 h => ?_)
    refine lv_iload S.1 S.2.1 dX1_years_126 (lv_at hl 6 rfl) ?_
    refine lv_bipush (v := 30) S.1 S.2.1 dX1_years_128 rfl ?_
    obtain ⟨hrc, h⟩ := oK1 h
    refine gcVv (As := [.ref a39, .int x7, .int (30 : Int32)]) (rest := []) S X Z hw (b := x0) h (fun u h1 => met_B_X1_frightens l E A LC LS x0 a39 x7 (30 : Int32) w u h1) (cb_X1_288 S.2.2.2.2 rfl rfl ⟨Nat.le_trans (Nat.le_of_ble_eq_true rfl : 4 + 1 ≤ 1105) hF, Nat.le_trans (Nat.le_of_ble_eq_true rfl : 8 + (4 + 11) + 85 ≤ 33123) hL⟩) (g_recv X hw (ci := 0) rfl (gcell_1 hrc)) rfl hl.1 rfl (lv_room (Nat.le_of_ble_eq_true rfl)) dX1_years_130 (fun w40 H locs h hw => ?_)
    exact wk_B_X1_years_p133 S X Z hF hL hr hlocks  hk58 hk67 _ _ _ _ _ _ _ _ _ _ _ _ h hw (lv_sub hl [0, 1, 2, 3, 4, 5, 6, 7] rfl)
set_option maxRecDepth 100000 in
set_option maxHeartbeats 4000000 in
theorem wk_B_X1_years_p98 {p : Program} {l : Launch} {e : Env} {R : Room} {s : State} {m : MethodId} {args : Array Value} {below : List Frame} {meth : Method} {c : Code} {E : gE} {A : Nat → Prop} {LC LS : Nat} (S : CallFix p m c cX1_years 9 s args lw_all RX1) (X : gCtx E A s) (Z : gRm R s LC LS) (hF : 1105 ≤ R.frames) (hL : 33123 ≤ R.locals) (hr : meth.sig.returnType = (Option.some Jvm.ClassFile.FieldType.int)) (hlocks : meth.locks = false) {res : Int32 × GS}  {k58 : Nat → Int32 → Int32 → Int32 → Int32 → Int32 → GS → Option (Int32 × GS)} (hk58 : ∀ (x0 : Nat) (x2 : Int32) (x3 : Int32) (x4 : Int32) (x5 : Int32) (x6 : Int32) (w : GS) (H : Heap) (locs : List Loc) (ls : Array Slot), k58 x0 x2 x3 x4 x5 x6 w = some res → gH E A LC LS s w H locs → lv_has ls 9 [(0, .ref x0), (2, .int x2), (3, .int x3), (4, .int x4), (5, .int x5), (6, .int x6)] → W p l e R s m args below meth c H locs (H.size - s.heap.size) (tot H - tot s.heap) (MQ below (gQi E A LC LS res.1 res.2) args s R.cells R.slots A) (F0 m 58 ls [])) {k67 : Nat → Int32 → Int32 → Int32 → Int32 → Int32 → Int32 → GS → Option (Int32 × GS)} (hk67 : ∀ (x0 : Nat) (x2 : Int32) (x3 : Int32) (x4 : Int32) (x5 : Int32) (x6 : Int32) (x7 : Int32) (w : GS) (H : Heap) (locs : List Loc) (ls : Array Slot), k67 x0 x2 x3 x4 x5 x6 x7 w = some res → gH E A LC LS s w H locs → lv_has ls 9 [(0, .ref x0), (2, .int x2), (3, .int x3), (4, .int x4), (5, .int x5), (6, .int x6), (7, .int x7)] → W p l e R s m args below meth c H locs (H.size - s.heap.size) (tot H - tot s.heap) (MQ below (gQi E A LC LS res.1 res.2) args s R.cells R.slots A) (F0 m 67 ls [])) : ∀ (x0 : Nat) (x2 : Int32) (x3 : Int32) (x4 : Int32) (x5 : Int32) (x6 : Int32) (x7 : Int32) (t0 : Int32) (w : GS) (H : Heap) (locs : List Loc) (ls : Array Slot), B_X1_years_p98 k58 k67 x0 x2 x3 x4 x5 x6 x7 t0 w = some res → gH E A LC LS s w H locs → lv_has ls 9 [(0, .ref x0), (2, .int x2), (3, .int x3), (4, .int x4), (5, .int x5), (6, .int x6), (7, .int x7)] → W p l e R s m args below meth c H locs (H.size - s.heap.size) (tot H - tot s.heap) (MQ below (gQi E A LC LS res.1 res.2) args s R.cells R.slots A) (F0 m 98 ls [.int t0]) := by
  intro x0 x2 x3 x4 x5 x6 x7 t0 w H locs ls h hw hl
  unfold B_X1_years_p98 at h
  refine lv_istore (lv' := [(8, .int t0), (0, .ref x0), (2, .int x2), (3, .int x3), (4, .int x4), (5, .int x5), (6, .int x6), (7, .int x7)]) S.1 S.2.1 dX1_years_98 hl (by decide) rfl (fun ls hl => ?_)
  refine lv_iload S.1 S.2.1 dX1_years_100 (lv_at hl 0 rfl) ?_
  refine lv_if_ne (tgt := 115) S.1 S.2.1 dX1_years_102 rfl (fun c31 => ?_) (fun c31 => ?_)
  · replace h := if_f c31 h
    exact wk_B_X1_years_p115 S X Z hF hL hr hlocks  hk58 hk67 _ _ _ _ _ _ _ _ _ _ _ _ h hw (lv_sub hl [1, 2, 3, 4, 5, 6, 7, 0] rfl)
  · replace h := if_t c31 h
    refine lv_aload_n S.1 S.2.1 dX1_years_105 rfl (lv_at hl 1 rfl) ?_
    refine lv_aload_n S.1 S.2.1 dX1_years_106 rfl (lv_at hl 1 rfl) ?_
    refine ggX1_55 S X hw dX1_years_107 h (fun a41 h => ?_)
    refine lv_iload S.1 S.2.1 dX1_years_110 (lv_at hl 7 rfl) ?_
    obtain ⟨hrc, h⟩ := oK1 h
    refine gcVv (As := [.ref a41, .int x7]) (rest := []) S X Z hw (b := x0) h (fun u h1 => met_B_X1_climbs l E A LC LS x0 a41 x7 w u h1) (cb_X1_286 S.2.2.2.2 rfl rfl ⟨Nat.le_trans (Nat.le_of_ble_eq_true rfl : 4 + 1 ≤ 1105) hF, Nat.le_trans (Nat.le_of_ble_eq_true rfl : 8 + (3 + 11) + 85 ≤ 33123) hL⟩) (g_recv X hw (ci := 0) rfl (gcell_1 hrc)) rfl hl.1 rfl (lv_room (Nat.le_of_ble_eq_true rfl)) dX1_years_112 (fun w42 H locs h hw => ?_)
    exact wk_B_X1_years_p115 S X Z hF hL hr hlocks  hk58 hk67 _ _ _ _ _ _ _ _ _ _ _ _ h hw (lv_sub hl [1, 2, 3, 4, 5, 6, 7, 0] rfl)
set_option maxRecDepth 100000 in
set_option maxHeartbeats 4000000 in
theorem wk_B_X1_years_p67 {p : Program} {l : Launch} {e : Env} {R : Room} {s : State} {m : MethodId} {args : Array Value} {below : List Frame} {meth : Method} {c : Code} {E : gE} {A : Nat → Prop} {LC LS : Nat} (S : CallFix p m c cX1_years 9 s args lw_all RX1) (X : gCtx E A s) (Z : gRm R s LC LS) (hF : 1105 ≤ R.frames) (hL : 33123 ≤ R.locals) (hr : meth.sig.returnType = (Option.some Jvm.ClassFile.FieldType.int)) (hlocks : meth.locks = false) {res : Int32 × GS}  {k58 : Nat → Int32 → Int32 → Int32 → Int32 → Int32 → GS → Option (Int32 × GS)} (hk58 : ∀ (x0 : Nat) (x2 : Int32) (x3 : Int32) (x4 : Int32) (x5 : Int32) (x6 : Int32) (w : GS) (H : Heap) (locs : List Loc) (ls : Array Slot), k58 x0 x2 x3 x4 x5 x6 w = some res → gH E A LC LS s w H locs → lv_has ls 9 [(0, .ref x0), (2, .int x2), (3, .int x3), (4, .int x4), (5, .int x5), (6, .int x6)] → W p l e R s m args below meth c H locs (H.size - s.heap.size) (tot H - tot s.heap) (MQ below (gQi E A LC LS res.1 res.2) args s R.cells R.slots A) (F0 m 58 ls [])) : ∀ n : Nat, ∀ (x0 : Nat) (x2 : Int32) (x3 : Int32) (x4 : Int32) (x5 : Int32) (x6 : Int32) (x7 : Int32) (w : GS) (H : Heap) (locs : List Loc) (ls : Array Slot), B_X1_years_p67 k58 n x0 x2 x3 x4 x5 x6 x7 w = some res → gH E A LC LS s w H locs → lv_has ls 9 [(0, .ref x0), (2, .int x2), (3, .int x3), (4, .int x4), (5, .int x5), (6, .int x6), (7, .int x7)] → W p l e R s m args below meth c H locs (H.size - s.heap.size) (tot H - tot s.heap) (MQ below (gQi E A LC LS res.1 res.2) args s R.cells R.slots A) (F0 m 67 ls []) := by
  intro n
  induction n with
  | zero => intro x0 x2 x3 x4 x5 x6 x7 w H locs ls h; cases (show (none : Option (Int32 × GS)) = some res from h)
  | succ n ih =>
    intro x0 x2 x3 x4 x5 x6 x7 w H locs ls h hw hl
    rw [B_X1_years_p67] at h
    refine lv_iload S.1 S.2.1 dX1_years_67 (lv_at hl 6 rfl) ?_
    refine lv_aload_n S.1 S.2.1 dX1_years_69 rfl (lv_at hl 0 rfl) ?_
    obtain ⟨hrc, h⟩ := oK1 h
    refine gcVri (As := []) (rest := [.int x7]) S X Z hw (b := x0) h (fun u h1 => met_B_X1_tenants l E A LC LS x0 w u h1) (cb_X1_157 S.2.2.2.2 rfl rfl ⟨Nat.le_trans (Nat.le_of_ble_eq_true rfl : 1 + 1 ≤ 1105) hF, Nat.le_trans (Nat.le_of_ble_eq_true rfl : 8 + (1 + 11) + 20 ≤ 33123) hL⟩) (g_recv X hw (ci := 0) rfl (gcell_1 hrc)) rfl hl.1 rfl (lv_room (Nat.le_of_ble_eq_true rfl)) dX1_years_70 (fun r13 H locs h hw => ?_)
    refine lv_icmp_ge (tgt := 162) S.1 S.2.1 dX1_years_73 rfl (fun c14 => ?_) (fun c14 => ?_)
    · replace h := if_t c14 h
      refine lv_aload_n S.1 S.2.1 dX1_years_162 rfl (lv_at hl 0 rfl) ?_
      refine ggX1_55 S X hw dX1_years_163 h (fun a15 h => ?_)
      refine ggX1_199 S X hw dX1_years_166 h (fun a16 h => ?_)
      refine gcSri (As := [.ref a16]) (rest := []) S X Z hw h (fun u h1 => met_B_X1_sum l E A LC LS a16 w u h1) (cb_X1_408 S.2.2.2.2 rfl rfl ⟨Nat.le_trans (Nat.le_of_ble_eq_true rfl : 0 + 1 ≤ 1105) hF, Nat.le_trans (Nat.le_of_ble_eq_true rfl : 8 + (3 + 11) + 0 ≤ 33123) hL⟩) rfl hl.1 rfl (lv_room (Nat.le_of_ble_eq_true rfl)) dX1_years_169 (fun r17 H locs h hw => ?_)
      refine lv_istore (lv' := [(7, .int r17), (0, .ref x0), (2, .int x2), (3, .int x3), (4, .int x4), (5, .int x5), (6, .int x6)]) S.1 S.2.1 dX1_years_172 hl (by decide) rfl (fun ls hl => ?_)
      refine lv_aload_n S.1 S.2.1 dX1_years_174 rfl (lv_at hl 1 rfl) ?_
      refine lv_aload_n S.1 S.2.1 dX1_years_175 rfl (lv_at hl 1 rfl) ?_
      refine ggX1_55 S X hw dX1_years_176 h (fun a18 h => ?_)
      refine lv_bipush (v := 10) S.1 S.2.1 dX1_years_179 rfl ?_
      obtain ⟨hrc, h⟩ := oK1 h
      refine gcVv (As := [.ref a18, .int (10 : Int32)]) (rest := []) S X Z hw (b := x0) h (fun u h1 => met_B_X1_pass l E A LC LS x0 a18 (10 : Int32) w u h1) (cb_X1_295 S.2.2.2.2 rfl rfl ⟨Nat.le_trans (Nat.le_of_ble_eq_true rfl : 6 + 1 ≤ 1105) hF, Nat.le_trans (Nat.le_of_ble_eq_true rfl : 8 + (4 + 11) + 134 ≤ 33123) hL⟩) (g_recv X hw (ci := 0) rfl (gcell_1 hrc)) rfl hl.1 rfl (lv_room (Nat.le_of_ble_eq_true rfl)) dX1_years_181 (fun w19 H locs h hw => ?_)
      refine lv_iload S.1 S.2.1 dX1_years_184 (lv_at hl 5 rfl) ?_
      refine lv_aload_n S.1 S.2.1 dX1_years_186 rfl (lv_at hl 1 rfl) ?_
      refine ggX1_55 S X hw dX1_years_187 h (fun a20 h => ?_)
      refine ggX1_199 S X hw dX1_years_190 h (fun a21 h => ?_)
      refine gcSri (As := [.ref a21]) (rest := [.int x5]) S X Z hw h (fun u h1 => met_B_X1_sum l E A LC LS a21 w19 u h1) (cb_X1_408 S.2.2.2.2 rfl rfl ⟨Nat.le_trans (Nat.le_of_ble_eq_true rfl : 0 + 1 ≤ 1105) hF, Nat.le_trans (Nat.le_of_ble_eq_true rfl : 8 + (3 + 11) + 0 ≤ 33123) hL⟩) rfl hl.1 rfl (lv_room (Nat.le_of_ble_eq_true rfl)) dX1_years_193 (fun r22 H locs h hw => ?_)
      refine lv_iload S.1 S.2.1 dX1_years_196 (lv_at hl 0 rfl) ?_
      refine lv_isub S.1 S.2.1 dX1_years_198 ?_
      refine lv_iadd S.1 S.2.1 dX1_years_199 ?_
      refine lv_topi (fun y23 ey => ?_)
      replace h := bdp_e ey h
      refine lv_istore (lv' := [(5, .int y23), (7, .int r17), (0, .ref x0), (2, .int x2), (3, .int x3), (4, .int x4), (6, .int x6)]) S.1 S.2.1 dX1_years_200 hl (by decide) rfl (fun ls hl => ?_)
      refine lv_iload S.1 S.2.1 dX1_years_202 (lv_at hl 5 rfl) ?_
      refine lv_aload_n S.1 S.2.1 dX1_years_204 rfl (lv_at hl 2 rfl) ?_
      refine lv_aload_n S.1 S.2.1 dX1_years_205 rfl (lv_at hl 2 rfl) ?_
      refine ggX1_55 S X hw dX1_years_206 h (fun a24 h => ?_)
      obtain ⟨hrc, h⟩ := oK1 h
      refine gcVi (As := [.ref a24]) (rest := [.int x4]) S X Z hw (b := x0) h (fun u h1 => met_B_X1_collects l E A LC LS x0 a24 w19 u h1) (cb_X1_298 S.2.2.2.2 rfl rfl ⟨Nat.le_trans (Nat.le_of_ble_eq_true rfl : 1104 + 1 ≤ 1105) hF, Nat.le_trans (Nat.le_of_ble_eq_true rfl : 8 + (6 + 11) + 33098 ≤ 33123) hL⟩) (g_recv X hw (ci := 0) rfl (gcell_1 hrc)) rfl hl.1 rfl (lv_room (Nat.le_of_ble_eq_true rfl)) dX1_years_209 (fun r26 w25 H locs h hw => ?_)
      refine lv_iadd S.1 S.2.1 dX1_years_212 ?_
      refine lv_topi (fun y27 ey => ?_)
      replace h := bdp_e ey h
      refine lv_istore (lv' := [(4, .int y27), (5, .int y23), (7, .int r17), (0, .ref x0), (2, .int x2), (3, .int x3), (6, .int x6)]) S.1 S.2.1 dX1_years_213 hl (by decide) rfl (fun ls hl => ?_)
      refine lv_iinc (v := x6 + (1 : Int32)) (lv' := [(6, .int (x6 + (1 : Int32))), (4, .int y27), (5, .int y23), (7, .int r17), (0, .ref x0), (2, .int x2), (3, .int x3)]) S.1 S.2.1 dX1_years_215 hl (k := 6) rfl rfl (by decide) rfl (fun ls hl => ?_)
      refine lv_goto (tgt := 58) S.1 S.2.1 dX1_years_218 rfl ?_
      exact hk58 _ _ _ _ _ _ _ _ _ _ h hw (lv_sub hl [4, 5, 6, 1, 2, 0] rfl)
    · replace h := if_f c14 h
      refine lv_aload_n S.1 S.2.1 dX1_years_76 rfl (lv_at hl 0 rfl) ?_
      refine ggX1_55 S X hw dX1_years_77 h (fun a28 h => ?_)
      refine lv_iload S.1 S.2.1 dX1_years_80 (lv_at hl 6 rfl) ?_
      obtain ⟨hrc, h⟩ := oK1 h
      refine gcVri (As := [.int x7]) (rest := []) S X Z hw (b := a28) h (fun u h1 => met_B_X4_isIn l E A LC LS a28 x7 w u h1) (cb_X1_163 S.2.2.2.2 rfl rfl ⟨Nat.le_trans (Nat.le_of_ble_eq_true rfl : 0 + 1 ≤ 1105) hF, Nat.le_trans (Nat.le_of_ble_eq_true rfl : 8 + (2 + 11) + 0 ≤ 33123) hL⟩) (g_recv X hw (ci := 3) rfl (gcell_4 hrc)) rfl hl.1 rfl (lv_room (Nat.le_of_ble_eq_true rfl)) dX1_years_82 (fun r29 H locs h hw => ?_)
      refine lv_if_eq (tgt := 97) S.1 S.2.1 dX1_years_85 rfl (fun c30 => ?_) (fun c30 => ?_)
      · replace h := if_t c30 h
        refine lv_iconst (v := -1) S.1 S.2.1 dX1_years_97 rfl ?_
        exact wk_B_X1_years_p98 S X Z hF hL hr hlocks  hk58 ih _ _ _ _ _ _ _ _ _ _ _ _ h hw (lv_sub hl [0, 1, 2, 3, 4, 5, 6] rfl)
      · replace h := if_f c30 h
        refine lv_aload_n S.1 S.2.1 dX1_years_88 rfl (lv_at hl 0 rfl) ?_
        refine lv_bipush (v := 6) S.1 S.2.1 dX1_years_89 rfl ?_
        obtain ⟨hrc, h⟩ := oK1 h
        refine gcVi (As := [.int (6 : Int32)]) (rest := []) S X Z hw (b := x0) h (fun u h1 => met_B_X1_draws l E A LC LS x0 (6 : Int32) w u h1) (cb_X1_405 S.2.2.2.2 rfl rfl ⟨Nat.le_trans (Nat.le_of_ble_eq_true rfl : 0 + 1 ≤ 1105) hF, Nat.le_trans (Nat.le_of_ble_eq_true rfl : 8 + (2 + 11) + 0 ≤ 33123) hL⟩) (g_recv X hw (ci := 0) rfl (gcell_1 hrc)) rfl hl.1 rfl (lv_room (Nat.le_of_ble_eq_true rfl)) dX1_years_91 (fun r44 w43 H locs h hw => ?_)
        refine lv_goto (tgt := 98) S.1 S.2.1 dX1_years_94 rfl ?_
        exact wk_B_X1_years_p98 S X Z hF hL hr hlocks  hk58 ih _ _ _ _ _ _ _ _ _ _ _ _ h hw (lv_sub hl [0, 1, 2, 3, 4, 5, 6] rfl)
set_option maxRecDepth 100000 in
set_option maxHeartbeats 4000000 in
theorem wk_B_X1_years_p58 {p : Program} {l : Launch} {e : Env} {R : Room} {s : State} {m : MethodId} {args : Array Value} {below : List Frame} {meth : Method} {c : Code} {E : gE} {A : Nat → Prop} {LC LS : Nat} (S : CallFix p m c cX1_years 9 s args lw_all RX1) (X : gCtx E A s) (Z : gRm R s LC LS) (hF : 1105 ≤ R.frames) (hL : 33123 ≤ R.locals) (hr : meth.sig.returnType = (Option.some Jvm.ClassFile.FieldType.int)) (hlocks : meth.locks = false) {res : Int32 × GS}  : ∀ n : Nat, ∀ (x0 : Nat) (x2 : Int32) (x3 : Int32) (x4 : Int32) (x5 : Int32) (x6 : Int32) (w : GS) (H : Heap) (locs : List Loc) (ls : Array Slot), B_X1_years_p58 n x0 x2 x3 x4 x5 x6 w = some res → gH E A LC LS s w H locs → lv_has ls 9 [(0, .ref x0), (2, .int x2), (3, .int x3), (4, .int x4), (5, .int x5), (6, .int x6)] → W p l e R s m args below meth c H locs (H.size - s.heap.size) (tot H - tot s.heap) (MQ below (gQi E A LC LS res.1 res.2) args s R.cells R.slots A) (F0 m 58 ls []) := by
  intro n
  induction n with
  | zero => intro x0 x2 x3 x4 x5 x6 w H locs ls h; cases (show (none : Option (Int32 × GS)) = some res from h)
  | succ n ih =>
    intro x0 x2 x3 x4 x5 x6 w H locs ls h hw hl
    rw [B_X1_years_p58] at h
    refine lv_iload S.1 S.2.1 dX1_years_58 (lv_at hl 5 rfl) ?_
    refine lv_iload_n S.1 S.2.1 dX1_years_60 rfl (lv_at hl 1 rfl) ?_
    refine lv_icmp_ge (tgt := 221) S.1 S.2.1 dX1_years_61 rfl (fun c8 => ?_) (fun c8 => ?_)
    · replace h := if_t c8 h
      refine lv_iload_n S.1 S.2.1 dX1_years_221 rfl (lv_at hl 2 rfl) ?_
      refine lv_if_ne (tgt := 230) S.1 S.2.1 dX1_years_222 rfl (fun c9 => ?_) (fun c9 => ?_)
      · replace h := if_f c9 h
        refine lv_iload_n S.1 S.2.1 dX1_years_230 rfl (lv_at hl 2 rfl) ?_
        refine lv_iconst (v := 1) S.1 S.2.1 dX1_years_231 rfl ?_
        refine lv_icmp_ne (tgt := 248) S.1 S.2.1 dX1_years_232 rfl (fun c10 => ?_) (fun c10 => ?_)
        · replace h := if_f c10 h
          refine lv_iload S.1 S.2.1 dX1_years_248 (lv_at hl 4 rfl) ?_
          exact g_iret S Z hr hlocks hw (so2 h) dX1_years_250
        · replace h := if_t c10 h
          refine lv_aload_n S.1 S.2.1 dX1_years_235 rfl (lv_at hl 0 rfl) ?_
          refine ggX1_55 S X hw dX1_years_236 h (fun a11 h => ?_)
          obtain ⟨hrc, h⟩ := oK1 h
          refine gcVri (As := []) (rest := []) S X Z hw (b := a11) h (fun u h1 => met_B_X4_in l E A LC LS a11 w u h1) (cb_X1_191 S.2.2.2.2 rfl rfl ⟨Nat.le_trans (Nat.le_of_ble_eq_true rfl : 1 + 1 ≤ 1105) hF, Nat.le_trans (Nat.le_of_ble_eq_true rfl : 8 + (3 + 11) + 21 ≤ 33123) hL⟩) (g_recv X hw (ci := 3) rfl (gcell_4 hrc)) rfl hl.1 rfl (lv_room (Nat.le_of_ble_eq_true rfl)) dX1_years_239 (fun r12 H locs h hw => ?_)
          refine gcSti (As := [.int r12]) (rest := []) S X Z hw (met_B_J17_bitCount l E A LC LS r12 w _ rfl) (cb_X1_312 S.2.2.2.2 rfl rfl ⟨Nat.le_trans (Nat.le_of_ble_eq_true rfl : 0 + 1 ≤ 1105) hF, Nat.le_trans (Nat.le_of_ble_eq_true rfl : 8 + (1 + 11) + 0 ≤ 33123) hL⟩) rfl hl.1 rfl (lv_room (Nat.le_of_ble_eq_true rfl)) dX1_years_242 (fun H locs hw => ?_)
          refine lv_goto (tgt := 250) S.1 S.2.1 dX1_years_245 rfl ?_
          exact g_iret S Z hr hlocks hw (so2 h) dX1_years_250
      · replace h := if_t c9 h
        refine lv_iload S.1 S.2.1 dX1_years_225 (lv_at hl 3 rfl) ?_
        refine lv_goto (tgt := 250) S.1 S.2.1 dX1_years_227 rfl ?_
        exact g_iret S Z hr hlocks hw (so2 h) dX1_years_250
    · replace h := if_f c8 h
      refine lv_iconst (v := 0) S.1 S.2.1 dX1_years_64 rfl ?_
      refine lv_istore (lv' := [(7, .int (0 : Int32)), (0, .ref x0), (2, .int x2), (3, .int x3), (4, .int x4), (5, .int x5), (6, .int x6)]) S.1 S.2.1 dX1_years_65 hl (by decide) rfl (fun ls hl => ?_)
      exact wk_B_X1_years_p67 S X Z hF hL hr hlocks  ih FU _ _ _ _ _ _ _ _ _ _ _ h hw (lv_sub hl [1, 2, 3, 4, 5, 6, 0] rfl)
set_option maxRecDepth 100000 in
set_option maxHeartbeats 4000000 in
theorem met_B_X1_years (l : Launch) (E : gE) (A : Nat → Prop) (LC LS : Nat)  (x0 : Nat) (x1 : Int32) (x2 : Int32) (x3 : Int32) (w : GS) (res : Int32 × GS) (h : B_X1_years x0 x1 x2 x3 w = some res) : Met l yX1_years (ws_ yX1_years cX1_years 9 (Option.some Jvm.ClassFile.FieldType.int)) (gRoom 1105 33123 LC LS w) (gPc E A LC LS [.ref x0, .int x1, .int x2, .int x3] w) (gQi E A LC LS res.1 res.2) (LC - gZ w) (LS - gN w) A := by
  refine gMet (by decide) rfl (Nat.le_of_ble_eq_true rfl) ?_
  intro p e s m below meth c R S hr hlocks hin2 X Z hF hL H ls hw hl
  replace hl : lv_has ls 9 [(0, .ref x0), (1, .int x1), (2, .int x2), (3, .int x3)] := hl
  unfold B_X1_years at h
  refine lv_iload_n S.1 S.2.1 dX1_years_0 rfl (lv_at hl 1 rfl) ?_
  refine lv_iconst (v := 0) S.1 S.2.1 dX1_years_1 rfl ?_
  refine lv_sipush (v := 9999) S.1 S.2.1 dX1_years_2 rfl ?_
  refine gcSti (As := [.int x1, .int (0 : Int32), .int (9999 : Int32)]) (rest := []) S X Z hw (met_B_X1_in l E A LC LS x1 (0 : Int32) (9999 : Int32) w _ rfl) (cb_X1_153 S.2.2.2.2 rfl rfl ⟨Nat.le_trans (Nat.le_of_ble_eq_true rfl : 0 + 1 ≤ 1105) hF, Nat.le_trans (Nat.le_of_ble_eq_true rfl : 8 + (3 + 11) + 0 ≤ 33123) hL⟩) rfl hl.1 rfl (lv_room (Nat.le_of_ble_eq_true rfl)) dX1_years_5 (fun H locs hw => ?_)
  refine lv_if_eq (tgt := 30) S.1 S.2.1 dX1_years_8 rfl (fun c1 => ?_) (fun c1 => ?_)
  · replace h := if_t c1 h
    refine lv_iconst (v := -1) S.1 S.2.1 dX1_years_30 rfl ?_
    exact g_iret S Z hr hlocks hw (so2 h) dX1_years_31
  · replace h := if_f c1 h
    refine lv_iload_n S.1 S.2.1 dX1_years_11 rfl (lv_at hl 2 rfl) ?_
    refine lv_iconst (v := 1) S.1 S.2.1 dX1_years_12 rfl ?_
    refine lv_bipush (v := 30) S.1 S.2.1 dX1_years_13 rfl ?_
    refine gcSti (As := [.int x2, .int (1 : Int32), .int (30 : Int32)]) (rest := []) S X Z hw (met_B_X1_in l E A LC LS x2 (1 : Int32) (30 : Int32) w _ rfl) (cb_X1_153 S.2.2.2.2 rfl rfl ⟨Nat.le_trans (Nat.le_of_ble_eq_true rfl : 0 + 1 ≤ 1105) hF, Nat.le_trans (Nat.le_of_ble_eq_true rfl : 8 + (3 + 11) + 0 ≤ 33123) hL⟩) rfl hl.1 rfl (lv_room (Nat.le_of_ble_eq_true rfl)) dX1_years_15 (fun H locs hw => ?_)
    refine lv_if_eq (tgt := 30) S.1 S.2.1 dX1_years_18 rfl (fun c2 => ?_) (fun c2 => ?_)
    · replace h := if_t c2 h
      refine lv_iconst (v := -1) S.1 S.2.1 dX1_years_30 rfl ?_
      exact g_iret S Z hr hlocks hw (so2 h) dX1_years_31
    · replace h := if_f c2 h
      refine lv_iload_n S.1 S.2.1 dX1_years_21 rfl (lv_at hl 3 rfl) ?_
      refine lv_iconst (v := 0) S.1 S.2.1 dX1_years_22 rfl ?_
      refine lv_iconst (v := 2) S.1 S.2.1 dX1_years_23 rfl ?_
      refine gcSti (As := [.int x3, .int (0 : Int32), .int (2 : Int32)]) (rest := []) S X Z hw (met_B_X1_in l E A LC LS x3 (0 : Int32) (2 : Int32) w _ rfl) (cb_X1_153 S.2.2.2.2 rfl rfl ⟨Nat.le_trans (Nat.le_of_ble_eq_true rfl : 0 + 1 ≤ 1105) hF, Nat.le_trans (Nat.le_of_ble_eq_true rfl : 8 + (3 + 11) + 0 ≤ 33123) hL⟩) rfl hl.1 rfl (lv_room (Nat.le_of_ble_eq_true rfl)) dX1_years_24 (fun H locs hw => ?_)
      refine lv_if_ne (tgt := 32) S.1 S.2.1 dX1_years_27 rfl (fun c3 => ?_) (fun c3 => ?_)
      · replace h := if_f c3 h
        refine lv_aload_n S.1 S.2.1 dX1_years_32 rfl (lv_at hl 0 rfl) ?_
        refine lv_iload_n S.1 S.2.1 dX1_years_33 rfl (lv_at hl 1 rfl) ?_
        refine lv_i2l S.1 S.2.1 dX1_years_34 rfl ?_
        refine gpX1_393 S X hw dX1_years_35 h (fun w4 H locs h hw => ?_)
        refine lv_aload_n S.1 S.2.1 dX1_years_38 rfl (lv_at hl 0 rfl) ?_
        refine ggX1_55 S X hw dX1_years_39 h (fun a5 h => ?_)
        refine lv_aload_n S.1 S.2.1 dX1_years_42 rfl (lv_at hl 0 rfl) ?_
        refine ggX1_51 S X hw dX1_years_43 h (fun a6 h => ?_)
        obtain ⟨hrc, h⟩ := oK1 h
        refine gcVv (As := [.ref a6]) (rest := []) S X Z hw (b := a5) h (fun u h1 => met_B_X4_be l E A LC LS a5 a6 w4 u h1) (cb_X1_276 S.2.2.2.2 rfl rfl ⟨Nat.le_trans (Nat.le_of_ble_eq_true rfl : 1 + 1 ≤ 1105) hF, Nat.le_trans (Nat.le_of_ble_eq_true rfl : 8 + (2 + 11) + 22 ≤ 33123) hL⟩) (g_recv X hw (ci := 3) rfl (gcell_4 hrc)) rfl hl.1 rfl (lv_room (Nat.le_of_ble_eq_true rfl)) dX1_years_46 (fun w7 H locs h hw => ?_)
        refine lv_iconst (v := 0) S.1 S.2.1 dX1_years_49 rfl ?_
        refine lv_istore (lv' := [(4, .int (0 : Int32)), (0, .ref x0), (1, .int x1), (2, .int x2), (3, .int x3)]) S.1 S.2.1 dX1_years_50 hl (by decide) rfl (fun ls hl => ?_)
        refine lv_iconst (v := 0) S.1 S.2.1 dX1_years_52 rfl ?_
        refine lv_istore (lv' := [(5, .int (0 : Int32)), (4, .int (0 : Int32)), (0, .ref x0), (1, .int x1), (2, .int x2), (3, .int x3)]) S.1 S.2.1 dX1_years_53 hl (by decide) rfl (fun ls hl => ?_)
        refine lv_iconst (v := 0) S.1 S.2.1 dX1_years_55 rfl ?_
        refine lv_istore (lv' := [(6, .int (0 : Int32)), (5, .int (0 : Int32)), (4, .int (0 : Int32)), (0, .ref x0), (1, .int x1), (2, .int x2), (3, .int x3)]) S.1 S.2.1 dX1_years_56 hl (by decide) rfl (fun ls hl => ?_)
        exact wk_B_X1_years_p58 S X Z hF hL hr hlocks  FU _ _ _ _ _ _ _ _ _ _ h hw (lv_sub hl [3, 5, 6, 2, 1, 0] rfl)
      · replace h := if_t c3 h
        refine lv_iconst (v := -1) S.1 S.2.1 dX1_years_30 rfl ?_
        exact g_iret S Z hr hlocks hw (so2 h) dX1_years_31
