/-! walks over the plain heap, printed by gen/bgen.py -/
set_option maxRecDepth 100000
theorem cb_X1_348 {R : Room} {s : State} {args : Array Value} {rm : Room} {mc ms : Nat} (hts : ∀ w ∈ lw_all, w.before args s = true) (hc : rm.cells = mc) (hs : rm.slots = ms) (hR : rm.frames + 1 ≤ R.frames ∧ 8 + (3 + 11) + rm.locals ≤ R.locals) : CallW R s args RX1 RX1 348 yX1_wish cX1_wish 3 (Option.some Jvm.ClassFile.FieldType.int) (ws_ yX1_wish cX1_wish 3 (Option.some Jvm.ClassFile.FieldType.int)) rm mc ms 2 := cwV 2 hts (lw_V q1561 q1563 qs50 q135 q1564) rfl hc hs (by decide +kernel) hR
def B_X1_wishes_p5 : Nat → Nat → Int32 → Int32 → Int32 → Int32 → GS → Option (Int32 × GS)
  | 0, _, _, _, _, _, _ => none
  | n + 1, x0, x1, x2, x3, x4, w =>
    bd1 (oK w x0 1 1) fun _ =>
    bd1 (B_X1_rooms x0 w) fun r1 =>
    if r1 ≤ x4 then
      some (x3, w)
    else
      if (B_X1_isIn x2 x4) = 0 then
        if x3 < 0 then
          (B_X1_wishes_p5 n) x0 x1 x2 x4 (x4 + (1 : Int32)) w
        else
          bd1 (oK w x0 1 1) fun _ =>
          bd2 (B_X1_wish x0 x1 x4 w) fun r6 w5 =>
          bd1 (oK w5 x0 1 1) fun _ =>
          bd2 (B_X1_wish x0 x1 x3 w5) fun r8 w7 =>
          if r6 ≤ r8 then
            (B_X1_wishes_p5 n) x0 x1 x2 x3 (x4 + (1 : Int32)) w7
          else
            (B_X1_wishes_p5 n) x0 x1 x2 x4 (x4 + (1 : Int32)) w7
      else
        (B_X1_wishes_p5 n) x0 x1 x2 x3 (x4 + (1 : Int32)) w
def B_X1_wishes (x0 : Nat) (x1 : Int32) (x2 : Int32) (w : GS) : Option (Int32 × GS) :=
  B_X1_wishes_p5 FU x0 x1 x2 (-1 : Int32) (0 : Int32) w
set_option maxRecDepth 100000 in
set_option maxHeartbeats 4000000 in
theorem wk_B_X1_wishes_p5 {p : Program} {l : Launch} {e : Env} {R : Room} {s : State} {m : MethodId} {args : Array Value} {below : List Frame} {meth : Method} {c : Code} {E : gE} {A : Nat → Prop} {LC LS : Nat} (S : CallFix p m c cX1_wishes 5 s args lw_all RX1) (X : gCtx E A s) (Z : gRm R s LC LS) (hF : 1103 ≤ R.frames) (hL : 33075 ≤ R.locals) (hr : meth.sig.returnType = (Option.some Jvm.ClassFile.FieldType.int)) (hlocks : meth.locks = false) {res : Int32 × GS}  : ∀ n : Nat, ∀ (x0 : Nat) (x1 : Int32) (x2 : Int32) (x3 : Int32) (x4 : Int32) (w : GS) (H : Heap) (locs : List Loc) (ls : Array Slot), B_X1_wishes_p5 n x0 x1 x2 x3 x4 w = some res → gH E A LC LS s w H locs → lv_has ls 5 [(0, .ref x0), (1, .int x1), (2, .int x2), (3, .int x3), (4, .int x4)] → W p l e R s m args below meth c H locs (H.size - s.heap.size) (tot H - tot s.heap) (MQ below (gQi E A LC LS res.1 res.2) args s R.cells R.slots A) (F0 m 5 ls []) := by
  intro n
  induction n with
  | zero => intro x0 x1 x2 x3 x4 w H locs ls h; cases (show (none : Option (Int32 × GS)) = some res from h)
  | succ n ih =>
    intro x0 x1 x2 x3 x4 w H locs ls h hw hl
    rw [B_X1_wishes_p5] at h
    refine lv_iload S.1 S.2.1 dX1_wishes_5 (lv_at hl 4 rfl) ?_
    refine lv_aload_n S.1 S.2.1 dX1_wishes_7 rfl (lv_at hl 0 rfl) ?_
    obtain ⟨hrc, h⟩ := oK1 h
    refine gcVri (As := []) (rest := [.int x4]) S X Z hw (b := x0) h (fun u h1 => met_B_X1_rooms l E A LC LS x0 w u h1) (cb_X1_151 S.2.2.2.2 rfl rfl ⟨Nat.le_trans (Nat.le_of_ble_eq_true rfl : 1 + 1 ≤ 1103) hF, Nat.le_trans (Nat.le_of_ble_eq_true rfl : 8 + (1 + 11) + 20 ≤ 33075) hL⟩) (g_recv X hw (ci := 0) rfl (gcell_1 hrc)) rfl hl.1 rfl (lv_room (Nat.le_of_ble_eq_true rfl)) dX1_wishes_8 (fun r1 H locs h hw => ?_)
    refine lv_icmp_ge (tgt := 52) S.1 S.2.1 dX1_wishes_11 rfl (fun c2 => ?_) (fun c2 => ?_)
    · replace h := if_t c2 h
      refine lv_iload_n S.1 S.2.1 dX1_wishes_52 rfl (lv_at hl 3 rfl) ?_
      exact g_iret S Z hr hlocks hw (so2 h) dX1_wishes_53
    · replace h := if_f c2 h
      refine lv_iload_n S.1 S.2.1 dX1_wishes_14 rfl (lv_at hl 2 rfl) ?_
      refine lv_iload S.1 S.2.1 dX1_wishes_15 (lv_at hl 4 rfl) ?_
      refine gcSti (As := [.int x2, .int x4]) (rest := []) S X Z hw (met_B_X1_isIn l E A LC LS x2 x4 w _ rfl) (cb_X1_252 S.2.2.2.2 rfl rfl ⟨Nat.le_trans (Nat.le_of_ble_eq_true rfl : 0 + 1 ≤ 1103) hF, Nat.le_trans (Nat.le_of_ble_eq_true rfl : 8 + (2 + 11) + 0 ≤ 33075) hL⟩) rfl hl.1 rfl (lv_room (Nat.le_of_ble_eq_true rfl)) dX1_wishes_17 (fun H locs hw => ?_)
      refine lv_if_ne (tgt := 46) S.1 S.2.1 dX1_wishes_20 rfl (fun c3 => ?_) (fun c3 => ?_)
      · replace h := if_f c3 h
        refine lv_iinc (v := x4 + (1 : Int32)) (lv' := [(4, .int (x4 + (1 : Int32))), (0, .ref x0), (1, .int x1), (2, .int x2), (3, .int x3)]) S.1 S.2.1 dX1_wishes_46 hl (k := 4) rfl rfl (by decide) rfl (fun ls hl => ?_)
        refine lv_goto (tgt := 5) S.1 S.2.1 dX1_wishes_49 rfl ?_
        exact ih _ _ _ _ _ _ _ _ _ h hw (lv_sub hl [1, 2, 3, 4, 0] rfl)
      · replace h := if_t c3 h
        refine lv_iload_n S.1 S.2.1 dX1_wishes_23 rfl (lv_at hl 3 rfl) ?_
        refine lv_if_lt (tgt := 43) S.1 S.2.1 dX1_wishes_24 rfl (fun c4 => ?_) (fun c4 => ?_)
        · replace h := if_t c4 h
          refine lv_iload S.1 S.2.1 dX1_wishes_43 (lv_at hl 4 rfl) ?_
          refine lv_istore_n (lv' := [(3, .int x4), (0, .ref x0), (1, .int x1), (2, .int x2), (4, .int x4)]) S.1 S.2.1 dX1_wishes_45 rfl hl (by decide) rfl (fun ls hl => ?_)
          refine lv_iinc (v := x4 + (1 : Int32)) (lv' := [(4, .int (x4 + (1 : Int32))), (3, .int x4), (0, .ref x0), (1, .int x1), (2, .int x2)]) S.1 S.2.1 dX1_wishes_46 hl (k := 4) rfl rfl (by decide) rfl (fun ls hl => ?_)
          refine lv_goto (tgt := 5) S.1 S.2.1 dX1_wishes_49 rfl ?_
          exact ih _ _ _ _ _ _ _ _ _ h hw (lv_sub hl [2, 3, 4, 1, 0] rfl)
        · replace h := if_f c4 h
          refine lv_aload_n S.1 S.2.1 dX1_wishes_27 rfl (lv_at hl 0 rfl) ?_
          refine lv_iload_n S.1 S.2.1 dX1_wishes_28 rfl (lv_at hl 1 rfl) ?_
          refine lv_iload S.1 S.2.1 dX1_wishes_29 (lv_at hl 4 rfl) ?_
          obtain ⟨hrc, h⟩ := oK1 h
          refine gcVi (As := [.int x1, .int x4]) (rest := []) S X Z hw (b := x0) h (fun u h1 => met_B_X1_wish l E A LC LS x0 x1 x4 w u h1) (cb_X1_348 S.2.2.2.2 rfl rfl ⟨Nat.le_trans (Nat.le_of_ble_eq_true rfl : 1102 + 1 ≤ 1103) hF, Nat.le_trans (Nat.le_of_ble_eq_true rfl : 8 + (3 + 11) + 33053 ≤ 33075) hL⟩) (g_recv X hw (ci := 0) rfl (gcell_1 hrc)) rfl hl.1 rfl (lv_room (Nat.le_of_ble_eq_true rfl)) dX1_wishes_31 (fun r6 w5 H locs h hw => ?_)
          refine lv_aload_n S.1 S.2.1 dX1_wishes_34 rfl (lv_at hl 0 rfl) ?_
          refine lv_iload_n S.1 S.2.1 dX1_wishes_35 rfl (lv_at hl 1 rfl) ?_
          refine lv_iload_n S.1 S.2.1 dX1_wishes_36 rfl (lv_at hl 3 rfl) ?_
          obtain ⟨hrc, h⟩ := oK1 h
          refine gcVi (As := [.int x1, .int x3]) (rest := [.int r6]) S X Z hw (b := x0) h (fun u h1 => met_B_X1_wish l E A LC LS x0 x1 x3 w5 u h1) (cb_X1_348 S.2.2.2.2 rfl rfl ⟨Nat.le_trans (Nat.le_of_ble_eq_true rfl : 1102 + 1 ≤ 1103) hF, Nat.le_trans (Nat.le_of_ble_eq_true rfl : 8 + (3 + 11) + 33053 ≤ 33075) hL⟩) (g_recv X hw (ci := 0) rfl (gcell_1 hrc)) rfl hl.1 rfl (lv_room (Nat.le_of_ble_eq_true rfl)) dX1_wishes_37 (fun r8 w7 H locs h hw => ?_)
          refine lv_icmp_le (tgt := 46) S.1 S.2.1 dX1_wishes_40 rfl (fun c9 => ?_) (fun c9 => ?_)
          · replace h := if_t c9 h
            refine lv_iinc (v := x4 + (1 : Int32)) (lv' := [(4, .int (x4 + (1 : Int32))), (0, .ref x0), (1, .int x1), (2, .int x2), (3, .int x3)]) S.1 S.2.1 dX1_wishes_46 hl (k := 4) rfl rfl (by decide) rfl (fun ls hl => ?_)
            refine lv_goto (tgt := 5) S.1 S.2.1 dX1_wishes_49 rfl ?_
            exact ih _ _ _ _ _ _ _ _ _ h hw (lv_sub hl [1, 2, 3, 4, 0] rfl)
          · replace h := if_f c9 h
            refine lv_iload S.1 S.2.1 dX1_wishes_43 (lv_at hl 4 rfl) ?_
            refine lv_istore_n (lv' := [(3, .int x4), (0, .ref x0), (1, .int x1), (2, .int x2), (4, .int x4)]) S.1 S.2.1 dX1_wishes_45 rfl hl (by decide) rfl (fun ls hl => ?_)
            refine lv_iinc (v := x4 + (1 : Int32)) (lv' := [(4, .int (x4 + (1 : Int32))), (3, .int x4), (0, .ref x0), (1, .int x1), (2, .int x2)]) S.1 S.2.1 dX1_wishes_46 hl (k := 4) rfl rfl (by decide) rfl (fun ls hl => ?_)
            refine lv_goto (tgt := 5) S.1 S.2.1 dX1_wishes_49 rfl ?_
            exact ih _ _ _ _ _ _ _ _ _ h hw (lv_sub hl [2, 3, 4, 1, 0] rfl)
set_option maxRecDepth 100000 in
set_option maxHeartbeats 4000000 in
theorem met_B_X1_wishes (l : Launch) (E : gE) (A : Nat → Prop) (LC LS : Nat)  (x0 : Nat) (x1 : Int32) (x2 : Int32) (w : GS) (res : Int32 × GS) (h : B_X1_wishes x0 x1 x2 w = some res) : Met l yX1_wishes (ws_ yX1_wishes cX1_wishes 5 (Option.some Jvm.ClassFile.FieldType.int)) (gRoom 1103 33075 LC LS w) (gPc E A LC LS [.ref x0, .int x1, .int x2] w) (gQi E A LC LS res.1 res.2) (LC - gZ w) (LS - gN w) A := by
  refine gMet (by decide) rfl (Nat.le_of_ble_eq_true rfl) ?_
  intro p e s m below meth c R S hr hlocks hin2 X Z hF hL H ls hw hl
  replace hl : lv_has ls 5 [(0, .ref x0), (1, .int x1), (2, .int x2)] := hl
  unfold B_X1_wishes at h
  refine lv_iconst (v := -1) S.1 S.2.1 dX1_wishes_0 rfl ?_
  refine lv_istore_n (lv' := [(3, .int (-1 : Int32)), (0, .ref x0), (1, .int x1), (2, .int x2)]) S.1 S.2.1 dX1_wishes_1 rfl hl (by decide) rfl (fun ls hl => ?_)
  refine lv_iconst (v := 0) S.1 S.2.1 dX1_wishes_2 rfl ?_
  refine lv_istore (lv' := [(4, .int (0 : Int32)), (3, .int (-1 : Int32)), (0, .ref x0), (1, .int x1), (2, .int x2)]) S.1 S.2.1 dX1_wishes_3 hl (by decide) rfl (fun ls hl => ?_)
  exact wk_B_X1_wishes_p5 S X Z hF hL hr hlocks  FU _ _ _ _ _ _ _ _ _ h hw (lv_sub hl [2, 3, 4, 1, 0] rfl)
def B_X1_isAhead (x0 : Nat) (x1 : Int32) (x2 : Int32) (w : GS) : Option Int32 :=
  bd1 (oK w x0 1 1) fun _ =>
  bd1 (B_X1_tenant_2 x0 x1 w) fun a1 =>
  bd1 (oI w a1 8 11 1) fun v2 =>
  bd1 (oK w x0 1 1) fun _ =>
  bd1 (B_X1_tenant_2 x0 x2 w) fun a3 =>
  bd1 (oI w a3 8 11 1) fun v4 =>
  if v4 < v2 then
    some (1 : Int32)
  else
    bd1 (oK w x0 1 1) fun _ =>
    bd1 (B_X1_tenant_2 x0 x1 w) fun a6 =>
    bd1 (oI w a6 8 11 1) fun v7 =>
    bd1 (oK w x0 1 1) fun _ =>
    bd1 (B_X1_tenant_2 x0 x2 w) fun a8 =>
    bd1 (oI w a8 8 11 1) fun v9 =>
    if v7 = v9 then
      if x2 ≤ x1 then
        some (0 : Int32)
      else
        some (1 : Int32)
    else
      some (0 : Int32)
set_option maxRecDepth 100000 in
set_option maxHeartbeats 4000000 in
theorem met_B_X1_isAhead (l : Launch) (E : gE) (A : Nat → Prop) (LC LS : Nat)  (x0 : Nat) (x1 : Int32) (x2 : Int32) (w : GS) (res : Int32) (h : B_X1_isAhead x0 x1 x2 w = some res) : Met l yX1_isAhead (ws_ yX1_isAhead cX1_isAhead 3 (Option.some Jvm.ClassFile.FieldType.boolean)) (gRoom 4 85 LC LS w) (gPc E A LC LS [.ref x0, .int x1, .int x2] w) (gQi E A LC LS res w) (LC - gZ w) (LS - gN w) A := by
  refine gMet (by decide) rfl (Nat.le_of_ble_eq_true rfl) ?_
  intro p e s m below meth c R S hr hlocks hin2 X Z hF hL H ls hw hl
  replace hl : lv_has ls 3 [(0, .ref x0), (1, .int x1), (2, .int x2)] := hl
  unfold B_X1_isAhead at h
  refine lv_aload_n S.1 S.2.1 dX1_isAhead_0 rfl (lv_at hl 0 rfl) ?_
  refine lv_iload_n S.1 S.2.1 dX1_isAhead_1 rfl (lv_at hl 1 rfl) ?_
  obtain ⟨hrc, h⟩ := oK1 h
  refine gcVrr (As := [.int x1]) (rest := []) S X Z hw (b := x0) h (fun u h1 => met_B_X1_tenant_2 l E A LC LS x0 x1 w u h1) (cb_X1_166 S.2.2.2.2 rfl rfl ⟨Nat.le_trans (Nat.le_of_ble_eq_true rfl : 3 + 1 ≤ 4) hF, Nat.le_trans (Nat.le_of_ble_eq_true rfl : 8 + (2 + 11) + 64 ≤ 85) hL⟩) (g_recv X hw (ci := 0) rfl (gcell_1 hrc)) rfl hl.1 rfl (lv_room (Nat.le_of_ble_eq_true rfl)) dX1_isAhead_2 (fun a1 H locs h hw => ?_)
  refine ggX1_264 S X hw dX1_isAhead_5 h (fun v2 h => ?_)
  refine lv_aload_n S.1 S.2.1 dX1_isAhead_8 rfl (lv_at hl 0 rfl) ?_
  refine lv_iload_n S.1 S.2.1 dX1_isAhead_9 rfl (lv_at hl 2 rfl) ?_
  obtain ⟨hrc, h⟩ := oK1 h
  refine gcVrr (As := [.int x2]) (rest := [.int v2]) S X Z hw (b := x0) h (fun u h1 => met_B_X1_tenant_2 l E A LC LS x0 x2 w u h1) (cb_X1_166 S.2.2.2.2 rfl rfl ⟨Nat.le_trans (Nat.le_of_ble_eq_true rfl : 3 + 1 ≤ 4) hF, Nat.le_trans (Nat.le_of_ble_eq_true rfl : 8 + (2 + 11) + 64 ≤ 85) hL⟩) (g_recv X hw (ci := 0) rfl (gcell_1 hrc)) rfl hl.1 rfl (lv_room (Nat.le_of_ble_eq_true rfl)) dX1_isAhead_10 (fun a3 H locs h hw => ?_)
  refine ggX1_264 S X hw dX1_isAhead_13 h (fun v4 h => ?_)
  refine lv_icmp_gt (tgt := 43) S.1 S.2.1 dX1_isAhead_16 rfl (fun c5 => ?_) (fun c5 => ?_)
  · replace h := if_t c5 h
    refine lv_iconst (v := 1) S.1 S.2.1 dX1_isAhead_43 rfl ?_
    refine lv_goto (tgt := 48) S.1 S.2.1 dX1_isAhead_44 rfl ?_
    exact g_zret S Z hr hlocks hw rfl ⟨so1 h, rfl⟩ dX1_isAhead_48
  · replace h := if_f c5 h
    refine lv_aload_n S.1 S.2.1 dX1_isAhead_19 rfl (lv_at hl 0 rfl) ?_
    refine lv_iload_n S.1 S.2.1 dX1_isAhead_20 rfl (lv_at hl 1 rfl) ?_
    obtain ⟨hrc, h⟩ := oK1 h
    refine gcVrr (As := [.int x1]) (rest := []) S X Z hw (b := x0) h (fun u h1 => met_B_X1_tenant_2 l E A LC LS x0 x1 w u h1) (cb_X1_166 S.2.2.2.2 rfl rfl ⟨Nat.le_trans (Nat.le_of_ble_eq_true rfl : 3 + 1 ≤ 4) hF, Nat.le_trans (Nat.le_of_ble_eq_true rfl : 8 + (2 + 11) + 64 ≤ 85) hL⟩) (g_recv X hw (ci := 0) rfl (gcell_1 hrc)) rfl hl.1 rfl (lv_room (Nat.le_of_ble_eq_true rfl)) dX1_isAhead_21 (fun a6 H locs h hw => ?_)
    refine ggX1_264 S X hw dX1_isAhead_24 h (fun v7 h => ?_)
    refine lv_aload_n S.1 S.2.1 dX1_isAhead_27 rfl (lv_at hl 0 rfl) ?_
    refine lv_iload_n S.1 S.2.1 dX1_isAhead_28 rfl (lv_at hl 2 rfl) ?_
    obtain ⟨hrc, h⟩ := oK1 h
    refine gcVrr (As := [.int x2]) (rest := [.int v7]) S X Z hw (b := x0) h (fun u h1 => met_B_X1_tenant_2 l E A LC LS x0 x2 w u h1) (cb_X1_166 S.2.2.2.2 rfl rfl ⟨Nat.le_trans (Nat.le_of_ble_eq_true rfl : 3 + 1 ≤ 4) hF, Nat.le_trans (Nat.le_of_ble_eq_true rfl : 8 + (2 + 11) + 64 ≤ 85) hL⟩) (g_recv X hw (ci := 0) rfl (gcell_1 hrc)) rfl hl.1 rfl (lv_room (Nat.le_of_ble_eq_true rfl)) dX1_isAhead_29 (fun a8 H locs h hw => ?_)
    refine ggX1_264 S X hw dX1_isAhead_32 h (fun v9 h => ?_)
    refine lv_icmp_ne (tgt := 47) S.1 S.2.1 dX1_isAhead_35 rfl (fun c10 => ?_) (fun c10 => ?_)
    · replace h := if_f c10 h
      refine lv_iconst (v := 0) S.1 S.2.1 dX1_isAhead_47 rfl ?_
      exact g_zret S Z hr hlocks hw rfl ⟨so1 h, rfl⟩ dX1_isAhead_48
    · replace h := if_t c10 h
      refine lv_iload_n S.1 S.2.1 dX1_isAhead_38 rfl (lv_at hl 1 rfl) ?_
      refine lv_iload_n S.1 S.2.1 dX1_isAhead_39 rfl (lv_at hl 2 rfl) ?_
      refine lv_icmp_ge (tgt := 47) S.1 S.2.1 dX1_isAhead_40 rfl (fun c11 => ?_) (fun c11 => ?_)
      · replace h := if_t c11 h
        refine lv_iconst (v := 0) S.1 S.2.1 dX1_isAhead_47 rfl ?_
        exact g_zret S Z hr hlocks hw rfl ⟨so1 h, rfl⟩ dX1_isAhead_48
      · replace h := if_f c11 h
        refine lv_iconst (v := 1) S.1 S.2.1 dX1_isAhead_43 rfl ?_
        refine lv_goto (tgt := 48) S.1 S.2.1 dX1_isAhead_44 rfl ?_
        exact g_zret S Z hr hlocks hw rfl ⟨so1 h, rfl⟩ dX1_isAhead_48
theorem cb_X1_350 {R : Room} {s : State} {args : Array Value} {rm : Room} {mc ms : Nat} (hts : ∀ w ∈ lw_all, w.before args s = true) (hc : rm.cells = mc) (hs : rm.slots = ms) (hR : rm.frames + 1 ≤ R.frames ∧ 8 + (5 + 11) + rm.locals ≤ R.locals) : CallW R s args RX1 RX1 350 yX1_wishes cX1_wishes 5 (Option.some Jvm.ClassFile.FieldType.int) (ws_ yX1_wishes cX1_wishes 5 (Option.some Jvm.ClassFile.FieldType.int)) rm mc ms 2 := cwV 2 hts (lw_V q1557 q1559 qs49 q135 q1560) rfl hc hs (by decide +kernel) hR
theorem cb_X1_353 {R : Room} {s : State} {args : Array Value} {rm : Room} {mc ms : Nat} (hts : ∀ w ∈ lw_all, w.before args s = true) (hc : rm.cells = mc) (hs : rm.slots = ms) (hR : rm.frames + 1 ≤ R.frames ∧ 8 + (3 + 11) + rm.locals ≤ R.locals) : CallW R s args RX1 RX1 353 yX1_isAhead cX1_isAhead 3 (Option.some Jvm.ClassFile.FieldType.boolean) (ws_ yX1_isAhead cX1_isAhead 3 (Option.some Jvm.ClassFile.FieldType.boolean)) rm mc ms 2 := cwV 2 hts (lw_V q1575 q1577 qs51 q135 q1578) rfl hc hs (by decide +kernel) hR
def B_X1_matches_p175 : Nat → Nat → Int32 → GS → Option GS
  | 0, _, _, _ => none
  | n + 1, x0, x1, w =>
    bd1 (oK w x0 1 1) fun _ =>
    bd1 (B_X1_rooms x0 w) fun r6 =>
    if r6 ≤ x1 then
      some w
    else
      bd1 (oRn w x0 1 1 14) fun a8 =>
      bd1 (aI w a8 40 x1) fun v9 =>
      if v9 < 0 then
        (B_X1_matches_p175 n) x0 (x1 + (1 : Int32)) w
      else
        bd1 (oRn w x0 1 1 15) fun a11 =>
        bd1 (oRn w x0 1 1 14) fun a12 =>
        bd1 (aI w a12 40 x1) fun v13 =>
        bd1 (xI w a11 40 v13 x1) fun w14 =>
        (B_X1_matches_p175 n) x0 (x1 + (1 : Int32)) w14
def B_X1_matches_p154 : Nat → Nat → Int32 → GS → Option GS
  | 0, _, _, _ => none
  | n + 1, x0, x1, w =>
    if (6 : Int32) ≤ x1 then
      B_X1_matches_p175 FU x0 (0 : Int32) w
    else
      bd1 (oRn w x0 1 1 15) fun a15 =>
      bd1 (xI w a15 40 x1 (-1 : Int32)) fun w16 =>
      (B_X1_matches_p154 n) x0 (x1 + (1 : Int32)) w16
def B_X1_matches_p133 (k44 : Nat → Int32 → GS → Option GS) (k72 : Nat → Int32 → Int32 → GS → Option GS) (x0 : Nat) (x1 : Int32) (x2 : Int32) (x3 : Int32) (x4 : Int32) (w : GS) : Option GS :=
  bd1 (oRn w x0 1 1 14) fun a32 =>
  bd1 (xI w a32 40 x3 x2) fun w33 =>
  k72 x0 x1 x4 w33
def B_X1_matches_p72 (k44 : Nat → Int32 → GS → Option GS) : Nat → Nat → Int32 → Int32 → GS → Option GS
  | 0, _, _, _, _ => none
  | n + 1, x0, x1, x2, w =>
    if x2 < 0 then
      k44 x0 (x1 + (1 : Int32)) w
    else
      bd1 (oRn w x0 1 1 13) fun a21 =>
      bd1 (aI w a21 40 x2) fun v22 =>
      bd1 (oK w x0 1 1) fun _ =>
      bd2 (B_X1_wishes x0 x2 v22 w) fun r24 w23 =>
      if 0 ≤ r24 then
        bd1 (oRn w23 x0 1 1 13) fun a26 =>
        bd1 (aI w23 a26 40 x2) fun v27 =>
        bd1 (xI w23 a26 40 x2 (v27 ||| ((1 : Int32) <<< (r24 &&& 31)))) fun w28 =>
        bd1 (oRn w28 x0 1 1 14) fun a29 =>
        bd1 (aI w28 a29 40 r24) fun v30 =>
        if v30 < 0 then
          B_X1_matches_p133 k44 (B_X1_matches_p72 k44 n) x0 x1 x2 r24 v30 w28
        else
          bd1 (oK w28 x0 1 1) fun _ =>
          bd1 (B_X1_isAhead x0 x2 v30 w28) fun r34 =>
          if r34 = 0 then
            (B_X1_matches_p72 k44 n) x0 x1 x2 w28
          else
            B_X1_matches_p133 k44 (B_X1_matches_p72 k44 n) x0 x1 x2 r24 v30 w28
      else
        k44 x0 (x1 + (1 : Int32)) w23
def B_X1_matches_p44 : Nat → Nat → Int32 → GS → Option GS
  | 0, _, _, _ => none
  | n + 1, x0, x1, w =>
    bd1 (oK w x0 1 1) fun _ =>
    bd1 (B_X1_tenants x0 w) fun r3 =>
    if r3 ≤ x1 then
      B_X1_matches_p154 FU x0 (0 : Int32) w
    else
      bd1 (oRn w x0 1 1 4) fun a17 =>
      bd1 (oI w a17 4 4 7) fun v18 =>
      if (B_X1_isIn v18 x1) = 0 then
        B_X1_matches_p72 (B_X1_matches_p44 n) FU x0 x1 x1 w
      else
        B_X1_matches_p72 (B_X1_matches_p44 n) FU x0 x1 (-1 : Int32) w
def B_X1_matches_p23 : Nat → Nat → Int32 → GS → Option GS
  | 0, _, _, _ => none
  | n + 1, x0, x1, w =>
    if (6 : Int32) ≤ x1 then
      B_X1_matches_p44 FU x0 (0 : Int32) w
    else
      bd1 (oRn w x0 1 1 13) fun a36 =>
      bd1 (xI w a36 40 x1 (0 : Int32)) fun w37 =>
      (B_X1_matches_p23 n) x0 (x1 + (1 : Int32)) w37
def B_X1_matches_p2 : Nat → Nat → Int32 → GS → Option GS
  | 0, _, _, _ => none
  | n + 1, x0, x1, w =>
    if (6 : Int32) ≤ x1 then
      B_X1_matches_p23 FU x0 (0 : Int32) w
    else
      bd1 (oRn w x0 1 1 14) fun a38 =>
      bd1 (xI w a38 40 x1 (-1 : Int32)) fun w39 =>
      (B_X1_matches_p2 n) x0 (x1 + (1 : Int32)) w39
def B_X1_matches (x0 : Nat) (w : GS) : Option GS :=
  B_X1_matches_p2 FU x0 (0 : Int32) w
set_option maxRecDepth 100000 in
set_option maxHeartbeats 4000000 in
theorem wk_B_X1_matches_p175 {p : Program} {l : Launch} {e : Env} {R : Room} {s : State} {m : MethodId} {args : Array Value} {below : List Frame} {meth : Method} {c : Code} {E : gE} {A : Nat → Prop} {LC LS : Nat} (S : CallFix p m c cX1_matches 5 s args lw_all RX1) (X : gCtx E A s) (Z : gRm R s LC LS) (hF : 1104 ≤ R.frames) (hL : 33099 ≤ R.locals) (hr : meth.sig.returnType = (Option.none : Option Jvm.ClassFile.FieldType)) (hlocks : meth.locks = false) {res : GS}  : ∀ n : Nat, ∀ (x0 : Nat) (x1 : Int32) (w : GS) (H : Heap) (locs : List Loc) (ls : Array Slot), B_X1_matches_p175 n x0 x1 w = some res → gH E A LC LS s w H locs → lv_has ls 5 [(0, .ref x0), (1, .int x1)] → W p l e R s m args below meth c H locs (H.size - s.heap.size) (tot H - tot s.heap) (MQ below (gQv E A LC LS res) args s R.cells R.slots A) (F0 m 175 ls []) := by
  intro n
  induction n with
  | zero => intro x0 x1 w H locs ls h; cases (show (none : Option GS) = some res from h)
  | succ n ih =>
    intro x0 x1 w H locs ls h hw hl
    rw [B_X1_matches_p175] at h
    refine lv_iload_n S.1 S.2.1 dX1_matches_175 rfl (lv_at hl 1 rfl) ?_
    refine lv_aload_n S.1 S.2.1 dX1_matches_176 rfl (lv_at hl 0 rfl) ?_
    obtain ⟨hrc, h⟩ := oK1 h
    refine gcVri (As := []) (rest := [.int x1]) S X Z hw (b := x0) h (fun u h1 => met_B_X1_rooms l E A LC LS x0 w u h1) (cb_X1_151 S.2.2.2.2 rfl rfl ⟨Nat.le_trans (Nat.le_of_ble_eq_true rfl : 1 + 1 ≤ 1104) hF, Nat.le_trans (Nat.le_of_ble_eq_true rfl : 8 + (1 + 11) + 20 ≤ 33099) hL⟩) (g_recv X hw (ci := 0) rfl (gcell_1 hrc)) rfl hl.1 rfl (lv_room (Nat.le_of_ble_eq_true rfl)) dX1_matches_177 (fun r6 H locs h hw => ?_)
    refine lv_icmp_ge (tgt := 210) S.1 S.2.1 dX1_matches_180 rfl (fun c7 => ?_) (fun c7 => ?_)
    · replace h := if_t c7 h
      exact g_vret S Z hr hlocks hw (so1 h) dX1_matches_210
    · replace h := if_f c7 h
      refine lv_aload_n S.1 S.2.1 dX1_matches_183 rfl (lv_at hl 0 rfl) ?_
      refine ggX1_75 S X hw dX1_matches_184 h (fun a8 h => ?_)
      refine lv_iload_n S.1 S.2.1 dX1_matches_187 rfl (lv_at hl 1 rfl) ?_
      refine gald40 S X hw dX1_matches_188 h (fun v9 h => ?_)
      refine lv_if_lt (tgt := 204) S.1 S.2.1 dX1_matches_189 rfl (fun c10 => ?_) (fun c10 => ?_)
      · replace h := if_t c10 h
        refine lv_iinc (v := x1 + (1 : Int32)) (lv' := [(1, .int (x1 + (1 : Int32))), (0, .ref x0)]) S.1 S.2.1 dX1_matches_204 hl (k := 1) rfl rfl (by decide) rfl (fun ls hl => ?_)
        refine lv_goto (tgt := 175) S.1 S.2.1 dX1_matches_207 rfl ?_
        exact ih _ _ _ _ _ _ h hw (lv_sub hl [1, 0] rfl)
      · replace h := if_f c10 h
        refine lv_aload_n S.1 S.2.1 dX1_matches_192 rfl (lv_at hl 0 rfl) ?_
        refine ggX1_78 S X hw dX1_matches_193 h (fun a11 h => ?_)
        refine lv_aload_n S.1 S.2.1 dX1_matches_196 rfl (lv_at hl 0 rfl) ?_
        refine ggX1_75 S X hw dX1_matches_197 h (fun a12 h => ?_)
        refine lv_iload_n S.1 S.2.1 dX1_matches_200 rfl (lv_at hl 1 rfl) ?_
        refine gald40 S X hw dX1_matches_201 h (fun v13 h => ?_)
        refine lv_iload_n S.1 S.2.1 dX1_matches_202 rfl (lv_at hl 1 rfl) ?_
        refine gast40 S X hw dX1_matches_203 h (fun w14 H locs h hw => ?_)
        refine lv_iinc (v := x1 + (1 : Int32)) (lv' := [(1, .int (x1 + (1 : Int32))), (0, .ref x0)]) S.1 S.2.1 dX1_matches_204 hl (k := 1) rfl rfl (by decide) rfl (fun ls hl => ?_)
        refine lv_goto (tgt := 175) S.1 S.2.1 dX1_matches_207 rfl ?_
        exact ih _ _ _ _ _ _ h hw (lv_sub hl [1, 0] rfl)
set_option maxRecDepth 100000 in
set_option maxHeartbeats 4000000 in
theorem wk_B_X1_matches_p154 {p : Program} {l : Launch} {e : Env} {R : Room} {s : State} {m : MethodId} {args : Array Value} {below : List Frame} {meth : Method} {c : Code} {E : gE} {A : Nat → Prop} {LC LS : Nat} (S : CallFix p m c cX1_matches 5 s args lw_all RX1) (X : gCtx E A s) (Z : gRm R s LC LS) (hF : 1104 ≤ R.frames) (hL : 33099 ≤ R.locals) (hr : meth.sig.returnType = (Option.none : Option Jvm.ClassFile.FieldType)) (hlocks : meth.locks = false) {res : GS}  : ∀ n : Nat, ∀ (x0 : Nat) (x1 : Int32) (w : GS) (H : Heap) (locs : List Loc) (ls : Array Slot), B_X1_matches_p154 n x0 x1 w = some res → gH E A LC LS s w H locs → lv_has ls 5 [(0, .ref x0), (1, .int x1)] → W p l e R s m args below meth c H locs (H.size - s.heap.size) (tot H - tot s.heap) (MQ below (gQv E A LC LS res) args s R.cells R.slots A) (F0 m 154 ls []) := by
  intro n
  induction n with
  | zero => intro x0 x1 w H locs ls h; cases (show (none : Option GS) = some res from h)
  | succ n ih =>
    intro x0 x1 w H locs ls h hw hl
    rw [B_X1_matches_p154] at h
    refine lv_iload_n S.1 S.2.1 dX1_matches_154 rfl (lv_at hl 1 rfl) ?_
    refine lv_bipush (v := 6) S.1 S.2.1 dX1_matches_155 rfl ?_
    refine lv_icmp_ge (tgt := 173) S.1 S.2.1 dX1_matches_157 rfl (fun c5 => ?_) (fun c5 => ?_)
    · replace h := if_t c5 h
      refine lv_iconst (v := 0) S.1 S.2.1 dX1_matches_173 rfl ?_
      refine lv_istore_n (lv' := [(1, .int (0 : Int32)), (0, .ref x0)]) S.1 S.2.1 dX1_matches_174 rfl hl (by decide) rfl (fun ls hl => ?_)
      exact wk_B_X1_matches_p175 S X Z hF hL hr hlocks  FU _ _ _ _ _ _ h hw (lv_sub hl [1, 0] rfl)
    · replace h := if_f c5 h
      refine lv_aload_n S.1 S.2.1 dX1_matches_160 rfl (lv_at hl 0 rfl) ?_
      refine ggX1_78 S X hw dX1_matches_161 h (fun a15 h => ?_)
      refine lv_iload_n S.1 S.2.1 dX1_matches_164 rfl (lv_at hl 1 rfl) ?_
      refine lv_iconst (v := -1) S.1 S.2.1 dX1_matches_165 rfl ?_
      refine gast40 S X hw dX1_matches_166 h (fun w16 H locs h hw => ?_)
      refine lv_iinc (v := x1 + (1 : Int32)) (lv' := [(1, .int (x1 + (1 : Int32))), (0, .ref x0)]) S.1 S.2.1 dX1_matches_167 hl (k := 1) rfl rfl (by decide) rfl (fun ls hl => ?_)
      refine lv_goto (tgt := 154) S.1 S.2.1 dX1_matches_170 rfl ?_
      exact ih _ _ _ _ _ _ h hw (lv_sub hl [1, 0] rfl)
set_option maxRecDepth 100000 in
set_option maxHeartbeats 4000000 in
theorem wk_B_X1_matches_p133 {p : Program} {l : Launch} {e : Env} {R : Room} {s : State} {m : MethodId} {args : Array Value} {below : List Frame} {meth : Method} {c : Code} {E : gE} {A : Nat → Prop} {LC LS : Nat} (S : CallFix p m c cX1_matches 5 s args lw_all RX1) (X : gCtx E A s) (Z : gRm R s LC LS) (hF : 1104 ≤ R.frames) (hL : 33099 ≤ R.locals) (hr : meth.sig.returnType = (Option.none : Option Jvm.ClassFile.FieldType)) (hlocks : meth.locks = false) {res : GS}  {k44 : Nat → Int32 → GS → Option GS} (hk44 : ∀ (x0 : Nat) (x1 : Int32) (w : GS) (H : Heap) (locs : List Loc) (ls : Array Slot), k44 x0 x1 w = some res → gH E A LC LS s w H locs → lv_has ls 5 [(0, .ref x0), (1, .int x1)] → W p l e R s m args below meth c H locs (H.size - s.heap.size) (tot H - tot s.heap) (MQ below (gQv E A LC LS res) args s R.cells R.slots A) (F0 m 44 ls [])) {k72 : Nat → Int32 → Int32 → GS → Option GS} (hk72 : ∀ (x0 : Nat) (x1 : Int32) (x2 : Int32) (w : GS) (H : Heap) (locs : List Loc) (ls : Array Slot), k72 x0 x1 x2 w = some res → gH E A LC LS s w H locs → lv_has ls 5 [(0, .ref x0), (1, .int x1), (2, .int x2)] → W p l e R s m args below meth c H locs (H.size - s.heap.size) (tot H - tot s.heap) (MQ below (gQv E A LC LS res) args s R.cells R.slots A) (F0 m 72 ls [])) : ∀ (x0 : Nat) (x1 : Int32) (x2 : Int32) (x3 : Int32) (x4 : Int32) (w : GS) (H : Heap) (locs : List Loc) (ls : Array Slot), B_X1_matches_p133 k44 k72 x0 x1 x2 x3 x4 w = some res → gH E A LC LS s w H locs → lv_has ls 5 [(0, .ref x0), (1, .int x1), (2, .int x2), (3, .int x3), (4, .int x4)] → W p l e R s m args below meth c H locs (H.size - s.heap.size) (tot H - tot s.heap) (MQ below (gQv E A LC LS res) args s R.cells R.slots A) (F0 m 133 ls []) := by
  intro x0 x1 x2 x3 x4 w H locs ls h hw hl
  unfold B_X1_matches_p133 at h
  refine lv_aload_n S.1 S.2.1 dX1_matches_133 rfl (lv_at hl 0 rfl) ?_
  refine ggX1_75 S X hw dX1_matches_134 h (fun a32 h => ?_)
  refine lv_iload_n S.1 S.2.1 dX1_matches_137 rfl (lv_at hl 3 rfl) ?_
  refine lv_iload_n S.1 S.2.1 dX1_matches_138 rfl (lv_at hl 2 rfl) ?_
  refine gast40 S X hw dX1_matches_139 h (fun w33 H locs h hw => ?_)
  refine lv_iload S.1 S.2.1 dX1_matches_140 (lv_at hl 4 rfl) ?_
  refine lv_istore_n (lv' := [(2, .int x4), (0, .ref x0), (1, .int x1), (3, .int x3), (4, .int x4)]) S.1 S.2.1 dX1_matches_142 rfl hl (by decide) rfl (fun ls hl => ?_)
  refine lv_goto (tgt := 72) S.1 S.2.1 dX1_matches_143 rfl ?_
  exact hk72 _ _ _ _ _ _ _ h hw (lv_sub hl [1, 2, 0] rfl)
set_option maxRecDepth 100000 in
set_option maxHeartbeats 4000000 in
theorem wk_B_X1_matches_p72 {p : Program} {l : Launch} {e : Env} {R : Room} {s : State} {m : MethodId} {args : Array Value} {below : List Frame} {meth : Method} {c : Code} {E : gE} {A : Nat → Prop} {LC LS : Nat} (S : CallFix p m c cX1_matches 5 s args lw_all RX1) (X : gCtx E A s) (Z : gRm R s LC LS) (hF : 1104 ≤ R.frames) (hL : 33099 ≤ R.locals) (hr : meth.sig.returnType = (Option.none : Option Jvm.ClassFile.FieldType)) (hlocks : meth.locks = false) {res : GS}  {k44 : Nat → Int32 → GS → Option GS} (hk44 : ∀ (x0 : Nat) (x1 : Int32) (w : GS) (H : Heap) (locs : List Loc) (ls : Array Slot), k44 x0 x1 w = some res → gH E A LC LS s w H locs → lv_has ls 5 [(0, .ref x0), (1, .int x1)] → W p l e R s m args below meth c H locs (H.size - s.heap.size) (tot H - tot s.heap) (MQ below (gQv E A LC LS res) args s R.cells R.slots A) (F0 m 44 ls [])) : ∀ n : Nat, ∀ (x0 : Nat) (x1 : Int32) (x2 : Int32) (w : GS) (H : Heap) (locs : List Loc) (ls : Array Slot), B_X1_matches_p72 k44 n x0 x1 x2 w = some res → gH E A LC LS s w H locs → lv_has ls 5 [(0, .ref x0), (1, .int x1), (2, .int x2)] → W p l e R s m args below meth c H locs (H.size - s.heap.size) (tot H - tot s.heap) (MQ below (gQv E A LC LS res) args s R.cells R.slots A) (F0 m 72 ls []) := by
  intro n
  induction n with
  | zero => intro x0 x1 x2 w H locs ls h; cases (show (none : Option GS) = some res from h)
  | succ n ih =>
    intro x0 x1 x2 w H locs ls h hw hl
    rw [B_X1_matches_p72] at h
    refine lv_iload_n S.1 S.2.1 dX1_matches_72 rfl (lv_at hl 2 rfl) ?_
    refine lv_if_lt (tgt := 146) S.1 S.2.1 dX1_matches_73 rfl (fun c20 => ?_) (fun c20 => ?_)
    · replace h := if_t c20 h
      refine lv_iinc (v := x1 + (1 : Int32)) (lv' := [(1, .int (x1 + (1 : Int32))), (0, .ref x0), (2, .int x2)]) S.1 S.2.1 dX1_matches_146 hl (k := 1) rfl rfl (by decide) rfl (fun ls hl => ?_)
      refine lv_goto (tgt := 44) S.1 S.2.1 dX1_matches_149 rfl ?_
      exact hk44 _ _ _ _ _ _ h hw (lv_sub hl [1, 0] rfl)
    · replace h := if_f c20 h
      refine lv_aload_n S.1 S.2.1 dX1_matches_76 rfl (lv_at hl 0 rfl) ?_
      refine lv_iload_n S.1 S.2.1 dX1_matches_77 rfl (lv_at hl 2 rfl) ?_
      refine lv_aload_n S.1 S.2.1 dX1_matches_78 rfl (lv_at hl 0 rfl) ?_
      refine ggX1_72 S X hw dX1_matches_79 h (fun a21 h => ?_)
      refine lv_iload_n S.1 S.2.1 dX1_matches_82 rfl (lv_at hl 2 rfl) ?_
      refine gald40 S X hw dX1_matches_83 h (fun v22 h => ?_)
      obtain ⟨hrc, h⟩ := oK1 h
      refine gcVi (As := [.int x2, .int v22]) (rest := []) S X Z hw (b := x0) h (fun u h1 => met_B_X1_wishes l E A LC LS x0 x2 v22 w u h1) (cb_X1_350 S.2.2.2.2 rfl rfl ⟨Nat.le_trans (Nat.le_of_ble_eq_true rfl : 1103 + 1 ≤ 1104) hF, Nat.le_trans (Nat.le_of_ble_eq_true rfl : 8 + (5 + 11) + 33075 ≤ 33099) hL⟩) (g_recv X hw (ci := 0) rfl (gcell_1 hrc)) rfl hl.1 rfl (lv_room (Nat.le_of_ble_eq_true rfl)) dX1_matches_84 (fun r24 w23 H locs h hw => ?_)
      refine lv_istore_n (lv' := [(3, .int r24), (0, .ref x0), (1, .int x1), (2, .int x2)]) S.1 S.2.1 dX1_matches_87 rfl hl (by decide) rfl (fun ls hl => ?_)
      refine lv_iload_n S.1 S.2.1 dX1_matches_88 rfl (lv_at hl 0 rfl) ?_
      refine lv_if_ge (tgt := 95) S.1 S.2.1 dX1_matches_89 rfl (fun c25 => ?_) (fun c25 => ?_)
      · replace h := if_t c25 h
        refine lv_aload_n S.1 S.2.1 dX1_matches_95 rfl (lv_at hl 1 rfl) ?_
        refine ggX1_72 S X hw dX1_matches_96 h (fun a26 h => ?_)
        refine lv_iload_n S.1 S.2.1 dX1_matches_99 rfl (lv_at hl 3 rfl) ?_
        refine lv_dup2_11 S.1 S.2.1 dX1_matches_100 rfl rfl ?_
        refine gald40 S X hw dX1_matches_101 h (fun v27 h => ?_)
        refine lv_iconst (v := 1) S.1 S.2.1 dX1_matches_102 rfl ?_
        refine lv_iload_n S.1 S.2.1 dX1_matches_103 rfl (lv_at hl 0 rfl) ?_
        refine lv_ishl S.1 S.2.1 dX1_matches_104 ?_
        refine lv_ior S.1 S.2.1 dX1_matches_105 ?_
        refine gast40 S X hw dX1_matches_106 h (fun w28 H locs h hw => ?_)
        refine lv_aload_n S.1 S.2.1 dX1_matches_107 rfl (lv_at hl 1 rfl) ?_
        refine ggX1_75 S X hw dX1_matches_108 h (fun a29 h => ?_)
        refine lv_iload_n S.1 S.2.1 dX1_matches_111 rfl (lv_at hl 0 rfl) ?_
        refine gald40 S X hw dX1_matches_112 h (fun v30 h => ?_)
        refine lv_istore (lv' := [(4, .int v30), (3, .int r24), (0, .ref x0), (1, .int x1), (2, .int x2)]) S.1 S.2.1 dX1_matches_113 hl (by decide) rfl (fun ls hl => ?_)
        refine lv_iload S.1 S.2.1 dX1_matches_115 (lv_at hl 0 rfl) ?_
        refine lv_if_lt (tgt := 133) S.1 S.2.1 dX1_matches_117 rfl (fun c31 => ?_) (fun c31 => ?_)
        · replace h := if_t c31 h
          exact wk_B_X1_matches_p133 S X Z hF hL hr hlocks  hk44 ih _ _ _ _ _ _ _ _ _ h hw (lv_sub hl [2, 3, 4, 1, 0] rfl)
        · replace h := if_f c31 h
          refine lv_aload_n S.1 S.2.1 dX1_matches_120 rfl (lv_at hl 2 rfl) ?_
          refine lv_iload_n S.1 S.2.1 dX1_matches_121 rfl (lv_at hl 4 rfl) ?_
          refine lv_iload S.1 S.2.1 dX1_matches_122 (lv_at hl 0 rfl) ?_
          obtain ⟨hrc, h⟩ := oK1 h
          refine gcVri (As := [.int x2, .int v30]) (rest := []) S X Z hw (b := x0) h (fun u h1 => met_B_X1_isAhead l E A LC LS x0 x2 v30 w28 u h1) (cb_X1_353 S.2.2.2.2 rfl rfl ⟨Nat.le_trans (Nat.le_of_ble_eq_true rfl : 4 + 1 ≤ 1104) hF, Nat.le_trans (Nat.le_of_ble_eq_true rfl : 8 + (3 + 11) + 85 ≤ 33099) hL⟩) (g_recv X hw (ci := 0) rfl (gcell_1 hrc)) rfl hl.1 rfl (lv_room (Nat.le_of_ble_eq_true rfl)) dX1_matches_124 (fun r34 H locs h hw => ?_)
          refine lv_if_ne (tgt := 133) S.1 S.2.1 dX1_matches_127 rfl (fun c35 => ?_) (fun c35 => ?_)
          · replace h := if_f c35 h
            exact wk_B_X1_matches_p133 S X Z hF hL hr hlocks  hk44 ih _ _ _ _ _ _ _ _ _ h hw (lv_sub hl [2, 3, 4, 1, 0] rfl)
          · replace h := if_t c35 h
            refine lv_goto (tgt := 72) S.1 S.2.1 dX1_matches_130 rfl ?_
            exact ih _ _ _ _ _ _ _ h hw (lv_sub hl [2, 3, 4] rfl)
      · replace h := if_f c25 h
        refine lv_goto (tgt := 146) S.1 S.2.1 dX1_matches_92 rfl ?_
        refine lv_iinc (v := x1 + (1 : Int32)) (lv' := [(1, .int (x1 + (1 : Int32))), (3, .int r24), (0, .ref x0), (2, .int x2)]) S.1 S.2.1 dX1_matches_146 hl (k := 2) rfl rfl (by decide) rfl (fun ls hl => ?_)
        refine lv_goto (tgt := 44) S.1 S.2.1 dX1_matches_149 rfl ?_
        exact hk44 _ _ _ _ _ _ h hw (lv_sub hl [2, 0] rfl)
set_option maxRecDepth 100000 in
set_option maxHeartbeats 4000000 in
theorem wk_B_X1_matches_p44 {p : Program} {l : Launch} {e : Env} {R : Room} {s : State} {m : MethodId} {args : Array Value} {below : List Frame} {meth : Method} {c : Code} {E : gE} {A : Nat → Prop} {LC LS : Nat} (S : CallFix p m c cX1_matches 5 s args lw_all RX1) (X : gCtx E A s) (Z : gRm R s LC LS) (hF : 1104 ≤ R.frames) (hL : 33099 ≤ R.locals) (hr : meth.sig.returnType = (Option.none : Option Jvm.ClassFile.FieldType)) (hlocks : meth.locks = false) {res : GS}  : ∀ n : Nat, ∀ (x0 : Nat) (x1 : Int32) (w : GS) (H : Heap) (locs : List Loc) (ls : Array Slot), B_X1_matches_p44 n x0 x1 w = some res → gH E A LC LS s w H locs → lv_has ls 5 [(0, .ref x0), (1, .int x1)] → W p l e R s m args below meth c H locs (H.size - s.heap.size) (tot H - tot s.heap) (MQ below (gQv E A LC LS res) args s R.cells R.slots A) (F0 m 44 ls []) := by
  intro n
  induction n with
  | zero => intro x0 x1 w H locs ls h; cases (show (none : Option GS) = some res from h)
  | succ n ih =>
    intro x0 x1 w H locs ls h hw hl
    rw [B_X1_matches_p44] at h
    refine lv_iload_n S.1 S.2.1 dX1_matches_44 rfl (lv_at hl 1 rfl) ?_
    refine lv_aload_n S.1 S.2.1 dX1_matches_45 rfl (lv_at hl 0 rfl) ?_
    obtain ⟨hrc, h⟩ := oK1 h
    refine gcVri (As := []) (rest := [.int x1]) S X Z hw (b := x0) h (fun u h1 => met_B_X1_tenants l E A LC LS x0 w u h1) (cb_X1_157 S.2.2.2.2 rfl rfl ⟨Nat.le_trans (Nat.le_of_ble_eq_true rfl : 1 + 1 ≤ 1104) hF, Nat.le_trans (Nat.le_of_ble_eq_true rfl : 8 + (1 + 11) + 20 ≤ 33099) hL⟩) (g_recv X hw (ci := 0) rfl (gcell_1 hrc)) rfl hl.1 rfl (lv_room (Nat.le_of_ble_eq_true rfl)) dX1_matches_46 (fun r3 H locs h hw => ?_)
    refine lv_icmp_ge (tgt := 152) S.1 S.2.1 dX1_matches_49 rfl (fun c4 => ?_) (fun c4 => ?_)
    · replace h := if_t c4 h
      refine lv_iconst (v := 0) S.1 S.2.1 dX1_matches_152 rfl ?_
      refine lv_istore_n (lv' := [(1, .int (0 : Int32)), (0, .ref x0)]) S.1 S.2.1 dX1_matches_153 rfl hl (by decide) rfl (fun ls hl => ?_)
      exact wk_B_X1_matches_p154 S X Z hF hL hr hlocks  FU _ _ _ _ _ _ h hw (lv_sub hl [1, 0] rfl)
    · replace h := if_f c4 h
      refine lv_aload_n S.1 S.2.1 dX1_matches_52 rfl (lv_at hl 0 rfl) ?_
      refine ggX1_51 S X hw dX1_matches_53 h (fun a17 h => ?_)
      refine ggX1_249 S X hw dX1_matches_56 h (fun v18 h => ?_)
      refine lv_iload_n S.1 S.2.1 dX1_matches_59 rfl (lv_at hl 1 rfl) ?_
      refine gcSti (As := [.int v18, .int x1]) (rest := []) S X Z hw (met_B_X1_isIn l E A LC LS v18 x1 w _ rfl) (cb_X1_252 S.2.2.2.2 rfl rfl ⟨Nat.le_trans (Nat.le_of_ble_eq_true rfl : 0 + 1 ≤ 1104) hF, Nat.le_trans (Nat.le_of_ble_eq_true rfl : 8 + (2 + 11) + 0 ≤ 33099) hL⟩) rfl hl.1 rfl (lv_room (Nat.le_of_ble_eq_true rfl)) dX1_matches_60 (fun H locs hw => ?_)
      refine lv_if_eq (tgt := 70) S.1 S.2.1 dX1_matches_63 rfl (fun c19 => ?_) (fun c19 => ?_)
      · replace h := if_t c19 h
        refine lv_iload_n S.1 S.2.1 dX1_matches_70 rfl (lv_at hl 1 rfl) ?_
        refine lv_istore_n (lv' := [(2, .int x1), (0, .ref x0), (1, .int x1)]) S.1 S.2.1 dX1_matches_71 rfl hl (by decide) rfl (fun ls hl => ?_)
        exact wk_B_X1_matches_p72 S X Z hF hL hr hlocks  ih FU _ _ _ _ _ _ _ h hw (lv_sub hl [1, 2, 0] rfl)
      · replace h := if_f c19 h
        refine lv_iconst (v := -1) S.1 S.2.1 dX1_matches_66 rfl ?_
        refine lv_goto (tgt := 71) S.1 S.2.1 dX1_matches_67 rfl ?_
        refine lv_istore_n (lv' := [(2, .int (-1 : Int32)), (0, .ref x0), (1, .int x1)]) S.1 S.2.1 dX1_matches_71 rfl hl (by decide) rfl (fun ls hl => ?_)
        exact wk_B_X1_matches_p72 S X Z hF hL hr hlocks  ih FU _ _ _ _ _ _ _ h hw (lv_sub hl [1, 2, 0] rfl)
set_option maxRecDepth 100000 in
set_option maxHeartbeats 4000000 in
theorem wk_B_X1_matches_p23 {p : Program} {l : Launch} {e : Env} {R : Room} {s : State} {m : MethodId} {args : Array Value} {below : List Frame} {meth : Method} {c : Code} {E : gE} {A : Nat → Prop} {LC LS : Nat} (S : CallFix p m c cX1_matches 5 s args lw_all RX1) (X : gCtx E A s) (Z : gRm R s LC LS) (hF : 1104 ≤ R.frames) (hL : 33099 ≤ R.locals) (hr : meth.sig.returnType = (Option.none : Option Jvm.ClassFile.FieldType)) (hlocks : meth.locks = false) {res : GS}  : ∀ n : Nat, ∀ (x0 : Nat) (x1 : Int32) (w : GS) (H : Heap) (locs : List Loc) (ls : Array Slot), B_X1_matches_p23 n x0 x1 w = some res → gH E A LC LS s w H locs → lv_has ls 5 [(0, .ref x0), (1, .int x1)] → W p l e R s m args below meth c H locs (H.size - s.heap.size) (tot H - tot s.heap) (MQ below (gQv E A LC LS res) args s R.cells R.slots A) (F0 m 23 ls []) := by
  intro n
  induction n with
  | zero => intro x0 x1 w H locs ls h; cases (show (none : Option GS) = some res from h)
  | succ n ih =>
    intro x0 x1 w H locs ls h hw hl
    rw [B_X1_matches_p23] at h
    refine lv_iload_n S.1 S.2.1 dX1_matches_23 rfl (lv_at hl 1 rfl) ?_
    refine lv_bipush (v := 6) S.1 S.2.1 dX1_matches_24 rfl ?_
    refine lv_icmp_ge (tgt := 42) S.1 S.2.1 dX1_matches_26 rfl (fun c2 => ?_) (fun c2 => ?_)
    · replace h := if_t c2 h
      refine lv_iconst (v := 0) S.1 S.2.1 dX1_matches_42 rfl ?_
      refine lv_istore_n (lv' := [(1, .int (0 : Int32)), (0, .ref x0)]) S.1 S.2.1 dX1_matches_43 rfl hl (by decide) rfl (fun ls hl => ?_)
      exact wk_B_X1_matches_p44 S X Z hF hL hr hlocks  FU _ _ _ _ _ _ h hw (lv_sub hl [1, 0] rfl)
    · replace h := if_f c2 h
      refine lv_aload_n S.1 S.2.1 dX1_matches_29 rfl (lv_at hl 0 rfl) ?_
      refine ggX1_72 S X hw dX1_matches_30 h (fun a36 h => ?_)
      refine lv_iload_n S.1 S.2.1 dX1_matches_33 rfl (lv_at hl 1 rfl) ?_
      refine lv_iconst (v := 0) S.1 S.2.1 dX1_matches_34 rfl ?_
      refine gast40 S X hw dX1_matches_35 h (fun w37 H locs h hw => ?_)
      refine lv_iinc (v := x1 + (1 : Int32)) (lv' := [(1, .int (x1 + (1 : Int32))), (0, .ref x0)]) S.1 S.2.1 dX1_matches_36 hl (k := 1) rfl rfl (by decide) rfl (fun ls hl => ?_)
      refine lv_goto (tgt := 23) S.1 S.2.1 dX1_matches_39 rfl ?_
      exact ih _ _ _ _ _ _ h hw (lv_sub hl [1, 0] rfl)
set_option maxRecDepth 100000 in
set_option maxHeartbeats 4000000 in
theorem wk_B_X1_matches_p2 {p : Program} {l : Launch} {e : Env} {R : Room} {s : State} {m : MethodId} {args : Array Value} {below : List Frame} {meth : Method} {c : Code} {E : gE} {A : Nat → Prop} {LC LS : Nat} (S : CallFix p m c cX1_matches 5 s args lw_all RX1) (X : gCtx E A s) (Z : gRm R s LC LS) (hF : 1104 ≤ R.frames) (hL : 33099 ≤ R.locals) (hr : meth.sig.returnType = (Option.none : Option Jvm.ClassFile.FieldType)) (hlocks : meth.locks = false) {res : GS}  : ∀ n : Nat, ∀ (x0 : Nat) (x1 : Int32) (w : GS) (H : Heap) (locs : List Loc) (ls : Array Slot), B_X1_matches_p2 n x0 x1 w = some res → gH E A LC LS s w H locs → lv_has ls 5 [(0, .ref x0), (1, .int x1)] → W p l e R s m args below meth c H locs (H.size - s.heap.size) (tot H - tot s.heap) (MQ below (gQv E A LC LS res) args s R.cells R.slots A) (F0 m 2 ls []) := by
  intro n
  induction n with
  | zero => intro x0 x1 w H locs ls h; cases (show (none : Option GS) = some res from h)
  | succ n ih =>
    intro x0 x1 w H locs ls h hw hl
    rw [B_X1_matches_p2] at h
    refine lv_iload_n S.1 S.2.1 dX1_matches_2 rfl (lv_at hl 1 rfl) ?_
    refine lv_bipush (v := 6) S.1 S.2.1 dX1_matches_3 rfl ?_
    refine lv_icmp_ge (tgt := 21) S.1 S.2.1 dX1_matches_5 rfl (fun c1 => ?_) (fun c1 => ?_)
    · replace h := if_t c1 h
      refine lv_iconst (v := 0) S.1 S.2.1 dX1_matches_21 rfl ?_
      refine lv_istore_n (lv' := [(1, .int (0 : Int32)), (0, .ref x0)]) S.1 S.2.1 dX1_matches_22 rfl hl (by decide) rfl (fun ls hl => ?_)
      exact wk_B_X1_matches_p23 S X Z hF hL hr hlocks  FU _ _ _ _ _ _ h hw (lv_sub hl [1, 0] rfl)
    · replace h := if_f c1 h
      refine lv_aload_n S.1 S.2.1 dX1_matches_8 rfl (lv_at hl 0 rfl) ?_
      refine ggX1_75 S X hw dX1_matches_9 h (fun a38 h => ?_)
      refine lv_iload_n S.1 S.2.1 dX1_matches_12 rfl (lv_at hl 1 rfl) ?_
      refine lv_iconst (v := -1) S.1 S.2.1 dX1_matches_13 rfl ?_
      refine gast40 S X hw dX1_matches_14 h (fun w39 H locs h hw => ?_)
      refine lv_iinc (v := x1 + (1 : Int32)) (lv' := [(1, .int (x1 + (1 : Int32))), (0, .ref x0)]) S.1 S.2.1 dX1_matches_15 hl (k := 1) rfl rfl (by decide) rfl (fun ls hl => ?_)
      refine lv_goto (tgt := 2) S.1 S.2.1 dX1_matches_18 rfl ?_
      exact ih _ _ _ _ _ _ h hw (lv_sub hl [1, 0] rfl)
set_option maxRecDepth 100000 in
set_option maxHeartbeats 4000000 in
theorem met_B_X1_matches (l : Launch) (E : gE) (A : Nat → Prop) (LC LS : Nat)  (x0 : Nat) (w : GS) (res : GS) (h : B_X1_matches x0 w = some res) : Met l yX1_matches (ws_ yX1_matches cX1_matches 5 (Option.none : Option Jvm.ClassFile.FieldType)) (gRoom 1104 33099 LC LS w) (gPc E A LC LS [.ref x0] w) (gQv E A LC LS res) (LC - gZ w) (LS - gN w) A := by
  refine gMet (by decide) rfl (Nat.le_of_ble_eq_true rfl) ?_
  intro p e s m below meth c R S hr hlocks hin2 X Z hF hL H ls hw hl
  replace hl : lv_has ls 5 [(0, .ref x0)] := hl
  unfold B_X1_matches at h
  refine lv_iconst (v := 0) S.1 S.2.1 dX1_matches_0 rfl ?_
  refine lv_istore_n (lv' := [(1, .int (0 : Int32)), (0, .ref x0)]) S.1 S.2.1 dX1_matches_1 rfl hl (by decide) rfl (fun ls hl => ?_)
  exact wk_B_X1_matches_p2 S X Z hF hL hr hlocks  FU _ _ _ _ _ _ h hw (lv_sub hl [1, 0] rfl)
theorem cb_X1_356 {R : Room} {s : State} {args : Array Value} {rm : Room} {mc ms : Nat} (hts : ∀ w ∈ lw_all, w.before args s = true) (hc : rm.cells = mc) (hs : rm.slots = ms) (hR : rm.frames + 1 ≤ R.frames ∧ 8 + (5 + 11) + rm.locals ≤ R.locals) : CallW R s args RX1 RX1 356 yX1_matches cX1_matches 5 (Option.none : Option Jvm.ClassFile.FieldType) (ws_ yX1_matches cX1_matches 5 (Option.none : Option Jvm.ClassFile.FieldType)) rm mc ms 0 := cwV 0 hts (lw_V q1553 q1555 qs48 q135 q1556) rfl hc hs (by decide +kernel) hR
def B_X1_match (x0 : Nat) (x1 : Int32) (w : GS) : Option (Int32 × GS) :=
  bd1 (oK w x0 1 1) fun _ =>
  bd1 (B_X1_isTenant x0 x1 w) fun r1 =>
  if r1 = 0 then
    some ((-2 : Int32), w)
  else
    bd1 (oK w x0 1 1) fun _ =>
    bd1 (B_X1_matches x0 w) fun w3 =>
    bd1 (oRn w3 x0 1 1 15) fun a4 =>
    bd1 (aI w3 a4 40 x1) fun v5 =>
    some (v5, w3)
set_option maxRecDepth 100000 in
set_option maxHeartbeats 4000000 in
theorem met_B_X1_match (l : Launch) (E : gE) (A : Nat → Prop) (LC LS : Nat)  (x0 : Nat) (x1 : Int32) (w : GS) (res : Int32 × GS) (h : B_X1_match x0 x1 w = some res) : Met l yX1_match (ws_ yX1_match cX1_match 2 (Option.some Jvm.ClassFile.FieldType.int)) (gRoom 1105 33123 LC LS w) (gPc E A LC LS [.ref x0, .int x1] w) (gQi E A LC LS res.1 res.2) (LC - gZ w) (LS - gN w) A := by
  refine gMet (by decide) rfl (Nat.le_of_ble_eq_true rfl) ?_
  intro p e s m below meth c R S hr hlocks hin2 X Z hF hL H ls hw hl
  replace hl : lv_has ls 2 [(0, .ref x0), (1, .int x1)] := hl
  unfold B_X1_match at h
  refine lv_aload_n S.1 S.2.1 dX1_match_0 rfl (lv_at hl 0 rfl) ?_
  refine lv_iload_n S.1 S.2.1 dX1_match_1 rfl (lv_at hl 1 rfl) ?_
  obtain ⟨hrc, h⟩ := oK1 h
  refine gcVri (As := [.int x1]) (rest := []) S X Z hw (b := x0) h (fun u h1 => met_B_X1_isTenant l E A LC LS x0 x1 w u h1) (cb_X1_159 S.2.2.2.2 rfl rfl ⟨Nat.le_trans (Nat.le_of_ble_eq_true rfl : 2 + 1 ≤ 1105) hF, Nat.le_trans (Nat.le_of_ble_eq_true rfl : 8 + (2 + 11) + 40 ≤ 33123) hL⟩) (g_recv X hw (ci := 0) rfl (gcell_1 hrc)) rfl hl.1 rfl (lv_room (Nat.le_of_ble_eq_true rfl)) dX1_match_2 (fun r1 H locs h hw => ?_)
  refine lv_if_ne (tgt := 11) S.1 S.2.1 dX1_match_5 rfl (fun c2 => ?_) (fun c2 => ?_)
  · replace h := if_f c2 h
    refine lv_aload_n S.1 S.2.1 dX1_match_11 rfl (lv_at hl 0 rfl) ?_
    obtain ⟨hrc, h⟩ := oK1 h
    refine gcVv (As := []) (rest := []) S X Z hw (b := x0) h (fun u h1 => met_B_X1_matches l E A LC LS x0 w u h1) (cb_X1_356 S.2.2.2.2 rfl rfl ⟨Nat.le_trans (Nat.le_of_ble_eq_true rfl : 1104 + 1 ≤ 1105) hF, Nat.le_trans (Nat.le_of_ble_eq_true rfl : 8 + (5 + 11) + 33099 ≤ 33123) hL⟩) (g_recv X hw (ci := 0) rfl (gcell_1 hrc)) rfl hl.1 rfl (lv_room (Nat.le_of_ble_eq_true rfl)) dX1_match_12 (fun w3 H locs h hw => ?_)
    refine lv_aload_n S.1 S.2.1 dX1_match_15 rfl (lv_at hl 0 rfl) ?_
    refine ggX1_78 S X hw dX1_match_16 h (fun a4 h => ?_)
    refine lv_iload_n S.1 S.2.1 dX1_match_19 rfl (lv_at hl 1 rfl) ?_
    refine gald40 S X hw dX1_match_20 h (fun v5 h => ?_)
    exact g_iret S Z hr hlocks hw (so2 h) dX1_match_21
  · replace h := if_t c2 h
    refine lv_bipush (v := -2) S.1 S.2.1 dX1_match_8 rfl ?_
    exact g_iret S Z hr hlocks hw (so2 h) dX1_match_10
def B_X1_spare (x0 : Nat) (x1 : Int32) (x2 : Int32) (w : GS) : Option (Int32 × GS) :=
  bd1 (oK w x0 1 1) fun _ =>
  bd1 (B_X1_isTenant x0 x1 w) fun r1 =>
  if r1 = 0 then
    some ((-1 : Int32), w)
  else
    bd1 (oK w x0 1 1) fun _ =>
    bd1 (B_X1_isTenant x0 x2 w) fun r3 =>
    if r3 = 0 then
      some ((-1 : Int32), w)
    else
      if x1 = x2 then
        some ((-1 : Int32), w)
      else
        bd1 (oK w x0 1 1) fun _ =>
        bd1 (B_X1_matches x0 w) fun w6 =>
        bd1 (oRn w6 x0 1 1 15) fun a7 =>
        bd1 (aI w6 a7 40 x1) fun v8 =>
        bd1 (oRn w6 x0 1 1 15) fun a9 =>
        bd1 (aI w6 a9 40 x2) fun v10 =>
        if v8 < 0 then
          some ((-1 : Int32), w6)
        else
          if 0 ≤ v10 then
            bd1 (oK w6 x0 1 1) fun _ =>
            bd2 (B_X1_wish x0 x1 v10 w6) fun r14 w13 =>
            bd1 (oK w13 x0 1 1) fun _ =>
            bd2 (B_X1_wish x0 x1 v8 w13) fun r16 w15 =>
            if r14 ≤ r16 then
              some ((0 : Int32), w15)
            else
              bd1 (oK w15 x0 1 1) fun _ =>
              bd2 (B_X1_wish x0 x2 v8 w15) fun r19 w18 =>
              bd1 (oK w18 x0 1 1) fun _ =>
              bd2 (B_X1_wish x0 x2 v10 w18) fun r21 w20 =>
              if r19 ≤ r21 then
                some ((0 : Int32), w20)
              else
                some ((1 : Int32), w20)
          else
            some ((-1 : Int32), w6)
set_option maxRecDepth 100000 in
set_option maxHeartbeats 4000000 in
theorem met_B_X1_spare (l : Launch) (E : gE) (A : Nat → Prop) (LC LS : Nat)  (x0 : Nat) (x1 : Int32) (x2 : Int32) (w : GS) (res : Int32 × GS) (h : B_X1_spare x0 x1 x2 w = some res) : Met l yX1_spare (ws_ yX1_spare cX1_spare 5 (Option.some Jvm.ClassFile.FieldType.int)) (gRoom 1105 33123 LC LS w) (gPc E A LC LS [.ref x0, .int x1, .int x2] w) (gQi E A LC LS res.1 res.2) (LC - gZ w) (LS - gN w) A := by
  refine gMet (by decide) rfl (Nat.le_of_ble_eq_true rfl) ?_
  intro p e s m below meth c R S hr hlocks hin2 X Z hF hL H ls hw hl
  replace hl : lv_has ls 5 [(0, .ref x0), (1, .int x1), (2, .int x2)] := hl
  unfold B_X1_spare at h
  refine lv_aload_n S.1 S.2.1 dX1_spare_0 rfl (lv_at hl 0 rfl) ?_
  refine lv_iload_n S.1 S.2.1 dX1_spare_1 rfl (lv_at hl 1 rfl) ?_
  obtain ⟨hrc, h⟩ := oK1 h
  refine gcVri (As := [.int x1]) (rest := []) S X Z hw (b := x0) h (fun u h1 => met_B_X1_isTenant l E A LC LS x0 x1 w u h1) (cb_X1_159 S.2.2.2.2 rfl rfl ⟨Nat.le_trans (Nat.le_of_ble_eq_true rfl : 2 + 1 ≤ 1105) hF, Nat.le_trans (Nat.le_of_ble_eq_true rfl : 8 + (2 + 11) + 40 ≤ 33123) hL⟩) (g_recv X hw (ci := 0) rfl (gcell_1 hrc)) rfl hl.1 rfl (lv_room (Nat.le_of_ble_eq_true rfl)) dX1_spare_2 (fun r1 H locs h hw => ?_)
  refine lv_if_eq (tgt := 21) S.1 S.2.1 dX1_spare_5 rfl (fun c2 => ?_) (fun c2 => ?_)
  · replace h := if_t c2 h
    refine lv_iconst (v := -1) S.1 S.2.1 dX1_spare_21 rfl ?_
    exact g_iret S Z hr hlocks hw (so2 h) dX1_spare_22
  · replace h := if_f c2 h
    refine lv_aload_n S.1 S.2.1 dX1_spare_8 rfl (lv_at hl 0 rfl) ?_
    refine lv_iload_n S.1 S.2.1 dX1_spare_9 rfl (lv_at hl 2 rfl) ?_
    obtain ⟨hrc, h⟩ := oK1 h
    refine gcVri (As := [.int x2]) (rest := []) S X Z hw (b := x0) h (fun u h1 => met_B_X1_isTenant l E A LC LS x0 x2 w u h1) (cb_X1_159 S.2.2.2.2 rfl rfl ⟨Nat.le_trans (Nat.le_of_ble_eq_true rfl : 2 + 1 ≤ 1105) hF, Nat.le_trans (Nat.le_of_ble_eq_true rfl : 8 + (2 + 11) + 40 ≤ 33123) hL⟩) (g_recv X hw (ci := 0) rfl (gcell_1 hrc)) rfl hl.1 rfl (lv_room (Nat.le_of_ble_eq_true rfl)) dX1_spare_10 (fun r3 H locs h hw => ?_)
    refine lv_if_eq (tgt := 21) S.1 S.2.1 dX1_spare_13 rfl (fun c4 => ?_) (fun c4 => ?_)
    · replace h := if_t c4 h
      refine lv_iconst (v := -1) S.1 S.2.1 dX1_spare_21 rfl ?_
      exact g_iret S Z hr hlocks hw (so2 h) dX1_spare_22
    · replace h := if_f c4 h
      refine lv_iload_n S.1 S.2.1 dX1_spare_16 rfl (lv_at hl 1 rfl) ?_
      refine lv_iload_n S.1 S.2.1 dX1_spare_17 rfl (lv_at hl 2 rfl) ?_
      refine lv_icmp_ne (tgt := 23) S.1 S.2.1 dX1_spare_18 rfl (fun c5 => ?_) (fun c5 => ?_)
      · replace h := if_f c5 h
        refine lv_aload_n S.1 S.2.1 dX1_spare_23 rfl (lv_at hl 0 rfl) ?_
        obtain ⟨hrc, h⟩ := oK1 h
        refine gcVv (As := []) (rest := []) S X Z hw (b := x0) h (fun u h1 => met_B_X1_matches l E A LC LS x0 w u h1) (cb_X1_356 S.2.2.2.2 rfl rfl ⟨Nat.le_trans (Nat.le_of_ble_eq_true rfl : 1104 + 1 ≤ 1105) hF, Nat.le_trans (Nat.le_of_ble_eq_true rfl : 8 + (5 + 11) + 33099 ≤ 33123) hL⟩) (g_recv X hw (ci := 0) rfl (gcell_1 hrc)) rfl hl.1 rfl (lv_room (Nat.le_of_ble_eq_true rfl)) dX1_spare_24 (fun w6 H locs h hw => ?_)
        refine lv_aload_n S.1 S.2.1 dX1_spare_27 rfl (lv_at hl 0 rfl) ?_
        refine ggX1_78 S X hw dX1_spare_28 h (fun a7 h => ?_)
        refine lv_iload_n S.1 S.2.1 dX1_spare_31 rfl (lv_at hl 1 rfl) ?_
        refine gald40 S X hw dX1_spare_32 h (fun v8 h => ?_)
        refine lv_istore_n (lv' := [(3, .int v8), (0, .ref x0), (1, .int x1), (2, .int x2)]) S.1 S.2.1 dX1_spare_33 rfl hl (by decide) rfl (fun ls hl => ?_)
        refine lv_aload_n S.1 S.2.1 dX1_spare_34 rfl (lv_at hl 1 rfl) ?_
        refine ggX1_78 S X hw dX1_spare_35 h (fun a9 h => ?_)
        refine lv_iload_n S.1 S.2.1 dX1_spare_38 rfl (lv_at hl 3 rfl) ?_
        refine gald40 S X hw dX1_spare_39 h (fun v10 h => ?_)
        refine lv_istore (lv' := [(4, .int v10), (3, .int v8), (0, .ref x0), (1, .int x1), (2, .int x2)]) S.1 S.2.1 dX1_spare_40 hl (by decide) rfl (fun ls hl => ?_)
        refine lv_iload_n S.1 S.2.1 dX1_spare_42 rfl (lv_at hl 1 rfl) ?_
        refine lv_if_lt (tgt := 51) S.1 S.2.1 dX1_spare_43 rfl (fun c11 => ?_) (fun c11 => ?_)
        · replace h := if_t c11 h
          refine lv_iconst (v := -1) S.1 S.2.1 dX1_spare_51 rfl ?_
          exact g_iret S Z hr hlocks hw (so2 h) dX1_spare_52
        · replace h := if_f c11 h
          refine lv_iload S.1 S.2.1 dX1_spare_46 (lv_at hl 0 rfl) ?_
          refine lv_if_ge (tgt := 53) S.1 S.2.1 dX1_spare_48 rfl (fun c12 => ?_) (fun c12 => ?_)
          · replace h := if_t c12 h
            refine lv_aload_n S.1 S.2.1 dX1_spare_53 rfl (lv_at hl 2 rfl) ?_
            refine lv_iload_n S.1 S.2.1 dX1_spare_54 rfl (lv_at hl 3 rfl) ?_
            refine lv_iload S.1 S.2.1 dX1_spare_55 (lv_at hl 0 rfl) ?_
            obtain ⟨hrc, h⟩ := oK1 h
            refine gcVi (As := [.int x1, .int v10]) (rest := []) S X Z hw (b := x0) h (fun u h1 => met_B_X1_wish l E A LC LS x0 x1 v10 w6 u h1) (cb_X1_348 S.2.2.2.2 rfl rfl ⟨Nat.le_trans (Nat.le_of_ble_eq_true rfl : 1102 + 1 ≤ 1105) hF, Nat.le_trans (Nat.le_of_ble_eq_true rfl : 8 + (3 + 11) + 33053 ≤ 33123) hL⟩) (g_recv X hw (ci := 0) rfl (gcell_1 hrc)) rfl hl.1 rfl (lv_room (Nat.le_of_ble_eq_true rfl)) dX1_spare_57 (fun r14 w13 H locs h hw => ?_)
            refine lv_aload_n S.1 S.2.1 dX1_spare_60 rfl (lv_at hl 2 rfl) ?_
            refine lv_iload_n S.1 S.2.1 dX1_spare_61 rfl (lv_at hl 3 rfl) ?_
            refine lv_iload_n S.1 S.2.1 dX1_spare_62 rfl (lv_at hl 1 rfl) ?_
            obtain ⟨hrc, h⟩ := oK1 h
            refine gcVi (As := [.int x1, .int v8]) (rest := [.int r14]) S X Z hw (b := x0) h (fun u h1 => met_B_X1_wish l E A LC LS x0 x1 v8 w13 u h1) (cb_X1_348 S.2.2.2.2 rfl rfl ⟨Nat.le_trans (Nat.le_of_ble_eq_true rfl : 1102 + 1 ≤ 1105) hF, Nat.le_trans (Nat.le_of_ble_eq_true rfl : 8 + (3 + 11) + 33053 ≤ 33123) hL⟩) (g_recv X hw (ci := 0) rfl (gcell_1 hrc)) rfl hl.1 rfl (lv_room (Nat.le_of_ble_eq_true rfl)) dX1_spare_63 (fun r16 w15 H locs h hw => ?_)
            refine lv_icmp_le (tgt := 89) S.1 S.2.1 dX1_spare_66 rfl (fun c17 => ?_) (fun c17 => ?_)
            · replace h := if_t c17 h
              refine lv_iconst (v := 0) S.1 S.2.1 dX1_spare_89 rfl ?_
              exact g_iret S Z hr hlocks hw (so2 h) dX1_spare_90
            · replace h := if_f c17 h
              refine lv_aload_n S.1 S.2.1 dX1_spare_69 rfl (lv_at hl 2 rfl) ?_
              refine lv_iload_n S.1 S.2.1 dX1_spare_70 rfl (lv_at hl 4 rfl) ?_
              refine lv_iload_n S.1 S.2.1 dX1_spare_71 rfl (lv_at hl 1 rfl) ?_
              obtain ⟨hrc, h⟩ := oK1 h
              refine gcVi (As := [.int x2, .int v8]) (rest := []) S X Z hw (b := x0) h (fun u h1 => met_B_X1_wish l E A LC LS x0 x2 v8 w15 u h1) (cb_X1_348 S.2.2.2.2 rfl rfl ⟨Nat.le_trans (Nat.le_of_ble_eq_true rfl : 1102 + 1 ≤ 1105) hF, Nat.le_trans (Nat.le_of_ble_eq_true rfl : 8 + (3 + 11) + 33053 ≤ 33123) hL⟩) (g_recv X hw (ci := 0) rfl (gcell_1 hrc)) rfl hl.1 rfl (lv_room (Nat.le_of_ble_eq_true rfl)) dX1_spare_72 (fun r19 w18 H locs h hw => ?_)
              refine lv_aload_n S.1 S.2.1 dX1_spare_75 rfl (lv_at hl 2 rfl) ?_
              refine lv_iload_n S.1 S.2.1 dX1_spare_76 rfl (lv_at hl 4 rfl) ?_
              refine lv_iload S.1 S.2.1 dX1_spare_77 (lv_at hl 0 rfl) ?_
              obtain ⟨hrc, h⟩ := oK1 h
              refine gcVi (As := [.int x2, .int v10]) (rest := [.int r19]) S X Z hw (b := x0) h (fun u h1 => met_B_X1_wish l E A LC LS x0 x2 v10 w18 u h1) (cb_X1_348 S.2.2.2.2 rfl rfl ⟨Nat.le_trans (Nat.le_of_ble_eq_true rfl : 1102 + 1 ≤ 1105) hF, Nat.le_trans (Nat.le_of_ble_eq_true rfl : 8 + (3 + 11) + 33053 ≤ 33123) hL⟩) (g_recv X hw (ci := 0) rfl (gcell_1 hrc)) rfl hl.1 rfl (lv_room (Nat.le_of_ble_eq_true rfl)) dX1_spare_79 (fun r21 w20 H locs h hw => ?_)
              refine lv_icmp_le (tgt := 89) S.1 S.2.1 dX1_spare_82 rfl (fun c22 => ?_) (fun c22 => ?_)
              · replace h := if_t c22 h
                refine lv_iconst (v := 0) S.1 S.2.1 dX1_spare_89 rfl ?_
                exact g_iret S Z hr hlocks hw (so2 h) dX1_spare_90
              · replace h := if_f c22 h
                refine lv_iconst (v := 1) S.1 S.2.1 dX1_spare_85 rfl ?_
                refine lv_goto (tgt := 90) S.1 S.2.1 dX1_spare_86 rfl ?_
                exact g_iret S Z hr hlocks hw (so2 h) dX1_spare_90
          · replace h := if_f c12 h
            refine lv_iconst (v := -1) S.1 S.2.1 dX1_spare_51 rfl ?_
            exact g_iret S Z hr hlocks hw (so2 h) dX1_spare_52
      · replace h := if_t c5 h
        refine lv_iconst (v := -1) S.1 S.2.1 dX1_spare_21 rfl ?_
        exact g_iret S Z hr hlocks hw (so2 h) dX1_spare_22
def B_X1_choices_p14 : Nat → Int32 → Int32 → Int64 → Int32 → GS → Option Int64
  | 0, _, _, _, _, _ => none
  | n + 1, x0, x1, x2, x4, w =>
    if x1 ≤ x4 then
      some x2
    else
      if (lg_cmp x2 (0 : Int64)) ≤ 0 then
        some x2
      else
        bd1 (o_ldiv (x2 * ((x0 - x4).toInt64)) ((x4 + (1 : Int32)).toInt64)) fun d4 =>
        (B_X1_choices_p14 n) x0 x1 d4 (x4 + (1 : Int32)) w
def B_X1_choices (x0 : Int32) (x1 : Int32) (w : GS) : Option Int64 :=
  if x1 ≤ x0 then
    B_X1_choices_p14 FU x0 x1 (1 : Int64) (0 : Int32) w
  else
    B_X1_choices_p14 FU x0 x1 (0 : Int64) (0 : Int32) w
set_option maxRecDepth 100000 in
set_option maxHeartbeats 4000000 in
theorem wk_B_X1_choices_p14 {p : Program} {l : Launch} {e : Env} {R : Room} {s : State} {m : MethodId} {args : Array Value} {below : List Frame} {meth : Method} {c : Code} {E : gE} {A : Nat → Prop} {LC LS : Nat} (S : CallFix p m c cX1_choices 5 s args lw_all RX1) (X : gCtx E A s) (Z : gRm R s LC LS) (hF : 0 ≤ R.frames) (hL : 0 ≤ R.locals) (hr : meth.sig.returnType = (Option.some Jvm.ClassFile.FieldType.long)) (hlocks : meth.locks = false) {res : Int64}  : ∀ n : Nat, ∀ (x0 : Int32) (x1 : Int32) (x2 : Int64) (x4 : Int32) (w : GS) (H : Heap) (locs : List Loc) (ls : Array Slot), B_X1_choices_p14 n x0 x1 x2 x4 w = some res → gH E A LC LS s w H locs → lv_has ls 5 [(0, .int x0), (1, .int x1), (2, .long x2), (4, .int x4)] → W p l e R s m args below meth c H locs (H.size - s.heap.size) (tot H - tot s.heap) (MQ below (gQl E A LC LS res w) args s R.cells R.slots A) (F0 m 14 ls []) := by
  intro n
  induction n with
  | zero => intro x0 x1 x2 x4 w H locs ls h; cases (show (none : Option Int64) = some res from h)
  | succ n ih =>
    intro x0 x1 x2 x4 w H locs ls h hw hl
    rw [B_X1_choices_p14] at h
    refine lv_iload S.1 S.2.1 dX1_choices_14 (lv_at hl 3 rfl) ?_
    refine lv_iload_n S.1 S.2.1 dX1_choices_16 rfl (lv_at hl 1 rfl) ?_
    refine lv_icmp_ge (tgt := 46) S.1 S.2.1 dX1_choices_17 rfl (fun c2 => ?_) (fun c2 => ?_)
    · replace h := if_t c2 h
      refine lv_lload_n S.1 S.2.1 dX1_choices_46 rfl (lv_at hl 2 rfl) ?_
      exact g_lret S Z hr hlocks hw ⟨so1 h, rfl⟩ dX1_choices_47
    · replace h := if_f c2 h
      refine lv_lload_n S.1 S.2.1 dX1_choices_20 rfl (lv_at hl 2 rfl) ?_
      refine lv_lconst (v := 0) S.1 S.2.1 dX1_choices_21 rfl ?_
      refine W.lcmp S.1 S.2.1 dX1_choices_22 ?_
      refine lv_if_le (tgt := 46) S.1 S.2.1 dX1_choices_23 rfl (fun c3 => ?_) (fun c3 => ?_)
      · replace h := if_t c3 h
        refine lv_lload_n S.1 S.2.1 dX1_choices_46 rfl (lv_at hl 2 rfl) ?_
        exact g_lret S Z hr hlocks hw ⟨so1 h, rfl⟩ dX1_choices_47
      · replace h := if_f c3 h
        refine lv_lload_n S.1 S.2.1 dX1_choices_26 rfl (lv_at hl 2 rfl) ?_
        refine lv_iload_n S.1 S.2.1 dX1_choices_27 rfl (lv_at hl 0 rfl) ?_
        refine lv_iload S.1 S.2.1 dX1_choices_28 (lv_at hl 3 rfl) ?_
        refine lv_isub S.1 S.2.1 dX1_choices_30 ?_
        refine lv_i2l S.1 S.2.1 dX1_choices_31 rfl ?_
        refine lv_lmul S.1 S.2.1 dX1_choices_32 ?_
        refine lv_iload S.1 S.2.1 dX1_choices_33 (lv_at hl 3 rfl) ?_
        refine lv_iconst (v := 1) S.1 S.2.1 dX1_choices_35 rfl ?_
        refine lv_iadd S.1 S.2.1 dX1_choices_36 ?_
        refine lv_i2l S.1 S.2.1 dX1_choices_37 rfl ?_
        refine r_ldiv S.1 S.2.1 dX1_choices_38 h (fun d4 h => ?_)
        refine lv_lstore_n (lv' := [(2, .long d4), (0, .int x0), (1, .int x1), (4, .int x4)]) S.1 S.2.1 dX1_choices_39 rfl hl (by decide) rfl (fun ls hl => ?_)
        refine lv_iinc (v := x4 + (1 : Int32)) (lv' := [(4, .int (x4 + (1 : Int32))), (2, .long d4), (0, .int x0), (1, .int x1)]) S.1 S.2.1 dX1_choices_40 hl (k := 3) rfl rfl (by decide) rfl (fun ls hl => ?_)
        refine lv_goto (tgt := 14) S.1 S.2.1 dX1_choices_43 rfl ?_
        exact ih _ _ _ _ _ _ _ _ h hw (lv_sub hl [2, 3, 1, 0] rfl)
set_option maxRecDepth 100000 in
set_option maxHeartbeats 4000000 in
theorem met_B_X1_choices (l : Launch) (E : gE) (A : Nat → Prop) (LC LS : Nat)  (x0 : Int32) (x1 : Int32) (w : GS) (res : Int64) (h : B_X1_choices x0 x1 w = some res) : Met l yX1_choices (ws_ yX1_choices cX1_choices 5 (Option.some Jvm.ClassFile.FieldType.long)) (gRoom 0 0 LC LS w) (gPc E A LC LS [.int x0, .int x1] w) (gQl E A LC LS res w) (LC - gZ w) (LS - gN w) A := by
  refine gMet (by decide) rfl (Nat.le_of_ble_eq_true rfl) ?_
  intro p e s m below meth c R S hr hlocks hin2 X Z hF hL H ls hw hl
  replace hl : lv_has ls 5 [(0, .int x0), (1, .int x1)] := hl
  unfold B_X1_choices at h
  refine lv_iload_n S.1 S.2.1 dX1_choices_0 rfl (lv_at hl 1 rfl) ?_
  refine lv_iload_n S.1 S.2.1 dX1_choices_1 rfl (lv_at hl 0 rfl) ?_
  refine lv_icmp_le (tgt := 9) S.1 S.2.1 dX1_choices_2 rfl (fun c1 => ?_) (fun c1 => ?_)
  · replace h := if_t c1 h
    refine lv_lconst (v := 1) S.1 S.2.1 dX1_choices_9 rfl ?_
    refine lv_lstore_n (lv' := [(2, .long (1 : Int64)), (0, .int x0), (1, .int x1)]) S.1 S.2.1 dX1_choices_10 rfl hl (by decide) rfl (fun ls hl => ?_)
    refine lv_iconst (v := 0) S.1 S.2.1 dX1_choices_11 rfl ?_
    refine lv_istore (lv' := [(4, .int (0 : Int32)), (2, .long (1 : Int64)), (0, .int x0), (1, .int x1)]) S.1 S.2.1 dX1_choices_12 hl (by decide) rfl (fun ls hl => ?_)
    exact wk_B_X1_choices_p14 S X Z hF hL hr hlocks  FU _ _ _ _ _ _ _ _ h hw (lv_sub hl [2, 3, 1, 0] rfl)
  · replace h := if_f c1 h
    refine lv_lconst (v := 0) S.1 S.2.1 dX1_choices_5 rfl ?_
    refine lv_goto (tgt := 10) S.1 S.2.1 dX1_choices_6 rfl ?_
    refine lv_lstore_n (lv' := [(2, .long (0 : Int64)), (0, .int x0), (1, .int x1)]) S.1 S.2.1 dX1_choices_10 rfl hl (by decide) rfl (fun ls hl => ?_)
    refine lv_iconst (v := 0) S.1 S.2.1 dX1_choices_11 rfl ?_
    refine lv_istore (lv' := [(4, .int (0 : Int32)), (2, .long (0 : Int64)), (0, .int x0), (1, .int x1)]) S.1 S.2.1 dX1_choices_12 hl (by decide) rfl (fun ls hl => ?_)
    exact wk_B_X1_choices_p14 S X Z hF hL hr hlocks  FU _ _ _ _ _ _ _ _ h hw (lv_sub hl [2, 3, 1, 0] rfl)
theorem cb_X1_359 {R : Room} {s : State} {args : Array Value} {rm : Room} {mc ms : Nat} (hts : ∀ w ∈ lw_all, w.before args s = true) (hc : rm.cells = mc) (hs : rm.slots = ms) (hR : rm.frames + 1 ≤ R.frames ∧ 8 + (5 + 11) + rm.locals ≤ R.locals) : CallB R s args RX1 359 yX1_choices cX1_choices 5 (Option.some Jvm.ClassFile.FieldType.long) (ws_ yX1_choices cX1_choices 5 (Option.some Jvm.ClassFile.FieldType.long)) rm mc ms 2 ∧ (Cond.static yX1_choices).before args s = true := va_cwS 2 hts (lw_S q1587 q1588 q135 q1589) rfl hc hs (by decide +kernel) hR
def B_X1_sampled_p47 : Nat → Int32 → Int32 → Int32 → Int64 → Int32 → GS → Option Int32
  | 0, _, _, _, _, _, _ => none
  | n + 1, x1, x2, x3, x5, x7, w =>
    if x3 < x7 then
      bd1 (B_X1_choices x1 x3 w) fun r6 =>
      bd1 (o_ldiv (x5 * (1000000 : Int64)) r6) fun d7 =>
      some d7.toInt32
    else
      bd1 (B_X1_choices x2 x7 w) fun r8 =>
      bd1 (B_X1_choices (x1 - x2) (x3 - x7) w) fun r9 =>
      bdp (x5 + (r8 * r9)) fun y10 =>
      (B_X1_sampled_p47 n) x1 x2 x3 y10 (x7 + (1 : Int32)) w
def B_X1_sampled (x0 : Nat) (x1 : Int32) (x2 : Int32) (x3 : Int32) (x4 : Int32) (w : GS) : Option Int32 :=
  if (B_X1_in x1 (1 : Int32) (30 : Int32)) = 0 then
    some (-1 : Int32)
  else
    if (B_X1_in x2 (0 : Int32) x1) = 0 then
      some (-1 : Int32)
    else
      if (B_X1_in x3 (0 : Int32) x1) = 0 then
        some (-1 : Int32)
      else
        if (B_X1_in x4 (0 : Int32) x3) = 0 then
          some (-1 : Int32)
        else
          B_X1_sampled_p47 FU x1 x2 x3 (0 : Int64) x4 w
set_option maxRecDepth 100000 in
set_option maxHeartbeats 4000000 in
theorem wk_B_X1_sampled_p47 {p : Program} {l : Launch} {e : Env} {R : Room} {s : State} {m : MethodId} {args : Array Value} {below : List Frame} {meth : Method} {c : Code} {E : gE} {A : Nat → Prop} {LC LS : Nat} (S : CallFix p m c cX1_sampled 8 s args lw_all RX1) (X : gCtx E A s) (Z : gRm R s LC LS) (hF : 1 ≤ R.frames) (hL : 24 ≤ R.locals) (hr : meth.sig.returnType = (Option.some Jvm.ClassFile.FieldType.int)) (hlocks : meth.locks = false) {res : Int32}  : ∀ n : Nat, ∀ (x1 : Int32) (x2 : Int32) (x3 : Int32) (x5 : Int64) (x7 : Int32) (w : GS) (H : Heap) (locs : List Loc) (ls : Array Slot), B_X1_sampled_p47 n x1 x2 x3 x5 x7 w = some res → gH E A LC LS s w H locs → lv_has ls 8 [(1, .int x1), (2, .int x2), (3, .int x3), (5, .long x5), (7, .int x7)] → W p l e R s m args below meth c H locs (H.size - s.heap.size) (tot H - tot s.heap) (MQ below (gQi E A LC LS res w) args s R.cells R.slots A) (F0 m 47 ls []) := by
  intro n
  induction n with
  | zero => intro x1 x2 x3 x5 x7 w H locs ls h; cases (show (none : Option Int32) = some res from h)
  | succ n ih =>
    intro x1 x2 x3 x5 x7 w H locs ls h hw hl
    rw [B_X1_sampled_p47] at h
    refine lv_iload S.1 S.2.1 dX1_sampled_47 (lv_at hl 4 rfl) ?_
    refine lv_iload_n S.1 S.2.1 dX1_sampled_49 rfl (lv_at hl 2 rfl) ?_
    refine lv_icmp_gt (tgt := 81) S.1 S.2.1 dX1_sampled_50 rfl (fun c5 => ?_) (fun c5 => ?_)
    · replace h := if_t c5 h
      refine lv_lload S.1 S.2.1 dX1_sampled_81 (lv_at hl 3 rfl) ?_
      refine lv_ldc2 (v := 1000000) S.1 S.2.1 S.2.2.2.1 (S.2.2.2.2 _ q1590) dX1_sampled_83 ?_
      refine lv_lmul S.1 S.2.1 dX1_sampled_86 ?_
      refine lv_iload_n S.1 S.2.1 dX1_sampled_87 rfl (lv_at hl 0 rfl) ?_
      refine lv_iload_n S.1 S.2.1 dX1_sampled_88 rfl (lv_at hl 2 rfl) ?_
      refine gcSrl (As := [.int x1, .int x3]) (rest := [.long (x5 * (1000000 : Int64))]) S X Z hw h (fun u h1 => met_B_X1_choices l E A LC LS x1 x3 w u h1) (cb_X1_359 S.2.2.2.2 rfl rfl ⟨Nat.le_trans (Nat.le_of_ble_eq_true rfl : 0 + 1 ≤ 1) hF, Nat.le_trans (Nat.le_of_ble_eq_true rfl : 8 + (5 + 11) + 0 ≤ 24) hL⟩) rfl hl.1 rfl (lv_room (Nat.le_of_ble_eq_true rfl)) dX1_sampled_89 (fun r6 H locs h hw => ?_)
      refine r_ldiv S.1 S.2.1 dX1_sampled_92 h (fun d7 h => ?_)
      refine lv_l2i S.1 S.2.1 dX1_sampled_93 rfl ?_
      exact g_iret S Z hr hlocks hw ⟨so1 h, rfl⟩ dX1_sampled_94
    · replace h := if_f c5 h
      refine lv_lload S.1 S.2.1 dX1_sampled_53 (lv_at hl 3 rfl) ?_
      refine lv_iload_n S.1 S.2.1 dX1_sampled_55 rfl (lv_at hl 1 rfl) ?_
      refine lv_iload S.1 S.2.1 dX1_sampled_56 (lv_at hl 4 rfl) ?_
      refine gcSrl (As := [.int x2, .int x7]) (rest := [.long x5]) S X Z hw h (fun u h1 => met_B_X1_choices l E A LC LS x2 x7 w u h1) (cb_X1_359 S.2.2.2.2 rfl rfl ⟨Nat.le_trans (Nat.le_of_ble_eq_true rfl : 0 + 1 ≤ 1) hF, Nat.le_trans (Nat.le_of_ble_eq_true rfl : 8 + (5 + 11) + 0 ≤ 24) hL⟩) rfl hl.1 rfl (lv_room (Nat.le_of_ble_eq_true rfl)) dX1_sampled_58 (fun r8 H locs h hw => ?_)
      refine lv_iload_n S.1 S.2.1 dX1_sampled_61 rfl (lv_at hl 0 rfl) ?_
      refine lv_iload_n S.1 S.2.1 dX1_sampled_62 rfl (lv_at hl 1 rfl) ?_
      refine lv_isub S.1 S.2.1 dX1_sampled_63 ?_
      refine lv_iload_n S.1 S.2.1 dX1_sampled_64 rfl (lv_at hl 2 rfl) ?_
      refine lv_iload S.1 S.2.1 dX1_sampled_65 (lv_at hl 4 rfl) ?_
      refine lv_isub S.1 S.2.1 dX1_sampled_67 ?_
      refine gcSrl (As := [.int (x1 - x2), .int (x3 - x7)]) (rest := [.long r8, .long x5]) S X Z hw h (fun u h1 => met_B_X1_choices l E A LC LS (x1 - x2) (x3 - x7) w u h1) (cb_X1_359 S.2.2.2.2 rfl rfl ⟨Nat.le_trans (Nat.le_of_ble_eq_true rfl : 0 + 1 ≤ 1) hF, Nat.le_trans (Nat.le_of_ble_eq_true rfl : 8 + (5 + 11) + 0 ≤ 24) hL⟩) rfl hl.1 rfl (lv_room (Nat.le_of_ble_eq_true rfl)) dX1_sampled_68 (fun r9 H locs h hw => ?_)
      refine lv_lmul S.1 S.2.1 dX1_sampled_71 ?_
      refine lv_ladd S.1 S.2.1 dX1_sampled_72 ?_
      refine lv_topl (fun y10 ey => ?_)
      replace h := bdp_e ey h
      refine lv_lstore (lv' := [(5, .long y10), (1, .int x1), (2, .int x2), (3, .int x3), (7, .int x7)]) S.1 S.2.1 dX1_sampled_73 hl (by decide) rfl (fun ls hl => ?_)
      refine lv_iinc (v := x7 + (1 : Int32)) (lv' := [(7, .int (x7 + (1 : Int32))), (5, .long y10), (1, .int x1), (2, .int x2), (3, .int x3)]) S.1 S.2.1 dX1_sampled_75 hl (k := 4) rfl rfl (by decide) rfl (fun ls hl => ?_)
      refine lv_goto (tgt := 47) S.1 S.2.1 dX1_sampled_78 rfl ?_
      exact ih _ _ _ _ _ _ _ _ _ h hw (lv_sub hl [2, 3, 4, 1, 0] rfl)
set_option maxRecDepth 100000 in
set_option maxHeartbeats 4000000 in
theorem met_B_X1_sampled (l : Launch) (E : gE) (A : Nat → Prop) (LC LS : Nat)  (x0 : Nat) (x1 : Int32) (x2 : Int32) (x3 : Int32) (x4 : Int32) (w : GS) (res : Int32) (h : B_X1_sampled x0 x1 x2 x3 x4 w = some res) : Met l yX1_sampled (ws_ yX1_sampled cX1_sampled 8 (Option.some Jvm.ClassFile.FieldType.int)) (gRoom 1 24 LC LS w) (gPc E A LC LS [.ref x0, .int x1, .int x2, .int x3, .int x4] w) (gQi E A LC LS res w) (LC - gZ w) (LS - gN w) A := by
  refine gMet (by decide) rfl (Nat.le_of_ble_eq_true rfl) ?_
  intro p e s m below meth c R S hr hlocks hin2 X Z hF hL H ls hw hl
  replace hl : lv_has ls 8 [(0, .ref x0), (1, .int x1), (2, .int x2), (3, .int x3), (4, .int x4)] := hl
  unfold B_X1_sampled at h
  refine lv_iload_n S.1 S.2.1 dX1_sampled_0 rfl (lv_at hl 1 rfl) ?_
  refine lv_iconst (v := 1) S.1 S.2.1 dX1_sampled_1 rfl ?_
  refine lv_bipush (v := 30) S.1 S.2.1 dX1_sampled_2 rfl ?_
  refine gcSti (As := [.int x1, .int (1 : Int32), .int (30 : Int32)]) (rest := []) S X Z hw (met_B_X1_in l E A LC LS x1 (1 : Int32) (30 : Int32) w _ rfl) (cb_X1_153 S.2.2.2.2 rfl rfl ⟨Nat.le_trans (Nat.le_of_ble_eq_true rfl : 0 + 1 ≤ 1) hF, Nat.le_trans (Nat.le_of_ble_eq_true rfl : 8 + (3 + 11) + 0 ≤ 24) hL⟩) rfl hl.1 rfl (lv_room (Nat.le_of_ble_eq_true rfl)) dX1_sampled_4 (fun H locs hw => ?_)
  refine lv_if_eq (tgt := 38) S.1 S.2.1 dX1_sampled_7 rfl (fun c1 => ?_) (fun c1 => ?_)
  · replace h := if_t c1 h
    refine lv_iconst (v := -1) S.1 S.2.1 dX1_sampled_38 rfl ?_
    exact g_iret S Z hr hlocks hw ⟨so1 h, rfl⟩ dX1_sampled_39
  · replace h := if_f c1 h
    refine lv_iload_n S.1 S.2.1 dX1_sampled_10 rfl (lv_at hl 2 rfl) ?_
    refine lv_iconst (v := 0) S.1 S.2.1 dX1_sampled_11 rfl ?_
    refine lv_iload_n S.1 S.2.1 dX1_sampled_12 rfl (lv_at hl 1 rfl) ?_
    refine gcSti (As := [.int x2, .int (0 : Int32), .int x1]) (rest := []) S X Z hw (met_B_X1_in l E A LC LS x2 (0 : Int32) x1 w _ rfl) (cb_X1_153 S.2.2.2.2 rfl rfl ⟨Nat.le_trans (Nat.le_of_ble_eq_true rfl : 0 + 1 ≤ 1) hF, Nat.le_trans (Nat.le_of_ble_eq_true rfl : 8 + (3 + 11) + 0 ≤ 24) hL⟩) rfl hl.1 rfl (lv_room (Nat.le_of_ble_eq_true rfl)) dX1_sampled_13 (fun H locs hw => ?_)
    refine lv_if_eq (tgt := 38) S.1 S.2.1 dX1_sampled_16 rfl (fun c2 => ?_) (fun c2 => ?_)
    · replace h := if_t c2 h
      refine lv_iconst (v := -1) S.1 S.2.1 dX1_sampled_38 rfl ?_
      exact g_iret S Z hr hlocks hw ⟨so1 h, rfl⟩ dX1_sampled_39
    · replace h := if_f c2 h
      refine lv_iload_n S.1 S.2.1 dX1_sampled_19 rfl (lv_at hl 3 rfl) ?_
      refine lv_iconst (v := 0) S.1 S.2.1 dX1_sampled_20 rfl ?_
      refine lv_iload_n S.1 S.2.1 dX1_sampled_21 rfl (lv_at hl 1 rfl) ?_
      refine gcSti (As := [.int x3, .int (0 : Int32), .int x1]) (rest := []) S X Z hw (met_B_X1_in l E A LC LS x3 (0 : Int32) x1 w _ rfl) (cb_X1_153 S.2.2.2.2 rfl rfl ⟨Nat.le_trans (Nat.le_of_ble_eq_true rfl : 0 + 1 ≤ 1) hF, Nat.le_trans (Nat.le_of_ble_eq_true rfl : 8 + (3 + 11) + 0 ≤ 24) hL⟩) rfl hl.1 rfl (lv_room (Nat.le_of_ble_eq_true rfl)) dX1_sampled_22 (fun H locs hw => ?_)
      refine lv_if_eq (tgt := 38) S.1 S.2.1 dX1_sampled_25 rfl (fun c3 => ?_) (fun c3 => ?_)
      · replace h := if_t c3 h
        refine lv_iconst (v := -1) S.1 S.2.1 dX1_sampled_38 rfl ?_
        exact g_iret S Z hr hlocks hw ⟨so1 h, rfl⟩ dX1_sampled_39
      · replace h := if_f c3 h
        refine lv_iload S.1 S.2.1 dX1_sampled_28 (lv_at hl 4 rfl) ?_
        refine lv_iconst (v := 0) S.1 S.2.1 dX1_sampled_30 rfl ?_
        refine lv_iload_n S.1 S.2.1 dX1_sampled_31 rfl (lv_at hl 3 rfl) ?_
        refine gcSti (As := [.int x4, .int (0 : Int32), .int x3]) (rest := []) S X Z hw (met_B_X1_in l E A LC LS x4 (0 : Int32) x3 w _ rfl) (cb_X1_153 S.2.2.2.2 rfl rfl ⟨Nat.le_trans (Nat.le_of_ble_eq_true rfl : 0 + 1 ≤ 1) hF, Nat.le_trans (Nat.le_of_ble_eq_true rfl : 8 + (3 + 11) + 0 ≤ 24) hL⟩) rfl hl.1 rfl (lv_room (Nat.le_of_ble_eq_true rfl)) dX1_sampled_32 (fun H locs hw => ?_)
        refine lv_if_ne (tgt := 40) S.1 S.2.1 dX1_sampled_35 rfl (fun c4 => ?_) (fun c4 => ?_)
        · replace h := if_f c4 h
          refine lv_lconst (v := 0) S.1 S.2.1 dX1_sampled_40 rfl ?_
          refine lv_lstore (lv' := [(5, .long (0 : Int64)), (0, .ref x0), (1, .int x1), (2, .int x2), (3, .int x3), (4, .int x4)]) S.1 S.2.1 dX1_sampled_41 hl (by decide) rfl (fun ls hl => ?_)
          refine lv_iload S.1 S.2.1 dX1_sampled_43 (lv_at hl 5 rfl) ?_
          refine lv_istore (lv' := [(7, .int x4), (5, .long (0 : Int64)), (0, .ref x0), (1, .int x1), (2, .int x2), (3, .int x3), (4, .int x4)]) S.1 S.2.1 dX1_sampled_45 hl (by decide) rfl (fun ls hl => ?_)
          exact wk_B_X1_sampled_p47 S X Z hF hL hr hlocks  FU _ _ _ _ _ _ _ _ _ h hw (lv_sub hl [3, 4, 5, 1, 0] rfl)
        · replace h := if_t c4 h
          refine lv_iconst (v := -1) S.1 S.2.1 dX1_sampled_38 rfl ?_
          exact g_iret S Z hr hlocks hw ⟨so1 h, rfl⟩ dX1_sampled_39
def B_X1_haunt_p109 (k48 : Nat → Int32 → Int32 → Int32 → Int32 → Int32 → Int32 → Int32 → GS → Option (Int32 × GS)) (k82 : Nat → Int32 → Int32 → Int32 → Int32 → Int32 → Int32 → Int32 → Int32 → GS → Option (Int32 × GS)) (x0 : Nat) (x1 : Int32) (x2 : Int32) (x3 : Int32) (x4 : Int32) (x5 : Int32) (x6 : Int32) (x7 : Int32) (x8 : Int32) (w : GS) : Option (Int32 × GS) :=
  bd1 (oRn w x0 1 1 5) fun a22 =>
  bd1 (oRn w x0 1 1 2) fun a23 =>
  bd1 (oK w a23 3 3) fun _ =>
  bd1 (B_X3_brew a23 w) fun r24 =>
  bd1 (oK w x0 1 1) fun _ =>
  bd1 (B_X1_passesOne x0 a22 r24 w) fun w25 =>
  k82 x0 x1 x2 x3 x4 x5 x6 x7 (x8 + (1 : Int32)) w25
def B_X1_haunt_p82 (k48 : Nat → Int32 → Int32 → Int32 → Int32 → Int32 → Int32 → Int32 → GS → Option (Int32 × GS)) : Nat → Nat → Int32 → Int32 → Int32 → Int32 → Int32 → Int32 → Int32 → Int32 → GS → Option (Int32 × GS)
  | 0, _, _, _, _, _, _, _, _, _, _ => none
  | n + 1, x0, x1, x2, x3, x4, x5, x6, x7, x8, w =>
    if (12 : Int32) ≤ x8 then
      bd1 (oRn w x0 1 1 5) fun a13 =>
      bd1 (oRn w a13 4 4 4) fun a14 =>
      bd1 (aI w a14 40 x1) fun v15 =>
      bd1 (oRn w x0 1 1 4) fun a16 =>
      bd1 (oRn w a16 4 4 4) fun a17 =>
      bd1 (aI w a17 40 x1) fun v18 =>
      bdp (v15 - v18) fun y19 =>
      if x6 < y19 then
        k48 x0 x1 x2 x3 x4 x7 y19 (x7 + (1 : Int32)) w
      else
        k48 x0 x1 x2 x3 x4 x5 x6 (x7 + (1 : Int32)) w
    else
      if (B_X1_isIn x7 x8) = 0 then
        B_X1_haunt_p109 k48 (B_X1_haunt_p82 k48 n) x0 x1 x2 x3 x4 x5 x6 x7 x8 w
      else
        bd1 (oRn w x0 1 1 5) fun a26 =>
        bd1 (oK w x0 1 1) fun _ =>
        bd1 (B_X1_frightens x0 a26 x1 x3 w) fun w27 =>
        B_X1_haunt_p109 k48 (B_X1_haunt_p82 k48 n) x0 x1 x2 x3 x4 x5 x6 x7 x8 w27
def B_X1_haunt_p48 : Nat → Nat → Int32 → Int32 → Int32 → Int32 → Int32 → Int32 → Int32 → GS → Option (Int32 × GS)
  | 0, _, _, _, _, _, _, _, _, _ => none
  | n + 1, x0, x1, x2, x3, x4, x5, x6, x7, w =>
    if (4096 : Int32) ≤ x7 then
      if x4 = 0 then
        some (x6, w)
      else
        some (x5, w)
    else
      if (B_J17_bitCount x7) = x2 then
        bd1 (oRn w x0 1 1 5) fun a9 =>
        bd1 (oRn w x0 1 1 4) fun a10 =>
        bd1 (oK w a9 4 4) fun _ =>
        bd1 (B_X4_be a9 a10 w) fun w11 =>
        B_X1_haunt_p82 (B_X1_haunt_p48 n) FU x0 x1 x2 x3 x4 x5 x6 x7 (0 : Int32) w11
      else
        (B_X1_haunt_p48 n) x0 x1 x2 x3 x4 x5 x6 (x7 + (1 : Int32)) w
def B_X1_haunt (x0 : Nat) (x1 : Int32) (x2 : Int32) (x3 : Int32) (x4 : Int32) (w : GS) : Option (Int32 × GS) :=
  bd1 (oK w x0 1 1) fun _ =>
  bd1 (B_X1_isHome x0 x1 w) fun r1 =>
  if r1 = 0 then
    some ((-1 : Int32), w)
  else
    if (B_X1_in x2 (1 : Int32) (3 : Int32)) = 0 then
      some ((-1 : Int32), w)
    else
      if (B_X1_in x3 (1 : Int32) (99 : Int32)) = 0 then
        some ((-1 : Int32), w)
      else
        if (B_X1_in x4 (0 : Int32) (1 : Int32)) = 0 then
          some ((-1 : Int32), w)
        else
          B_X1_haunt_p48 FU x0 x1 x2 x3 x4 (0 : Int32) (-1 : Int32) (0 : Int32) w
set_option maxRecDepth 100000 in
set_option maxHeartbeats 4000000 in
theorem wk_B_X1_haunt_p109 {p : Program} {l : Launch} {e : Env} {R : Room} {s : State} {m : MethodId} {args : Array Value} {below : List Frame} {meth : Method} {c : Code} {E : gE} {A : Nat → Prop} {LC LS : Nat} (S : CallFix p m c cX1_haunt 9 s args lw_all RX1) (X : gCtx E A s) (Z : gRm R s LC LS) (hF : 6 ≤ R.frames) (hL : 134 ≤ R.locals) (hr : meth.sig.returnType = (Option.some Jvm.ClassFile.FieldType.int)) (hlocks : meth.locks = false) {res : Int32 × GS}  {k48 : Nat → Int32 → Int32 → Int32 → Int32 → Int32 → Int32 → Int32 → GS → Option (Int32 × GS)} (hk48 : ∀ (x0 : Nat) (x1 : Int32) (x2 : Int32) (x3 : Int32) (x4 : Int32) (x5 : Int32) (x6 : Int32) (x7 : Int32) (w : GS) (H : Heap) (locs : List Loc) (ls : Array Slot), k48 x0 x1 x2 x3 x4 x5 x6 x7 w = some res → gH E A LC LS s w H locs → lv_has ls 9 [(0, .ref x0), (1, .int x1), (2, .int x2), (3, .int x3), (4, .int x4), (5, .int x5), (6, .int x6), (7, .int x7)] → W p l e R s m args below meth c H locs (H.size - s.heap.size) (tot H - tot s.heap) (MQ below (gQi E A LC LS res.1 res.2) args s R.cells R.slots A) (F0 m 48 ls [])) {k82 : Nat → Int32 → Int32 → Int32 → Int32 → Int32 → Int32 → Int32 → Int32 → GS → Option (Int32 × GS)} (hk82 : ∀ (x0 : Nat) (x1 : Int32) (x2 : Int32) (x3 : Int32) (x4 : Int32) (x5 : Int32) (x6 : Int32) (x7 : Int32) (x8 : Int32) (w : GS) (H : Heap) (locs : List Loc) (ls : Array Slot), k82 x0 x1 x2 x3 x4 x5 x6 x7 x8 w = some res → gH E A LC LS s w H locs → lv_has ls 9 [(0, .ref x0), (1, .int x1), (2, .int x2), (3, .int x3), (4, .int x4), (5, .int x5), (6, .int x6), (7, .int x7), (8, .int x8)] → W p l e R s m args below meth c H locs (H.size - s.heap.size) (tot H - tot s.heap) (MQ below (gQi E A LC LS res.1 res.2) args s R.cells R.slots A) (F0 m 82 ls [])) : ∀ (x0 : Nat) (x1 : Int32) (x2 : Int32) (x3 : Int32) (x4 : Int32) (x5 : Int32) (x6 : Int32) (x7 : Int32) (x8 : Int32) (w : GS) (H : Heap) (locs : List Loc) (ls : Array Slot), B_X1_haunt_p109 k48 k82 x0 x1 x2 x3 x4 x5 x6 x7 x8 w = some res → gH E A LC LS s w H locs → lv_has ls 9 [(0, .ref x0), (1, .int x1), (2, .int x2), (3, .int x3), (4, .int x4), (5, .int x5), (6, .int x6), (7, .int x7), (8, .int x8)] → W p l e R s m args below meth c H locs (H.size - s.heap.size) (tot H - tot s.heap) (MQ below (gQi E A LC LS res.1 res.2) args s R.cells R.slots A) (F0 m 109 ls []) := by
  intro x0 x1 x2 x3 x4 x5 x6 x7 x8 w H locs ls h hw hl
  unfold B_X1_haunt_p109 at h
  refine lv_aload_n S.1 S.2.1 dX1_haunt_109 rfl (lv_at hl 0 rfl) ?_
  refine lv_aload_n S.1 S.2.1 dX1_haunt_110 rfl (lv_at hl 0 rfl) ?_
  refine ggX1_55 S X hw dX1_haunt_111 h (fun a22 h => ?_)
  refine lv_aload_n S.1 S.2.1 dX1_haunt_114 rfl (lv_at hl 0 rfl) ?_
  refine ggX1_35 S X hw dX1_haunt_115 h (fun a23 h => ?_)
  obtain ⟨hrc, h⟩ := oK1 h
  refine gcVri (As := []) (rest := [.ref a22, .ref x0]) S X Z hw (b := a23) h (fun u h1 => met_B_X3_brew l E A LC LS a23 w u h1) (cb_X1_210 S.2.2.2.2 rfl rfl ⟨Nat.le_trans (Nat.le_of_ble_eq_true rfl : 0 + 1 ≤ 6) hF, Nat.le_trans (Nat.le_of_ble_eq_true rfl : 8 + (1 + 11) + 0 ≤ 134) hL⟩) (g_recv X hw (ci := 2) rfl (gcell_3 hrc)) rfl hl.1 rfl (lv_room (Nat.le_of_ble_eq_true rfl)) dX1_haunt_118 (fun r24 H locs h hw => ?_)
  obtain ⟨hrc, h⟩ := oK1 h
  refine gcVv (As := [.ref a22, .int r24]) (rest := []) S X Z hw (b := x0) h (fun u h1 => met_B_X1_passesOne l E A LC LS x0 a22 r24 w u h1) (cb_X1_213 S.2.2.2.2 rfl rfl ⟨Nat.le_trans (Nat.le_of_ble_eq_true rfl : 5 + 1 ≤ 6) hF, Nat.le_trans (Nat.le_of_ble_eq_true rfl : 8 + (5 + 11) + 110 ≤ 134) hL⟩) (g_recv X hw (ci := 0) rfl (gcell_1 hrc)) rfl hl.1 rfl (lv_room (Nat.le_of_ble_eq_true rfl)) dX1_haunt_121 (fun w25 H locs h hw => ?_)
  refine lv_iinc (v := x8 + (1 : Int32)) (lv' := [(8, .int (x8 + (1 : Int32))), (0, .ref x0), (1, .int x1), (2, .int x2), (3, .int x3), (4, .int x4), (5, .int x5), (6, .int x6), (7, .int x7)]) S.1 S.2.1 dX1_haunt_124 hl (k := 8) rfl rfl (by decide) rfl (fun ls hl => ?_)
  refine lv_goto (tgt := 82) S.1 S.2.1 dX1_haunt_127 rfl ?_
  exact hk82 _ _ _ _ _ _ _ _ _ _ _ _ _ h hw (lv_sub hl [1, 2, 3, 4, 5, 6, 7, 8, 0] rfl)
set_option maxRecDepth 100000 in
set_option maxHeartbeats 4000000 in
theorem wk_B_X1_haunt_p82 {p : Program} {l : Launch} {e : Env} {R : Room} {s : State} {m : MethodId} {args : Array Value} {below : List Frame} {meth : Method} {c : Code} {E : gE} {A : Nat → Prop} {LC LS : Nat} (S : CallFix p m c cX1_haunt 9 s args lw_all RX1) (X : gCtx E A s) (Z : gRm R s LC LS) (hF : 6 ≤ R.frames) (hL : 134 ≤ R.locals) (hr : meth.sig.returnType = (Option.some Jvm.ClassFile.FieldType.int)) (hlocks : meth.locks = false) {res : Int32 × GS}  {k48 : Nat → Int32 → Int32 → Int32 → Int32 → Int32 → Int32 → Int32 → GS → Option (Int32 × GS)} (hk48 : ∀ (x0 : Nat) (x1 : Int32) (x2 : Int32) (x3 : Int32) (x4 : Int32) (x5 : Int32) (x6 : Int32) (x7 : Int32) (w : GS) (H : Heap) (locs : List Loc) (ls : Array Slot), k48 x0 x1 x2 x3 x4 x5 x6 x7 w = some res → gH E A LC LS s w H locs → lv_has ls 9 [(0, .ref x0), (1, .int x1), (2, .int x2), (3, .int x3), (4, .int x4), (5, .int x5), (6, .int x6), (7, .int x7)] → W p l e R s m args below meth c H locs (H.size - s.heap.size) (tot H - tot s.heap) (MQ below (gQi E A LC LS res.1 res.2) args s R.cells R.slots A) (F0 m 48 ls [])) : ∀ n : Nat, ∀ (x0 : Nat) (x1 : Int32) (x2 : Int32) (x3 : Int32) (x4 : Int32) (x5 : Int32) (x6 : Int32) (x7 : Int32) (x8 : Int32) (w : GS) (H : Heap) (locs : List Loc) (ls : Array Slot), B_X1_haunt_p82 k48 n x0 x1 x2 x3 x4 x5 x6 x7 x8 w = some res → gH E A LC LS s w H locs → lv_has ls 9 [(0, .ref x0), (1, .int x1), (2, .int x2), (3, .int x3), (4, .int x4), (5, .int x5), (6, .int x6), (7, .int x7), (8, .int x8)] → W p l e R s m args below meth c H locs (H.size - s.heap.size) (tot H - tot s.heap) (MQ below (gQi E A LC LS res.1 res.2) args s R.cells R.slots A) (F0 m 82 ls []) := by
  intro n
  induction n with
  | zero => intro x0 x1 x2 x3 x4 x5 x6 x7 x8 w H locs ls h; cases (show (none : Option (Int32 × GS)) = some res from h)
  | succ n ih =>
    intro x0 x1 x2 x3 x4 x5 x6 x7 x8 w H locs ls h hw hl
    rw [B_X1_haunt_p82] at h
    refine lv_iload S.1 S.2.1 dX1_haunt_82 (lv_at hl 8 rfl) ?_
    refine lv_bipush (v := 12) S.1 S.2.1 dX1_haunt_84 rfl ?_
    refine lv_icmp_ge (tgt := 130) S.1 S.2.1 dX1_haunt_86 rfl (fun c12 => ?_) (fun c12 => ?_)
    · replace h := if_t c12 h
      refine lv_aload_n S.1 S.2.1 dX1_haunt_130 rfl (lv_at hl 0 rfl) ?_
      refine ggX1_55 S X hw dX1_haunt_131 h (fun a13 h => ?_)
      refine ggX1_199 S X hw dX1_haunt_134 h (fun a14 h => ?_)
      refine lv_iload_n S.1 S.2.1 dX1_haunt_137 rfl (lv_at hl 1 rfl) ?_
      refine gald40 S X hw dX1_haunt_138 h (fun v15 h => ?_)
      refine lv_aload_n S.1 S.2.1 dX1_haunt_139 rfl (lv_at hl 0 rfl) ?_
      refine ggX1_51 S X hw dX1_haunt_140 h (fun a16 h => ?_)
      refine ggX1_199 S X hw dX1_haunt_143 h (fun a17 h => ?_)
      refine lv_iload_n S.1 S.2.1 dX1_haunt_146 rfl (lv_at hl 1 rfl) ?_
      refine gald40 S X hw dX1_haunt_147 h (fun v18 h => ?_)
      refine lv_isub S.1 S.2.1 dX1_haunt_148 ?_
      refine lv_topi (fun y19 ey => ?_)
      replace h := bdp_e ey h
      refine lv_istore (lv' := [(8, .int y19), (0, .ref x0), (1, .int x1), (2, .int x2), (3, .int x3), (4, .int x4), (5, .int x5), (6, .int x6), (7, .int x7)]) S.1 S.2.1 dX1_haunt_149 hl (by decide) rfl (fun ls hl => ?_)
      refine lv_iload S.1 S.2.1 dX1_haunt_151 (lv_at hl 0 rfl) ?_
      refine lv_iload S.1 S.2.1 dX1_haunt_153 (lv_at hl 7 rfl) ?_
      refine lv_icmp_gt (tgt := 161) S.1 S.2.1 dX1_haunt_155 rfl (fun c20 => ?_) (fun c20 => ?_)
      · replace h := if_t c20 h
        refine lv_iload S.1 S.2.1 dX1_haunt_161 (lv_at hl 0 rfl) ?_
        refine lv_istore (lv' := [(6, .int y19), (8, .int y19), (0, .ref x0), (1, .int x1), (2, .int x2), (3, .int x3), (4, .int x4), (5, .int x5), (7, .int x7)]) S.1 S.2.1 dX1_haunt_163 hl (by decide) rfl (fun ls hl => ?_)
        refine lv_iload S.1 S.2.1 dX1_haunt_165 (lv_at hl 8 rfl) ?_
        refine lv_istore (lv' := [(5, .int x7), (6, .int y19), (8, .int y19), (0, .ref x0), (1, .int x1), (2, .int x2), (3, .int x3), (4, .int x4), (7, .int x7)]) S.1 S.2.1 dX1_haunt_167 hl (by decide) rfl (fun ls hl => ?_)
        refine lv_iinc (v := x7 + (1 : Int32)) (lv' := [(7, .int (x7 + (1 : Int32))), (5, .int x7), (6, .int y19), (8, .int y19), (0, .ref x0), (1, .int x1), (2, .int x2), (3, .int x3), (4, .int x4)]) S.1 S.2.1 dX1_haunt_169 hl (k := 8) rfl rfl (by decide) rfl (fun ls hl => ?_)
        refine lv_goto (tgt := 48) S.1 S.2.1 dX1_haunt_172 rfl ?_
        exact hk48 _ _ _ _ _ _ _ _ _ _ _ _ h hw (lv_sub hl [4, 5, 6, 7, 8, 1, 2, 0] rfl)
      · replace h := if_f c20 h
        refine lv_goto (tgt := 169) S.1 S.2.1 dX1_haunt_158 rfl ?_
        refine lv_iinc (v := x7 + (1 : Int32)) (lv' := [(7, .int (x7 + (1 : Int32))), (8, .int y19), (0, .ref x0), (1, .int x1), (2, .int x2), (3, .int x3), (4, .int x4), (5, .int x5), (6, .int x6)]) S.1 S.2.1 dX1_haunt_169 hl (k := 8) rfl rfl (by decide) rfl (fun ls hl => ?_)
        refine lv_goto (tgt := 48) S.1 S.2.1 dX1_haunt_172 rfl ?_
        exact hk48 _ _ _ _ _ _ _ _ _ _ _ _ h hw (lv_sub hl [2, 3, 4, 5, 6, 7, 8, 0] rfl)
    · replace h := if_f c12 h
      refine lv_iload S.1 S.2.1 dX1_haunt_89 (lv_at hl 7 rfl) ?_
      refine lv_iload S.1 S.2.1 dX1_haunt_91 (lv_at hl 8 rfl) ?_
      refine gcSti (As := [.int x7, .int x8]) (rest := []) S X Z hw (met_B_X1_isIn l E A LC LS x7 x8 w _ rfl) (cb_X1_252 S.2.2.2.2 rfl rfl ⟨Nat.le_trans (Nat.le_of_ble_eq_true rfl : 0 + 1 ≤ 6) hF, Nat.le_trans (Nat.le_of_ble_eq_true rfl : 8 + (2 + 11) + 0 ≤ 134) hL⟩) rfl hl.1 rfl (lv_room (Nat.le_of_ble_eq_true rfl)) dX1_haunt_93 (fun H locs hw => ?_)
      refine lv_if_eq (tgt := 109) S.1 S.2.1 dX1_haunt_96 rfl (fun c21 => ?_) (fun c21 => ?_)
      · replace h := if_t c21 h
        exact wk_B_X1_haunt_p109 S X Z hF hL hr hlocks  hk48 ih _ _ _ _ _ _ _ _ _ _ _ _ _ h hw (lv_sub hl [0, 1, 2, 3, 4, 5, 6, 7, 8] rfl)
      · replace h := if_f c21 h
        refine lv_aload_n S.1 S.2.1 dX1_haunt_99 rfl (lv_at hl 0 rfl) ?_
        refine lv_aload_n S.1 S.2.1 dX1_haunt_100 rfl (lv_at hl 0 rfl) ?_
        refine ggX1_55 S X hw dX1_haunt_101 h (fun a26 h => ?_)
        refine lv_iload_n S.1 S.2.1 dX1_haunt_104 rfl (lv_at hl 1 rfl) ?_
        refine lv_iload_n S.1 S.2.1 dX1_haunt_105 rfl (lv_at hl 3 rfl) ?_
        obtain ⟨hrc, h⟩ := oK1 h
        refine gcVv (As := [.ref a26, .int x1, .int x3]) (rest := []) S X Z hw (b := x0) h (fun u h1 => met_B_X1_frightens l E A LC LS x0 a26 x1 x3 w u h1) (cb_X1_288 S.2.2.2.2 rfl rfl ⟨Nat.le_trans (Nat.le_of_ble_eq_true rfl : 4 + 1 ≤ 6) hF, Nat.le_trans (Nat.le_of_ble_eq_true rfl : 8 + (4 + 11) + 85 ≤ 134) hL⟩) (g_recv X hw (ci := 0) rfl (gcell_1 hrc)) rfl hl.1 rfl (lv_room (Nat.le_of_ble_eq_true rfl)) dX1_haunt_106 (fun w27 H locs h hw => ?_)
        exact wk_B_X1_haunt_p109 S X Z hF hL hr hlocks  hk48 ih _ _ _ _ _ _ _ _ _ _ _ _ _ h hw (lv_sub hl [0, 1, 2, 3, 4, 5, 6, 7, 8] rfl)
set_option maxRecDepth 100000 in
set_option maxHeartbeats 4000000 in
theorem wk_B_X1_haunt_p48 {p : Program} {l : Launch} {e : Env} {R : Room} {s : State} {m : MethodId} {args : Array Value} {below : List Frame} {meth : Method} {c : Code} {E : gE} {A : Nat → Prop} {LC LS : Nat} (S : CallFix p m c cX1_haunt 9 s args lw_all RX1) (X : gCtx E A s) (Z : gRm R s LC LS) (hF : 6 ≤ R.frames) (hL : 134 ≤ R.locals) (hr : meth.sig.returnType = (Option.some Jvm.ClassFile.FieldType.int)) (hlocks : meth.locks = false) {res : Int32 × GS}  : ∀ n : Nat, ∀ (x0 : Nat) (x1 : Int32) (x2 : Int32) (x3 : Int32) (x4 : Int32) (x5 : Int32) (x6 : Int32) (x7 : Int32) (w : GS) (H : Heap) (locs : List Loc) (ls : Array Slot), B_X1_haunt_p48 n x0 x1 x2 x3 x4 x5 x6 x7 w = some res → gH E A LC LS s w H locs → lv_has ls 9 [(0, .ref x0), (1, .int x1), (2, .int x2), (3, .int x3), (4, .int x4), (5, .int x5), (6, .int x6), (7, .int x7)] → W p l e R s m args below meth c H locs (H.size - s.heap.size) (tot H - tot s.heap) (MQ below (gQi E A LC LS res.1 res.2) args s R.cells R.slots A) (F0 m 48 ls []) := by
  intro n
  induction n with
  | zero => intro x0 x1 x2 x3 x4 x5 x6 x7 w H locs ls h; cases (show (none : Option (Int32 × GS)) = some res from h)
  | succ n ih =>
    intro x0 x1 x2 x3 x4 x5 x6 x7 w H locs ls h hw hl
    rw [B_X1_haunt_p48] at h
    refine lv_iload S.1 S.2.1 dX1_haunt_48 (lv_at hl 7 rfl) ?_
    refine lv_sipush (v := 4096) S.1 S.2.1 dX1_haunt_50 rfl ?_
    refine lv_icmp_ge (tgt := 175) S.1 S.2.1 dX1_haunt_53 rfl (fun c6 => ?_) (fun c6 => ?_)
    · replace h := if_t c6 h
      refine lv_iload S.1 S.2.1 dX1_haunt_175 (lv_at hl 4 rfl) ?_
      refine lv_if_ne (tgt := 185) S.1 S.2.1 dX1_haunt_177 rfl (fun c7 => ?_) (fun c7 => ?_)
      · replace h := if_f c7 h
        refine lv_iload S.1 S.2.1 dX1_haunt_185 (lv_at hl 5 rfl) ?_
        exact g_iret S Z hr hlocks hw (so2 h) dX1_haunt_187
      · replace h := if_t c7 h
        refine lv_iload S.1 S.2.1 dX1_haunt_180 (lv_at hl 6 rfl) ?_
        refine lv_goto (tgt := 187) S.1 S.2.1 dX1_haunt_182 rfl ?_
        exact g_iret S Z hr hlocks hw (so2 h) dX1_haunt_187
    · replace h := if_f c6 h
      refine lv_iload S.1 S.2.1 dX1_haunt_56 (lv_at hl 7 rfl) ?_
      refine gcSti (As := [.int x7]) (rest := []) S X Z hw (met_B_J17_bitCount l E A LC LS x7 w _ rfl) (cb_X1_312 S.2.2.2.2 rfl rfl ⟨Nat.le_trans (Nat.le_of_ble_eq_true rfl : 0 + 1 ≤ 6) hF, Nat.le_trans (Nat.le_of_ble_eq_true rfl : 8 + (1 + 11) + 0 ≤ 134) hL⟩) rfl hl.1 rfl (lv_room (Nat.le_of_ble_eq_true rfl)) dX1_haunt_58 (fun H locs hw => ?_)
      refine lv_iload_n S.1 S.2.1 dX1_haunt_61 rfl (lv_at hl 2 rfl) ?_
      refine lv_icmp_eq (tgt := 68) S.1 S.2.1 dX1_haunt_62 rfl (fun c8 => ?_) (fun c8 => ?_)
      · replace h := if_t c8 h
        refine lv_aload_n S.1 S.2.1 dX1_haunt_68 rfl (lv_at hl 0 rfl) ?_
        refine ggX1_55 S X hw dX1_haunt_69 h (fun a9 h => ?_)
        refine lv_aload_n S.1 S.2.1 dX1_haunt_72 rfl (lv_at hl 0 rfl) ?_
        refine ggX1_51 S X hw dX1_haunt_73 h (fun a10 h => ?_)
        obtain ⟨hrc, h⟩ := oK1 h
        refine gcVv (As := [.ref a10]) (rest := []) S X Z hw (b := a9) h (fun u h1 => met_B_X4_be l E A LC LS a9 a10 w u h1) (cb_X1_276 S.2.2.2.2 rfl rfl ⟨Nat.le_trans (Nat.le_of_ble_eq_true rfl : 1 + 1 ≤ 6) hF, Nat.le_trans (Nat.le_of_ble_eq_true rfl : 8 + (2 + 11) + 22 ≤ 134) hL⟩) (g_recv X hw (ci := 3) rfl (gcell_4 hrc)) rfl hl.1 rfl (lv_room (Nat.le_of_ble_eq_true rfl)) dX1_haunt_76 (fun w11 H locs h hw => ?_)
        refine lv_iconst (v := 0) S.1 S.2.1 dX1_haunt_79 rfl ?_
        refine lv_istore (lv' := [(8, .int (0 : Int32)), (0, .ref x0), (1, .int x1), (2, .int x2), (3, .int x3), (4, .int x4), (5, .int x5), (6, .int x6), (7, .int x7)]) S.1 S.2.1 dX1_haunt_80 hl (by decide) rfl (fun ls hl => ?_)
        exact wk_B_X1_haunt_p82 S X Z hF hL hr hlocks  ih FU _ _ _ _ _ _ _ _ _ _ _ _ _ h hw (lv_sub hl [1, 2, 3, 4, 5, 6, 7, 8, 0] rfl)
      · replace h := if_f c8 h
        refine lv_goto (tgt := 169) S.1 S.2.1 dX1_haunt_65 rfl ?_
        refine lv_iinc (v := x7 + (1 : Int32)) (lv' := [(7, .int (x7 + (1 : Int32))), (0, .ref x0), (1, .int x1), (2, .int x2), (3, .int x3), (4, .int x4), (5, .int x5), (6, .int x6)]) S.1 S.2.1 dX1_haunt_169 hl (k := 7) rfl rfl (by decide) rfl (fun ls hl => ?_)
        refine lv_goto (tgt := 48) S.1 S.2.1 dX1_haunt_172 rfl ?_
        exact ih _ _ _ _ _ _ _ _ _ _ _ _ h hw (lv_sub hl [1, 2, 3, 4, 5, 6, 7, 0] rfl)
set_option maxRecDepth 100000 in
set_option maxHeartbeats 4000000 in
theorem met_B_X1_haunt (l : Launch) (E : gE) (A : Nat → Prop) (LC LS : Nat)  (x0 : Nat) (x1 : Int32) (x2 : Int32) (x3 : Int32) (x4 : Int32) (w : GS) (res : Int32 × GS) (h : B_X1_haunt x0 x1 x2 x3 x4 w = some res) : Met l yX1_haunt (ws_ yX1_haunt cX1_haunt 9 (Option.some Jvm.ClassFile.FieldType.int)) (gRoom 6 134 LC LS w) (gPc E A LC LS [.ref x0, .int x1, .int x2, .int x3, .int x4] w) (gQi E A LC LS res.1 res.2) (LC - gZ w) (LS - gN w) A := by
  refine gMet (by decide) rfl (Nat.le_of_ble_eq_true rfl) ?_
  intro p e s m below meth c R S hr hlocks hin2 X Z hF hL H ls hw hl
  replace hl : lv_has ls 9 [(0, .ref x0), (1, .int x1), (2, .int x2), (3, .int x3), (4, .int x4)] := hl
  unfold B_X1_haunt at h
  refine lv_aload_n S.1 S.2.1 dX1_haunt_0 rfl (lv_at hl 0 rfl) ?_
  refine lv_iload_n S.1 S.2.1 dX1_haunt_1 rfl (lv_at hl 1 rfl) ?_
  obtain ⟨hrc, h⟩ := oK1 h
  refine gcVri (As := [.int x1]) (rest := []) S X Z hw (b := x0) h (fun u h1 => met_B_X1_isHome l E A LC LS x0 x1 w u h1) (cb_X1_273 S.2.2.2.2 rfl rfl ⟨Nat.le_trans (Nat.le_of_ble_eq_true rfl : 3 + 1 ≤ 6) hF, Nat.le_trans (Nat.le_of_ble_eq_true rfl : 8 + (2 + 11) + 61 ≤ 134) hL⟩) (g_recv X hw (ci := 0) rfl (gcell_1 hrc)) rfl hl.1 rfl (lv_room (Nat.le_of_ble_eq_true rfl)) dX1_haunt_2 (fun r1 H locs h hw => ?_)
  refine lv_if_eq (tgt := 37) S.1 S.2.1 dX1_haunt_5 rfl (fun c2 => ?_) (fun c2 => ?_)
  · replace h := if_t c2 h
    refine lv_iconst (v := -1) S.1 S.2.1 dX1_haunt_37 rfl ?_
    exact g_iret S Z hr hlocks hw (so2 h) dX1_haunt_38
  · replace h := if_f c2 h
    refine lv_iload_n S.1 S.2.1 dX1_haunt_8 rfl (lv_at hl 2 rfl) ?_
    refine lv_iconst (v := 1) S.1 S.2.1 dX1_haunt_9 rfl ?_
    refine lv_iconst (v := 3) S.1 S.2.1 dX1_haunt_10 rfl ?_
    refine gcSti (As := [.int x2, .int (1 : Int32), .int (3 : Int32)]) (rest := []) S X Z hw (met_B_X1_in l E A LC LS x2 (1 : Int32) (3 : Int32) w _ rfl) (cb_X1_153 S.2.2.2.2 rfl rfl ⟨Nat.le_trans (Nat.le_of_ble_eq_true rfl : 0 + 1 ≤ 6) hF, Nat.le_trans (Nat.le_of_ble_eq_true rfl : 8 + (3 + 11) + 0 ≤ 134) hL⟩) rfl hl.1 rfl (lv_room (Nat.le_of_ble_eq_true rfl)) dX1_haunt_11 (fun H locs hw => ?_)
    refine lv_if_eq (tgt := 37) S.1 S.2.1 dX1_haunt_14 rfl (fun c3 => ?_) (fun c3 => ?_)
    · replace h := if_t c3 h
      refine lv_iconst (v := -1) S.1 S.2.1 dX1_haunt_37 rfl ?_
      exact g_iret S Z hr hlocks hw (so2 h) dX1_haunt_38
    · replace h := if_f c3 h
      refine lv_iload_n S.1 S.2.1 dX1_haunt_17 rfl (lv_at hl 3 rfl) ?_
      refine lv_iconst (v := 1) S.1 S.2.1 dX1_haunt_18 rfl ?_
      refine lv_bipush (v := 99) S.1 S.2.1 dX1_haunt_19 rfl ?_
      refine gcSti (As := [.int x3, .int (1 : Int32), .int (99 : Int32)]) (rest := []) S X Z hw (met_B_X1_in l E A LC LS x3 (1 : Int32) (99 : Int32) w _ rfl) (cb_X1_153 S.2.2.2.2 rfl rfl ⟨Nat.le_trans (Nat.le_of_ble_eq_true rfl : 0 + 1 ≤ 6) hF, Nat.le_trans (Nat.le_of_ble_eq_true rfl : 8 + (3 + 11) + 0 ≤ 134) hL⟩) rfl hl.1 rfl (lv_room (Nat.le_of_ble_eq_true rfl)) dX1_haunt_21 (fun H locs hw => ?_)
      refine lv_if_eq (tgt := 37) S.1 S.2.1 dX1_haunt_24 rfl (fun c4 => ?_) (fun c4 => ?_)
      · replace h := if_t c4 h
        refine lv_iconst (v := -1) S.1 S.2.1 dX1_haunt_37 rfl ?_
        exact g_iret S Z hr hlocks hw (so2 h) dX1_haunt_38
      · replace h := if_f c4 h
        refine lv_iload S.1 S.2.1 dX1_haunt_27 (lv_at hl 4 rfl) ?_
        refine lv_iconst (v := 0) S.1 S.2.1 dX1_haunt_29 rfl ?_
        refine lv_iconst (v := 1) S.1 S.2.1 dX1_haunt_30 rfl ?_
        refine gcSti (As := [.int x4, .int (0 : Int32), .int (1 : Int32)]) (rest := []) S X Z hw (met_B_X1_in l E A LC LS x4 (0 : Int32) (1 : Int32) w _ rfl) (cb_X1_153 S.2.2.2.2 rfl rfl ⟨Nat.le_trans (Nat.le_of_ble_eq_true rfl : 0 + 1 ≤ 6) hF, Nat.le_trans (Nat.le_of_ble_eq_true rfl : 8 + (3 + 11) + 0 ≤ 134) hL⟩) rfl hl.1 rfl (lv_room (Nat.le_of_ble_eq_true rfl)) dX1_haunt_31 (fun H locs hw => ?_)
        refine lv_if_ne (tgt := 39) S.1 S.2.1 dX1_haunt_34 rfl (fun c5 => ?_) (fun c5 => ?_)
        · replace h := if_f c5 h
          refine lv_iconst (v := 0) S.1 S.2.1 dX1_haunt_39 rfl ?_
          refine lv_istore (lv' := [(5, .int (0 : Int32)), (0, .ref x0), (1, .int x1), (2, .int x2), (3, .int x3), (4, .int x4)]) S.1 S.2.1 dX1_haunt_40 hl (by decide) rfl (fun ls hl => ?_)
          refine lv_iconst (v := -1) S.1 S.2.1 dX1_haunt_42 rfl ?_
          refine lv_istore (lv' := [(6, .int (-1 : Int32)), (5, .int (0 : Int32)), (0, .ref x0), (1, .int x1), (2, .int x2), (3, .int x3), (4, .int x4)]) S.1 S.2.1 dX1_haunt_43 hl (by decide) rfl (fun ls hl => ?_)
          refine lv_iconst (v := 0) S.1 S.2.1 dX1_haunt_45 rfl ?_
          refine lv_istore (lv' := [(7, .int (0 : Int32)), (6, .int (-1 : Int32)), (5, .int (0 : Int32)), (0, .ref x0), (1, .int x1), (2, .int x2), (3, .int x3), (4, .int x4)]) S.1 S.2.1 dX1_haunt_46 hl (by decide) rfl (fun ls hl => ?_)
          exact wk_B_X1_haunt_p48 S X Z hF hL hr hlocks  FU _ _ _ _ _ _ _ _ _ _ _ _ h hw (lv_sub hl [3, 4, 5, 6, 7, 2, 1, 0] rfl)
        · replace h := if_t c5 h
          refine lv_iconst (v := -1) S.1 S.2.1 dX1_haunt_37 rfl ?_
          exact g_iret S Z hr hlocks hw (so2 h) dX1_haunt_38
