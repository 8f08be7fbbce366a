/-! walks of the Model, printed by gen/model.py -/
set_option maxRecDepth 100000
def M_readName_p38 (x1 : Int32) (w : MS) : Option MS :=
  if (rI w 8 0) = 0 then
    bd1 (rAL w 6 1002 (rI w 7 0)) fun v7 =>
    bd1 (wAL w 15 18 (rI w 19 0) v7) fun w8 =>
    bd1 (wA w8 17 18 (rI w8 19 0) x1) fun w9 =>
    bdp (wI w9 19 0 ((rI w9 19 0) + (1 : Int32))) fun w10 =>
    bdp (wI w10 7 0 ((rI w10 7 0) + (1 : Int32))) fun w11 =>
    some w11
  else
    some w
def M_readName (x1 : Int32) (w : MS) : Option MS :=
  bdp (wI w 7 0 ((rI w 7 0) + (1 : Int32))) fun w1 =>
  bd1 (M_isName w1) fun r2 =>
  if r2 = 0 then
    bd1 (M_wrong (1 : Int32) w1) fun w13 =>
    M_readName_p38 x1 w13
  else
    bd1 (M_find (1 : Int32) w1) fun r4 =>
    if r4 < 0 then
      M_readName_p38 x1 w1
    else
      bd1 (M_wrong (3 : Int32) w1) fun w12 =>
      M_readName_p38 x1 w12
set_option maxRecDepth 100000 in
set_option maxHeartbeats 4000000 in
theorem wk_M_readName_p38 {p : Program} {l : Launch} {e : Env} {s : State} {m : MethodId} {args : Array Value} {below : List Frame} {meth : Method} {c : Code} {E : mE} {A : Nat → Prop} (S : CallFix p m c cX5_readName 2 s args lw_all RX5) (hr : meth.sig.returnType = none) (hlocks : meth.locks = false) {res : MS}  : ∀ (x1 : Int32) (w : MS) (H : Heap) (locs : List Loc) (ls : Array Slot), M_readName_p38 x1 w = some res → mH E A s w H locs → lv_has ls 2 [(0, .ref (mM E)), (1, .int x1)] → W p l e rm_readName s m args below meth c H locs 0 0 (MQ below (mQv E A res) args s 0 0 A) (F0 m 38 ls []) := by
  intro x1 w H locs ls h hw hl
  unfold M_readName_p38 at h
  refine lv_aload_n S.1 S.2.1 dX5_readName_38 rfl (lv_at hl 0 rfl) ?_
  refine mg8 S hw dX5_readName_39 ?_
  refine lv_if_ne (tgt := 93) S.1 S.2.1 dX5_readName_42 rfl (fun c6 => ?_) (fun c6 => ?_)
  · replace h := if_f c6 h
    exact m_vret S hr hlocks hw (so1 h) dX5_readName_93
  · replace h := if_t c6 h
    refine lv_aload_n S.1 S.2.1 dX5_readName_45 rfl (lv_at hl 0 rfl) ?_
    refine mg15 S hw dX5_readName_46 ?_
    refine lv_aload_n S.1 S.2.1 dX5_readName_49 rfl (lv_at hl 0 rfl) ?_
    refine mg19 S hw dX5_readName_50 ?_
    refine lv_aload_n S.1 S.2.1 dX5_readName_53 rfl (lv_at hl 0 rfl) ?_
    refine mg6 S hw dX5_readName_54 ?_
    refine lv_aload_n S.1 S.2.1 dX5_readName_57 rfl (lv_at hl 0 rfl) ?_
    refine mg7 S hw dX5_readName_58 ?_
    refine ml6 S hw dX5_readName_61 h (fun v7 h => ?_)
    refine ms15 S hw dX5_readName_62 h (fun w8 H locs h hw => ?_)
    refine lv_aload_n S.1 S.2.1 dX5_readName_63 rfl (lv_at hl 0 rfl) ?_
    refine mg17 S hw dX5_readName_64 ?_
    refine lv_aload_n S.1 S.2.1 dX5_readName_67 rfl (lv_at hl 0 rfl) ?_
    refine mg19 S hw dX5_readName_68 ?_
    refine lv_iload_n S.1 S.2.1 dX5_readName_71 rfl (lv_at hl 1 rfl) ?_
    refine ms17 S hw dX5_readName_72 h (fun w9 H locs h hw => ?_)
    refine lv_aload_n S.1 S.2.1 dX5_readName_73 rfl (lv_at hl 0 rfl) ?_
    refine lv_dup S.1 S.2.1 dX5_readName_74 rfl ?_
    refine mg19 S hw dX5_readName_75 ?_
    refine lv_iconst (v := 1) S.1 S.2.1 dX5_readName_78 rfl ?_
    refine lv_iadd S.1 S.2.1 dX5_readName_79 ?_
    refine mp19 S hw dX5_readName_80 h (fun w10 H locs h hw => ?_)
    refine lv_aload_n S.1 S.2.1 dX5_readName_83 rfl (lv_at hl 0 rfl) ?_
    refine lv_dup S.1 S.2.1 dX5_readName_84 rfl ?_
    refine mg7 S hw dX5_readName_85 ?_
    refine lv_iconst (v := 1) S.1 S.2.1 dX5_readName_88 rfl ?_
    refine lv_iadd S.1 S.2.1 dX5_readName_89 ?_
    refine mp7 S hw dX5_readName_90 h (fun w11 H locs h hw => ?_)
    exact m_vret S hr hlocks hw (so1 h) dX5_readName_93
set_option maxRecDepth 100000 in
set_option maxHeartbeats 4000000 in
theorem met_readName (l : Launch) (E : mE) (A : Nat → Prop)  (x1 : Int32) (w : MS) (res : MS) (h : M_readName x1 w = some res) : Met l yX5_readName (ws_ yX5_readName cX5_readName 2 none) rm_readName (mPc E A [.ref (mM E), .int x1] w) (mQv E A res) 0 0 A := by
  refine mMet (by decide) rfl (Nat.le_of_ble_eq_true rfl) ?_
  intro p e s m below meth c S hr hlocks H ls hw hl
  replace hl : lv_has ls 2 [(0, .ref (mM E)), (1, .int x1)] := hl
  unfold M_readName at h
  refine lv_aload_n S.1 S.2.1 dX5_readName_0 rfl (lv_at hl 0 rfl) ?_
  refine lv_dup S.1 S.2.1 dX5_readName_1 rfl ?_
  refine mg7 S hw dX5_readName_2 ?_
  refine lv_iconst (v := 1) S.1 S.2.1 dX5_readName_5 rfl ?_
  refine lv_iadd S.1 S.2.1 dX5_readName_6 ?_
  refine mp7 S hw dX5_readName_7 h (fun w1 H locs h hw => ?_)
  refine lv_aload_n S.1 S.2.1 dX5_readName_10 rfl (lv_at hl 0 rfl) ?_
  refine mcVri (As := []) (rest := []) S hw h (fun u h1 => met_isName l E A  w1 u h1) (cw_isName S.2.2.2.2 rfl rfl ⟨Nat.le_of_ble_eq_true rfl, Nat.le_of_ble_eq_true rfl⟩) rfl hl.1 rfl (lv_room (Nat.le_of_ble_eq_true rfl)) dX5_readName_11 (fun r2 H locs h hw => ?_)
  refine lv_if_ne (tgt := 25) S.1 S.2.1 dX5_readName_14 rfl (fun c3 => ?_) (fun c3 => ?_)
  · replace h := if_f c3 h
    refine lv_aload_n S.1 S.2.1 dX5_readName_25 rfl (lv_at hl 0 rfl) ?_
    refine lv_iconst (v := 1) S.1 S.2.1 dX5_readName_26 rfl ?_
    refine mcVri (As := [.int (1 : Int32)]) (rest := []) S hw h (fun u h1 => met_find l E A (1 : Int32) w1 u h1) (cw_find S.2.2.2.2 rfl rfl ⟨Nat.le_of_ble_eq_true rfl, Nat.le_of_ble_eq_true rfl⟩) rfl hl.1 rfl (lv_room (Nat.le_of_ble_eq_true rfl)) dX5_readName_27 (fun r4 H locs h hw => ?_)
    refine lv_if_lt (tgt := 38) S.1 S.2.1 dX5_readName_30 rfl (fun c5 => ?_) (fun c5 => ?_)
    · replace h := if_t c5 h
      exact wk_M_readName_p38 S hr hlocks _ _ _ _ _ h hw (lv_sub hl [0, 1] rfl)
    · replace h := if_f c5 h
      refine lv_aload_n S.1 S.2.1 dX5_readName_33 rfl (lv_at hl 0 rfl) ?_
      refine lv_iconst (v := 3) S.1 S.2.1 dX5_readName_34 rfl ?_
      refine mcVv (As := [.int (3 : Int32)]) (rest := []) S hw h (fun u h1 => met_wrong l E A (3 : Int32) w1 u h1) (cw_wrong S.2.2.2.2 rfl rfl ⟨Nat.le_of_ble_eq_true rfl, Nat.le_of_ble_eq_true rfl⟩) rfl hl.1 rfl (lv_room (Nat.le_of_ble_eq_true rfl)) dX5_readName_35 (fun w12 H locs h hw => ?_)
      exact wk_M_readName_p38 S hr hlocks _ _ _ _ _ h hw (lv_sub hl [0, 1] rfl)
  · replace h := if_t c3 h
    refine lv_aload_n S.1 S.2.1 dX5_readName_17 rfl (lv_at hl 0 rfl) ?_
    refine lv_iconst (v := 1) S.1 S.2.1 dX5_readName_18 rfl ?_
    refine mcVv (As := [.int (1 : Int32)]) (rest := []) S hw h (fun u h1 => met_wrong l E A (1 : Int32) w1 u h1) (cw_wrong S.2.2.2.2 rfl rfl ⟨Nat.le_of_ble_eq_true rfl, Nat.le_of_ble_eq_true rfl⟩) rfl hl.1 rfl (lv_room (Nat.le_of_ble_eq_true rfl)) dX5_readName_19 (fun w13 H locs h hw => ?_)
    refine lv_goto (tgt := 38) S.1 S.2.1 dX5_readName_22 rfl ?_
    exact wk_M_readName_p38 S hr hlocks _ _ _ _ _ h hw (lv_sub hl [0, 1] rfl)
def M_hasWord (x1 : Int32) (w : MS) : Option (Int32 × MS) :=
  bd1 (M_isWord x1 w) fun r1 =>
  if r1 = 0 then
    bdp (wI w 7 0 ((rI w 7 0) + (0 : Int32))) fun w3 =>
    zb r1 (some (r1, w3))
  else
    bdp (wI w 7 0 ((rI w 7 0) + (1 : Int32))) fun w4 =>
    zb r1 (some (r1, w4))
set_option maxRecDepth 100000 in
set_option maxHeartbeats 4000000 in
theorem met_hasWord (l : Launch) (E : mE) (A : Nat → Prop)  (x1 : Int32) (w : MS) (res : Int32 × MS) (h : M_hasWord x1 w = some res) : Met l yX5_hasWord (ws_ yX5_hasWord cX5_hasWord 3 (some .boolean)) rm_hasWord (mPc E A [.ref (mM E), .int x1] w) (mQi E A res.1 res.2) 0 0 A := by
  refine mMet (by decide) rfl (Nat.le_of_ble_eq_true rfl) ?_
  intro p e s m below meth c S hr hlocks H ls hw hl
  replace hl : lv_has ls 3 [(0, .ref (mM E)), (1, .int x1)] := hl
  unfold M_hasWord at h
  refine lv_aload_n S.1 S.2.1 dX5_hasWord_0 rfl (lv_at hl 0 rfl) ?_
  refine lv_iload_n S.1 S.2.1 dX5_hasWord_1 rfl (lv_at hl 1 rfl) ?_
  refine mcVri (As := [.int x1]) (rest := []) S hw h (fun u h1 => met_isWord l E A x1 w u h1) (cw_isWord S.2.2.2.2 rfl rfl ⟨Nat.le_of_ble_eq_true rfl, Nat.le_of_ble_eq_true rfl⟩) rfl hl.1 rfl (lv_room (Nat.le_of_ble_eq_true rfl)) dX5_hasWord_2 (fun r1 H locs h hw => ?_)
  refine lv_istore_n (lv' := [(2, .int r1), (0, .ref (mM E)), (1, .int x1)]) S.1 S.2.1 dX5_hasWord_5 rfl hl (by decide) rfl (fun ls hl => ?_)
  refine lv_aload_n S.1 S.2.1 dX5_hasWord_6 rfl (lv_at hl 1 rfl) ?_
  refine lv_dup S.1 S.2.1 dX5_hasWord_7 rfl ?_
  refine mg7 S hw dX5_hasWord_8 ?_
  refine lv_iload_n S.1 S.2.1 dX5_hasWord_11 rfl (lv_at hl 0 rfl) ?_
  refine lv_if_eq (tgt := 19) S.1 S.2.1 dX5_hasWord_12 rfl (fun c2 => ?_) (fun c2 => ?_)
  · replace h := if_t c2 h
    refine lv_iconst (v := 0) S.1 S.2.1 dX5_hasWord_19 rfl ?_
    refine lv_iadd S.1 S.2.1 dX5_hasWord_20 ?_
    refine mp7 S hw dX5_hasWord_21 h (fun w3 H locs h hw => ?_)
    refine lv_iload_n S.1 S.2.1 dX5_hasWord_24 rfl (lv_at hl 0 rfl) ?_
    exact m_zretn S hr hlocks hw (zb_some h).1 (so2 (zb_some h).2) dX5_hasWord_25
  · replace h := if_f c2 h
    refine lv_iconst (v := 1) S.1 S.2.1 dX5_hasWord_15 rfl ?_
    refine lv_goto (tgt := 20) S.1 S.2.1 dX5_hasWord_16 rfl ?_
    refine lv_iadd S.1 S.2.1 dX5_hasWord_20 ?_
    refine mp7 S hw dX5_hasWord_21 h (fun w4 H locs h hw => ?_)
    refine lv_iload_n S.1 S.2.1 dX5_hasWord_24 rfl (lv_at hl 0 rfl) ?_
    exact m_zretn S hr hlocks hw (zb_some h).1 (so2 (zb_some h).2) dX5_hasWord_25
def M_takeWord (x1 : Int32) (w : MS) : Option MS :=
  bd2 (M_hasWord x1 w) fun r2 w1 =>
  if r2 = 0 then
    bd1 (M_wrong (1 : Int32) w1) fun w4 =>
    some w4
  else
    some w1
set_option maxRecDepth 100000 in
set_option maxHeartbeats 4000000 in
theorem met_takeWord (l : Launch) (E : mE) (A : Nat → Prop)  (x1 : Int32) (w : MS) (res : MS) (h : M_takeWord x1 w = some res) : Met l yX5_takeWord (ws_ yX5_takeWord cX5_takeWord 2 none) rm_takeWord (mPc E A [.ref (mM E), .int x1] w) (mQv E A res) 0 0 A := by
  refine mMet (by decide) rfl (Nat.le_of_ble_eq_true rfl) ?_
  intro p e s m below meth c S hr hlocks H ls hw hl
  replace hl : lv_has ls 2 [(0, .ref (mM E)), (1, .int x1)] := hl
  unfold M_takeWord at h
  refine lv_aload_n S.1 S.2.1 dX5_takeWord_0 rfl (lv_at hl 0 rfl) ?_
  refine lv_iload_n S.1 S.2.1 dX5_takeWord_1 rfl (lv_at hl 1 rfl) ?_
  refine mcVwi (As := [.int x1]) (rest := []) S hw h (fun u h1 => met_hasWord l E A x1 w u h1) (cw_hasWord S.2.2.2.2 rfl rfl ⟨Nat.le_of_ble_eq_true rfl, Nat.le_of_ble_eq_true rfl⟩) rfl hl.1 rfl (lv_room (Nat.le_of_ble_eq_true rfl)) dX5_takeWord_2 (fun r2 w1 H locs h hw => ?_)
  refine lv_if_ne (tgt := 13) S.1 S.2.1 dX5_takeWord_5 rfl (fun c3 => ?_) (fun c3 => ?_)
  · replace h := if_f c3 h
    exact m_vret S hr hlocks hw (so1 h) dX5_takeWord_13
  · replace h := if_t c3 h
    refine lv_aload_n S.1 S.2.1 dX5_takeWord_8 rfl (lv_at hl 0 rfl) ?_
    refine lv_iconst (v := 1) S.1 S.2.1 dX5_takeWord_9 rfl ?_
    refine mcVv (As := [.int (1 : Int32)]) (rest := []) S hw h (fun u h1 => met_wrong l E A (1 : Int32) w1 u h1) (cw_wrong S.2.2.2.2 rfl rfl ⟨Nat.le_of_ble_eq_true rfl, Nat.le_of_ble_eq_true rfl⟩) rfl hl.1 rfl (lv_room (Nat.le_of_ble_eq_true rfl)) dX5_takeWord_10 (fun w4 H locs h hw => ?_)
    exact m_vret S hr hlocks hw (so1 h) dX5_takeWord_13
def M_takeNumber_p70 (w : MS) : Option (Int32 × MS) :=
  if (rI w 8 0) ≤ 0 then
    bdp (wI w 7 0 ((rI w 7 0) + (1 : Int32))) fun w4 =>
    bd1 (rAL w4 6 1002 ((rI w4 7 0) - (1 : Int32))) fun v5 =>
    some (v5.toInt32, w4)
  else
    some ((0 : Int32), w)
def M_takeNumber_p65 (w : MS) : Option (Int32 × MS) :=
  bd1 (M_wrong (4 : Int32) w) fun w8 =>
  M_takeNumber_p70 w8
def M_takeNumber_p28 (x1 : Int32) (x2 : Int32) (w : MS) : Option (Int32 × MS) :=
  if (rI w 8 0) = 0 then
    bd1 (rAL w 6 1002 (rI w 7 0)) fun v6 =>
    if (lg_cmp v6 x1.toInt64) < 0 then
      M_takeNumber_p65 w
    else
      bd1 (rAL w 6 1002 (rI w 7 0)) fun v9 =>
      if (lg_cmp v9 x2.toInt64) ≤ 0 then
        M_takeNumber_p70 w
      else
        M_takeNumber_p65 w
  else
    M_takeNumber_p70 w
def M_takeNumber (x1 : Int32) (x2 : Int32) (w : MS) : Option (Int32 × MS) :=
  if (rI w 8 0) = 0 then
    bd1 (rA w 4 1002 (rI w 7 0)) fun v11 =>
    if v11 = (2 : Int32) then
      M_takeNumber_p28 x1 x2 w
    else
      bd1 (M_wrong (1 : Int32) w) fun w13 =>
      M_takeNumber_p70 w13
  else
    M_takeNumber_p28 x1 x2 w
set_option maxRecDepth 100000 in
set_option maxHeartbeats 4000000 in
theorem wk_M_takeNumber_p70 {p : Program} {l : Launch} {e : Env} {s : State} {m : MethodId} {args : Array Value} {below : List Frame} {meth : Method} {c : Code} {E : mE} {A : Nat → Prop} (S : CallFix p m c cX5_takeNumber 3 s args lw_all RX5) (hr : meth.sig.returnType = (some .int)) (hlocks : meth.locks = false) {res : Int32 × MS}  : ∀ (w : MS) (H : Heap) (locs : List Loc) (ls : Array Slot), M_takeNumber_p70 w = some res → mH E A s w H locs → lv_has ls 3 [(0, .ref (mM E))] → W p l e rm_takeNumber s m args below meth c H locs 0 0 (MQ below (mQi E A res.1 res.2) args s 0 0 A) (F0 m 70 ls []) := by
  intro  w H locs ls h hw hl
  unfold M_takeNumber_p70 at h
  refine lv_aload_n S.1 S.2.1 dX5_takeNumber_70 rfl (lv_at hl 0 rfl) ?_
  refine mg8 S hw dX5_takeNumber_71 ?_
  refine lv_if_le (tgt := 79) S.1 S.2.1 dX5_takeNumber_74 rfl (fun c3 => ?_) (fun c3 => ?_)
  · replace h := if_t c3 h
    refine lv_aload_n S.1 S.2.1 dX5_takeNumber_79 rfl (lv_at hl 0 rfl) ?_
    refine lv_dup S.1 S.2.1 dX5_takeNumber_80 rfl ?_
    refine mg7 S hw dX5_takeNumber_81 ?_
    refine lv_iconst (v := 1) S.1 S.2.1 dX5_takeNumber_84 rfl ?_
    refine lv_iadd S.1 S.2.1 dX5_takeNumber_85 ?_
    refine mp7 S hw dX5_takeNumber_86 h (fun w4 H locs h hw => ?_)
    refine lv_aload_n S.1 S.2.1 dX5_takeNumber_89 rfl (lv_at hl 0 rfl) ?_
    refine mg6 S hw dX5_takeNumber_90 ?_
    refine lv_aload_n S.1 S.2.1 dX5_takeNumber_93 rfl (lv_at hl 0 rfl) ?_
    refine mg7 S hw dX5_takeNumber_94 ?_
    refine lv_iconst (v := 1) S.1 S.2.1 dX5_takeNumber_97 rfl ?_
    refine lv_isub S.1 S.2.1 dX5_takeNumber_98 ?_
    refine ml6 S hw dX5_takeNumber_99 h (fun v5 h => ?_)
    refine lv_l2i S.1 S.2.1 dX5_takeNumber_100 rfl ?_
    exact m_iret S hr hlocks hw (so2 h) dX5_takeNumber_101
  · replace h := if_f c3 h
    refine lv_iconst (v := 0) S.1 S.2.1 dX5_takeNumber_77 rfl ?_
    exact m_iret S hr hlocks hw (so2 h) dX5_takeNumber_78
set_option maxRecDepth 100000 in
set_option maxHeartbeats 4000000 in
theorem wk_M_takeNumber_p65 {p : Program} {l : Launch} {e : Env} {s : State} {m : MethodId} {args : Array Value} {below : List Frame} {meth : Method} {c : Code} {E : mE} {A : Nat → Prop} (S : CallFix p m c cX5_takeNumber 3 s args lw_all RX5) (hr : meth.sig.returnType = (some .int)) (hlocks : meth.locks = false) {res : Int32 × MS}  : ∀ (w : MS) (H : Heap) (locs : List Loc) (ls : Array Slot), M_takeNumber_p65 w = some res → mH E A s w H locs → lv_has ls 3 [(0, .ref (mM E))] → W p l e rm_takeNumber s m args below meth c H locs 0 0 (MQ below (mQi E A res.1 res.2) args s 0 0 A) (F0 m 65 ls []) := by
  intro  w H locs ls h hw hl
  unfold M_takeNumber_p65 at h
  refine lv_aload_n S.1 S.2.1 dX5_takeNumber_65 rfl (lv_at hl 0 rfl) ?_
  refine lv_iconst (v := 4) S.1 S.2.1 dX5_takeNumber_66 rfl ?_
  refine mcVv (As := [.int (4 : Int32)]) (rest := []) S hw h (fun u h1 => met_wrong l E A (4 : Int32) w u h1) (cw_wrong S.2.2.2.2 rfl rfl ⟨Nat.le_of_ble_eq_true rfl, Nat.le_of_ble_eq_true rfl⟩) rfl hl.1 rfl (lv_room (Nat.le_of_ble_eq_true rfl)) dX5_takeNumber_67 (fun w8 H locs h hw => ?_)
  exact wk_M_takeNumber_p70 S hr hlocks _ _ _ _ h hw (lv_sub hl [0] rfl)
set_option maxRecDepth 100000 in
set_option maxHeartbeats 4000000 in
theorem wk_M_takeNumber_p28 {p : Program} {l : Launch} {e : Env} {s : State} {m : MethodId} {args : Array Value} {below : List Frame} {meth : Method} {c : Code} {E : mE} {A : Nat → Prop} (S : CallFix p m c cX5_takeNumber 3 s args lw_all RX5) (hr : meth.sig.returnType = (some .int)) (hlocks : meth.locks = false) {res : Int32 × MS}  : ∀ (x1 : Int32) (x2 : Int32) (w : MS) (H : Heap) (locs : List Loc) (ls : Array Slot), M_takeNumber_p28 x1 x2 w = some res → mH E A s w H locs → lv_has ls 3 [(0, .ref (mM E)), (1, .int x1), (2, .int x2)] → W p l e rm_takeNumber s m args below meth c H locs 0 0 (MQ below (mQi E A res.1 res.2) args s 0 0 A) (F0 m 28 ls []) := by
  intro x1 x2 w H locs ls h hw hl
  unfold M_takeNumber_p28 at h
  refine lv_aload_n S.1 S.2.1 dX5_takeNumber_28 rfl (lv_at hl 0 rfl) ?_
  refine mg8 S hw dX5_takeNumber_29 ?_
  refine lv_if_ne (tgt := 70) S.1 S.2.1 dX5_takeNumber_32 rfl (fun c2 => ?_) (fun c2 => ?_)
  · replace h := if_f c2 h
    exact wk_M_takeNumber_p70 S hr hlocks _ _ _ _ h hw (lv_sub hl [0] rfl)
  · replace h := if_t c2 h
    refine lv_aload_n S.1 S.2.1 dX5_takeNumber_35 rfl (lv_at hl 0 rfl) ?_
    refine mg6 S hw dX5_takeNumber_36 ?_
    refine lv_aload_n S.1 S.2.1 dX5_takeNumber_39 rfl (lv_at hl 0 rfl) ?_
    refine mg7 S hw dX5_takeNumber_40 ?_
    refine ml6 S hw dX5_takeNumber_43 h (fun v6 h => ?_)
    refine lv_iload_n S.1 S.2.1 dX5_takeNumber_44 rfl (lv_at hl 1 rfl) ?_
    refine lv_i2l S.1 S.2.1 dX5_takeNumber_45 rfl ?_
    refine W.lcmp S.1 S.2.1 dX5_takeNumber_46 ?_
    refine lv_if_lt (tgt := 65) S.1 S.2.1 dX5_takeNumber_47 rfl (fun c7 => ?_) (fun c7 => ?_)
    · replace h := if_t c7 h
      exact wk_M_takeNumber_p65 S hr hlocks _ _ _ _ h hw (lv_sub hl [0] rfl)
    · replace h := if_f c7 h
      refine lv_aload_n S.1 S.2.1 dX5_takeNumber_50 rfl (lv_at hl 0 rfl) ?_
      refine mg6 S hw dX5_takeNumber_51 ?_
      refine lv_aload_n S.1 S.2.1 dX5_takeNumber_54 rfl (lv_at hl 0 rfl) ?_
      refine mg7 S hw dX5_takeNumber_55 ?_
      refine ml6 S hw dX5_takeNumber_58 h (fun v9 h => ?_)
      refine lv_iload_n S.1 S.2.1 dX5_takeNumber_59 rfl (lv_at hl 2 rfl) ?_
      refine lv_i2l S.1 S.2.1 dX5_takeNumber_60 rfl ?_
      refine W.lcmp S.1 S.2.1 dX5_takeNumber_61 ?_
      refine lv_if_le (tgt := 70) S.1 S.2.1 dX5_takeNumber_62 rfl (fun c10 => ?_) (fun c10 => ?_)
      · replace h := if_t c10 h
        exact wk_M_takeNumber_p70 S hr hlocks _ _ _ _ h hw (lv_sub hl [0] rfl)
      · replace h := if_f c10 h
        exact wk_M_takeNumber_p65 S hr hlocks _ _ _ _ h hw (lv_sub hl [0] rfl)
set_option maxRecDepth 100000 in
set_option maxHeartbeats 4000000 in
theorem met_takeNumber (l : Launch) (E : mE) (A : Nat → Prop)  (x1 : Int32) (x2 : Int32) (w : MS) (res : Int32 × MS) (h : M_takeNumber x1 x2 w = some res) : Met l yX5_takeNumber (ws_ yX5_takeNumber cX5_takeNumber 3 (some .int)) rm_takeNumber (mPc E A [.ref (mM E), .int x1, .int x2] w) (mQi E A res.1 res.2) 0 0 A := by
  refine mMet (by decide) rfl (Nat.le_of_ble_eq_true rfl) ?_
  intro p e s m below meth c S hr hlocks H ls hw hl
  replace hl : lv_has ls 3 [(0, .ref (mM E)), (1, .int x1), (2, .int x2)] := hl
  unfold M_takeNumber at h
  refine lv_aload_n S.1 S.2.1 dX5_takeNumber_0 rfl (lv_at hl 0 rfl) ?_
  refine mg8 S hw dX5_takeNumber_1 ?_
  refine lv_if_ne (tgt := 28) S.1 S.2.1 dX5_takeNumber_4 rfl (fun c1 => ?_) (fun c1 => ?_)
  · replace h := if_f c1 h
    exact wk_M_takeNumber_p28 S hr hlocks _ _ _ _ _ _ h hw (lv_sub hl [0, 1, 2] rfl)
  · replace h := if_t c1 h
    refine lv_aload_n S.1 S.2.1 dX5_takeNumber_7 rfl (lv_at hl 0 rfl) ?_
    refine mg4 S hw dX5_takeNumber_8 ?_
    refine lv_aload_n S.1 S.2.1 dX5_takeNumber_11 rfl (lv_at hl 0 rfl) ?_
    refine mg7 S hw dX5_takeNumber_12 ?_
    refine ml4 S hw dX5_takeNumber_15 h (fun v11 h => ?_)
    refine lv_iconst (v := 2) S.1 S.2.1 dX5_takeNumber_16 rfl ?_
    refine lv_icmp_eq (tgt := 28) S.1 S.2.1 dX5_takeNumber_17 rfl (fun c12 => ?_) (fun c12 => ?_)
    · replace h := if_t c12 h
      exact wk_M_takeNumber_p28 S hr hlocks _ _ _ _ _ _ h hw (lv_sub hl [0, 1, 2] rfl)
    · replace h := if_f c12 h
      refine lv_aload_n S.1 S.2.1 dX5_takeNumber_20 rfl (lv_at hl 0 rfl) ?_
      refine lv_iconst (v := 1) S.1 S.2.1 dX5_takeNumber_21 rfl ?_
      refine mcVv (As := [.int (1 : Int32)]) (rest := []) S hw h (fun u h1 => met_wrong l E A (1 : Int32) w u h1) (cw_wrong S.2.2.2.2 rfl rfl ⟨Nat.le_of_ble_eq_true rfl, Nat.le_of_ble_eq_true rfl⟩) rfl hl.1 rfl (lv_room (Nat.le_of_ble_eq_true rfl)) dX5_takeNumber_22 (fun w13 H locs h hw => ?_)
      refine lv_goto (tgt := 70) S.1 S.2.1 dX5_takeNumber_25 rfl ?_
      exact wk_M_takeNumber_p70 S hr hlocks _ _ _ _ h hw (lv_sub hl [0] rfl)
def M_takeAfter (x1 : Int32) (x2 : Int32) (x3 : Int32) (w : MS) : Option (Int32 × MS) :=
  bd1 (M_takeWord x1 w) fun w1 =>
  bd2 (M_takeNumber x2 x3 w1) fun r3 w2 =>
  some (r3, w2)
set_option maxRecDepth 100000 in
set_option maxHeartbeats 4000000 in
theorem met_takeAfter (l : Launch) (E : mE) (A : Nat → Prop)  (x1 : Int32) (x2 : Int32) (x3 : Int32) (w : MS) (res : Int32 × MS) (h : M_takeAfter x1 x2 x3 w = some res) : Met l yX5_takeAfter (ws_ yX5_takeAfter cX5_takeAfter 4 (some .int)) rm_takeAfter (mPc E A [.ref (mM E), .int x1, .int x2, .int x3] w) (mQi E A res.1 res.2) 0 0 A := by
  refine mMet (by decide) rfl (Nat.le_of_ble_eq_true rfl) ?_
  intro p e s m below meth c S hr hlocks H ls hw hl
  replace hl : lv_has ls 4 [(0, .ref (mM E)), (1, .int x1), (2, .int x2), (3, .int x3)] := hl
  unfold M_takeAfter at h
  refine lv_aload_n S.1 S.2.1 dX5_takeAfter_0 rfl (lv_at hl 0 rfl) ?_
  refine lv_iload_n S.1 S.2.1 dX5_takeAfter_1 rfl (lv_at hl 1 rfl) ?_
  refine mcVv (As := [.int x1]) (rest := []) S hw h (fun u h1 => met_takeWord l E A x1 w u h1) (cw_takeWord S.2.2.2.2 rfl rfl ⟨Nat.le_of_ble_eq_true rfl, Nat.le_of_ble_eq_true rfl⟩) rfl hl.1 rfl (lv_room (Nat.le_of_ble_eq_true rfl)) dX5_takeAfter_2 (fun w1 H locs h hw => ?_)
  refine lv_aload_n S.1 S.2.1 dX5_takeAfter_5 rfl (lv_at hl 0 rfl) ?_
  refine lv_iload_n S.1 S.2.1 dX5_takeAfter_6 rfl (lv_at hl 2 rfl) ?_
  refine lv_iload_n S.1 S.2.1 dX5_takeAfter_7 rfl (lv_at hl 3 rfl) ?_
  refine mcVwi (As := [.int x2, .int x3]) (rest := []) S hw h (fun u h1 => met_takeNumber l E A x2 x3 w1 u h1) (cw_takeNumber S.2.2.2.2 rfl rfl ⟨Nat.le_of_ble_eq_true rfl, Nat.le_of_ble_eq_true rfl⟩) rfl hl.1 rfl (lv_room (Nat.le_of_ble_eq_true rfl)) dX5_takeAfter_8 (fun r3 w2 H locs h hw => ?_)
  exact m_iret S hr hlocks hw (so2 h) dX5_takeAfter_11
def M_readRoom (w : MS) : Option MS :=
  bdp (rI w 10 120) fun y1 =>
  if y1 = (6 : Int32) then
    bd1 (M_wrong (5 : Int32) w) fun w15 =>
    some w15
  else
    bd1 (M_readName y1 w) fun w3 =>
    bdp ((128 : Int32) + ((3 : Int32) * y1)) fun y4 =>
    bd2 (M_takeAfter (1 : Int32) (0 : Int32) (60 : Int32) w3) fun r6 w5 =>
    bd1 (wA w5 10 240 y4 r6) fun w7 =>
    bd2 (M_takeAfter (2 : Int32) (0 : Int32) (20 : Int32) w7) fun r9 w8 =>
    bd1 (wA w8 10 240 (y4 + (1 : Int32)) r9) fun w10 =>
    bd2 (M_takeAfter (3 : Int32) (0 : Int32) (999 : Int32) w10) fun r12 w11 =>
    bd1 (wA w11 10 240 (y4 + (2 : Int32)) r12) fun w13 =>
    bdp (wI w13 10 120 ((rI w13 10 120) + (1 : Int32))) fun w14 =>
    some w14
set_option maxRecDepth 100000 in
set_option maxHeartbeats 4000000 in
theorem met_readRoom (l : Launch) (E : mE) (A : Nat → Prop)  (w : MS) (res : MS) (h : M_readRoom w = some res) : Met l yX5_readRoom (ws_ yX5_readRoom cX5_readRoom 3 none) rm_readRoom (mPc E A [.ref (mM E)] w) (mQv E A res) 0 0 A := by
  refine mMet (by decide) rfl (Nat.le_of_ble_eq_true rfl) ?_
  intro p e s m below meth c S hr hlocks H ls hw hl
  replace hl : lv_has ls 3 [(0, .ref (mM E))] := hl
  unfold M_readRoom at h
  refine lv_aload_n S.1 S.2.1 dX5_readRoom_0 rfl (lv_at hl 0 rfl) ?_
  refine mg10 S hw dX5_readRoom_1 ?_
  refine lv_bipush (v := 120) S.1 S.2.1 dX5_readRoom_4 rfl ?_
  refine mlc10 (j := 120) S hw dX5_readRoom_6 (by decide) ?_
  refine lv_topi (fun y1 ey => ?_)
  replace h := bdp_e ey h
  refine lv_istore_n (lv' := [(1, .int y1), (0, .ref (mM E))]) S.1 S.2.1 dX5_readRoom_7 rfl hl (by decide) rfl (fun ls hl => ?_)
  refine lv_iload_n S.1 S.2.1 dX5_readRoom_8 rfl (lv_at hl 0 rfl) ?_
  refine lv_bipush (v := 6) S.1 S.2.1 dX5_readRoom_9 rfl ?_
  refine lv_icmp_ne (tgt := 20) S.1 S.2.1 dX5_readRoom_11 rfl (fun c2 => ?_) (fun c2 => ?_)
  · replace h := if_f c2 h
    refine lv_aload_n S.1 S.2.1 dX5_readRoom_20 rfl (lv_at hl 1 rfl) ?_
    refine lv_iload_n S.1 S.2.1 dX5_readRoom_21 rfl (lv_at hl 0 rfl) ?_
    refine mcVv (As := [.int y1]) (rest := []) S hw h (fun u h1 => met_readName l E A y1 w u h1) (cw_readName S.2.2.2.2 rfl rfl ⟨Nat.le_of_ble_eq_true rfl, Nat.le_of_ble_eq_true rfl⟩) rfl hl.1 rfl (lv_room (Nat.le_of_ble_eq_true rfl)) dX5_readRoom_22 (fun w3 H locs h hw => ?_)
    refine lv_sipush (v := 128) S.1 S.2.1 dX5_readRoom_25 rfl ?_
    refine lv_iconst (v := 3) S.1 S.2.1 dX5_readRoom_28 rfl ?_
    refine lv_iload_n S.1 S.2.1 dX5_readRoom_29 rfl (lv_at hl 0 rfl) ?_
    refine lv_imul S.1 S.2.1 dX5_readRoom_30 ?_
    refine lv_iadd S.1 S.2.1 dX5_readRoom_31 ?_
    refine lv_topi (fun y4 ey => ?_)
    replace h := bdp_e ey h
    refine lv_istore_n (lv' := [(2, .int y4), (1, .int y1), (0, .ref (mM E))]) S.1 S.2.1 dX5_readRoom_32 rfl hl (by decide) rfl (fun ls hl => ?_)
    refine lv_aload_n S.1 S.2.1 dX5_readRoom_33 rfl (lv_at hl 2 rfl) ?_
    refine mg10 S hw dX5_readRoom_34 ?_
    refine lv_iload_n S.1 S.2.1 dX5_readRoom_37 rfl (lv_at hl 0 rfl) ?_
    refine lv_aload_n S.1 S.2.1 dX5_readRoom_38 rfl (lv_at hl 2 rfl) ?_
    refine lv_iconst (v := 1) S.1 S.2.1 dX5_readRoom_39 rfl ?_
    refine lv_iconst (v := 0) S.1 S.2.1 dX5_readRoom_40 rfl ?_
    refine lv_bipush (v := 60) S.1 S.2.1 dX5_readRoom_41 rfl ?_
    refine mcVwi (As := [.int (1 : Int32), .int (0 : Int32), .int (60 : Int32)]) (rest := [.int y4, .ref (mAr E 10)]) S hw h (fun u h1 => met_takeAfter l E A (1 : Int32) (0 : Int32) (60 : Int32) w3 u h1) (cw_takeAfter S.2.2.2.2 rfl rfl ⟨Nat.le_of_ble_eq_true rfl, Nat.le_of_ble_eq_true rfl⟩) rfl hl.1 rfl (lv_room (Nat.le_of_ble_eq_true rfl)) dX5_readRoom_43 (fun r6 w5 H locs h hw => ?_)
    refine ms10 S hw dX5_readRoom_46 h (fun w7 H locs h hw => ?_)
    refine lv_aload_n S.1 S.2.1 dX5_readRoom_47 rfl (lv_at hl 2 rfl) ?_
    refine mg10 S hw dX5_readRoom_48 ?_
    refine lv_iload_n S.1 S.2.1 dX5_readRoom_51 rfl (lv_at hl 0 rfl) ?_
    refine lv_iconst (v := 1) S.1 S.2.1 dX5_readRoom_52 rfl ?_
    refine lv_iadd S.1 S.2.1 dX5_readRoom_53 ?_
    refine lv_aload_n S.1 S.2.1 dX5_readRoom_54 rfl (lv_at hl 2 rfl) ?_
    refine lv_iconst (v := 2) S.1 S.2.1 dX5_readRoom_55 rfl ?_
    refine lv_iconst (v := 0) S.1 S.2.1 dX5_readRoom_56 rfl ?_
    refine lv_bipush (v := 20) S.1 S.2.1 dX5_readRoom_57 rfl ?_
    refine mcVwi (As := [.int (2 : Int32), .int (0 : Int32), .int (20 : Int32)]) (rest := [.int (y4 + (1 : Int32)), .ref (mAr E 10)]) S hw h (fun u h1 => met_takeAfter l E A (2 : Int32) (0 : Int32) (20 : Int32) w7 u h1) (cw_takeAfter S.2.2.2.2 rfl rfl ⟨Nat.le_of_ble_eq_true rfl, Nat.le_of_ble_eq_true rfl⟩) rfl hl.1 rfl (lv_room (Nat.le_of_ble_eq_true rfl)) dX5_readRoom_59 (fun r9 w8 H locs h hw => ?_)
    refine ms10 S hw dX5_readRoom_62 h (fun w10 H locs h hw => ?_)
    refine lv_aload_n S.1 S.2.1 dX5_readRoom_63 rfl (lv_at hl 2 rfl) ?_
    refine mg10 S hw dX5_readRoom_64 ?_
    refine lv_iload_n S.1 S.2.1 dX5_readRoom_67 rfl (lv_at hl 0 rfl) ?_
    refine lv_iconst (v := 2) S.1 S.2.1 dX5_readRoom_68 rfl ?_
    refine lv_iadd S.1 S.2.1 dX5_readRoom_69 ?_
    refine lv_aload_n S.1 S.2.1 dX5_readRoom_70 rfl (lv_at hl 2 rfl) ?_
    refine lv_iconst (v := 3) S.1 S.2.1 dX5_readRoom_71 rfl ?_
    refine lv_iconst (v := 0) S.1 S.2.1 dX5_readRoom_72 rfl ?_
    refine lv_sipush (v := 999) S.1 S.2.1 dX5_readRoom_73 rfl ?_
    refine mcVwi (As := [.int (3 : Int32), .int (0 : Int32), .int (999 : Int32)]) (rest := [.int (y4 + (2 : Int32)), .ref (mAr E 10)]) S hw h (fun u h1 => met_takeAfter l E A (3 : Int32) (0 : Int32) (999 : Int32) w10 u h1) (cw_takeAfter S.2.2.2.2 rfl rfl ⟨Nat.le_of_ble_eq_true rfl, Nat.le_of_ble_eq_true rfl⟩) rfl hl.1 rfl (lv_room (Nat.le_of_ble_eq_true rfl)) dX5_readRoom_76 (fun r12 w11 H locs h hw => ?_)
    refine ms10 S hw dX5_readRoom_79 h (fun w13 H locs h hw => ?_)
    refine lv_aload_n S.1 S.2.1 dX5_readRoom_80 rfl (lv_at hl 2 rfl) ?_
    refine mg10 S hw dX5_readRoom_81 ?_
    refine lv_bipush (v := 120) S.1 S.2.1 dX5_readRoom_84 rfl ?_
    refine lv_dup2_11 S.1 S.2.1 dX5_readRoom_86 rfl rfl ?_
    refine mlc10 (j := 120) S hw dX5_readRoom_87 (by decide) ?_
    refine lv_iconst (v := 1) S.1 S.2.1 dX5_readRoom_88 rfl ?_
    refine lv_iadd S.1 S.2.1 dX5_readRoom_89 ?_
    refine msc10 (j := 120) S hw dX5_readRoom_90 (by decide) h (fun w14 H locs h hw => ?_)
    exact m_vret S hr hlocks hw (so1 h) dX5_readRoom_91
  · replace h := if_t c2 h
    refine lv_aload_n S.1 S.2.1 dX5_readRoom_14 rfl (lv_at hl 1 rfl) ?_
    refine lv_iconst (v := 5) S.1 S.2.1 dX5_readRoom_15 rfl ?_
    refine mcVv (As := [.int (5 : Int32)]) (rest := []) S hw h (fun u h1 => met_wrong l E A (5 : Int32) w u h1) (cw_wrong S.2.2.2.2 rfl rfl ⟨Nat.le_of_ble_eq_true rfl, Nat.le_of_ble_eq_true rfl⟩) rfl hl.1 rfl (lv_room (Nat.le_of_ble_eq_true rfl)) dX5_readRoom_16 (fun w15 H locs h hw => ?_)
    exact m_vret S hr hlocks hw (so1 h) dX5_readRoom_19
def M_takeOne_p51 (x3 : Int32) (t0 : Int32) (t1 : Int32) (w : MS) : Option (Int32 × MS) :=
  bdp (wI w 7 0 (t1 + t0)) fun w5 =>
  if (rI w5 8 0) ≤ 0 then
    some (x3, w5)
  else
    some ((0 : Int32), w5)
def M_takeOne_p34 (x3 : Int32) (w : MS) : Option (Int32 × MS) :=
  if (rI w 8 0) ≤ 0 then
    M_takeOne_p51 x3 (1 : Int32) (rI w 7 0) w
  else
    M_takeOne_p51 x3 (0 : Int32) (rI w 7 0) w
def M_takeOne_p17 (t0 : Int32) (w : MS) : Option (Int32 × MS) :=
  if (rI w 8 0) = 0 then
    if 0 ≤ t0 then
      M_takeOne_p34 t0 w
    else
      bd1 (M_wrong (1 : Int32) w) fun w8 =>
      M_takeOne_p34 t0 w8
  else
    M_takeOne_p34 t0 w
def M_takeOne (x1 : Int32) (x2 : Int32) (w : MS) : Option (Int32 × MS) :=
  if (rI w 8 0) ≤ 0 then
    bd1 (M_wordHere x1 x2 w) fun r2 =>
    M_takeOne_p17 r2 w
  else
    M_takeOne_p17 (-1 : Int32) w
set_option maxRecDepth 100000 in
set_option maxHeartbeats 4000000 in
theorem wk_M_takeOne_p51 {p : Program} {l : Launch} {e : Env} {s : State} {m : MethodId} {args : Array Value} {below : List Frame} {meth : Method} {c : Code} {E : mE} {A : Nat → Prop} (S : CallFix p m c cX5_takeOne 4 s args lw_all RX5) (hr : meth.sig.returnType = (some .int)) (hlocks : meth.locks = false) {res : Int32 × MS}  : ∀ (x3 : Int32) (t0 : Int32) (t1 : Int32) (w : MS) (H : Heap) (locs : List Loc) (ls : Array Slot), M_takeOne_p51 x3 t0 t1 w = some res → mH E A s w H locs → lv_has ls 4 [(0, .ref (mM E)), (3, .int x3)] → W p l e rm_takeOne s m args below meth c H locs 0 0 (MQ below (mQi E A res.1 res.2) args s 0 0 A) (F0 m 51 ls [.int t0, .int t1, .ref (mM E)]) := by
  intro x3 t0 t1 w H locs ls h hw hl
  unfold M_takeOne_p51 at h
  refine lv_iadd S.1 S.2.1 dX5_takeOne_51 ?_
  refine mp7 S hw dX5_takeOne_52 h (fun w5 H locs h hw => ?_)
  refine lv_aload_n S.1 S.2.1 dX5_takeOne_55 rfl (lv_at hl 0 rfl) ?_
  refine mg8 S hw dX5_takeOne_56 ?_
  refine lv_if_le (tgt := 66) S.1 S.2.1 dX5_takeOne_59 rfl (fun c6 => ?_) (fun c6 => ?_)
  · replace h := if_t c6 h
    refine lv_iload_n S.1 S.2.1 dX5_takeOne_66 rfl (lv_at hl 1 rfl) ?_
    exact m_iret S hr hlocks hw (so2 h) dX5_takeOne_67
  · replace h := if_f c6 h
    refine lv_iconst (v := 0) S.1 S.2.1 dX5_takeOne_62 rfl ?_
    refine lv_goto (tgt := 67) S.1 S.2.1 dX5_takeOne_63 rfl ?_
    exact m_iret S hr hlocks hw (so2 h) dX5_takeOne_67
set_option maxRecDepth 100000 in
set_option maxHeartbeats 4000000 in
theorem wk_M_takeOne_p34 {p : Program} {l : Launch} {e : Env} {s : State} {m : MethodId} {args : Array Value} {below : List Frame} {meth : Method} {c : Code} {E : mE} {A : Nat → Prop} (S : CallFix p m c cX5_takeOne 4 s args lw_all RX5) (hr : meth.sig.returnType = (some .int)) (hlocks : meth.locks = false) {res : Int32 × MS}  : ∀ (x3 : Int32) (w : MS) (H : Heap) (locs : List Loc) (ls : Array Slot), M_takeOne_p34 x3 w = some res → mH E A s w H locs → lv_has ls 4 [(0, .ref (mM E)), (3, .int x3)] → W p l e rm_takeOne s m args below meth c H locs 0 0 (MQ below (mQi E A res.1 res.2) args s 0 0 A) (F0 m 34 ls []) := by
  intro x3 w H locs ls h hw hl
  unfold M_takeOne_p34 at h
  refine lv_aload_n S.1 S.2.1 dX5_takeOne_34 rfl (lv_at hl 0 rfl) ?_
  refine lv_dup S.1 S.2.1 dX5_takeOne_35 rfl ?_
  refine mg7 S hw dX5_takeOne_36 ?_
  refine lv_aload_n S.1 S.2.1 dX5_takeOne_39 rfl (lv_at hl 0 rfl) ?_
  refine mg8 S hw dX5_takeOne_40 ?_
  refine lv_if_le (tgt := 50) S.1 S.2.1 dX5_takeOne_43 rfl (fun c4 => ?_) (fun c4 => ?_)
  · replace h := if_t c4 h
    refine lv_iconst (v := 1) S.1 S.2.1 dX5_takeOne_50 rfl ?_
    exact wk_M_takeOne_p51 S hr hlocks _ _ _ _ _ _ _ h hw (lv_sub hl [0, 1] rfl)
  · replace h := if_f c4 h
    refine lv_iconst (v := 0) S.1 S.2.1 dX5_takeOne_46 rfl ?_
    refine lv_goto (tgt := 51) S.1 S.2.1 dX5_takeOne_47 rfl ?_
    exact wk_M_takeOne_p51 S hr hlocks _ _ _ _ _ _ _ h hw (lv_sub hl [0, 1] rfl)
set_option maxRecDepth 100000 in
set_option maxHeartbeats 4000000 in
theorem wk_M_takeOne_p17 {p : Program} {l : Launch} {e : Env} {s : State} {m : MethodId} {args : Array Value} {below : List Frame} {meth : Method} {c : Code} {E : mE} {A : Nat → Prop} (S : CallFix p m c cX5_takeOne 4 s args lw_all RX5) (hr : meth.sig.returnType = (some .int)) (hlocks : meth.locks = false) {res : Int32 × MS}  : ∀ (t0 : Int32) (w : MS) (H : Heap) (locs : List Loc) (ls : Array Slot), M_takeOne_p17 t0 w = some res → mH E A s w H locs → lv_has ls 4 [(0, .ref (mM E))] → W p l e rm_takeOne s m args below meth c H locs 0 0 (MQ below (mQi E A res.1 res.2) args s 0 0 A) (F0 m 17 ls [.int t0]) := by
  intro t0 w H locs ls h hw hl
  unfold M_takeOne_p17 at h
  refine lv_istore_n (lv' := [(3, .int t0), (0, .ref (mM E))]) S.1 S.2.1 dX5_takeOne_17 rfl hl (by decide) rfl (fun ls hl => ?_)
  refine lv_aload_n S.1 S.2.1 dX5_takeOne_18 rfl (lv_at hl 1 rfl) ?_
  refine mg8 S hw dX5_takeOne_19 ?_
  refine lv_if_ne (tgt := 34) S.1 S.2.1 dX5_takeOne_22 rfl (fun c3 => ?_) (fun c3 => ?_)
  · replace h := if_f c3 h
    exact wk_M_takeOne_p34 S hr hlocks _ _ _ _ _ h hw (lv_sub hl [1, 0] rfl)
  · replace h := if_t c3 h
    refine lv_iload_n S.1 S.2.1 dX5_takeOne_25 rfl (lv_at hl 0 rfl) ?_
    refine lv_if_ge (tgt := 34) S.1 S.2.1 dX5_takeOne_26 rfl (fun c7 => ?_) (fun c7 => ?_)
    · replace h := if_t c7 h
      exact wk_M_takeOne_p34 S hr hlocks _ _ _ _ _ h hw (lv_sub hl [1, 0] rfl)
    · replace h := if_f c7 h
      refine lv_aload_n S.1 S.2.1 dX5_takeOne_29 rfl (lv_at hl 1 rfl) ?_
      refine lv_iconst (v := 1) S.1 S.2.1 dX5_takeOne_30 rfl ?_
      refine mcVv (As := [.int (1 : Int32)]) (rest := []) S hw h (fun u h1 => met_wrong l E A (1 : Int32) w u h1) (cw_wrong S.2.2.2.2 rfl rfl ⟨Nat.le_of_ble_eq_true rfl, Nat.le_of_ble_eq_true rfl⟩) rfl hl.1 rfl (lv_room (Nat.le_of_ble_eq_true rfl)) dX5_takeOne_31 (fun w8 H locs h hw => ?_)
      exact wk_M_takeOne_p34 S hr hlocks _ _ _ _ _ h hw (lv_sub hl [1, 0] rfl)
set_option maxRecDepth 100000 in
set_option maxHeartbeats 4000000 in
theorem met_takeOne (l : Launch) (E : mE) (A : Nat → Prop)  (x1 : Int32) (x2 : Int32) (w : MS) (res : Int32 × MS) (h : M_takeOne x1 x2 w = some res) : Met l yX5_takeOne (ws_ yX5_takeOne cX5_takeOne 4 (some .int)) rm_takeOne (mPc E A [.ref (mM E), .int x1, .int x2] w) (mQi E A res.1 res.2) 0 0 A := by
  refine mMet (by decide) rfl (Nat.le_of_ble_eq_true rfl) ?_
  intro p e s m below meth c S hr hlocks H ls hw hl
  replace hl : lv_has ls 4 [(0, .ref (mM E)), (1, .int x1), (2, .int x2)] := hl
  unfold M_takeOne at h
  refine lv_aload_n S.1 S.2.1 dX5_takeOne_0 rfl (lv_at hl 0 rfl) ?_
  refine mg8 S hw dX5_takeOne_1 ?_
  refine lv_if_le (tgt := 11) S.1 S.2.1 dX5_takeOne_4 rfl (fun c1 => ?_) (fun c1 => ?_)
  · replace h := if_t c1 h
    refine lv_aload_n S.1 S.2.1 dX5_takeOne_11 rfl (lv_at hl 0 rfl) ?_
    refine lv_iload_n S.1 S.2.1 dX5_takeOne_12 rfl (lv_at hl 1 rfl) ?_
    refine lv_iload_n S.1 S.2.1 dX5_takeOne_13 rfl (lv_at hl 2 rfl) ?_
    refine mcVri (As := [.int x1, .int x2]) (rest := []) S hw h (fun u h1 => met_wordHere l E A x1 x2 w u h1) (cw_wordHere S.2.2.2.2 rfl rfl ⟨Nat.le_of_ble_eq_true rfl, Nat.le_of_ble_eq_true rfl⟩) rfl hl.1 rfl (lv_room (Nat.le_of_ble_eq_true rfl)) dX5_takeOne_14 (fun r2 H locs h hw => ?_)
    exact wk_M_takeOne_p17 S hr hlocks _ _ _ _ _ h hw (lv_sub hl [0] rfl)
  · replace h := if_f c1 h
    refine lv_iconst (v := -1) S.1 S.2.1 dX5_takeOne_7 rfl ?_
    refine lv_goto (tgt := 17) S.1 S.2.1 dX5_takeOne_8 rfl ?_
    exact wk_M_takeOne_p17 S hr hlocks _ _ _ _ _ h hw (lv_sub hl [0] rfl)
def M_within (x0 : Int32) (x1 : Int32) (x2 : Int32) : Int32 :=
  if x0 < x1 then
    (0 : Int32)
  else
    if x2 < x0 then
      (0 : Int32)
    else
      (1 : Int32)
set_option maxRecDepth 100000 in
set_option maxHeartbeats 4000000 in
theorem met_within (l : Launch) (E : mE) (A : Nat → Prop)  (x0 : Int32) (x1 : Int32) (x2 : Int32) (w : MS) (res : Int32) (h : M_within x0 x1 x2 = res) : Met l yX5_within (ws_ yX5_within cX5_within 3 (some .boolean)) rm_within (mPc E A [.int x0, .int x1, .int x2] w) (mQi E A res w) 0 0 A := by
  refine mMet (by decide) rfl (Nat.le_of_ble_eq_true rfl) ?_
  intro p e s m below meth c S hr hlocks H ls hw hl
  replace hl : lv_has ls 3 [(0, .int x0), (1, .int x1), (2, .int x2)] := hl
  unfold M_within at h
  refine lv_iload_n S.1 S.2.1 dX5_within_0 rfl (lv_at hl 0 rfl) ?_
  refine lv_iload_n S.1 S.2.1 dX5_within_1 rfl (lv_at hl 1 rfl) ?_
  refine lv_icmp_lt (tgt := 14) S.1 S.2.1 dX5_within_2 rfl (fun c1 => ?_) (fun c1 => ?_)
  · replace h := if_t c1 h
    refine lv_iconst (v := 0) S.1 S.2.1 dX5_within_14 rfl ?_
    exact m_zret S hr hlocks hw rfl ⟨h, rfl⟩ dX5_within_15
  · replace h := if_f c1 h
    refine lv_iload_n S.1 S.2.1 dX5_within_5 rfl (lv_at hl 0 rfl) ?_
    refine lv_iload_n S.1 S.2.1 dX5_within_6 rfl (lv_at hl 2 rfl) ?_
    refine lv_icmp_gt (tgt := 14) S.1 S.2.1 dX5_within_7 rfl (fun c2 => ?_) (fun c2 => ?_)
    · replace h := if_t c2 h
      refine lv_iconst (v := 0) S.1 S.2.1 dX5_within_14 rfl ?_
      exact m_zret S hr hlocks hw rfl ⟨h, rfl⟩ dX5_within_15
    · replace h := if_f c2 h
      refine lv_iconst (v := 1) S.1 S.2.1 dX5_within_10 rfl ?_
      refine lv_goto (tgt := 15) S.1 S.2.1 dX5_within_11 rfl ?_
      exact m_zret S hr hlocks hw rfl ⟨h, rfl⟩ dX5_within_15
def M_toldHere_p59 (x3 : Int32) (w : MS) : Option (Int32 × MS) :=
  if (rI w 8 0) ≤ 0 then
    some (x3, w)
  else
    some ((0 : Int32), w)
def M_toldHere_p37 (t0 : Int32) (w : MS) : Option (Int32 × MS) :=
  if (rI w 8 0) = 0 then
    if (M_within t0 (0 : Int32) (5 : Int32)) = 0 then
      bd1 (M_wrong (2 : Int32) w) fun w7 =>
      M_toldHere_p59 t0 w7
    else
      M_toldHere_p59 t0 w
  else
    M_toldHere_p59 t0 w
def M_toldHere_p19 (x1 : Int32) (x2 : Int32) (w : MS) : Option (Int32 × MS) :=
  if (rI w 8 0) ≤ 0 then
    bd1 (M_find x1 w) fun r3 =>
    M_toldHere_p37 (r3 - x2) w
  else
    M_toldHere_p37 (-1 : Int32) w
def M_toldHere (x1 : Int32) (x2 : Int32) (w : MS) : Option (Int32 × MS) :=
  if (rI w 8 0) = 0 then
    bd1 (M_isName w) fun r8 =>
    if r8 = 0 then
      bd1 (M_wrong (1 : Int32) w) fun w10 =>
      M_toldHere_p19 x1 x2 w10
    else
      M_toldHere_p19 x1 x2 w
  else
    M_toldHere_p19 x1 x2 w
set_option maxRecDepth 100000 in
set_option maxHeartbeats 4000000 in
theorem wk_M_toldHere_p59 {p : Program} {l : Launch} {e : Env} {s : State} {m : MethodId} {args : Array Value} {below : List Frame} {meth : Method} {c : Code} {E : mE} {A : Nat → Prop} (S : CallFix p m c cX5_toldHere 4 s args lw_all RX5) (hr : meth.sig.returnType = (some .int)) (hlocks : meth.locks = false) {res : Int32 × MS}  : ∀ (x3 : Int32) (w : MS) (H : Heap) (locs : List Loc) (ls : Array Slot), M_toldHere_p59 x3 w = some res → mH E A s w H locs → lv_has ls 4 [(0, .ref (mM E)), (3, .int x3)] → W p l e rm_toldHere s m args below meth c H locs 0 0 (MQ below (mQi E A res.1 res.2) args s 0 0 A) (F0 m 59 ls []) := by
  intro x3 w H locs ls h hw hl
  unfold M_toldHere_p59 at h
  refine lv_aload_n S.1 S.2.1 dX5_toldHere_59 rfl (lv_at hl 0 rfl) ?_
  refine mg8 S hw dX5_toldHere_60 ?_
  refine lv_if_le (tgt := 70) S.1 S.2.1 dX5_toldHere_63 rfl (fun c5 => ?_) (fun c5 => ?_)
  · replace h := if_t c5 h
    refine lv_iload_n S.1 S.2.1 dX5_toldHere_70 rfl (lv_at hl 1 rfl) ?_
    exact m_iret S hr hlocks hw (so2 h) dX5_toldHere_71
  · replace h := if_f c5 h
    refine lv_iconst (v := 0) S.1 S.2.1 dX5_toldHere_66 rfl ?_
    refine lv_goto (tgt := 71) S.1 S.2.1 dX5_toldHere_67 rfl ?_
    exact m_iret S hr hlocks hw (so2 h) dX5_toldHere_71
set_option maxRecDepth 100000 in
set_option maxHeartbeats 4000000 in
theorem wk_M_toldHere_p37 {p : Program} {l : Launch} {e : Env} {s : State} {m : MethodId} {args : Array Value} {below : List Frame} {meth : Method} {c : Code} {E : mE} {A : Nat → Prop} (S : CallFix p m c cX5_toldHere 4 s args lw_all RX5) (hr : meth.sig.returnType = (some .int)) (hlocks : meth.locks = false) {res : Int32 × MS}  : ∀ (t0 : Int32) (w : MS) (H : Heap) (locs : List Loc) (ls : Array Slot), M_toldHere_p37 t0 w = some res → mH E A s w H locs → lv_has ls 4 [(0, .ref (mM E))] → W p l e rm_toldHere s m args below meth c H locs 0 0 (MQ below (mQi E A res.1 res.2) args s 0 0 A) (F0 m 37 ls [.int t0]) := by
  intro t0 w H locs ls h hw hl
  unfold M_toldHere_p37 at h
  refine lv_istore_n (lv' := [(3, .int t0), (0, .ref (mM E))]) S.1 S.2.1 dX5_toldHere_37 rfl hl (by decide) rfl (fun ls hl => ?_)
  refine lv_aload_n S.1 S.2.1 dX5_toldHere_38 rfl (lv_at hl 1 rfl) ?_
  refine mg8 S hw dX5_toldHere_39 ?_
  refine lv_if_ne (tgt := 59) S.1 S.2.1 dX5_toldHere_42 rfl (fun c4 => ?_) (fun c4 => ?_)
  · replace h := if_f c4 h
    exact wk_M_toldHere_p59 S hr hlocks _ _ _ _ _ h hw (lv_sub hl [1, 0] rfl)
  · replace h := if_t c4 h
    refine lv_iload_n S.1 S.2.1 dX5_toldHere_45 rfl (lv_at hl 0 rfl) ?_
    refine lv_iconst (v := 0) S.1 S.2.1 dX5_toldHere_46 rfl ?_
    refine lv_iconst (v := 5) S.1 S.2.1 dX5_toldHere_47 rfl ?_
    refine mcSti (As := [.int t0, .int (0 : Int32), .int (5 : Int32)]) (rest := []) S hw (met_within l E A t0 (0 : Int32) (5 : Int32) w _ rfl) (cw_within S.2.2.2.2 rfl rfl ⟨Nat.le_of_ble_eq_true rfl, Nat.le_of_ble_eq_true rfl⟩) rfl hl.1 rfl (lv_room (Nat.le_of_ble_eq_true rfl)) dX5_toldHere_48 (fun H locs hw => ?_)
    refine lv_if_ne (tgt := 59) S.1 S.2.1 dX5_toldHere_51 rfl (fun c6 => ?_) (fun c6 => ?_)
    · replace h := if_f c6 h
      exact wk_M_toldHere_p59 S hr hlocks _ _ _ _ _ h hw (lv_sub hl [1, 0] rfl)
    · replace h := if_t c6 h
      refine lv_aload_n S.1 S.2.1 dX5_toldHere_54 rfl (lv_at hl 1 rfl) ?_
      refine lv_iconst (v := 2) S.1 S.2.1 dX5_toldHere_55 rfl ?_
      refine mcVv (As := [.int (2 : Int32)]) (rest := []) S hw h (fun u h1 => met_wrong l E A (2 : Int32) w u h1) (cw_wrong S.2.2.2.2 rfl rfl ⟨Nat.le_of_ble_eq_true rfl, Nat.le_of_ble_eq_true rfl⟩) rfl hl.1 rfl (lv_room (Nat.le_of_ble_eq_true rfl)) dX5_toldHere_56 (fun w7 H locs h hw => ?_)
      exact wk_M_toldHere_p59 S hr hlocks _ _ _ _ _ h hw (lv_sub hl [1, 0] rfl)
set_option maxRecDepth 100000 in
set_option maxHeartbeats 4000000 in
theorem wk_M_toldHere_p19 {p : Program} {l : Launch} {e : Env} {s : State} {m : MethodId} {args : Array Value} {below : List Frame} {meth : Method} {c : Code} {E : mE} {A : Nat → Prop} (S : CallFix p m c cX5_toldHere 4 s args lw_all RX5) (hr : meth.sig.returnType = (some .int)) (hlocks : meth.locks = false) {res : Int32 × MS}  : ∀ (x1 : Int32) (x2 : Int32) (w : MS) (H : Heap) (locs : List Loc) (ls : Array Slot), M_toldHere_p19 x1 x2 w = some res → mH E A s w H locs → lv_has ls 4 [(0, .ref (mM E)), (1, .int x1), (2, .int x2)] → W p l e rm_toldHere s m args below meth c H locs 0 0 (MQ below (mQi E A res.1 res.2) args s 0 0 A) (F0 m 19 ls []) := by
  intro x1 x2 w H locs ls h hw hl
  unfold M_toldHere_p19 at h
  refine lv_aload_n S.1 S.2.1 dX5_toldHere_19 rfl (lv_at hl 0 rfl) ?_
  refine mg8 S hw dX5_toldHere_20 ?_
  refine lv_if_le (tgt := 30) S.1 S.2.1 dX5_toldHere_23 rfl (fun c2 => ?_) (fun c2 => ?_)
  · replace h := if_t c2 h
    refine lv_aload_n S.1 S.2.1 dX5_toldHere_30 rfl (lv_at hl 0 rfl) ?_
    refine lv_iload_n S.1 S.2.1 dX5_toldHere_31 rfl (lv_at hl 1 rfl) ?_
    refine mcVri (As := [.int x1]) (rest := []) S hw h (fun u h1 => met_find l E A x1 w u h1) (cw_find S.2.2.2.2 rfl rfl ⟨Nat.le_of_ble_eq_true rfl, Nat.le_of_ble_eq_true rfl⟩) rfl hl.1 rfl (lv_room (Nat.le_of_ble_eq_true rfl)) dX5_toldHere_32 (fun r3 H locs h hw => ?_)
    refine lv_iload_n S.1 S.2.1 dX5_toldHere_35 rfl (lv_at hl 2 rfl) ?_
    refine lv_isub S.1 S.2.1 dX5_toldHere_36 ?_
    exact wk_M_toldHere_p37 S hr hlocks _ _ _ _ _ h hw (lv_sub hl [0] rfl)
  · replace h := if_f c2 h
    refine lv_iconst (v := -1) S.1 S.2.1 dX5_toldHere_26 rfl ?_
    refine lv_goto (tgt := 37) S.1 S.2.1 dX5_toldHere_27 rfl ?_
    exact wk_M_toldHere_p37 S hr hlocks _ _ _ _ _ h hw (lv_sub hl [0] rfl)
set_option maxRecDepth 100000 in
set_option maxHeartbeats 4000000 in
theorem met_toldHere (l : Launch) (E : mE) (A : Nat → Prop)  (x1 : Int32) (x2 : Int32) (w : MS) (res : Int32 × MS) (h : M_toldHere x1 x2 w = some res) : Met l yX5_toldHere (ws_ yX5_toldHere cX5_toldHere 4 (some .int)) rm_toldHere (mPc E A [.ref (mM E), .int x1, .int x2] w) (mQi E A res.1 res.2) 0 0 A := by
  refine mMet (by decide) rfl (Nat.le_of_ble_eq_true rfl) ?_
  intro p e s m below meth c S hr hlocks H ls hw hl
  replace hl : lv_has ls 4 [(0, .ref (mM E)), (1, .int x1), (2, .int x2)] := hl
  unfold M_toldHere at h
  refine lv_aload_n S.1 S.2.1 dX5_toldHere_0 rfl (lv_at hl 0 rfl) ?_
  refine mg8 S hw dX5_toldHere_1 ?_
  refine lv_if_ne (tgt := 19) S.1 S.2.1 dX5_toldHere_4 rfl (fun c1 => ?_) (fun c1 => ?_)
  · replace h := if_f c1 h
    exact wk_M_toldHere_p19 S hr hlocks _ _ _ _ _ _ h hw (lv_sub hl [0, 1, 2] rfl)
  · replace h := if_t c1 h
    refine lv_aload_n S.1 S.2.1 dX5_toldHere_7 rfl (lv_at hl 0 rfl) ?_
    refine mcVri (As := []) (rest := []) S hw h (fun u h1 => met_isName l E A  w u h1) (cw_isName S.2.2.2.2 rfl rfl ⟨Nat.le_of_ble_eq_true rfl, Nat.le_of_ble_eq_true rfl⟩) rfl hl.1 rfl (lv_room (Nat.le_of_ble_eq_true rfl)) dX5_toldHere_8 (fun r8 H locs h hw => ?_)
    refine lv_if_ne (tgt := 19) S.1 S.2.1 dX5_toldHere_11 rfl (fun c9 => ?_) (fun c9 => ?_)
    · replace h := if_f c9 h
      exact wk_M_toldHere_p19 S hr hlocks _ _ _ _ _ _ h hw (lv_sub hl [0, 1, 2] rfl)
    · replace h := if_t c9 h
      refine lv_aload_n S.1 S.2.1 dX5_toldHere_14 rfl (lv_at hl 0 rfl) ?_
      refine lv_iconst (v := 1) S.1 S.2.1 dX5_toldHere_15 rfl ?_
      refine mcVv (As := [.int (1 : Int32)]) (rest := []) S hw h (fun u h1 => met_wrong l E A (1 : Int32) w u h1) (cw_wrong S.2.2.2.2 rfl rfl ⟨Nat.le_of_ble_eq_true rfl, Nat.le_of_ble_eq_true rfl⟩) rfl hl.1 rfl (lv_room (Nat.le_of_ble_eq_true rfl)) dX5_toldHere_16 (fun w10 H locs h hw => ?_)
      exact wk_M_toldHere_p19 S hr hlocks _ _ _ _ _ _ h hw (lv_sub hl [0, 1, 2] rfl)
def M_readTenant_p202 (w : MS) : Option MS :=
  bdp (wI w 10 121 ((rI w 10 121) + (1 : Int32))) fun w21 =>
  some w21
def M_readTenant_p189 (x2 : Int32) (x3 : Int32) (t0 : Int32) (t1 : Int32) (w : MS) : Option MS :=
  bdp (wI w 7 0 (t1 + t0)) fun w26 =>
  bd1 (wA w26 10 240 (x2 + (4 : Int32)) x3) fun w27 =>
  M_readTenant_p202 w27
def M_readTenant_p172 (x2 : Int32) (x3 : Int32) (w : MS) : Option MS :=
  if (rI w 8 0) ≤ 0 then
    M_readTenant_p189 x2 x3 (1 : Int32) (rI w 7 0) w
  else
    M_readTenant_p189 x2 x3 (0 : Int32) (rI w 7 0) w
def M_readTenant_p129 : Nat → Int32 → Int32 → Int32 → Int32 → MS → Option MS
  | 0, _, _, _, _, _ => none
  | n + 1, x1, x2, x3, x4, w =>
    if x1 ≤ x4 then
      M_readTenant_p172 x2 x3 w
    else
      if (rI w 8 0) = 0 then
        bd1 (rA w 10 240 (((146 : Int32) + ((5 : Int32) * x4)) + (4 : Int32))) fun v29 =>
        if v29 = x3 then
          bd1 (M_wrong (3 : Int32) w) fun w31 =>
          (M_readTenant_p129 n) x1 x2 x3 (x4 + (1 : Int32)) w31
        else
          (M_readTenant_p129 n) x1 x2 x3 (x4 + (1 : Int32)) w
      else
        M_readTenant_p172 x2 x3 w
def M_readTenant (w : MS) : Option MS :=
  bdp (rI w 10 121) fun y1 =>
  if y1 = (6 : Int32) then
    bd1 (M_wrong (5 : Int32) w) fun w32 =>
    some w32
  else
    bd1 (M_readName ((20 : Int32) + y1) w) fun w3 =>
    bdp ((146 : Int32) + ((5 : Int32) * y1)) fun y4 =>
    bd2 (M_takeOne (25 : Int32) (4 : Int32) w3) fun r6 w5 =>
    bd1 (wA w5 10 240 y4 r6) fun w7 =>
    bd2 (M_takeAfter (5 : Int32) (40 : Int32) (99 : Int32) w7) fun r9 w8 =>
    bd1 (wA w8 10 240 (y4 + (1 : Int32)) r9) fun w10 =>
    bd2 (M_takeAfter (6 : Int32) (0 : Int32) (40 : Int32) w10) fun r12 w11 =>
    bd1 (wA w11 10 240 (y4 + (2 : Int32)) r12) fun w13 =>
    bd2 (M_takeAfter (7 : Int32) (0 : Int32) (9999 : Int32) w13) fun r15 w14 =>
    bd1 (wA w14 10 240 (y4 + (3 : Int32)) r15) fun w16 =>
    bd1 (wA w16 10 240 (y4 + (4 : Int32)) (-1 : Int32)) fun w17 =>
    bd2 (M_hasWord (8 : Int32) w17) fun r19 w18 =>
    if r19 = 0 then
      M_readTenant_p202 w18
    else
      bd2 (M_toldHere (1 : Int32) (0 : Int32) w18) fun r23 w22 =>
      M_readTenant_p129 FU y1 y4 r23 (0 : Int32) w22
set_option maxRecDepth 100000 in
set_option maxHeartbeats 4000000 in
theorem wk_M_readTenant_p202 {p : Program} {l : Launch} {e : Env} {s : State} {m : MethodId} {args : Array Value} {below : List Frame} {meth : Method} {c : Code} {E : mE} {A : Nat → Prop} (S : CallFix p m c cX5_readTenant 5 s args lw_all RX5) (hr : meth.sig.returnType = none) (hlocks : meth.locks = false) {res : MS}  : ∀ (w : MS) (H : Heap) (locs : List Loc) (ls : Array Slot), M_readTenant_p202 w = some res → mH E A s w H locs → lv_has ls 5 [(0, .ref (mM E))] → W p l e rm_readTenant s m args below meth c H locs 0 0 (MQ below (mQv E A res) args s 0 0 A) (F0 m 202 ls []) := by
  intro  w H locs ls h hw hl
  unfold M_readTenant_p202 at h
  refine lv_aload_n S.1 S.2.1 dX5_readTenant_202 rfl (lv_at hl 0 rfl) ?_
  refine mg10 S hw dX5_readTenant_203 ?_
  refine lv_bipush (v := 121) S.1 S.2.1 dX5_readTenant_206 rfl ?_
  refine lv_dup2_11 S.1 S.2.1 dX5_readTenant_208 rfl rfl ?_
  refine mlc10 (j := 121) S hw dX5_readTenant_209 (by decide) ?_
  refine lv_iconst (v := 1) S.1 S.2.1 dX5_readTenant_210 rfl ?_
  refine lv_iadd S.1 S.2.1 dX5_readTenant_211 ?_
  refine msc10 (j := 121) S hw dX5_readTenant_212 (by decide) h (fun w21 H locs h hw => ?_)
  exact m_vret S hr hlocks hw (so1 h) dX5_readTenant_213
set_option maxRecDepth 100000 in
set_option maxHeartbeats 4000000 in
theorem wk_M_readTenant_p189 {p : Program} {l : Launch} {e : Env} {s : State} {m : MethodId} {args : Array Value} {below : List Frame} {meth : Method} {c : Code} {E : mE} {A : Nat → Prop} (S : CallFix p m c cX5_readTenant 5 s args lw_all RX5) (hr : meth.sig.returnType = none) (hlocks : meth.locks = false) {res : MS}  : ∀ (x2 : Int32) (x3 : Int32) (t0 : Int32) (t1 : Int32) (w : MS) (H : Heap) (locs : List Loc) (ls : Array Slot), M_readTenant_p189 x2 x3 t0 t1 w = some res → mH E A s w H locs → lv_has ls 5 [(0, .ref (mM E)), (2, .int x2), (3, .int x3)] → W p l e rm_readTenant s m args below meth c H locs 0 0 (MQ below (mQv E A res) args s 0 0 A) (F0 m 189 ls [.int t0, .int t1, .ref (mM E)]) := by
  intro x2 x3 t0 t1 w H locs ls h hw hl
  unfold M_readTenant_p189 at h
  refine lv_iadd S.1 S.2.1 dX5_readTenant_189 ?_
  refine mp7 S hw dX5_readTenant_190 h (fun w26 H locs h hw => ?_)
  refine lv_aload_n S.1 S.2.1 dX5_readTenant_193 rfl (lv_at hl 0 rfl) ?_
  refine mg10 S hw dX5_readTenant_194 ?_
  refine lv_iload_n S.1 S.2.1 dX5_readTenant_197 rfl (lv_at hl 1 rfl) ?_
  refine lv_iconst (v := 4) S.1 S.2.1 dX5_readTenant_198 rfl ?_
  refine lv_iadd S.1 S.2.1 dX5_readTenant_199 ?_
  refine lv_iload_n S.1 S.2.1 dX5_readTenant_200 rfl (lv_at hl 2 rfl) ?_
  refine ms10 S hw dX5_readTenant_201 h (fun w27 H locs h hw => ?_)
  exact wk_M_readTenant_p202 S hr hlocks _ _ _ _ h hw (lv_sub hl [0] rfl)
set_option maxRecDepth 100000 in
set_option maxHeartbeats 4000000 in
theorem wk_M_readTenant_p172 {p : Program} {l : Launch} {e : Env} {s : State} {m : MethodId} {args : Array Value} {below : List Frame} {meth : Method} {c : Code} {E : mE} {A : Nat → Prop} (S : CallFix p m c cX5_readTenant 5 s args lw_all RX5) (hr : meth.sig.returnType = none) (hlocks : meth.locks = false) {res : MS}  : ∀ (x2 : Int32) (x3 : Int32) (w : MS) (H : Heap) (locs : List Loc) (ls : Array Slot), M_readTenant_p172 x2 x3 w = some res → mH E A s w H locs → lv_has ls 5 [(0, .ref (mM E)), (2, .int x2), (3, .int x3)] → W p l e rm_readTenant s m args below meth c H locs 0 0 (MQ below (mQv E A res) args s 0 0 A) (F0 m 172 ls []) := by
  intro x2 x3 w H locs ls h hw hl
  unfold M_readTenant_p172 at h
  refine lv_aload_n S.1 S.2.1 dX5_readTenant_172 rfl (lv_at hl 0 rfl) ?_
  refine lv_dup S.1 S.2.1 dX5_readTenant_173 rfl ?_
  refine mg7 S hw dX5_readTenant_174 ?_
  refine lv_aload_n S.1 S.2.1 dX5_readTenant_177 rfl (lv_at hl 0 rfl) ?_
  refine mg8 S hw dX5_readTenant_178 ?_
  refine lv_if_le (tgt := 188) S.1 S.2.1 dX5_readTenant_181 rfl (fun c25 => ?_) (fun c25 => ?_)
  · replace h := if_t c25 h
    refine lv_iconst (v := 1) S.1 S.2.1 dX5_readTenant_188 rfl ?_
    exact wk_M_readTenant_p189 S hr hlocks _ _ _ _ _ _ _ _ h hw (lv_sub hl [0, 1, 2] rfl)
  · replace h := if_f c25 h
    refine lv_iconst (v := 0) S.1 S.2.1 dX5_readTenant_184 rfl ?_
    refine lv_goto (tgt := 189) S.1 S.2.1 dX5_readTenant_185 rfl ?_
    exact wk_M_readTenant_p189 S hr hlocks _ _ _ _ _ _ _ _ h hw (lv_sub hl [0, 1, 2] rfl)
set_option maxRecDepth 100000 in
set_option maxHeartbeats 4000000 in
theorem wk_M_readTenant_p129 {p : Program} {l : Launch} {e : Env} {s : State} {m : MethodId} {args : Array Value} {below : List Frame} {meth : Method} {c : Code} {E : mE} {A : Nat → Prop} (S : CallFix p m c cX5_readTenant 5 s args lw_all RX5) (hr : meth.sig.returnType = none) (hlocks : meth.locks = false) {res : MS}  : ∀ n : Nat, ∀ (x1 : Int32) (x2 : Int32) (x3 : Int32) (x4 : Int32) (w : MS) (H : Heap) (locs : List Loc) (ls : Array Slot), M_readTenant_p129 n x1 x2 x3 x4 w = some res → mH E A s w H locs → lv_has ls 5 [(0, .ref (mM E)), (1, .int x1), (2, .int x2), (3, .int x3), (4, .int x4)] → W p l e rm_readTenant s m args below meth c H locs 0 0 (MQ below (mQv E A res) args s 0 0 A) (F0 m 129 ls []) := by
  intro n
  induction n with
  | zero => intro x1 x2 x3 x4 w H locs ls h; cases (show (none : Option MS) = some res from h)
  | succ n ih =>
    intro x1 x2 x3 x4 w H locs ls h hw hl
    rw [M_readTenant_p129] at h
    refine lv_iload S.1 S.2.1 dX5_readTenant_129 (lv_at hl 4 rfl) ?_
    refine lv_iload_n S.1 S.2.1 dX5_readTenant_131 rfl (lv_at hl 1 rfl) ?_
    refine lv_icmp_ge (tgt := 172) S.1 S.2.1 dX5_readTenant_132 rfl (fun c24 => ?_) (fun c24 => ?_)
    · replace h := if_t c24 h
      exact wk_M_readTenant_p172 S hr hlocks _ _ _ _ _ _ h hw (lv_sub hl [0, 2, 3] rfl)
    · replace h := if_f c24 h
      refine lv_aload_n S.1 S.2.1 dX5_readTenant_135 rfl (lv_at hl 0 rfl) ?_
      refine mg8 S hw dX5_readTenant_136 ?_
      refine lv_if_ne (tgt := 172) S.1 S.2.1 dX5_readTenant_139 rfl (fun c28 => ?_) (fun c28 => ?_)
      · replace h := if_f c28 h
        exact wk_M_readTenant_p172 S hr hlocks _ _ _ _ _ _ h hw (lv_sub hl [0, 2, 3] rfl)
      · replace h := if_t c28 h
        refine lv_aload_n S.1 S.2.1 dX5_readTenant_142 rfl (lv_at hl 0 rfl) ?_
        refine mg10 S hw dX5_readTenant_143 ?_
        refine lv_sipush (v := 146) S.1 S.2.1 dX5_readTenant_146 rfl ?_
        refine lv_iconst (v := 5) S.1 S.2.1 dX5_readTenant_149 rfl ?_
        refine lv_iload S.1 S.2.1 dX5_readTenant_150 (lv_at hl 4 rfl) ?_
        refine lv_imul S.1 S.2.1 dX5_readTenant_152 ?_
        refine lv_iadd S.1 S.2.1 dX5_readTenant_153 ?_
        refine lv_iconst (v := 4) S.1 S.2.1 dX5_readTenant_154 rfl ?_
        refine lv_iadd S.1 S.2.1 dX5_readTenant_155 ?_
        refine ml10 S hw dX5_readTenant_156 h (fun v29 h => ?_)
        refine lv_iload_n S.1 S.2.1 dX5_readTenant_157 rfl (lv_at hl 3 rfl) ?_
        refine lv_icmp_ne (tgt := 166) S.1 S.2.1 dX5_readTenant_158 rfl (fun c30 => ?_) (fun c30 => ?_)
        · replace h := if_f c30 h
          refine lv_iinc (v := x4 + (1 : Int32)) (lv' := [(4, .int (x4 + (1 : Int32))), (0, .ref (mM E)), (1, .int x1), (2, .int x2), (3, .int x3)]) S.1 S.2.1 dX5_readTenant_166 hl (k := 4) rfl rfl (by decide) rfl (fun ls hl => ?_)
          refine lv_goto (tgt := 129) S.1 S.2.1 dX5_readTenant_169 rfl ?_
          exact ih _ _ _ _ _ _ _ _ h hw (lv_sub hl [1, 2, 3, 4, 0] rfl)
        · replace h := if_t c30 h
          refine lv_aload_n S.1 S.2.1 dX5_readTenant_161 rfl (lv_at hl 0 rfl) ?_
          refine lv_iconst (v := 3) S.1 S.2.1 dX5_readTenant_162 rfl ?_
          refine mcVv (As := [.int (3 : Int32)]) (rest := []) S hw h (fun u h1 => met_wrong l E A (3 : Int32) w u h1) (cw_wrong S.2.2.2.2 rfl rfl ⟨Nat.le_of_ble_eq_true rfl, Nat.le_of_ble_eq_true rfl⟩) rfl hl.1 rfl (lv_room (Nat.le_of_ble_eq_true rfl)) dX5_readTenant_163 (fun w31 H locs h hw => ?_)
          refine lv_iinc (v := x4 + (1 : Int32)) (lv' := [(4, .int (x4 + (1 : Int32))), (0, .ref (mM E)), (1, .int x1), (2, .int x2), (3, .int x3)]) S.1 S.2.1 dX5_readTenant_166 hl (k := 4) rfl rfl (by decide) rfl (fun ls hl => ?_)
          refine lv_goto (tgt := 129) S.1 S.2.1 dX5_readTenant_169 rfl ?_
          exact ih _ _ _ _ _ _ _ _ h hw (lv_sub hl [1, 2, 3, 4, 0] rfl)
set_option maxRecDepth 100000 in
set_option maxHeartbeats 4000000 in
theorem met_readTenant (l : Launch) (E : mE) (A : Nat → Prop)  (w : MS) (res : MS) (h : M_readTenant w = some res) : Met l yX5_readTenant (ws_ yX5_readTenant cX5_readTenant 5 none) rm_readTenant (mPc E A [.ref (mM E)] w) (mQv E A res) 0 0 A := by
  refine mMet (by decide) rfl (Nat.le_of_ble_eq_true rfl) ?_
  intro p e s m below meth c S hr hlocks H ls hw hl
  replace hl : lv_has ls 5 [(0, .ref (mM E))] := hl
  unfold M_readTenant at h
  refine lv_aload_n S.1 S.2.1 dX5_readTenant_0 rfl (lv_at hl 0 rfl) ?_
  refine mg10 S hw dX5_readTenant_1 ?_
  refine lv_bipush (v := 121) S.1 S.2.1 dX5_readTenant_4 rfl ?_
  refine mlc10 (j := 121) S hw dX5_readTenant_6 (by decide) ?_
  refine lv_topi (fun y1 ey => ?_)
  replace h := bdp_e ey h
  refine lv_istore_n (lv' := [(1, .int y1), (0, .ref (mM E))]) S.1 S.2.1 dX5_readTenant_7 rfl hl (by decide) rfl (fun ls hl => ?_)
  refine lv_iload_n S.1 S.2.1 dX5_readTenant_8 rfl (lv_at hl 0 rfl) ?_
  refine lv_bipush (v := 6) S.1 S.2.1 dX5_readTenant_9 rfl ?_
  refine lv_icmp_ne (tgt := 20) S.1 S.2.1 dX5_readTenant_11 rfl (fun c2 => ?_) (fun c2 => ?_)
  · replace h := if_f c2 h
    refine lv_aload_n S.1 S.2.1 dX5_readTenant_20 rfl (lv_at hl 1 rfl) ?_
    refine lv_bipush (v := 20) S.1 S.2.1 dX5_readTenant_21 rfl ?_
    refine lv_iload_n S.1 S.2.1 dX5_readTenant_23 rfl (lv_at hl 0 rfl) ?_
    refine lv_iadd S.1 S.2.1 dX5_readTenant_24 ?_
    refine mcVv (As := [.int ((20 : Int32) + y1)]) (rest := []) S hw h (fun u h1 => met_readName l E A ((20 : Int32) + y1) w u h1) (cw_readName S.2.2.2.2 rfl rfl ⟨Nat.le_of_ble_eq_true rfl, Nat.le_of_ble_eq_true rfl⟩) rfl hl.1 rfl (lv_room (Nat.le_of_ble_eq_true rfl)) dX5_readTenant_25 (fun w3 H locs h hw => ?_)
    refine lv_sipush (v := 146) S.1 S.2.1 dX5_readTenant_28 rfl ?_
    refine lv_iconst (v := 5) S.1 S.2.1 dX5_readTenant_31 rfl ?_
    refine lv_iload_n S.1 S.2.1 dX5_readTenant_32 rfl (lv_at hl 0 rfl) ?_
    refine lv_imul S.1 S.2.1 dX5_readTenant_33 ?_
    refine lv_iadd S.1 S.2.1 dX5_readTenant_34 ?_
    refine lv_topi (fun y4 ey => ?_)
    replace h := bdp_e ey h
    refine lv_istore_n (lv' := [(2, .int y4), (1, .int y1), (0, .ref (mM E))]) S.1 S.2.1 dX5_readTenant_35 rfl hl (by decide) rfl (fun ls hl => ?_)
    refine lv_aload_n S.1 S.2.1 dX5_readTenant_36 rfl (lv_at hl 2 rfl) ?_
    refine mg10 S hw dX5_readTenant_37 ?_
    refine lv_iload_n S.1 S.2.1 dX5_readTenant_40 rfl (lv_at hl 0 rfl) ?_
    refine lv_aload_n S.1 S.2.1 dX5_readTenant_41 rfl (lv_at hl 2 rfl) ?_
    refine lv_bipush (v := 25) S.1 S.2.1 dX5_readTenant_42 rfl ?_
    refine lv_iconst (v := 4) S.1 S.2.1 dX5_readTenant_44 rfl ?_
    refine mcVwi (As := [.int (25 : Int32), .int (4 : Int32)]) (rest := [.int y4, .ref (mAr E 10)]) S hw h (fun u h1 => met_takeOne l E A (25 : Int32) (4 : Int32) w3 u h1) (cw_takeOne S.2.2.2.2 rfl rfl ⟨Nat.le_of_ble_eq_true rfl, Nat.le_of_ble_eq_true rfl⟩) rfl hl.1 rfl (lv_room (Nat.le_of_ble_eq_true rfl)) dX5_readTenant_45 (fun r6 w5 H locs h hw => ?_)
    refine ms10 S hw dX5_readTenant_48 h (fun w7 H locs h hw => ?_)
    refine lv_aload_n S.1 S.2.1 dX5_readTenant_49 rfl (lv_at hl 2 rfl) ?_
    refine mg10 S hw dX5_readTenant_50 ?_
    refine lv_iload_n S.1 S.2.1 dX5_readTenant_53 rfl (lv_at hl 0 rfl) ?_
    refine lv_iconst (v := 1) S.1 S.2.1 dX5_readTenant_54 rfl ?_
    refine lv_iadd S.1 S.2.1 dX5_readTenant_55 ?_
    refine lv_aload_n S.1 S.2.1 dX5_readTenant_56 rfl (lv_at hl 2 rfl) ?_
    refine lv_iconst (v := 5) S.1 S.2.1 dX5_readTenant_57 rfl ?_
    refine lv_bipush (v := 40) S.1 S.2.1 dX5_readTenant_58 rfl ?_
    refine lv_bipush (v := 99) S.1 S.2.1 dX5_readTenant_60 rfl ?_
    refine mcVwi (As := [.int (5 : Int32), .int (40 : Int32), .int (99 : Int32)]) (rest := [.int (y4 + (1 : Int32)), .ref (mAr E 10)]) S hw h (fun u h1 => met_takeAfter l E A (5 : Int32) (40 : Int32) (99 : Int32) w7 u h1) (cw_takeAfter S.2.2.2.2 rfl rfl ⟨Nat.le_of_ble_eq_true rfl, Nat.le_of_ble_eq_true rfl⟩) rfl hl.1 rfl (lv_room (Nat.le_of_ble_eq_true rfl)) dX5_readTenant_62 (fun r9 w8 H locs h hw => ?_)
    refine ms10 S hw dX5_readTenant_65 h (fun w10 H locs h hw => ?_)
    refine lv_aload_n S.1 S.2.1 dX5_readTenant_66 rfl (lv_at hl 2 rfl) ?_
    refine mg10 S hw dX5_readTenant_67 ?_
    refine lv_iload_n S.1 S.2.1 dX5_readTenant_70 rfl (lv_at hl 0 rfl) ?_
    refine lv_iconst (v := 2) S.1 S.2.1 dX5_readTenant_71 rfl ?_
    refine lv_iadd S.1 S.2.1 dX5_readTenant_72 ?_
    refine lv_aload_n S.1 S.2.1 dX5_readTenant_73 rfl (lv_at hl 2 rfl) ?_
    refine lv_bipush (v := 6) S.1 S.2.1 dX5_readTenant_74 rfl ?_
    refine lv_iconst (v := 0) S.1 S.2.1 dX5_readTenant_76 rfl ?_
    refine lv_bipush (v := 40) S.1 S.2.1 dX5_readTenant_77 rfl ?_
    refine mcVwi (As := [.int (6 : Int32), .int (0 : Int32), .int (40 : Int32)]) (rest := [.int (y4 + (2 : Int32)), .ref (mAr E 10)]) S hw h (fun u h1 => met_takeAfter l E A (6 : Int32) (0 : Int32) (40 : Int32) w10 u h1) (cw_takeAfter S.2.2.2.2 rfl rfl ⟨Nat.le_of_ble_eq_true rfl, Nat.le_of_ble_eq_true rfl⟩) rfl hl.1 rfl (lv_room (Nat.le_of_ble_eq_true rfl)) dX5_readTenant_79 (fun r12 w11 H locs h hw => ?_)
    refine ms10 S hw dX5_readTenant_82 h (fun w13 H locs h hw => ?_)
    refine lv_aload_n S.1 S.2.1 dX5_readTenant_83 rfl (lv_at hl 2 rfl) ?_
    refine mg10 S hw dX5_readTenant_84 ?_
    refine lv_iload_n S.1 S.2.1 dX5_readTenant_87 rfl (lv_at hl 0 rfl) ?_
    refine lv_iconst (v := 3) S.1 S.2.1 dX5_readTenant_88 rfl ?_
    refine lv_iadd S.1 S.2.1 dX5_readTenant_89 ?_
    refine lv_aload_n S.1 S.2.1 dX5_readTenant_90 rfl (lv_at hl 2 rfl) ?_
    refine lv_bipush (v := 7) S.1 S.2.1 dX5_readTenant_91 rfl ?_
    refine lv_iconst (v := 0) S.1 S.2.1 dX5_readTenant_93 rfl ?_
    refine lv_sipush (v := 9999) S.1 S.2.1 dX5_readTenant_94 rfl ?_
    refine mcVwi (As := [.int (7 : Int32), .int (0 : Int32), .int (9999 : Int32)]) (rest := [.int (y4 + (3 : Int32)), .ref (mAr E 10)]) S hw h (fun u h1 => met_takeAfter l E A (7 : Int32) (0 : Int32) (9999 : Int32) w13 u h1) (cw_takeAfter S.2.2.2.2 rfl rfl ⟨Nat.le_of_ble_eq_true rfl, Nat.le_of_ble_eq_true rfl⟩) rfl hl.1 rfl (lv_room (Nat.le_of_ble_eq_true rfl)) dX5_readTenant_97 (fun r15 w14 H locs h hw => ?_)
    refine ms10 S hw dX5_readTenant_100 h (fun w16 H locs h hw => ?_)
    refine lv_aload_n S.1 S.2.1 dX5_readTenant_101 rfl (lv_at hl 2 rfl) ?_
    refine mg10 S hw dX5_readTenant_102 ?_
    refine lv_iload_n S.1 S.2.1 dX5_readTenant_105 rfl (lv_at hl 0 rfl) ?_
    refine lv_iconst (v := 4) S.1 S.2.1 dX5_readTenant_106 rfl ?_
    refine lv_iadd S.1 S.2.1 dX5_readTenant_107 ?_
    refine lv_iconst (v := -1) S.1 S.2.1 dX5_readTenant_108 rfl ?_
    refine ms10 S hw dX5_readTenant_109 h (fun w17 H locs h hw => ?_)
    refine lv_aload_n S.1 S.2.1 dX5_readTenant_110 rfl (lv_at hl 2 rfl) ?_
    refine lv_bipush (v := 8) S.1 S.2.1 dX5_readTenant_111 rfl ?_
    refine mcVwi (As := [.int (8 : Int32)]) (rest := []) S hw h (fun u h1 => met_hasWord l E A (8 : Int32) w17 u h1) (cw_hasWord S.2.2.2.2 rfl rfl ⟨Nat.le_of_ble_eq_true rfl, Nat.le_of_ble_eq_true rfl⟩) rfl hl.1 rfl (lv_room (Nat.le_of_ble_eq_true rfl)) dX5_readTenant_113 (fun r19 w18 H locs h hw => ?_)
    refine lv_if_eq (tgt := 202) S.1 S.2.1 dX5_readTenant_116 rfl (fun c20 => ?_) (fun c20 => ?_)
    · replace h := if_t c20 h
      exact wk_M_readTenant_p202 S hr hlocks _ _ _ _ h hw (lv_sub hl [2] rfl)
    · replace h := if_f c20 h
      refine lv_aload_n S.1 S.2.1 dX5_readTenant_119 rfl (lv_at hl 2 rfl) ?_
      refine lv_iconst (v := 1) S.1 S.2.1 dX5_readTenant_120 rfl ?_
      refine lv_iconst (v := 0) S.1 S.2.1 dX5_readTenant_121 rfl ?_
      refine mcVwi (As := [.int (1 : Int32), .int (0 : Int32)]) (rest := []) S hw h (fun u h1 => met_toldHere l E A (1 : Int32) (0 : Int32) w18 u h1) (cw_toldHere S.2.2.2.2 rfl rfl ⟨Nat.le_of_ble_eq_true rfl, Nat.le_of_ble_eq_true rfl⟩) rfl hl.1 rfl (lv_room (Nat.le_of_ble_eq_true rfl)) dX5_readTenant_122 (fun r23 w22 H locs h hw => ?_)
      refine lv_istore_n (lv' := [(3, .int r23), (2, .int y4), (1, .int y1), (0, .ref (mM E))]) S.1 S.2.1 dX5_readTenant_125 rfl hl (by decide) rfl (fun ls hl => ?_)
      refine lv_iconst (v := 0) S.1 S.2.1 dX5_readTenant_126 rfl ?_
      refine lv_istore (lv' := [(4, .int (0 : Int32)), (3, .int r23), (2, .int y4), (1, .int y1), (0, .ref (mM E))]) S.1 S.2.1 dX5_readTenant_127 hl (by decide) rfl (fun ls hl => ?_)
      exact wk_M_readTenant_p129 S hr hlocks FU _ _ _ _ _ _ _ _ h hw (lv_sub hl [4, 3, 2, 1, 0] rfl)
  · replace h := if_t c2 h
    refine lv_aload_n S.1 S.2.1 dX5_readTenant_14 rfl (lv_at hl 1 rfl) ?_
    refine lv_iconst (v := 5) S.1 S.2.1 dX5_readTenant_15 rfl ?_
    refine mcVv (As := [.int (5 : Int32)]) (rest := []) S hw h (fun u h1 => met_wrong l E A (5 : Int32) w u h1) (cw_wrong S.2.2.2.2 rfl rfl ⟨Nat.le_of_ble_eq_true rfl, Nat.le_of_ble_eq_true rfl⟩) rfl hl.1 rfl (lv_room (Nat.le_of_ble_eq_true rfl)) dX5_readTenant_16 (fun w32 H locs h hw => ?_)
    exact m_vret S hr hlocks hw (so1 h) dX5_readTenant_19
def M_takeTold (x1 : Int32) (x2 : Int32) (w : MS) : Option (Int32 × MS) :=
  bd2 (M_toldHere x1 x2 w) fun r2 w1 =>
  if (rI w1 8 0) ≤ 0 then
    bdp (wI w1 7 0 ((rI w1 7 0) + (1 : Int32))) fun w4 =>
    some (r2, w4)
  else
    bdp (wI w1 7 0 ((rI w1 7 0) + (0 : Int32))) fun w5 =>
    some (r2, w5)
set_option maxRecDepth 100000 in
set_option maxHeartbeats 4000000 in
theorem met_takeTold (l : Launch) (E : mE) (A : Nat → Prop)  (x1 : Int32) (x2 : Int32) (w : MS) (res : Int32 × MS) (h : M_takeTold x1 x2 w = some res) : Met l yX5_takeTold (ws_ yX5_takeTold cX5_takeTold 4 (some .int)) rm_takeTold (mPc E A [.ref (mM E), .int x1, .int x2] w) (mQi E A res.1 res.2) 0 0 A := by
  refine mMet (by decide) rfl (Nat.le_of_ble_eq_true rfl) ?_
  intro p e s m below meth c S hr hlocks H ls hw hl
  replace hl : lv_has ls 4 [(0, .ref (mM E)), (1, .int x1), (2, .int x2)] := hl
  unfold M_takeTold at h
  refine lv_aload_n S.1 S.2.1 dX5_takeTold_0 rfl (lv_at hl 0 rfl) ?_
  refine lv_iload_n S.1 S.2.1 dX5_takeTold_1 rfl (lv_at hl 1 rfl) ?_
  refine lv_iload_n S.1 S.2.1 dX5_takeTold_2 rfl (lv_at hl 2 rfl) ?_
  refine mcVwi (As := [.int x1, .int x2]) (rest := []) S hw h (fun u h1 => met_toldHere l E A x1 x2 w u h1) (cw_toldHere S.2.2.2.2 rfl rfl ⟨Nat.le_of_ble_eq_true rfl, Nat.le_of_ble_eq_true rfl⟩) rfl hl.1 rfl (lv_room (Nat.le_of_ble_eq_true rfl)) dX5_takeTold_3 (fun r2 w1 H locs h hw => ?_)
  refine lv_istore_n (lv' := [(3, .int r2), (0, .ref (mM E)), (1, .int x1), (2, .int x2)]) S.1 S.2.1 dX5_takeTold_6 rfl hl (by decide) rfl (fun ls hl => ?_)
  refine lv_aload_n S.1 S.2.1 dX5_takeTold_7 rfl (lv_at hl 1 rfl) ?_
  refine lv_dup S.1 S.2.1 dX5_takeTold_8 rfl ?_
  refine mg7 S hw dX5_takeTold_9 ?_
  refine lv_aload_n S.1 S.2.1 dX5_takeTold_12 rfl (lv_at hl 1 rfl) ?_
  refine mg8 S hw dX5_takeTold_13 ?_
  refine lv_if_le (tgt := 23) S.1 S.2.1 dX5_takeTold_16 rfl (fun c3 => ?_) (fun c3 => ?_)
  · replace h := if_t c3 h
    refine lv_iconst (v := 1) S.1 S.2.1 dX5_takeTold_23 rfl ?_
    refine lv_iadd S.1 S.2.1 dX5_takeTold_24 ?_
    refine mp7 S hw dX5_takeTold_25 h (fun w4 H locs h hw => ?_)
    refine lv_iload_n S.1 S.2.1 dX5_takeTold_28 rfl (lv_at hl 0 rfl) ?_
    exact m_iret S hr hlocks hw (so2 h) dX5_takeTold_29
  · replace h := if_f c3 h
    refine lv_iconst (v := 0) S.1 S.2.1 dX5_takeTold_19 rfl ?_
    refine lv_goto (tgt := 24) S.1 S.2.1 dX5_takeTold_20 rfl ?_
    refine lv_iadd S.1 S.2.1 dX5_takeTold_24 ?_
    refine mp7 S hw dX5_takeTold_25 h (fun w5 H locs h hw => ?_)
    refine lv_iload_n S.1 S.2.1 dX5_takeTold_28 rfl (lv_at hl 0 rfl) ?_
    exact m_iret S hr hlocks hw (so2 h) dX5_takeTold_29
def M_readLove_p62 (x1 : Int32) (x2 : Int32) (w : MS) : Option MS :=
  if (rI w 8 0) = 0 then
    bdp (wI w 7 0 ((rI w 7 0) + (1 : Int32))) fun w8 =>
    bd1 (wA w8 10 240 (((176 : Int32) + ((6 : Int32) * x1)) + x2) (1 : Int32)) fun w9 =>
    some w9
  else
    some w
def M_readLove_p57 (x1 : Int32) (x2 : Int32) (w : MS) : Option MS :=
  bd1 (M_wrong (3 : Int32) w) fun w11 =>
  M_readLove_p62 x1 x2 w11
def M_readLove (w : MS) : Option MS :=
  bdp (wI w 7 0 ((rI w 7 0) + (1 : Int32))) fun w1 =>
  bd2 (M_takeTold (1 : Int32) (20 : Int32) w1) fun r3 w2 =>
  bd2 (M_toldHere (1 : Int32) (20 : Int32) w2) fun r5 w4 =>
  if (rI w4 8 0) = 0 then
    if r3 = r5 then
      M_readLove_p57 r3 r5 w4
    else
      bd1 (rA w4 10 240 (((176 : Int32) + ((6 : Int32) * r3)) + r5)) fun v12 =>
      if v12 = (1 : Int32) then
        M_readLove_p57 r3 r5 w4
      else
        M_readLove_p62 r3 r5 w4
  else
    M_readLove_p62 r3 r5 w4
set_option maxRecDepth 100000 in
set_option maxHeartbeats 4000000 in
theorem wk_M_readLove_p62 {p : Program} {l : Launch} {e : Env} {s : State} {m : MethodId} {args : Array Value} {below : List Frame} {meth : Method} {c : Code} {E : mE} {A : Nat → Prop} (S : CallFix p m c cX5_readLove 3 s args lw_all RX5) (hr : meth.sig.returnType = none) (hlocks : meth.locks = false) {res : MS}  : ∀ (x1 : Int32) (x2 : Int32) (w : MS) (H : Heap) (locs : List Loc) (ls : Array Slot), M_readLove_p62 x1 x2 w = some res → mH E A s w H locs → lv_has ls 3 [(0, .ref (mM E)), (1, .int x1), (2, .int x2)] → W p l e rm_readLove s m args below meth c H locs 0 0 (MQ below (mQv E A res) args s 0 0 A) (F0 m 62 ls []) := by
  intro x1 x2 w H locs ls h hw hl
  unfold M_readLove_p62 at h
  refine lv_aload_n S.1 S.2.1 dX5_readLove_62 rfl (lv_at hl 0 rfl) ?_
  refine mg8 S hw dX5_readLove_63 ?_
  refine lv_if_ne (tgt := 95) S.1 S.2.1 dX5_readLove_66 rfl (fun c7 => ?_) (fun c7 => ?_)
  · replace h := if_f c7 h
    exact m_vret S hr hlocks hw (so1 h) dX5_readLove_95
  · replace h := if_t c7 h
    refine lv_aload_n S.1 S.2.1 dX5_readLove_69 rfl (lv_at hl 0 rfl) ?_
    refine lv_dup S.1 S.2.1 dX5_readLove_70 rfl ?_
    refine mg7 S hw dX5_readLove_71 ?_
    refine lv_iconst (v := 1) S.1 S.2.1 dX5_readLove_74 rfl ?_
    refine lv_iadd S.1 S.2.1 dX5_readLove_75 ?_
    refine mp7 S hw dX5_readLove_76 h (fun w8 H locs h hw => ?_)
    refine lv_aload_n S.1 S.2.1 dX5_readLove_79 rfl (lv_at hl 0 rfl) ?_
    refine mg10 S hw dX5_readLove_80 ?_
    refine lv_sipush (v := 176) S.1 S.2.1 dX5_readLove_83 rfl ?_
    refine lv_bipush (v := 6) S.1 S.2.1 dX5_readLove_86 rfl ?_
    refine lv_iload_n S.1 S.2.1 dX5_readLove_88 rfl (lv_at hl 1 rfl) ?_
    refine lv_imul S.1 S.2.1 dX5_readLove_89 ?_
    refine lv_iadd S.1 S.2.1 dX5_readLove_90 ?_
    refine lv_iload_n S.1 S.2.1 dX5_readLove_91 rfl (lv_at hl 2 rfl) ?_
    refine lv_iadd S.1 S.2.1 dX5_readLove_92 ?_
    refine lv_iconst (v := 1) S.1 S.2.1 dX5_readLove_93 rfl ?_
    refine ms10 S hw dX5_readLove_94 h (fun w9 H locs h hw => ?_)
    exact m_vret S hr hlocks hw (so1 h) dX5_readLove_95
set_option maxRecDepth 100000 in
set_option maxHeartbeats 4000000 in
theorem wk_M_readLove_p57 {p : Program} {l : Launch} {e : Env} {s : State} {m : MethodId} {args : Array Value} {below : List Frame} {meth : Method} {c : Code} {E : mE} {A : Nat → Prop} (S : CallFix p m c cX5_readLove 3 s args lw_all RX5) (hr : meth.sig.returnType = none) (hlocks : meth.locks = false) {res : MS}  : ∀ (x1 : Int32) (x2 : Int32) (w : MS) (H : Heap) (locs : List Loc) (ls : Array Slot), M_readLove_p57 x1 x2 w = some res → mH E A s w H locs → lv_has ls 3 [(0, .ref (mM E)), (1, .int x1), (2, .int x2)] → W p l e rm_readLove s m args below meth c H locs 0 0 (MQ below (mQv E A res) args s 0 0 A) (F0 m 57 ls []) := by
  intro x1 x2 w H locs ls h hw hl
  unfold M_readLove_p57 at h
  refine lv_aload_n S.1 S.2.1 dX5_readLove_57 rfl (lv_at hl 0 rfl) ?_
  refine lv_iconst (v := 3) S.1 S.2.1 dX5_readLove_58 rfl ?_
  refine mcVv (As := [.int (3 : Int32)]) (rest := []) S hw h (fun u h1 => met_wrong l E A (3 : Int32) w u h1) (cw_wrong S.2.2.2.2 rfl rfl ⟨Nat.le_of_ble_eq_true rfl, Nat.le_of_ble_eq_true rfl⟩) rfl hl.1 rfl (lv_room (Nat.le_of_ble_eq_true rfl)) dX5_readLove_59 (fun w11 H locs h hw => ?_)
  exact wk_M_readLove_p62 S hr hlocks _ _ _ _ _ _ h hw (lv_sub hl [0, 1, 2] rfl)
set_option maxRecDepth 100000 in
set_option maxHeartbeats 4000000 in
theorem met_readLove (l : Launch) (E : mE) (A : Nat → Prop)  (w : MS) (res : MS) (h : M_readLove w = some res) : Met l yX5_readLove (ws_ yX5_readLove cX5_readLove 3 none) rm_readLove (mPc E A [.ref (mM E)] w) (mQv E A res) 0 0 A := by
  refine mMet (by decide) rfl (Nat.le_of_ble_eq_true rfl) ?_
  intro p e s m below meth c S hr hlocks H ls hw hl
  replace hl : lv_has ls 3 [(0, .ref (mM E))] := hl
  unfold M_readLove at h
  refine lv_aload_n S.1 S.2.1 dX5_readLove_0 rfl (lv_at hl 0 rfl) ?_
  refine lv_dup S.1 S.2.1 dX5_readLove_1 rfl ?_
  refine mg7 S hw dX5_readLove_2 ?_
  refine lv_iconst (v := 1) S.1 S.2.1 dX5_readLove_5 rfl ?_
  refine lv_iadd S.1 S.2.1 dX5_readLove_6 ?_
  refine mp7 S hw dX5_readLove_7 h (fun w1 H locs h hw => ?_)
  refine lv_aload_n S.1 S.2.1 dX5_readLove_10 rfl (lv_at hl 0 rfl) ?_
  refine lv_iconst (v := 1) S.1 S.2.1 dX5_readLove_11 rfl ?_
  refine lv_bipush (v := 20) S.1 S.2.1 dX5_readLove_12 rfl ?_
  refine mcVwi (As := [.int (1 : Int32), .int (20 : Int32)]) (rest := []) S hw h (fun u h1 => met_takeTold l E A (1 : Int32) (20 : Int32) w1 u h1) (cw_takeTold S.2.2.2.2 rfl rfl ⟨Nat.le_of_ble_eq_true rfl, Nat.le_of_ble_eq_true rfl⟩) rfl hl.1 rfl (lv_room (Nat.le_of_ble_eq_true rfl)) dX5_readLove_14 (fun r3 w2 H locs h hw => ?_)
  refine lv_istore_n (lv' := [(1, .int r3), (0, .ref (mM E))]) S.1 S.2.1 dX5_readLove_17 rfl hl (by decide) rfl (fun ls hl => ?_)
  refine lv_aload_n S.1 S.2.1 dX5_readLove_18 rfl (lv_at hl 1 rfl) ?_
  refine lv_iconst (v := 1) S.1 S.2.1 dX5_readLove_19 rfl ?_
  refine lv_bipush (v := 20) S.1 S.2.1 dX5_readLove_20 rfl ?_
  refine mcVwi (As := [.int (1 : Int32), .int (20 : Int32)]) (rest := []) S hw h (fun u h1 => met_toldHere l E A (1 : Int32) (20 : Int32) w2 u h1) (cw_toldHere S.2.2.2.2 rfl rfl ⟨Nat.le_of_ble_eq_true rfl, Nat.le_of_ble_eq_true rfl⟩) rfl hl.1 rfl (lv_room (Nat.le_of_ble_eq_true rfl)) dX5_readLove_22 (fun r5 w4 H locs h hw => ?_)
  refine lv_istore_n (lv' := [(2, .int r5), (1, .int r3), (0, .ref (mM E))]) S.1 S.2.1 dX5_readLove_25 rfl hl (by decide) rfl (fun ls hl => ?_)
  refine lv_aload_n S.1 S.2.1 dX5_readLove_26 rfl (lv_at hl 2 rfl) ?_
  refine mg8 S hw dX5_readLove_27 ?_
  refine lv_if_ne (tgt := 62) S.1 S.2.1 dX5_readLove_30 rfl (fun c6 => ?_) (fun c6 => ?_)
  · replace h := if_f c6 h
    exact wk_M_readLove_p62 S hr hlocks _ _ _ _ _ _ h hw (lv_sub hl [2, 1, 0] rfl)
  · replace h := if_t c6 h
    refine lv_iload_n S.1 S.2.1 dX5_readLove_33 rfl (lv_at hl 1 rfl) ?_
    refine lv_iload_n S.1 S.2.1 dX5_readLove_34 rfl (lv_at hl 0 rfl) ?_
    refine lv_icmp_eq (tgt := 57) S.1 S.2.1 dX5_readLove_35 rfl (fun c10 => ?_) (fun c10 => ?_)
    · replace h := if_t c10 h
      exact wk_M_readLove_p57 S hr hlocks _ _ _ _ _ _ h hw (lv_sub hl [2, 1, 0] rfl)
    · replace h := if_f c10 h
      refine lv_aload_n S.1 S.2.1 dX5_readLove_38 rfl (lv_at hl 2 rfl) ?_
      refine mg10 S hw dX5_readLove_39 ?_
      refine lv_sipush (v := 176) S.1 S.2.1 dX5_readLove_42 rfl ?_
      refine lv_bipush (v := 6) S.1 S.2.1 dX5_readLove_45 rfl ?_
      refine lv_iload_n S.1 S.2.1 dX5_readLove_47 rfl (lv_at hl 1 rfl) ?_
      refine lv_imul S.1 S.2.1 dX5_readLove_48 ?_
      refine lv_iadd S.1 S.2.1 dX5_readLove_49 ?_
      refine lv_iload_n S.1 S.2.1 dX5_readLove_50 rfl (lv_at hl 0 rfl) ?_
      refine lv_iadd S.1 S.2.1 dX5_readLove_51 ?_
      refine ml10 S hw dX5_readLove_52 h (fun v12 h => ?_)
      refine lv_iconst (v := 1) S.1 S.2.1 dX5_readLove_53 rfl ?_
      refine lv_icmp_ne (tgt := 62) S.1 S.2.1 dX5_readLove_54 rfl (fun c13 => ?_) (fun c13 => ?_)
      · replace h := if_f c13 h
        exact wk_M_readLove_p62 S hr hlocks _ _ _ _ _ _ h hw (lv_sub hl [2, 1, 0] rfl)
      · replace h := if_t c13 h
        exact wk_M_readLove_p57 S hr hlocks _ _ _ _ _ _ h hw (lv_sub hl [2, 1, 0] rfl)
def M_readErrand (w : MS) : Option MS :=
  bdp (rI w 10 122) fun y1 =>
  if y1 = (6 : Int32) then
    bd1 (M_wrong (5 : Int32) w) fun w15 =>
    some w15
  else
    bd1 (M_readName (40 : Int32) w) fun w3 =>
    bdp ((212 : Int32) + ((3 : Int32) * y1)) fun y4 =>
    bd2 (M_takeAfter (11 : Int32) (0 : Int32) (99 : Int32) w3) fun r6 w5 =>
    bd1 (wA w5 10 240 y4 r6) fun w7 =>
    bd2 (M_takeAfter (12 : Int32) (1 : Int32) (20 : Int32) w7) fun r9 w8 =>
    bd1 (wA w8 10 240 (y4 + (1 : Int32)) r9) fun w10 =>
    bd2 (M_takeAfter (13 : Int32) (0 : Int32) (60 : Int32) w10) fun r12 w11 =>
    bd1 (wA w11 10 240 (y4 + (2 : Int32)) r12) fun w13 =>
    bdp (wI w13 10 122 ((rI w13 10 122) + (1 : Int32))) fun w14 =>
    some w14
set_option maxRecDepth 100000 in
set_option maxHeartbeats 4000000 in
theorem met_readErrand (l : Launch) (E : mE) (A : Nat → Prop)  (w : MS) (res : MS) (h : M_readErrand w = some res) : Met l yX5_readErrand (ws_ yX5_readErrand cX5_readErrand 3 none) rm_readErrand (mPc E A [.ref (mM E)] w) (mQv E A res) 0 0 A := by
  refine mMet (by decide) rfl (Nat.le_of_ble_eq_true rfl) ?_
  intro p e s m below meth c S hr hlocks H ls hw hl
  replace hl : lv_has ls 3 [(0, .ref (mM E))] := hl
  unfold M_readErrand at h
  refine lv_aload_n S.1 S.2.1 dX5_readErrand_0 rfl (lv_at hl 0 rfl) ?_
  refine mg10 S hw dX5_readErrand_1 ?_
  refine lv_bipush (v := 122) S.1 S.2.1 dX5_readErrand_4 rfl ?_
  refine mlc10 (j := 122) S hw dX5_readErrand_6 (by decide) ?_
  refine lv_topi (fun y1 ey => ?_)
  replace h := bdp_e ey h
  refine lv_istore_n (lv' := [(1, .int y1), (0, .ref (mM E))]) S.1 S.2.1 dX5_readErrand_7 rfl hl (by decide) rfl (fun ls hl => ?_)
  refine lv_iload_n S.1 S.2.1 dX5_readErrand_8 rfl (lv_at hl 0 rfl) ?_
  refine lv_bipush (v := 6) S.1 S.2.1 dX5_readErrand_9 rfl ?_
  refine lv_icmp_ne (tgt := 20) S.1 S.2.1 dX5_readErrand_11 rfl (fun c2 => ?_) (fun c2 => ?_)
  · replace h := if_f c2 h
    refine lv_aload_n S.1 S.2.1 dX5_readErrand_20 rfl (lv_at hl 1 rfl) ?_
    refine lv_bipush (v := 40) S.1 S.2.1 dX5_readErrand_21 rfl ?_
    refine mcVv (As := [.int (40 : Int32)]) (rest := []) S hw h (fun u h1 => met_readName l E A (40 : Int32) w u h1) (cw_readName S.2.2.2.2 rfl rfl ⟨Nat.le_of_ble_eq_true rfl, Nat.le_of_ble_eq_true rfl⟩) rfl hl.1 rfl (lv_room (Nat.le_of_ble_eq_true rfl)) dX5_readErrand_23 (fun w3 H locs h hw => ?_)
    refine lv_sipush (v := 212) S.1 S.2.1 dX5_readErrand_26 rfl ?_
    refine lv_iconst (v := 3) S.1 S.2.1 dX5_readErrand_29 rfl ?_
    refine lv_iload_n S.1 S.2.1 dX5_readErrand_30 rfl (lv_at hl 0 rfl) ?_
    refine lv_imul S.1 S.2.1 dX5_readErrand_31 ?_
    refine lv_iadd S.1 S.2.1 dX5_readErrand_32 ?_
    refine lv_topi (fun y4 ey => ?_)
    replace h := bdp_e ey h
    refine lv_istore_n (lv' := [(2, .int y4), (1, .int y1), (0, .ref (mM E))]) S.1 S.2.1 dX5_readErrand_33 rfl hl (by decide) rfl (fun ls hl => ?_)
    refine lv_aload_n S.1 S.2.1 dX5_readErrand_34 rfl (lv_at hl 2 rfl) ?_
    refine mg10 S hw dX5_readErrand_35 ?_
    refine lv_iload_n S.1 S.2.1 dX5_readErrand_38 rfl (lv_at hl 0 rfl) ?_
    refine lv_aload_n S.1 S.2.1 dX5_readErrand_39 rfl (lv_at hl 2 rfl) ?_
    refine lv_bipush (v := 11) S.1 S.2.1 dX5_readErrand_40 rfl ?_
    refine lv_iconst (v := 0) S.1 S.2.1 dX5_readErrand_42 rfl ?_
    refine lv_bipush (v := 99) S.1 S.2.1 dX5_readErrand_43 rfl ?_
    refine mcVwi (As := [.int (11 : Int32), .int (0 : Int32), .int (99 : Int32)]) (rest := [.int y4, .ref (mAr E 10)]) S hw h (fun u h1 => met_takeAfter l E A (11 : Int32) (0 : Int32) (99 : Int32) w3 u h1) (cw_takeAfter S.2.2.2.2 rfl rfl ⟨Nat.le_of_ble_eq_true rfl, Nat.le_of_ble_eq_true rfl⟩) rfl hl.1 rfl (lv_room (Nat.le_of_ble_eq_true rfl)) dX5_readErrand_45 (fun r6 w5 H locs h hw => ?_)
    refine ms10 S hw dX5_readErrand_48 h (fun w7 H locs h hw => ?_)
    refine lv_aload_n S.1 S.2.1 dX5_readErrand_49 rfl (lv_at hl 2 rfl) ?_
    refine mg10 S hw dX5_readErrand_50 ?_
    refine lv_iload_n S.1 S.2.1 dX5_readErrand_53 rfl (lv_at hl 0 rfl) ?_
    refine lv_iconst (v := 1) S.1 S.2.1 dX5_readErrand_54 rfl ?_
    refine lv_iadd S.1 S.2.1 dX5_readErrand_55 ?_
    refine lv_aload_n S.1 S.2.1 dX5_readErrand_56 rfl (lv_at hl 2 rfl) ?_
    refine lv_bipush (v := 12) S.1 S.2.1 dX5_readErrand_57 rfl ?_
    refine lv_iconst (v := 1) S.1 S.2.1 dX5_readErrand_59 rfl ?_
    refine lv_bipush (v := 20) S.1 S.2.1 dX5_readErrand_60 rfl ?_
    refine mcVwi (As := [.int (12 : Int32), .int (1 : Int32), .int (20 : Int32)]) (rest := [.int (y4 + (1 : Int32)), .ref (mAr E 10)]) S hw h (fun u h1 => met_takeAfter l E A (12 : Int32) (1 : Int32) (20 : Int32) w7 u h1) (cw_takeAfter S.2.2.2.2 rfl rfl ⟨Nat.le_of_ble_eq_true rfl, Nat.le_of_ble_eq_true rfl⟩) rfl hl.1 rfl (lv_room (Nat.le_of_ble_eq_true rfl)) dX5_readErrand_62 (fun r9 w8 H locs h hw => ?_)
    refine ms10 S hw dX5_readErrand_65 h (fun w10 H locs h hw => ?_)
    refine lv_aload_n S.1 S.2.1 dX5_readErrand_66 rfl (lv_at hl 2 rfl) ?_
    refine mg10 S hw dX5_readErrand_67 ?_
    refine lv_iload_n S.1 S.2.1 dX5_readErrand_70 rfl (lv_at hl 0 rfl) ?_
    refine lv_iconst (v := 2) S.1 S.2.1 dX5_readErrand_71 rfl ?_
    refine lv_iadd S.1 S.2.1 dX5_readErrand_72 ?_
    refine lv_aload_n S.1 S.2.1 dX5_readErrand_73 rfl (lv_at hl 2 rfl) ?_
    refine lv_bipush (v := 13) S.1 S.2.1 dX5_readErrand_74 rfl ?_
    refine lv_iconst (v := 0) S.1 S.2.1 dX5_readErrand_76 rfl ?_
    refine lv_bipush (v := 60) S.1 S.2.1 dX5_readErrand_77 rfl ?_
    refine mcVwi (As := [.int (13 : Int32), .int (0 : Int32), .int (60 : Int32)]) (rest := [.int (y4 + (2 : Int32)), .ref (mAr E 10)]) S hw h (fun u h1 => met_takeAfter l E A (13 : Int32) (0 : Int32) (60 : Int32) w10 u h1) (cw_takeAfter S.2.2.2.2 rfl rfl ⟨Nat.le_of_ble_eq_true rfl, Nat.le_of_ble_eq_true rfl⟩) rfl hl.1 rfl (lv_room (Nat.le_of_ble_eq_true rfl)) dX5_readErrand_79 (fun r12 w11 H locs h hw => ?_)
    refine ms10 S hw dX5_readErrand_82 h (fun w13 H locs h hw => ?_)
    refine lv_aload_n S.1 S.2.1 dX5_readErrand_83 rfl (lv_at hl 2 rfl) ?_
    refine mg10 S hw dX5_readErrand_84 ?_
    refine lv_bipush (v := 122) S.1 S.2.1 dX5_readErrand_87 rfl ?_
    refine lv_dup2_11 S.1 S.2.1 dX5_readErrand_89 rfl rfl ?_
    refine mlc10 (j := 122) S hw dX5_readErrand_90 (by decide) ?_
    refine lv_iconst (v := 1) S.1 S.2.1 dX5_readErrand_91 rfl ?_
    refine lv_iadd S.1 S.2.1 dX5_readErrand_92 ?_
    refine msc10 (j := 122) S hw dX5_readErrand_93 (by decide) h (fun w14 H locs h hw => ?_)
    exact m_vret S hr hlocks hw (so1 h) dX5_readErrand_94
  · replace h := if_t c2 h
    refine lv_aload_n S.1 S.2.1 dX5_readErrand_14 rfl (lv_at hl 1 rfl) ?_
    refine lv_iconst (v := 5) S.1 S.2.1 dX5_readErrand_15 rfl ?_
    refine mcVv (As := [.int (5 : Int32)]) (rest := []) S hw h (fun u h1 => met_wrong l E A (5 : Int32) w u h1) (cw_wrong S.2.2.2.2 rfl rfl ⟨Nat.le_of_ble_eq_true rfl, Nat.le_of_ble_eq_true rfl⟩) rfl hl.1 rfl (lv_room (Nat.le_of_ble_eq_true rfl)) dX5_readErrand_16 (fun w15 H locs h hw => ?_)
    exact m_vret S hr hlocks hw (so1 h) dX5_readErrand_19
def M_isSign (x1 : Int32) (w : MS) : Option Int32 :=
  if (rI w 8 0) = 0 then
    bd1 (rA w 4 1002 (rI w 7 0)) fun v2 =>
    if v2 = (3 : Int32) then
      bd1 (rAL w 6 1002 (rI w 7 0)) fun v4 =>
      if (lg_cmp v4 x1.toInt64) = 0 then
        some (1 : Int32)
      else
        some (0 : Int32)
    else
      some (0 : Int32)
  else
    some (0 : Int32)
set_option maxRecDepth 100000 in
set_option maxHeartbeats 4000000 in
theorem met_isSign (l : Launch) (E : mE) (A : Nat → Prop)  (x1 : Int32) (w : MS) (res : Int32) (h : M_isSign x1 w = some res) : Met l yX5_isSign (ws_ yX5_isSign cX5_isSign 2 (some .boolean)) rm_isSign (mPc E A [.ref (mM E), .int x1] w) (mQi E A res w) 0 0 A := by
  refine mMet (by decide) rfl (Nat.le_of_ble_eq_true rfl) ?_
  intro p e s m below meth c S hr hlocks H ls hw hl
  replace hl : lv_has ls 2 [(0, .ref (mM E)), (1, .int x1)] := hl
  unfold M_isSign at h
  refine lv_aload_n S.1 S.2.1 dX5_isSign_0 rfl (lv_at hl 0 rfl) ?_
  refine mg8 S hw dX5_isSign_1 ?_
  refine lv_if_ne (tgt := 39) S.1 S.2.1 dX5_isSign_4 rfl (fun c1 => ?_) (fun c1 => ?_)
  · replace h := if_f c1 h
    refine lv_iconst (v := 0) S.1 S.2.1 dX5_isSign_39 rfl ?_
    exact m_zret S hr hlocks hw rfl ⟨so1 h, rfl⟩ dX5_isSign_40
  · replace h := if_t c1 h
    refine lv_aload_n S.1 S.2.1 dX5_isSign_7 rfl (lv_at hl 0 rfl) ?_
    refine mg4 S hw dX5_isSign_8 ?_
    refine lv_aload_n S.1 S.2.1 dX5_isSign_11 rfl (lv_at hl 0 rfl) ?_
    refine mg7 S hw dX5_isSign_12 ?_
    refine ml4 S hw dX5_isSign_15 h (fun v2 h => ?_)
    refine lv_iconst (v := 3) S.1 S.2.1 dX5_isSign_16 rfl ?_
    refine lv_icmp_ne (tgt := 39) S.1 S.2.1 dX5_isSign_17 rfl (fun c3 => ?_) (fun c3 => ?_)
    · replace h := if_f c3 h
      refine lv_iconst (v := 0) S.1 S.2.1 dX5_isSign_39 rfl ?_
      exact m_zret S hr hlocks hw rfl ⟨so1 h, rfl⟩ dX5_isSign_40
    · replace h := if_t c3 h
      refine lv_aload_n S.1 S.2.1 dX5_isSign_20 rfl (lv_at hl 0 rfl) ?_
      refine mg6 S hw dX5_isSign_21 ?_
      refine lv_aload_n S.1 S.2.1 dX5_isSign_24 rfl (lv_at hl 0 rfl) ?_
      refine mg7 S hw dX5_isSign_25 ?_
      refine ml6 S hw dX5_isSign_28 h (fun v4 h => ?_)
      refine lv_iload_n S.1 S.2.1 dX5_isSign_29 rfl (lv_at hl 1 rfl) ?_
      refine lv_i2l S.1 S.2.1 dX5_isSign_30 rfl ?_
      refine W.lcmp S.1 S.2.1 dX5_isSign_31 ?_
      refine lv_if_ne (tgt := 39) S.1 S.2.1 dX5_isSign_32 rfl (fun c5 => ?_) (fun c5 => ?_)
      · replace h := if_f c5 h
        refine lv_iconst (v := 0) S.1 S.2.1 dX5_isSign_39 rfl ?_
        exact m_zret S hr hlocks hw rfl ⟨so1 h, rfl⟩ dX5_isSign_40
      · replace h := if_t c5 h
        refine lv_iconst (v := 1) S.1 S.2.1 dX5_isSign_35 rfl ?_
        refine lv_goto (tgt := 40) S.1 S.2.1 dX5_isSign_36 rfl ?_
        exact m_zret S hr hlocks hw rfl ⟨so1 h, rfl⟩ dX5_isSign_40
def M_emit (x1 : Int32) (x2 : Int32) (w : MS) : Option MS :=
  bd1 (wA w 11 2200 ((1100 : Int32) + (rI w 13 0)) x1) fun w1 =>
  bd1 (wA w1 12 2200 ((1100 : Int32) + (rI w1 13 0)) x2) fun w2 =>
  bdp (wI w2 13 0 ((rI w2 13 0) + (1 : Int32))) fun w3 =>
  some w3
set_option maxRecDepth 100000 in
set_option maxHeartbeats 4000000 in
theorem met_emit (l : Launch) (E : mE) (A : Nat → Prop)  (x1 : Int32) (x2 : Int32) (w : MS) (res : MS) (h : M_emit x1 x2 w = some res) : Met l yX5_emit (ws_ yX5_emit cX5_emit 3 none) rm_emit (mPc E A [.ref (mM E), .int x1, .int x2] w) (mQv E A res) 0 0 A := by
  refine mMet (by decide) rfl (Nat.le_of_ble_eq_true rfl) ?_
  intro p e s m below meth c S hr hlocks H ls hw hl
  replace hl : lv_has ls 3 [(0, .ref (mM E)), (1, .int x1), (2, .int x2)] := hl
  unfold M_emit at h
  refine lv_aload_n S.1 S.2.1 dX5_emit_0 rfl (lv_at hl 0 rfl) ?_
  refine mg11 S hw dX5_emit_1 ?_
  refine lv_sipush (v := 1100) S.1 S.2.1 dX5_emit_4 rfl ?_
  refine lv_aload_n S.1 S.2.1 dX5_emit_7 rfl (lv_at hl 0 rfl) ?_
  refine mg13 S hw dX5_emit_8 ?_
  refine lv_iadd S.1 S.2.1 dX5_emit_11 ?_
  refine lv_iload_n S.1 S.2.1 dX5_emit_12 rfl (lv_at hl 1 rfl) ?_
  refine ms11 S hw dX5_emit_13 h (fun w1 H locs h hw => ?_)
  refine lv_aload_n S.1 S.2.1 dX5_emit_14 rfl (lv_at hl 0 rfl) ?_
  refine mg12 S hw dX5_emit_15 ?_
  refine lv_sipush (v := 1100) S.1 S.2.1 dX5_emit_18 rfl ?_
  refine lv_aload_n S.1 S.2.1 dX5_emit_21 rfl (lv_at hl 0 rfl) ?_
  refine mg13 S hw dX5_emit_22 ?_
  refine lv_iadd S.1 S.2.1 dX5_emit_25 ?_
  refine lv_iload_n S.1 S.2.1 dX5_emit_26 rfl (lv_at hl 2 rfl) ?_
  refine ms12 S hw dX5_emit_27 h (fun w2 H locs h hw => ?_)
  refine lv_aload_n S.1 S.2.1 dX5_emit_28 rfl (lv_at hl 0 rfl) ?_
  refine lv_dup S.1 S.2.1 dX5_emit_29 rfl ?_
  refine mg13 S hw dX5_emit_30 ?_
  refine lv_iconst (v := 1) S.1 S.2.1 dX5_emit_33 rfl ?_
  refine lv_iadd S.1 S.2.1 dX5_emit_34 ?_
  refine mp13 S hw dX5_emit_35 h (fun w3 H locs h hw => ?_)
  exact m_vret S hr hlocks hw (so1 h) dX5_emit_38
def M_hasSign (x1 : Int32) (w : MS) : Option (Int32 × MS) :=
  bd1 (M_isSign x1 w) fun r1 =>
  if r1 = 0 then
    bdp (wI w 7 0 ((rI w 7 0) + (0 : Int32))) fun w3 =>
    zb r1 (some (r1, w3))
  else
    bdp (wI w 7 0 ((rI w 7 0) + (1 : Int32))) fun w4 =>
    zb r1 (some (r1, w4))
set_option maxRecDepth 100000 in
set_option maxHeartbeats 4000000 in
theorem met_hasSign (l : Launch) (E : mE) (A : Nat → Prop)  (x1 : Int32) (w : MS) (res : Int32 × MS) (h : M_hasSign x1 w = some res) : Met l yX5_hasSign (ws_ yX5_hasSign cX5_hasSign 3 (some .boolean)) rm_hasSign (mPc E A [.ref (mM E), .int x1] w) (mQi E A res.1 res.2) 0 0 A := by
  refine mMet (by decide) rfl (Nat.le_of_ble_eq_true rfl) ?_
  intro p e s m below meth c S hr hlocks H ls hw hl
  replace hl : lv_has ls 3 [(0, .ref (mM E)), (1, .int x1)] := hl
  unfold M_hasSign at h
  refine lv_aload_n S.1 S.2.1 dX5_hasSign_0 rfl (lv_at hl 0 rfl) ?_
  refine lv_iload_n S.1 S.2.1 dX5_hasSign_1 rfl (lv_at hl 1 rfl) ?_
  refine mcVri (As := [.int x1]) (rest := []) S hw h (fun u h1 => met_isSign l E A x1 w u h1) (cw_isSign S.2.2.2.2 rfl rfl ⟨Nat.le_of_ble_eq_true rfl, Nat.le_of_ble_eq_true rfl⟩) rfl hl.1 rfl (lv_room (Nat.le_of_ble_eq_true rfl)) dX5_hasSign_2 (fun r1 H locs h hw => ?_)
  refine lv_istore_n (lv' := [(2, .int r1), (0, .ref (mM E)), (1, .int x1)]) S.1 S.2.1 dX5_hasSign_5 rfl hl (by decide) rfl (fun ls hl => ?_)
  refine lv_aload_n S.1 S.2.1 dX5_hasSign_6 rfl (lv_at hl 1 rfl) ?_
  refine lv_dup S.1 S.2.1 dX5_hasSign_7 rfl ?_
  refine mg7 S hw dX5_hasSign_8 ?_
  refine lv_iload_n S.1 S.2.1 dX5_hasSign_11 rfl (lv_at hl 0 rfl) ?_
  refine lv_if_eq (tgt := 19) S.1 S.2.1 dX5_hasSign_12 rfl (fun c2 => ?_) (fun c2 => ?_)
  · replace h := if_t c2 h
    refine lv_iconst (v := 0) S.1 S.2.1 dX5_hasSign_19 rfl ?_
    refine lv_iadd S.1 S.2.1 dX5_hasSign_20 ?_
    refine mp7 S hw dX5_hasSign_21 h (fun w3 H locs h hw => ?_)
    refine lv_iload_n S.1 S.2.1 dX5_hasSign_24 rfl (lv_at hl 0 rfl) ?_
    exact m_zretn S hr hlocks hw (zb_some h).1 (so2 (zb_some h).2) dX5_hasSign_25
  · replace h := if_f c2 h
    refine lv_iconst (v := 1) S.1 S.2.1 dX5_hasSign_15 rfl ?_
    refine lv_goto (tgt := 20) S.1 S.2.1 dX5_hasSign_16 rfl ?_
    refine lv_iadd S.1 S.2.1 dX5_hasSign_20 ?_
    refine mp7 S hw dX5_hasSign_21 h (fun w4 H locs h hw => ?_)
    refine lv_iload_n S.1 S.2.1 dX5_hasSign_24 rfl (lv_at hl 0 rfl) ?_
    exact m_zretn S hr hlocks hw (zb_some h).1 (so2 (zb_some h).2) dX5_hasSign_25
