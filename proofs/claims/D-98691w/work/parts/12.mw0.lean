/-! walks of the Model, printed by gen/model.py -/
set_option maxRecDepth 100000
def M_thrown (w : MS) : Int32 :=
  rI w 0 0
set_option maxRecDepth 100000 in
set_option maxHeartbeats 4000000 in
theorem met_thrown (l : Launch) (E : mE) (A : Nat → Prop)  (w : MS) (res : Int32) (h : M_thrown w = res) : Met l yX5_thrown (ws_ yX5_thrown cX5_thrown 1 (some .int)) rm_thrown (mPc E A [.ref (mM E)] w) (mQi E A res w) 0 0 A := by
  refine mMet (by decide) rfl (Nat.le_of_ble_eq_true rfl) ?_
  intro p e s m below meth c S hr hlocks H ls hw hl
  replace hl : lv_has ls 1 [(0, .ref (mM E))] := hl
  unfold M_thrown at h
  refine lv_aload_n S.1 S.2.1 dX5_thrown_0 rfl (lv_at hl 0 rfl) ?_
  refine mg0 S hw dX5_thrown_1 ?_
  exact m_iret S hr hlocks hw ⟨h, rfl⟩ dX5_thrown_4
def M_lay_p38 (k3 : Int64 → Int32 → MS → Option MS) (x1 : Int64) (x3 : Int32) (x4 : Int32) (w : MS) : Option MS :=
  if (1000 : Int32) ≤ (rI w 2 0) then
    k3 x1 (x3 + (-8 : Int32)) w
  else
    bd1 (wA w 1 1000 (rI w 2 0) x4) fun w5 =>
    bdp (wI w5 2 0 ((rI w5 2 0) + (1 : Int32))) fun w6 =>
    k3 x1 (x3 + (-8 : Int32)) w6
def M_lay_p3 : Nat → Int64 → Int32 → MS → Option MS
  | 0, _, _, _ => none
  | n + 1, x1, x3, w =>
    if x3 < 0 then
      some w
    else
      bdp (((x1 >>> (x3.toInt64 &&& 63)).toInt32) &&& (255 : Int32)) fun y2 =>
      if y2 = (10 : Int32) then
        M_lay_p38 (M_lay_p3 n) x1 x3 y2 w
      else
        if y2 < (32 : Int32) then
          (M_lay_p3 n) x1 (x3 + (-8 : Int32)) w
        else
          if (126 : Int32) < y2 then
            (M_lay_p3 n) x1 (x3 + (-8 : Int32)) w
          else
            M_lay_p38 (M_lay_p3 n) x1 x3 y2 w
def M_lay (x1 : Int64) (w : MS) : Option MS :=
  M_lay_p3 FU x1 (56 : Int32) w
set_option maxRecDepth 100000 in
set_option maxHeartbeats 4000000 in
theorem wk_M_lay_p38 {p : Program} {l : Launch} {e : Env} {s : State} {m : MethodId} {args : Array Value} {below : List Frame} {meth : Method} {c : Code} {E : mE} {A : Nat → Prop} (S : CallFix p m c cX5_lay 5 s args lw_all RX5) (hr : meth.sig.returnType = none) (hlocks : meth.locks = false) {res : MS}  {k3 : Int64 → Int32 → MS → Option MS} (hk3 : ∀ (x1 : Int64) (x3 : Int32) (w : MS) (H : Heap) (locs : List Loc) (ls : Array Slot), k3 x1 x3 w = some res → mH E A s w H locs → lv_has ls 5 [(0, .ref (mM E)), (1, .long x1), (3, .int x3)] → W p l e rm_lay s m args below meth c H locs 0 0 (MQ below (mQv E A res) args s 0 0 A) (F0 m 3 ls [])) : ∀ (x1 : Int64) (x3 : Int32) (x4 : Int32) (w : MS) (H : Heap) (locs : List Loc) (ls : Array Slot), M_lay_p38 k3 x1 x3 x4 w = some res → mH E A s w H locs → lv_has ls 5 [(0, .ref (mM E)), (1, .long x1), (3, .int x3), (4, .int x4)] → W p l e rm_lay s m args below meth c H locs 0 0 (MQ below (mQv E A res) args s 0 0 A) (F0 m 38 ls []) := by
  intro x1 x3 x4 w H locs ls h hw hl
  unfold M_lay_p38 at h
  refine lv_aload_n S.1 S.2.1 dX5_lay_38 rfl (lv_at hl 0 rfl) ?_
  refine mg2 S hw dX5_lay_39 ?_
  refine lv_sipush (v := 1000) S.1 S.2.1 dX5_lay_42 rfl ?_
  refine lv_icmp_ge (tgt := 69) S.1 S.2.1 dX5_lay_45 rfl (fun c4 => ?_) (fun c4 => ?_)
  · replace h := if_t c4 h
    refine lv_iinc (v := x3 + (-8 : Int32)) (lv' := [(3, .int (x3 + (-8 : Int32))), (0, .ref (mM E)), (1, .long x1), (4, .int x4)]) S.1 S.2.1 dX5_lay_69 hl (k := 2) rfl rfl (by decide) rfl (fun ls hl => ?_)
    refine lv_goto (tgt := 3) S.1 S.2.1 dX5_lay_72 rfl ?_
    exact hk3 _ _ _ _ _ _ h hw (lv_sub hl [1, 2, 0] rfl)
  · replace h := if_f c4 h
    refine lv_aload_n S.1 S.2.1 dX5_lay_48 rfl (lv_at hl 0 rfl) ?_
    refine mg1 S hw dX5_lay_49 ?_
    refine lv_aload_n S.1 S.2.1 dX5_lay_52 rfl (lv_at hl 0 rfl) ?_
    refine mg2 S hw dX5_lay_53 ?_
    refine lv_iload S.1 S.2.1 dX5_lay_56 (lv_at hl 3 rfl) ?_
    refine ms1 S hw dX5_lay_58 h (fun w5 H locs h hw => ?_)
    refine lv_aload_n S.1 S.2.1 dX5_lay_59 rfl (lv_at hl 0 rfl) ?_
    refine lv_dup S.1 S.2.1 dX5_lay_60 rfl ?_
    refine mg2 S hw dX5_lay_61 ?_
    refine lv_iconst (v := 1) S.1 S.2.1 dX5_lay_64 rfl ?_
    refine lv_iadd S.1 S.2.1 dX5_lay_65 ?_
    refine mp2 S hw dX5_lay_66 h (fun w6 H locs h hw => ?_)
    refine lv_iinc (v := x3 + (-8 : Int32)) (lv' := [(3, .int (x3 + (-8 : Int32))), (0, .ref (mM E)), (1, .long x1), (4, .int x4)]) S.1 S.2.1 dX5_lay_69 hl (k := 2) rfl rfl (by decide) rfl (fun ls hl => ?_)
    refine lv_goto (tgt := 3) S.1 S.2.1 dX5_lay_72 rfl ?_
    exact hk3 _ _ _ _ _ _ h hw (lv_sub hl [1, 2, 0] rfl)
set_option maxRecDepth 100000 in
set_option maxHeartbeats 4000000 in
theorem wk_M_lay_p3 {p : Program} {l : Launch} {e : Env} {s : State} {m : MethodId} {args : Array Value} {below : List Frame} {meth : Method} {c : Code} {E : mE} {A : Nat → Prop} (S : CallFix p m c cX5_lay 5 s args lw_all RX5) (hr : meth.sig.returnType = none) (hlocks : meth.locks = false) {res : MS}  : ∀ n : Nat, ∀ (x1 : Int64) (x3 : Int32) (w : MS) (H : Heap) (locs : List Loc) (ls : Array Slot), M_lay_p3 n x1 x3 w = some res → mH E A s w H locs → lv_has ls 5 [(0, .ref (mM E)), (1, .long x1), (3, .int x3)] → W p l e rm_lay s m args below meth c H locs 0 0 (MQ below (mQv E A res) args s 0 0 A) (F0 m 3 ls []) := by
  intro n
  induction n with
  | zero => intro x1 x3 w H locs ls h; cases (show (none : Option MS) = some res from h)
  | succ n ih =>
    intro x1 x3 w H locs ls h hw hl
    rw [M_lay_p3] at h
    refine lv_iload_n S.1 S.2.1 dX5_lay_3 rfl (lv_at hl 2 rfl) ?_
    refine lv_if_lt (tgt := 75) S.1 S.2.1 dX5_lay_4 rfl (fun c1 => ?_) (fun c1 => ?_)
    · replace h := if_t c1 h
      exact m_vret S hr hlocks hw (so1 h) dX5_lay_75
    · replace h := if_f c1 h
      refine lv_lload_n S.1 S.2.1 dX5_lay_7 rfl (lv_at hl 1 rfl) ?_
      refine lv_iload_n S.1 S.2.1 dX5_lay_8 rfl (lv_at hl 2 rfl) ?_
      refine lv_lshr S.1 S.2.1 dX5_lay_9 rfl ?_
      refine lv_l2i S.1 S.2.1 dX5_lay_10 rfl ?_
      refine lv_sipush (v := 255) S.1 S.2.1 dX5_lay_11 rfl ?_
      refine lv_iand S.1 S.2.1 dX5_lay_14 ?_
      refine lv_topi (fun y2 ey => ?_)
      replace h := bdp_e ey h
      refine lv_istore (lv' := [(4, .int y2), (0, .ref (mM E)), (1, .long x1), (3, .int x3)]) S.1 S.2.1 dX5_lay_15 hl (by decide) rfl (fun ls hl => ?_)
      refine lv_iload S.1 S.2.1 dX5_lay_17 (lv_at hl 0 rfl) ?_
      refine lv_bipush (v := 10) S.1 S.2.1 dX5_lay_19 rfl ?_
      refine lv_icmp_eq (tgt := 38) S.1 S.2.1 dX5_lay_21 rfl (fun c3 => ?_) (fun c3 => ?_)
      · replace h := if_t c3 h
        exact wk_M_lay_p38 S hr hlocks ih _ _ _ _ _ _ _ h hw (lv_sub hl [1, 2, 3, 0] rfl)
      · replace h := if_f c3 h
        refine lv_iload S.1 S.2.1 dX5_lay_24 (lv_at hl 0 rfl) ?_
        refine lv_bipush (v := 32) S.1 S.2.1 dX5_lay_26 rfl ?_
        refine lv_icmp_lt (tgt := 69) S.1 S.2.1 dX5_lay_28 rfl (fun c7 => ?_) (fun c7 => ?_)
        · replace h := if_t c7 h
          refine lv_iinc (v := x3 + (-8 : Int32)) (lv' := [(3, .int (x3 + (-8 : Int32))), (4, .int y2), (0, .ref (mM E)), (1, .long x1)]) S.1 S.2.1 dX5_lay_69 hl (k := 3) rfl rfl (by decide) rfl (fun ls hl => ?_)
          refine lv_goto (tgt := 3) S.1 S.2.1 dX5_lay_72 rfl ?_
          exact ih _ _ _ _ _ _ h hw (lv_sub hl [2, 3, 0] rfl)
        · replace h := if_f c7 h
          refine lv_iload S.1 S.2.1 dX5_lay_31 (lv_at hl 0 rfl) ?_
          refine lv_bipush (v := 126) S.1 S.2.1 dX5_lay_33 rfl ?_
          refine lv_icmp_gt (tgt := 69) S.1 S.2.1 dX5_lay_35 rfl (fun c8 => ?_) (fun c8 => ?_)
          · replace h := if_t c8 h
            refine lv_iinc (v := x3 + (-8 : Int32)) (lv' := [(3, .int (x3 + (-8 : Int32))), (4, .int y2), (0, .ref (mM E)), (1, .long x1)]) S.1 S.2.1 dX5_lay_69 hl (k := 3) rfl rfl (by decide) rfl (fun ls hl => ?_)
            refine lv_goto (tgt := 3) S.1 S.2.1 dX5_lay_72 rfl ?_
            exact ih _ _ _ _ _ _ h hw (lv_sub hl [2, 3, 0] rfl)
          · replace h := if_f c8 h
            exact wk_M_lay_p38 S hr hlocks ih _ _ _ _ _ _ _ h hw (lv_sub hl [1, 2, 3, 0] rfl)
set_option maxRecDepth 100000 in
set_option maxHeartbeats 4000000 in
theorem met_lay (l : Launch) (E : mE) (A : Nat → Prop)  (x1 : Int64) (w : MS) (res : MS) (h : M_lay x1 w = some res) : Met l yX5_lay (ws_ yX5_lay cX5_lay 5 none) rm_lay (mPc E A [.ref (mM E), .long x1] w) (mQv E A res) 0 0 A := by
  refine mMet (by decide) rfl (Nat.le_of_ble_eq_true rfl) ?_
  intro p e s m below meth c S hr hlocks H ls hw hl
  replace hl : lv_has ls 5 [(0, .ref (mM E)), (1, .long x1)] := hl
  unfold M_lay at h
  refine lv_bipush (v := 56) S.1 S.2.1 dX5_lay_0 rfl ?_
  refine lv_istore_n (lv' := [(3, .int (56 : Int32)), (0, .ref (mM E)), (1, .long x1)]) S.1 S.2.1 dX5_lay_2 rfl hl (by decide) rfl (fun ls hl => ?_)
  exact wk_M_lay_p3 S hr hlocks FU _ _ _ _ _ _ h hw (lv_sub hl [1, 2, 0] rfl)
def M_feed (x1 : Int64) (x3 : Int64) (x5 : Int64) (w : MS) : Option (Int32 × MS) :=
  bdp (wI w 0 0 (0 : Int32)) fun w1 =>
  bd1 (M_lay x1 w1) fun w2 =>
  bd1 (M_lay x3 w2) fun w3 =>
  bd1 (M_lay x5 w3) fun w4 =>
  some (rI w4 2 0, w4)
set_option maxRecDepth 100000 in
set_option maxHeartbeats 4000000 in
theorem met_feed (l : Launch) (E : mE) (A : Nat → Prop)  (x1 : Int64) (x3 : Int64) (x5 : Int64) (w : MS) (res : Int32 × MS) (h : M_feed x1 x3 x5 w = some res) : Met l yX5_feed (ws_ yX5_feed cX5_feed 7 (some .int)) rm_feed (mPc E A [.ref (mM E), .long x1, .long x3, .long x5] w) (mQi E A res.1 res.2) 0 0 A := by
  refine mMet (by decide) rfl (Nat.le_of_ble_eq_true rfl) ?_
  intro p e s m below meth c S hr hlocks H ls hw hl
  replace hl : lv_has ls 7 [(0, .ref (mM E)), (1, .long x1), (3, .long x3), (5, .long x5)] := hl
  unfold M_feed at h
  refine lv_aload_n S.1 S.2.1 dX5_feed_0 rfl (lv_at hl 0 rfl) ?_
  refine lv_iconst (v := 0) S.1 S.2.1 dX5_feed_1 rfl ?_
  refine mp0 S hw dX5_feed_2 h (fun w1 H locs h hw => ?_)
  refine lv_aload_n S.1 S.2.1 dX5_feed_5 rfl (lv_at hl 0 rfl) ?_
  refine lv_lload_n S.1 S.2.1 dX5_feed_6 rfl (lv_at hl 1 rfl) ?_
  refine mcVv (As := [.long x1]) (rest := []) S hw h (fun u h1 => met_lay l E A x1 w1 u h1) (cw_lay S.2.2.2.2 rfl rfl ⟨Nat.le_of_ble_eq_true rfl, Nat.le_of_ble_eq_true rfl⟩) rfl hl.1 rfl (lv_room (Nat.le_of_ble_eq_true rfl)) dX5_feed_7 (fun w2 H locs h hw => ?_)
  refine lv_aload_n S.1 S.2.1 dX5_feed_10 rfl (lv_at hl 0 rfl) ?_
  refine lv_lload_n S.1 S.2.1 dX5_feed_11 rfl (lv_at hl 2 rfl) ?_
  refine mcVv (As := [.long x3]) (rest := []) S hw h (fun u h1 => met_lay l E A x3 w2 u h1) (cw_lay S.2.2.2.2 rfl rfl ⟨Nat.le_of_ble_eq_true rfl, Nat.le_of_ble_eq_true rfl⟩) rfl hl.1 rfl (lv_room (Nat.le_of_ble_eq_true rfl)) dX5_feed_12 (fun w3 H locs h hw => ?_)
  refine lv_aload_n S.1 S.2.1 dX5_feed_15 rfl (lv_at hl 0 rfl) ?_
  refine lv_lload S.1 S.2.1 dX5_feed_16 (lv_at hl 3 rfl) ?_
  refine mcVv (As := [.long x5]) (rest := []) S hw h (fun u h1 => met_lay l E A x5 w3 u h1) (cw_lay S.2.2.2.2 rfl rfl ⟨Nat.le_of_ble_eq_true rfl, Nat.le_of_ble_eq_true rfl⟩) rfl hl.1 rfl (lv_room (Nat.le_of_ble_eq_true rfl)) dX5_feed_18 (fun w4 H locs h hw => ?_)
  refine lv_aload_n S.1 S.2.1 dX5_feed_21 rfl (lv_at hl 0 rfl) ?_
  refine mg2 S hw dX5_feed_22 ?_
  exact m_iret S hr hlocks hw (so2 h) dX5_feed_25
def M_standsAsAlways_p2 : Nat → Int32 → Int32 → MS → Option MS
  | 0, _, _, _ => none
  | n + 1, x1, x2, w =>
    if (120 : Int32) ≤ x2 then
      bd1 (wA w 10 240 (x1 + (3 : Int32)) (20 : Int32)) fun w2 =>
      bd1 (wA w2 10 240 (x1 + (4 : Int32)) (30 : Int32)) fun w3 =>
      bd1 (wA w3 10 240 (x1 + (5 : Int32)) (1 : Int32)) fun w4 =>
      bd1 (wA w4 10 240 (x1 + (6 : Int32)) (-1 : Int32)) fun w5 =>
      bd1 (wA w5 10 240 ((x1 + (6 : Int32)) + (1 : Int32)) (-1 : Int32)) fun w6 =>
      some w6
    else
      bd1 (wA w 10 240 (x1 + x2) (0 : Int32)) fun w7 =>
      (M_standsAsAlways_p2 n) x1 (x2 + (1 : Int32)) w7
def M_standsAsAlways (x1 : Int32) (w : MS) : Option MS :=
  M_standsAsAlways_p2 FU x1 (0 : Int32) w
set_option maxRecDepth 100000 in
set_option maxHeartbeats 4000000 in
theorem wk_M_standsAsAlways_p2 {p : Program} {l : Launch} {e : Env} {s : State} {m : MethodId} {args : Array Value} {below : List Frame} {meth : Method} {c : Code} {E : mE} {A : Nat → Prop} (S : CallFix p m c cX5_standsAsAlways 3 s args lw_all RX5) (hr : meth.sig.returnType = none) (hlocks : meth.locks = false) {res : MS}  : ∀ n : Nat, ∀ (x1 : Int32) (x2 : Int32) (w : MS) (H : Heap) (locs : List Loc) (ls : Array Slot), M_standsAsAlways_p2 n x1 x2 w = some res → mH E A s w H locs → lv_has ls 3 [(0, .ref (mM E)), (1, .int x1), (2, .int x2)] → W p l e rm_standsAsAlways s m args below meth c H locs 0 0 (MQ below (mQv E A res) args s 0 0 A) (F0 m 2 ls []) := by
  intro n
  induction n with
  | zero => intro x1 x2 w H locs ls h; cases (show (none : Option MS) = some res from h)
  | succ n ih =>
    intro x1 x2 w H locs ls h hw hl
    rw [M_standsAsAlways_p2] at h
    refine lv_iload_n S.1 S.2.1 dX5_standsAsAlways_2 rfl (lv_at hl 2 rfl) ?_
    refine lv_bipush (v := 120) S.1 S.2.1 dX5_standsAsAlways_3 rfl ?_
    refine lv_icmp_ge (tgt := 23) S.1 S.2.1 dX5_standsAsAlways_5 rfl (fun c1 => ?_) (fun c1 => ?_)
    · replace h := if_t c1 h
      refine lv_aload_n S.1 S.2.1 dX5_standsAsAlways_23 rfl (lv_at hl 0 rfl) ?_
      refine mg10 S hw dX5_standsAsAlways_24 ?_
      refine lv_iload_n S.1 S.2.1 dX5_standsAsAlways_27 rfl (lv_at hl 1 rfl) ?_
      refine lv_iconst (v := 3) S.1 S.2.1 dX5_standsAsAlways_28 rfl ?_
      refine lv_iadd S.1 S.2.1 dX5_standsAsAlways_29 ?_
      refine lv_bipush (v := 20) S.1 S.2.1 dX5_standsAsAlways_30 rfl ?_
      refine ms10 S hw dX5_standsAsAlways_32 h (fun w2 H locs h hw => ?_)
      refine lv_aload_n S.1 S.2.1 dX5_standsAsAlways_33 rfl (lv_at hl 0 rfl) ?_
      refine mg10 S hw dX5_standsAsAlways_34 ?_
      refine lv_iload_n S.1 S.2.1 dX5_standsAsAlways_37 rfl (lv_at hl 1 rfl) ?_
      refine lv_iconst (v := 4) S.1 S.2.1 dX5_standsAsAlways_38 rfl ?_
      refine lv_iadd S.1 S.2.1 dX5_standsAsAlways_39 ?_
      refine lv_bipush (v := 30) S.1 S.2.1 dX5_standsAsAlways_40 rfl ?_
      refine ms10 S hw dX5_standsAsAlways_42 h (fun w3 H locs h hw => ?_)
      refine lv_aload_n S.1 S.2.1 dX5_standsAsAlways_43 rfl (lv_at hl 0 rfl) ?_
      refine mg10 S hw dX5_standsAsAlways_44 ?_
      refine lv_iload_n S.1 S.2.1 dX5_standsAsAlways_47 rfl (lv_at hl 1 rfl) ?_
      refine lv_iconst (v := 5) S.1 S.2.1 dX5_standsAsAlways_48 rfl ?_
      refine lv_iadd S.1 S.2.1 dX5_standsAsAlways_49 ?_
      refine lv_iconst (v := 1) S.1 S.2.1 dX5_standsAsAlways_50 rfl ?_
      refine ms10 S hw dX5_standsAsAlways_51 h (fun w4 H locs h hw => ?_)
      refine lv_aload_n S.1 S.2.1 dX5_standsAsAlways_52 rfl (lv_at hl 0 rfl) ?_
      refine mg10 S hw dX5_standsAsAlways_53 ?_
      refine lv_iload_n S.1 S.2.1 dX5_standsAsAlways_56 rfl (lv_at hl 1 rfl) ?_
      refine lv_bipush (v := 6) S.1 S.2.1 dX5_standsAsAlways_57 rfl ?_
      refine lv_iadd S.1 S.2.1 dX5_standsAsAlways_59 ?_
      refine lv_iconst (v := -1) S.1 S.2.1 dX5_standsAsAlways_60 rfl ?_
      refine ms10 S hw dX5_standsAsAlways_61 h (fun w5 H locs h hw => ?_)
      refine lv_aload_n S.1 S.2.1 dX5_standsAsAlways_62 rfl (lv_at hl 0 rfl) ?_
      refine mg10 S hw dX5_standsAsAlways_63 ?_
      refine lv_iload_n S.1 S.2.1 dX5_standsAsAlways_66 rfl (lv_at hl 1 rfl) ?_
      refine lv_bipush (v := 6) S.1 S.2.1 dX5_standsAsAlways_67 rfl ?_
      refine lv_iadd S.1 S.2.1 dX5_standsAsAlways_69 ?_
      refine lv_iconst (v := 1) S.1 S.2.1 dX5_standsAsAlways_70 rfl ?_
      refine lv_iadd S.1 S.2.1 dX5_standsAsAlways_71 ?_
      refine lv_iconst (v := -1) S.1 S.2.1 dX5_standsAsAlways_72 rfl ?_
      refine ms10 S hw dX5_standsAsAlways_73 h (fun w6 H locs h hw => ?_)
      exact m_vret S hr hlocks hw (so1 h) dX5_standsAsAlways_74
    · replace h := if_f c1 h
      refine lv_aload_n S.1 S.2.1 dX5_standsAsAlways_8 rfl (lv_at hl 0 rfl) ?_
      refine mg10 S hw dX5_standsAsAlways_9 ?_
      refine lv_iload_n S.1 S.2.1 dX5_standsAsAlways_12 rfl (lv_at hl 1 rfl) ?_
      refine lv_iload_n S.1 S.2.1 dX5_standsAsAlways_13 rfl (lv_at hl 2 rfl) ?_
      refine lv_iadd S.1 S.2.1 dX5_standsAsAlways_14 ?_
      refine lv_iconst (v := 0) S.1 S.2.1 dX5_standsAsAlways_15 rfl ?_
      refine ms10 S hw dX5_standsAsAlways_16 h (fun w7 H locs h hw => ?_)
      refine lv_iinc (v := x2 + (1 : Int32)) (lv' := [(2, .int (x2 + (1 : Int32))), (0, .ref (mM E)), (1, .int x1)]) S.1 S.2.1 dX5_standsAsAlways_17 hl (k := 2) rfl rfl (by decide) rfl (fun ls hl => ?_)
      refine lv_goto (tgt := 2) S.1 S.2.1 dX5_standsAsAlways_20 rfl ?_
      exact ih _ _ _ _ _ _ h hw (lv_sub hl [1, 2, 0] rfl)
set_option maxRecDepth 100000 in
set_option maxHeartbeats 4000000 in
theorem met_standsAsAlways (l : Launch) (E : mE) (A : Nat → Prop)  (x1 : Int32) (w : MS) (res : MS) (h : M_standsAsAlways x1 w = some res) : Met l yX5_standsAsAlways (ws_ yX5_standsAsAlways cX5_standsAsAlways 3 none) rm_standsAsAlways (mPc E A [.ref (mM E), .int x1] w) (mQv E A res) 0 0 A := by
  refine mMet (by decide) rfl (Nat.le_of_ble_eq_true rfl) ?_
  intro p e s m below meth c S hr hlocks H ls hw hl
  replace hl : lv_has ls 3 [(0, .ref (mM E)), (1, .int x1)] := hl
  unfold M_standsAsAlways at h
  refine lv_iconst (v := 0) S.1 S.2.1 dX5_standsAsAlways_0 rfl ?_
  refine lv_istore_n (lv' := [(2, .int (0 : Int32)), (0, .ref (mM E)), (1, .int x1)]) S.1 S.2.1 dX5_standsAsAlways_1 rfl hl (by decide) rfl (fun ls hl => ?_)
  exact wk_M_standsAsAlways_p2 S hr hlocks FU _ _ _ _ _ _ h hw (lv_sub hl [1, 2, 0] rfl)
def M_tenants (w : MS) : Int32 :=
  rI w 10 1
set_option maxRecDepth 100000 in
set_option maxHeartbeats 4000000 in
theorem met_tenants (l : Launch) (E : mE) (A : Nat → Prop)  (w : MS) (res : Int32) (h : M_tenants w = res) : Met l yX5_tenants (ws_ yX5_tenants cX5_tenants 1 (some .int)) rm_tenants (mPc E A [.ref (mM E)] w) (mQi E A res w) 0 0 A := by
  refine mMet (by decide) rfl (Nat.le_of_ble_eq_true rfl) ?_
  intro p e s m below meth c S hr hlocks H ls hw hl
  replace hl : lv_has ls 1 [(0, .ref (mM E))] := hl
  unfold M_tenants at h
  refine lv_aload_n S.1 S.2.1 dX5_tenants_0 rfl (lv_at hl 0 rfl) ?_
  refine mg10 S hw dX5_tenants_1 ?_
  refine lv_iconst (v := 1) S.1 S.2.1 dX5_tenants_4 rfl ?_
  refine mlc10 (j := 1) S hw dX5_tenants_5 (by decide) ?_
  exact m_iret S hr hlocks hw ⟨h, rfl⟩ dX5_tenants_6
def M_tenantOf (x1 : Int32) (x2 : Int32) (w : MS) : Option Int32 :=
  bd1 (rA w 10 240 (((26 : Int32) + ((5 : Int32) * x1)) + x2)) fun v1 =>
  some v1
set_option maxRecDepth 100000 in
set_option maxHeartbeats 4000000 in
theorem met_tenantOf (l : Launch) (E : mE) (A : Nat → Prop)  (x1 : Int32) (x2 : Int32) (w : MS) (res : Int32) (h : M_tenantOf x1 x2 w = some res) : Met l yX5_tenantOf (ws_ yX5_tenantOf cX5_tenantOf 3 (some .int)) rm_tenantOf (mPc E A [.ref (mM E), .int x1, .int x2] w) (mQi E A res w) 0 0 A := by
  refine mMet (by decide) rfl (Nat.le_of_ble_eq_true rfl) ?_
  intro p e s m below meth c S hr hlocks H ls hw hl
  replace hl : lv_has ls 3 [(0, .ref (mM E)), (1, .int x1), (2, .int x2)] := hl
  unfold M_tenantOf at h
  refine lv_aload_n S.1 S.2.1 dX5_tenantOf_0 rfl (lv_at hl 0 rfl) ?_
  refine mg10 S hw dX5_tenantOf_1 ?_
  refine lv_bipush (v := 26) S.1 S.2.1 dX5_tenantOf_4 rfl ?_
  refine lv_iconst (v := 5) S.1 S.2.1 dX5_tenantOf_6 rfl ?_
  refine lv_iload_n S.1 S.2.1 dX5_tenantOf_7 rfl (lv_at hl 1 rfl) ?_
  refine lv_imul S.1 S.2.1 dX5_tenantOf_8 ?_
  refine lv_iadd S.1 S.2.1 dX5_tenantOf_9 ?_
  refine lv_iload_n S.1 S.2.1 dX5_tenantOf_10 rfl (lv_at hl 2 rfl) ?_
  refine lv_iadd S.1 S.2.1 dX5_tenantOf_11 ?_
  refine ml10 S hw dX5_tenantOf_12 h (fun v1 h => ?_)
  exact m_iret S hr hlocks hw ⟨so1 h, rfl⟩ dX5_tenantOf_13
def M_starts_p58 (k25 : Int32 → Int32 → MS → Option MS) (x1 : Int32) (x2 : Int32) (t0 : Int32) (t1 : Int32) (w : MS) : Option MS :=
  bd1 (wA w 25 1288 t1 t0) fun w4 =>
  if (M_tenants w4) ≤ x2 then
    bd1 (wA w4 25 1288 ((x1 + (31 : Int32)) + x2) (0 : Int32)) fun w6 =>
    k25 x1 (x2 + (1 : Int32)) w6
  else
    bd1 (M_tenantOf x2 (3 : Int32) w4) fun r7 =>
    bd1 (wA w4 25 1288 ((x1 + (31 : Int32)) + x2) r7) fun w8 =>
    k25 x1 (x2 + (1 : Int32)) w8
def M_starts_p25 : Nat → Int32 → Int32 → MS → Option MS
  | 0, _, _, _ => none
  | n + 1, x1, x2, w =>
    if (6 : Int32) ≤ x2 then
      some w
    else
      if (M_tenants w) ≤ x2 then
        M_starts_p58 (M_starts_p25 n) x1 x2 (-1 : Int32) ((x1 + (1 : Int32)) + x2) w
      else
        bd1 (M_tenantOf x2 (4 : Int32) w) fun r9 =>
        M_starts_p58 (M_starts_p25 n) x1 x2 r9 ((x1 + (1 : Int32)) + x2) w
def M_starts_p2 : Nat → Int32 → Int32 → MS → Option MS
  | 0, _, _, _ => none
  | n + 1, x1, x2, w =>
    if (43 : Int32) ≤ x2 then
      M_starts_p25 FU x1 (0 : Int32) w
    else
      bd1 (wA w 25 1288 (x1 + x2) (0 : Int32)) fun w10 =>
      (M_starts_p2 n) x1 (x2 + (1 : Int32)) w10
def M_starts (x1 : Int32) (w : MS) : Option MS :=
  M_starts_p2 FU x1 (0 : Int32) w
set_option maxRecDepth 100000 in
set_option maxHeartbeats 4000000 in
theorem wk_M_starts_p58 {p : Program} {l : Launch} {e : Env} {s : State} {m : MethodId} {args : Array Value} {below : List Frame} {meth : Method} {c : Code} {E : mE} {A : Nat → Prop} (S : CallFix p m c cX5_starts 3 s args lw_all RX5) (hr : meth.sig.returnType = none) (hlocks : meth.locks = false) {res : MS}  {k25 : Int32 → Int32 → MS → Option MS} (hk25 : ∀ (x1 : Int32) (x2 : Int32) (w : MS) (H : Heap) (locs : List Loc) (ls : Array Slot), k25 x1 x2 w = some res → mH E A s w H locs → lv_has ls 3 [(0, .ref (mM E)), (1, .int x1), (2, .int x2)] → W p l e rm_starts s m args below meth c H locs 0 0 (MQ below (mQv E A res) args s 0 0 A) (F0 m 25 ls [])) : ∀ (x1 : Int32) (x2 : Int32) (t0 : Int32) (t1 : Int32) (w : MS) (H : Heap) (locs : List Loc) (ls : Array Slot), M_starts_p58 k25 x1 x2 t0 t1 w = some res → mH E A s w H locs → lv_has ls 3 [(0, .ref (mM E)), (1, .int x1), (2, .int x2)] → W p l e rm_starts s m args below meth c H locs 0 0 (MQ below (mQv E A res) args s 0 0 A) (F0 m 58 ls [.int t0, .int t1, .ref (mAr E 25)]) := by
  intro x1 x2 t0 t1 w H locs ls h hw hl
  unfold M_starts_p58 at h
  refine ms25 S hw dX5_starts_58 h (fun w4 H locs h hw => ?_)
  refine lv_aload_n S.1 S.2.1 dX5_starts_59 rfl (lv_at hl 0 rfl) ?_
  refine mg25 S hw dX5_starts_60 ?_
  refine lv_iload_n S.1 S.2.1 dX5_starts_63 rfl (lv_at hl 1 rfl) ?_
  refine lv_bipush (v := 31) S.1 S.2.1 dX5_starts_64 rfl ?_
  refine lv_iadd S.1 S.2.1 dX5_starts_66 ?_
  refine lv_iload_n S.1 S.2.1 dX5_starts_67 rfl (lv_at hl 2 rfl) ?_
  refine lv_iadd S.1 S.2.1 dX5_starts_68 ?_
  refine lv_iload_n S.1 S.2.1 dX5_starts_69 rfl (lv_at hl 2 rfl) ?_
  refine lv_aload_n S.1 S.2.1 dX5_starts_70 rfl (lv_at hl 0 rfl) ?_
  refine mcVti (As := []) (rest := [.int x2, .int ((x1 + (31 : Int32)) + x2), .ref (mAr E 25)]) S hw (met_tenants l E A  w4 _ rfl) (cw_tenants S.2.2.2.2 rfl rfl ⟨Nat.le_of_ble_eq_true rfl, Nat.le_of_ble_eq_true rfl⟩) rfl hl.1 rfl (lv_room (Nat.le_of_ble_eq_true rfl)) dX5_starts_71 (fun H locs hw => ?_)
  refine lv_icmp_ge (tgt := 86) S.1 S.2.1 dX5_starts_74 rfl (fun c5 => ?_) (fun c5 => ?_)
  · replace h := if_t c5 h
    refine lv_iconst (v := 0) S.1 S.2.1 dX5_starts_86 rfl ?_
    refine ms25 S hw dX5_starts_87 h (fun w6 H locs h hw => ?_)
    refine lv_iinc (v := x2 + (1 : Int32)) (lv' := [(2, .int (x2 + (1 : Int32))), (0, .ref (mM E)), (1, .int x1)]) S.1 S.2.1 dX5_starts_88 hl (k := 2) rfl rfl (by decide) rfl (fun ls hl => ?_)
    refine lv_goto (tgt := 25) S.1 S.2.1 dX5_starts_91 rfl ?_
    exact hk25 _ _ _ _ _ _ h hw (lv_sub hl [1, 2, 0] rfl)
  · replace h := if_f c5 h
    refine lv_aload_n S.1 S.2.1 dX5_starts_77 rfl (lv_at hl 0 rfl) ?_
    refine lv_iload_n S.1 S.2.1 dX5_starts_78 rfl (lv_at hl 2 rfl) ?_
    refine lv_iconst (v := 3) S.1 S.2.1 dX5_starts_79 rfl ?_
    refine mcVri (As := [.int x2, .int (3 : Int32)]) (rest := [.int ((x1 + (31 : Int32)) + x2), .ref (mAr E 25)]) S hw h (fun u h1 => met_tenantOf l E A x2 (3 : Int32) w4 u h1) (cw_tenantOf S.2.2.2.2 rfl rfl ⟨Nat.le_of_ble_eq_true rfl, Nat.le_of_ble_eq_true rfl⟩) rfl hl.1 rfl (lv_room (Nat.le_of_ble_eq_true rfl)) dX5_starts_80 (fun r7 H locs h hw => ?_)
    refine lv_goto (tgt := 87) S.1 S.2.1 dX5_starts_83 rfl ?_
    refine ms25 S hw dX5_starts_87 h (fun w8 H locs h hw => ?_)
    refine lv_iinc (v := x2 + (1 : Int32)) (lv' := [(2, .int (x2 + (1 : Int32))), (0, .ref (mM E)), (1, .int x1)]) S.1 S.2.1 dX5_starts_88 hl (k := 2) rfl rfl (by decide) rfl (fun ls hl => ?_)
    refine lv_goto (tgt := 25) S.1 S.2.1 dX5_starts_91 rfl ?_
    exact hk25 _ _ _ _ _ _ h hw (lv_sub hl [1, 2, 0] rfl)
set_option maxRecDepth 100000 in
set_option maxHeartbeats 4000000 in
theorem wk_M_starts_p25 {p : Program} {l : Launch} {e : Env} {s : State} {m : MethodId} {args : Array Value} {below : List Frame} {meth : Method} {c : Code} {E : mE} {A : Nat → Prop} (S : CallFix p m c cX5_starts 3 s args lw_all RX5) (hr : meth.sig.returnType = none) (hlocks : meth.locks = false) {res : MS}  : ∀ n : Nat, ∀ (x1 : Int32) (x2 : Int32) (w : MS) (H : Heap) (locs : List Loc) (ls : Array Slot), M_starts_p25 n x1 x2 w = some res → mH E A s w H locs → lv_has ls 3 [(0, .ref (mM E)), (1, .int x1), (2, .int x2)] → W p l e rm_starts s m args below meth c H locs 0 0 (MQ below (mQv E A res) args s 0 0 A) (F0 m 25 ls []) := by
  intro n
  induction n with
  | zero => intro x1 x2 w H locs ls h; cases (show (none : Option MS) = some res from h)
  | succ n ih =>
    intro x1 x2 w H locs ls h hw hl
    rw [M_starts_p25] at h
    refine lv_iload_n S.1 S.2.1 dX5_starts_25 rfl (lv_at hl 2 rfl) ?_
    refine lv_bipush (v := 6) S.1 S.2.1 dX5_starts_26 rfl ?_
    refine lv_icmp_ge (tgt := 94) S.1 S.2.1 dX5_starts_28 rfl (fun c2 => ?_) (fun c2 => ?_)
    · replace h := if_t c2 h
      exact m_vret S hr hlocks hw (so1 h) dX5_starts_94
    · replace h := if_f c2 h
      refine lv_aload_n S.1 S.2.1 dX5_starts_31 rfl (lv_at hl 0 rfl) ?_
      refine mg25 S hw dX5_starts_32 ?_
      refine lv_iload_n S.1 S.2.1 dX5_starts_35 rfl (lv_at hl 1 rfl) ?_
      refine lv_iconst (v := 1) S.1 S.2.1 dX5_starts_36 rfl ?_
      refine lv_iadd S.1 S.2.1 dX5_starts_37 ?_
      refine lv_iload_n S.1 S.2.1 dX5_starts_38 rfl (lv_at hl 2 rfl) ?_
      refine lv_iadd S.1 S.2.1 dX5_starts_39 ?_
      refine lv_iload_n S.1 S.2.1 dX5_starts_40 rfl (lv_at hl 2 rfl) ?_
      refine lv_aload_n S.1 S.2.1 dX5_starts_41 rfl (lv_at hl 0 rfl) ?_
      refine mcVti (As := []) (rest := [.int x2, .int ((x1 + (1 : Int32)) + x2), .ref (mAr E 25)]) S hw (met_tenants l E A  w _ rfl) (cw_tenants S.2.2.2.2 rfl rfl ⟨Nat.le_of_ble_eq_true rfl, Nat.le_of_ble_eq_true rfl⟩) rfl hl.1 rfl (lv_room (Nat.le_of_ble_eq_true rfl)) dX5_starts_42 (fun H locs hw => ?_)
      refine lv_icmp_ge (tgt := 57) S.1 S.2.1 dX5_starts_45 rfl (fun c3 => ?_) (fun c3 => ?_)
      · replace h := if_t c3 h
        refine lv_iconst (v := -1) S.1 S.2.1 dX5_starts_57 rfl ?_
        exact wk_M_starts_p58 S hr hlocks ih _ _ _ _ _ _ _ _ h hw (lv_sub hl [0, 1, 2] rfl)
      · replace h := if_f c3 h
        refine lv_aload_n S.1 S.2.1 dX5_starts_48 rfl (lv_at hl 0 rfl) ?_
        refine lv_iload_n S.1 S.2.1 dX5_starts_49 rfl (lv_at hl 2 rfl) ?_
        refine lv_iconst (v := 4) S.1 S.2.1 dX5_starts_50 rfl ?_
        refine mcVri (As := [.int x2, .int (4 : Int32)]) (rest := [.int ((x1 + (1 : Int32)) + x2), .ref (mAr E 25)]) S hw h (fun u h1 => met_tenantOf l E A x2 (4 : Int32) w u h1) (cw_tenantOf S.2.2.2.2 rfl rfl ⟨Nat.le_of_ble_eq_true rfl, Nat.le_of_ble_eq_true rfl⟩) rfl hl.1 rfl (lv_room (Nat.le_of_ble_eq_true rfl)) dX5_starts_51 (fun r9 H locs h hw => ?_)
        refine lv_goto (tgt := 58) S.1 S.2.1 dX5_starts_54 rfl ?_
        exact wk_M_starts_p58 S hr hlocks ih _ _ _ _ _ _ _ _ h hw (lv_sub hl [0, 1, 2] rfl)
set_option maxRecDepth 100000 in
set_option maxHeartbeats 4000000 in
theorem wk_M_starts_p2 {p : Program} {l : Launch} {e : Env} {s : State} {m : MethodId} {args : Array Value} {below : List Frame} {meth : Method} {c : Code} {E : mE} {A : Nat → Prop} (S : CallFix p m c cX5_starts 3 s args lw_all RX5) (hr : meth.sig.returnType = none) (hlocks : meth.locks = false) {res : MS}  : ∀ n : Nat, ∀ (x1 : Int32) (x2 : Int32) (w : MS) (H : Heap) (locs : List Loc) (ls : Array Slot), M_starts_p2 n x1 x2 w = some res → mH E A s w H locs → lv_has ls 3 [(0, .ref (mM E)), (1, .int x1), (2, .int x2)] → W p l e rm_starts s m args below meth c H locs 0 0 (MQ below (mQv E A res) args s 0 0 A) (F0 m 2 ls []) := by
  intro n
  induction n with
  | zero => intro x1 x2 w H locs ls h; cases (show (none : Option MS) = some res from h)
  | succ n ih =>
    intro x1 x2 w H locs ls h hw hl
    rw [M_starts_p2] at h
    refine lv_iload_n S.1 S.2.1 dX5_starts_2 rfl (lv_at hl 2 rfl) ?_
    refine lv_bipush (v := 43) S.1 S.2.1 dX5_starts_3 rfl ?_
    refine lv_icmp_ge (tgt := 23) S.1 S.2.1 dX5_starts_5 rfl (fun c1 => ?_) (fun c1 => ?_)
    · replace h := if_t c1 h
      refine lv_iconst (v := 0) S.1 S.2.1 dX5_starts_23 rfl ?_
      refine lv_istore_n (lv' := [(2, .int (0 : Int32)), (0, .ref (mM E)), (1, .int x1)]) S.1 S.2.1 dX5_starts_24 rfl hl (by decide) rfl (fun ls hl => ?_)
      exact wk_M_starts_p25 S hr hlocks FU _ _ _ _ _ _ h hw (lv_sub hl [1, 2, 0] rfl)
    · replace h := if_f c1 h
      refine lv_aload_n S.1 S.2.1 dX5_starts_8 rfl (lv_at hl 0 rfl) ?_
      refine mg25 S hw dX5_starts_9 ?_
      refine lv_iload_n S.1 S.2.1 dX5_starts_12 rfl (lv_at hl 1 rfl) ?_
      refine lv_iload_n S.1 S.2.1 dX5_starts_13 rfl (lv_at hl 2 rfl) ?_
      refine lv_iadd S.1 S.2.1 dX5_starts_14 ?_
      refine lv_iconst (v := 0) S.1 S.2.1 dX5_starts_15 rfl ?_
      refine ms25 S hw dX5_starts_16 h (fun w10 H locs h hw => ?_)
      refine lv_iinc (v := x2 + (1 : Int32)) (lv' := [(2, .int (x2 + (1 : Int32))), (0, .ref (mM E)), (1, .int x1)]) S.1 S.2.1 dX5_starts_17 hl (k := 2) rfl rfl (by decide) rfl (fun ls hl => ?_)
      refine lv_goto (tgt := 2) S.1 S.2.1 dX5_starts_20 rfl ?_
      exact ih _ _ _ _ _ _ h hw (lv_sub hl [1, 2, 0] rfl)
set_option maxRecDepth 100000 in
set_option maxHeartbeats 4000000 in
theorem met_starts (l : Launch) (E : mE) (A : Nat → Prop)  (x1 : Int32) (w : MS) (res : MS) (h : M_starts x1 w = some res) : Met l yX5_starts (ws_ yX5_starts cX5_starts 3 none) rm_starts (mPc E A [.ref (mM E), .int x1] w) (mQv E A res) 0 0 A := by
  refine mMet (by decide) rfl (Nat.le_of_ble_eq_true rfl) ?_
  intro p e s m below meth c S hr hlocks H ls hw hl
  replace hl : lv_has ls 3 [(0, .ref (mM E)), (1, .int x1)] := hl
  unfold M_starts at h
  refine lv_iconst (v := 0) S.1 S.2.1 dX5_starts_0 rfl ?_
  refine lv_istore_n (lv' := [(2, .int (0 : Int32)), (0, .ref (mM E)), (1, .int x1)]) S.1 S.2.1 dX5_starts_1 rfl hl (by decide) rfl (fun ls hl => ?_)
  exact wk_M_starts_p2 S hr hlocks FU _ _ _ _ _ _ h hw (lv_sub hl [1, 2, 0] rfl)
def M_begins_p37 : Nat → Int32 → MS → Option MS
  | 0, _, _ => none
  | n + 1, x1, w =>
    if (4 : Int32) ≤ x1 then
      some w
    else
      bd1 (wA w 27 4 x1 (0 : Int32)) fun w7 =>
      (M_begins_p37 n) (x1 + (1 : Int32)) w7
def M_begins (w : MS) : Option MS :=
  bdp (wI w 28 0 (rI w 10 3)) fun w1 =>
  bd1 (M_starts (0 : Int32) w1) fun w2 =>
  bdp (wI w2 25 43 (0 : Int32)) fun w3 =>
  bdp (wI w3 22 0 (0 : Int32)) fun w4 =>
  bdp (wI w4 26 0 (0 : Int32)) fun w5 =>
  M_begins_p37 FU (0 : Int32) w5
set_option maxRecDepth 100000 in
set_option maxHeartbeats 4000000 in
theorem wk_M_begins_p37 {p : Program} {l : Launch} {e : Env} {s : State} {m : MethodId} {args : Array Value} {below : List Frame} {meth : Method} {c : Code} {E : mE} {A : Nat → Prop} (S : CallFix p m c cX5_begins 2 s args lw_all RX5) (hr : meth.sig.returnType = none) (hlocks : meth.locks = false) {res : MS}  : ∀ n : Nat, ∀ (x1 : Int32) (w : MS) (H : Heap) (locs : List Loc) (ls : Array Slot), M_begins_p37 n x1 w = some res → mH E A s w H locs → lv_has ls 2 [(0, .ref (mM E)), (1, .int x1)] → W p l e rm_begins s m args below meth c H locs 0 0 (MQ below (mQv E A res) args s 0 0 A) (F0 m 37 ls []) := by
  intro n
  induction n with
  | zero => intro x1 w H locs ls h; cases (show (none : Option MS) = some res from h)
  | succ n ih =>
    intro x1 w H locs ls h hw hl
    rw [M_begins_p37] at h
    refine lv_iload_n S.1 S.2.1 dX5_begins_37 rfl (lv_at hl 1 rfl) ?_
    refine lv_iconst (v := 4) S.1 S.2.1 dX5_begins_38 rfl ?_
    refine lv_icmp_ge (tgt := 55) S.1 S.2.1 dX5_begins_39 rfl (fun c6 => ?_) (fun c6 => ?_)
    · replace h := if_t c6 h
      exact m_vret S hr hlocks hw (so1 h) dX5_begins_55
    · replace h := if_f c6 h
      refine lv_aload_n S.1 S.2.1 dX5_begins_42 rfl (lv_at hl 0 rfl) ?_
      refine mg27 S hw dX5_begins_43 ?_
      refine lv_iload_n S.1 S.2.1 dX5_begins_46 rfl (lv_at hl 1 rfl) ?_
      refine lv_iconst (v := 0) S.1 S.2.1 dX5_begins_47 rfl ?_
      refine ms27 S hw dX5_begins_48 (by decide) h (fun w7 H locs h hw => ?_)
      refine lv_iinc (v := x1 + (1 : Int32)) (lv' := [(1, .int (x1 + (1 : Int32))), (0, .ref (mM E))]) S.1 S.2.1 dX5_begins_49 hl (k := 1) rfl rfl (by decide) rfl (fun ls hl => ?_)
      refine lv_goto (tgt := 37) S.1 S.2.1 dX5_begins_52 rfl ?_
      exact ih _ _ _ _ _ h hw (lv_sub hl [1, 0] rfl)
set_option maxRecDepth 100000 in
set_option maxHeartbeats 4000000 in
theorem met_begins (l : Launch) (E : mE) (A : Nat → Prop)  (w : MS) (res : MS) (h : M_begins w = some res) : Met l yX5_begins (ws_ yX5_begins cX5_begins 2 none) rm_begins (mPc E A [.ref (mM E)] w) (mQv E A res) 0 0 A := by
  refine mMet (by decide) rfl (Nat.le_of_ble_eq_true rfl) ?_
  intro p e s m below meth c S hr hlocks H ls hw hl
  replace hl : lv_has ls 2 [(0, .ref (mM E))] := hl
  unfold M_begins at h
  refine lv_aload_n S.1 S.2.1 dX5_begins_0 rfl (lv_at hl 0 rfl) ?_
  refine lv_aload_n S.1 S.2.1 dX5_begins_1 rfl (lv_at hl 0 rfl) ?_
  refine mg10 S hw dX5_begins_2 ?_
  refine lv_iconst (v := 3) S.1 S.2.1 dX5_begins_5 rfl ?_
  refine mlc10 (j := 3) S hw dX5_begins_6 (by decide) ?_
  refine mp28 S hw dX5_begins_7 h (fun w1 H locs h hw => ?_)
  refine lv_aload_n S.1 S.2.1 dX5_begins_10 rfl (lv_at hl 0 rfl) ?_
  refine lv_iconst (v := 0) S.1 S.2.1 dX5_begins_11 rfl ?_
  refine mcVv (As := [.int (0 : Int32)]) (rest := []) S hw h (fun u h1 => met_starts l E A (0 : Int32) w1 u h1) (cw_starts S.2.2.2.2 rfl rfl ⟨Nat.le_of_ble_eq_true rfl, Nat.le_of_ble_eq_true rfl⟩) rfl hl.1 rfl (lv_room (Nat.le_of_ble_eq_true rfl)) dX5_begins_12 (fun w2 H locs h hw => ?_)
  refine lv_aload_n S.1 S.2.1 dX5_begins_15 rfl (lv_at hl 0 rfl) ?_
  refine mg25 S hw dX5_begins_16 ?_
  refine lv_bipush (v := 43) S.1 S.2.1 dX5_begins_19 rfl ?_
  refine lv_iconst (v := 0) S.1 S.2.1 dX5_begins_21 rfl ?_
  refine msc25 (j := 43) S hw dX5_begins_22 (by decide) h (fun w3 H locs h hw => ?_)
  refine lv_aload_n S.1 S.2.1 dX5_begins_23 rfl (lv_at hl 0 rfl) ?_
  refine mg22 S hw dX5_begins_24 ?_
  refine lv_iconst (v := 0) S.1 S.2.1 dX5_begins_27 rfl ?_
  refine lv_iconst (v := 0) S.1 S.2.1 dX5_begins_28 rfl ?_
  refine msc22 (j := 0) S hw dX5_begins_29 (by decide) h (fun w4 H locs h hw => ?_)
  refine lv_aload_n S.1 S.2.1 dX5_begins_30 rfl (lv_at hl 0 rfl) ?_
  refine lv_iconst (v := 0) S.1 S.2.1 dX5_begins_31 rfl ?_
  refine mp26 S hw dX5_begins_32 h (fun w5 H locs h hw => ?_)
  refine lv_iconst (v := 0) S.1 S.2.1 dX5_begins_35 rfl ?_
  refine lv_istore_n (lv' := [(1, .int (0 : Int32)), (0, .ref (mM E))]) S.1 S.2.1 dX5_begins_36 rfl hl (by decide) rfl (fun ls hl => ?_)
  exact wk_M_begins_p37 S hr hlocks FU _ _ _ _ _ h hw (lv_sub hl [1, 0] rfl)
def M_isLetter (x0 : Int32) : Int32 :=
  if x0 < (97 : Int32) then
    (0 : Int32)
  else
    if (122 : Int32) < x0 then
      (0 : Int32)
    else
      (1 : Int32)
set_option maxRecDepth 100000 in
set_option maxHeartbeats 4000000 in
theorem met_isLetter (l : Launch) (E : mE) (A : Nat → Prop)  (x0 : Int32) (w : MS) (res : Int32) (h : M_isLetter x0 = res) : Met l yX5_isLetter (ws_ yX5_isLetter cX5_isLetter 1 (some .boolean)) rm_isLetter (mPc E A [.int x0] w) (mQi E A res w) 0 0 A := by
  refine mMet (by decide) rfl (Nat.le_of_ble_eq_true rfl) ?_
  intro p e s m below meth c S hr hlocks H ls hw hl
  replace hl : lv_has ls 1 [(0, .int x0)] := hl
  unfold M_isLetter at h
  refine lv_iload_n S.1 S.2.1 dX5_isLetter_0 rfl (lv_at hl 0 rfl) ?_
  refine lv_bipush (v := 97) S.1 S.2.1 dX5_isLetter_1 rfl ?_
  refine lv_icmp_lt (tgt := 16) S.1 S.2.1 dX5_isLetter_3 rfl (fun c1 => ?_) (fun c1 => ?_)
  · replace h := if_t c1 h
    refine lv_iconst (v := 0) S.1 S.2.1 dX5_isLetter_16 rfl ?_
    exact m_zret S hr hlocks hw rfl ⟨h, rfl⟩ dX5_isLetter_17
  · replace h := if_f c1 h
    refine lv_iload_n S.1 S.2.1 dX5_isLetter_6 rfl (lv_at hl 0 rfl) ?_
    refine lv_bipush (v := 122) S.1 S.2.1 dX5_isLetter_7 rfl ?_
    refine lv_icmp_gt (tgt := 16) S.1 S.2.1 dX5_isLetter_9 rfl (fun c2 => ?_) (fun c2 => ?_)
    · replace h := if_t c2 h
      refine lv_iconst (v := 0) S.1 S.2.1 dX5_isLetter_16 rfl ?_
      exact m_zret S hr hlocks hw rfl ⟨h, rfl⟩ dX5_isLetter_17
    · replace h := if_f c2 h
      refine lv_iconst (v := 1) S.1 S.2.1 dX5_isLetter_12 rfl ?_
      refine lv_goto (tgt := 17) S.1 S.2.1 dX5_isLetter_13 rfl ?_
      exact m_zret S hr hlocks hw rfl ⟨h, rfl⟩ dX5_isLetter_17
def M_rank (x0 : Int32) : Int32 :=
  if (M_isLetter x0) = 0 then
    x0 - (21 : Int32)
  else
    x0 - (96 : Int32)
set_option maxRecDepth 100000 in
set_option maxHeartbeats 4000000 in
theorem met_rank (l : Launch) (E : mE) (A : Nat → Prop)  (x0 : Int32) (w : MS) (res : Int32) (h : M_rank x0 = res) : Met l yX5_rank (ws_ yX5_rank cX5_rank 1 (some .int)) rm_rank (mPc E A [.int x0] w) (mQi E A res w) 0 0 A := by
  refine mMet (by decide) rfl (Nat.le_of_ble_eq_true rfl) ?_
  intro p e s m below meth c S hr hlocks H ls hw hl
  replace hl : lv_has ls 1 [(0, .int x0)] := hl
  unfold M_rank at h
  refine lv_iload_n S.1 S.2.1 dX5_rank_0 rfl (lv_at hl 0 rfl) ?_
  refine mcSti (As := [.int x0]) (rest := []) S hw (met_isLetter l E A x0 w _ rfl) (cw_isLetter S.2.2.2.2 rfl rfl ⟨Nat.le_of_ble_eq_true rfl, Nat.le_of_ble_eq_true rfl⟩) rfl hl.1 rfl (lv_room (Nat.le_of_ble_eq_true rfl)) dX5_rank_1 (fun H locs hw => ?_)
  refine lv_if_eq (tgt := 14) S.1 S.2.1 dX5_rank_4 rfl (fun c1 => ?_) (fun c1 => ?_)
  · replace h := if_t c1 h
    refine lv_iload_n S.1 S.2.1 dX5_rank_14 rfl (lv_at hl 0 rfl) ?_
    refine lv_bipush (v := 21) S.1 S.2.1 dX5_rank_15 rfl ?_
    refine lv_isub S.1 S.2.1 dX5_rank_17 ?_
    exact m_iret S hr hlocks hw ⟨h, rfl⟩ dX5_rank_18
  · replace h := if_f c1 h
    refine lv_iload_n S.1 S.2.1 dX5_rank_7 rfl (lv_at hl 0 rfl) ?_
    refine lv_bipush (v := 96) S.1 S.2.1 dX5_rank_8 rfl ?_
    refine lv_isub S.1 S.2.1 dX5_rank_10 ?_
    refine lv_goto (tgt := 18) S.1 S.2.1 dX5_rank_11 rfl ?_
    exact m_iret S hr hlocks hw ⟨h, rfl⟩ dX5_rank_18
def M_isDigit (x0 : Int32) : Int32 :=
  if x0 < (48 : Int32) then
    (0 : Int32)
  else
    if (57 : Int32) < x0 then
      (0 : Int32)
    else
      (1 : Int32)
set_option maxRecDepth 100000 in
set_option maxHeartbeats 4000000 in
theorem met_isDigit (l : Launch) (E : mE) (A : Nat → Prop)  (x0 : Int32) (w : MS) (res : Int32) (h : M_isDigit x0 = res) : Met l yX5_isDigit (ws_ yX5_isDigit cX5_isDigit 1 (some .boolean)) rm_isDigit (mPc E A [.int x0] w) (mQi E A res w) 0 0 A := by
  refine mMet (by decide) rfl (Nat.le_of_ble_eq_true rfl) ?_
  intro p e s m below meth c S hr hlocks H ls hw hl
  replace hl : lv_has ls 1 [(0, .int x0)] := hl
  unfold M_isDigit at h
  refine lv_iload_n S.1 S.2.1 dX5_isDigit_0 rfl (lv_at hl 0 rfl) ?_
  refine lv_bipush (v := 48) S.1 S.2.1 dX5_isDigit_1 rfl ?_
  refine lv_icmp_lt (tgt := 16) S.1 S.2.1 dX5_isDigit_3 rfl (fun c1 => ?_) (fun c1 => ?_)
  · replace h := if_t c1 h
    refine lv_iconst (v := 0) S.1 S.2.1 dX5_isDigit_16 rfl ?_
    exact m_zret S hr hlocks hw rfl ⟨h, rfl⟩ dX5_isDigit_17
  · replace h := if_f c1 h
    refine lv_iload_n S.1 S.2.1 dX5_isDigit_6 rfl (lv_at hl 0 rfl) ?_
    refine lv_bipush (v := 57) S.1 S.2.1 dX5_isDigit_7 rfl ?_
    refine lv_icmp_gt (tgt := 16) S.1 S.2.1 dX5_isDigit_9 rfl (fun c2 => ?_) (fun c2 => ?_)
    · replace h := if_t c2 h
      refine lv_iconst (v := 0) S.1 S.2.1 dX5_isDigit_16 rfl ?_
      exact m_zret S hr hlocks hw rfl ⟨h, rfl⟩ dX5_isDigit_17
    · replace h := if_f c2 h
      refine lv_iconst (v := 1) S.1 S.2.1 dX5_isDigit_12 rfl ?_
      refine lv_goto (tgt := 17) S.1 S.2.1 dX5_isDigit_13 rfl ?_
      exact m_zret S hr hlocks hw rfl ⟨h, rfl⟩ dX5_isDigit_17
def M_isSignOf (x0 : Int32) : Int32 :=
  if x0 = (40 : Int32) then
    (1 : Int32)
  else
    if x0 = (41 : Int32) then
      (1 : Int32)
    else
      if x0 = (59 : Int32) then
        (1 : Int32)
      else
        if x0 = (61 : Int32) then
          (1 : Int32)
        else
          if x0 = (60 : Int32) then
            (1 : Int32)
          else
            if x0 = (43 : Int32) then
              (1 : Int32)
            else
              if x0 = (45 : Int32) then
                (1 : Int32)
              else
                if x0 = (42 : Int32) then
                  (1 : Int32)
                else
                  (0 : Int32)
set_option maxRecDepth 100000 in
set_option maxHeartbeats 4000000 in
theorem met_isSignOf (l : Launch) (E : mE) (A : Nat → Prop)  (x0 : Int32) (w : MS) (res : Int32) (h : M_isSignOf x0 = res) : Met l yX5_isSignOf (ws_ yX5_isSignOf cX5_isSignOf 1 (some .boolean)) rm_isSignOf (mPc E A [.int x0] w) (mQi E A res w) 0 0 A := by
  refine mMet (by decide) rfl (Nat.le_of_ble_eq_true rfl) ?_
  intro p e s m below meth c S hr hlocks H ls hw hl
  replace hl : lv_has ls 1 [(0, .int x0)] := hl
  unfold M_isSignOf at h
  refine lv_iload_n S.1 S.2.1 dX5_isSignOf_0 rfl (lv_at hl 0 rfl) ?_
  refine lv_bipush (v := 40) S.1 S.2.1 dX5_isSignOf_1 rfl ?_
  refine lv_icmp_eq (tgt := 48) S.1 S.2.1 dX5_isSignOf_3 rfl (fun c1 => ?_) (fun c1 => ?_)
  · replace h := if_t c1 h
    refine lv_iconst (v := 1) S.1 S.2.1 dX5_isSignOf_48 rfl ?_
    refine lv_goto (tgt := 53) S.1 S.2.1 dX5_isSignOf_49 rfl ?_
    exact m_zret S hr hlocks hw rfl ⟨h, rfl⟩ dX5_isSignOf_53
  · replace h := if_f c1 h
    refine lv_iload_n S.1 S.2.1 dX5_isSignOf_6 rfl (lv_at hl 0 rfl) ?_
    refine lv_bipush (v := 41) S.1 S.2.1 dX5_isSignOf_7 rfl ?_
    refine lv_icmp_eq (tgt := 48) S.1 S.2.1 dX5_isSignOf_9 rfl (fun c2 => ?_) (fun c2 => ?_)
    · replace h := if_t c2 h
      refine lv_iconst (v := 1) S.1 S.2.1 dX5_isSignOf_48 rfl ?_
      refine lv_goto (tgt := 53) S.1 S.2.1 dX5_isSignOf_49 rfl ?_
      exact m_zret S hr hlocks hw rfl ⟨h, rfl⟩ dX5_isSignOf_53
    · replace h := if_f c2 h
      refine lv_iload_n S.1 S.2.1 dX5_isSignOf_12 rfl (lv_at hl 0 rfl) ?_
      refine lv_bipush (v := 59) S.1 S.2.1 dX5_isSignOf_13 rfl ?_
      refine lv_icmp_eq (tgt := 48) S.1 S.2.1 dX5_isSignOf_15 rfl (fun c3 => ?_) (fun c3 => ?_)
      · replace h := if_t c3 h
        refine lv_iconst (v := 1) S.1 S.2.1 dX5_isSignOf_48 rfl ?_
        refine lv_goto (tgt := 53) S.1 S.2.1 dX5_isSignOf_49 rfl ?_
        exact m_zret S hr hlocks hw rfl ⟨h, rfl⟩ dX5_isSignOf_53
      · replace h := if_f c3 h
        refine lv_iload_n S.1 S.2.1 dX5_isSignOf_18 rfl (lv_at hl 0 rfl) ?_
        refine lv_bipush (v := 61) S.1 S.2.1 dX5_isSignOf_19 rfl ?_
        refine lv_icmp_eq (tgt := 48) S.1 S.2.1 dX5_isSignOf_21 rfl (fun c4 => ?_) (fun c4 => ?_)
        · replace h := if_t c4 h
          refine lv_iconst (v := 1) S.1 S.2.1 dX5_isSignOf_48 rfl ?_
          refine lv_goto (tgt := 53) S.1 S.2.1 dX5_isSignOf_49 rfl ?_
          exact m_zret S hr hlocks hw rfl ⟨h, rfl⟩ dX5_isSignOf_53
        · replace h := if_f c4 h
          refine lv_iload_n S.1 S.2.1 dX5_isSignOf_24 rfl (lv_at hl 0 rfl) ?_
          refine lv_bipush (v := 60) S.1 S.2.1 dX5_isSignOf_25 rfl ?_
          refine lv_icmp_eq (tgt := 48) S.1 S.2.1 dX5_isSignOf_27 rfl (fun c5 => ?_) (fun c5 => ?_)
          · replace h := if_t c5 h
            refine lv_iconst (v := 1) S.1 S.2.1 dX5_isSignOf_48 rfl ?_
            refine lv_goto (tgt := 53) S.1 S.2.1 dX5_isSignOf_49 rfl ?_
            exact m_zret S hr hlocks hw rfl ⟨h, rfl⟩ dX5_isSignOf_53
          · replace h := if_f c5 h
            refine lv_iload_n S.1 S.2.1 dX5_isSignOf_30 rfl (lv_at hl 0 rfl) ?_
            refine lv_bipush (v := 43) S.1 S.2.1 dX5_isSignOf_31 rfl ?_
            refine lv_icmp_eq (tgt := 48) S.1 S.2.1 dX5_isSignOf_33 rfl (fun c6 => ?_) (fun c6 => ?_)
            · replace h := if_t c6 h
              refine lv_iconst (v := 1) S.1 S.2.1 dX5_isSignOf_48 rfl ?_
              refine lv_goto (tgt := 53) S.1 S.2.1 dX5_isSignOf_49 rfl ?_
              exact m_zret S hr hlocks hw rfl ⟨h, rfl⟩ dX5_isSignOf_53
            · replace h := if_f c6 h
              refine lv_iload_n S.1 S.2.1 dX5_isSignOf_36 rfl (lv_at hl 0 rfl) ?_
              refine lv_bipush (v := 45) S.1 S.2.1 dX5_isSignOf_37 rfl ?_
              refine lv_icmp_eq (tgt := 48) S.1 S.2.1 dX5_isSignOf_39 rfl (fun c7 => ?_) (fun c7 => ?_)
              · replace h := if_t c7 h
                refine lv_iconst (v := 1) S.1 S.2.1 dX5_isSignOf_48 rfl ?_
                refine lv_goto (tgt := 53) S.1 S.2.1 dX5_isSignOf_49 rfl ?_
                exact m_zret S hr hlocks hw rfl ⟨h, rfl⟩ dX5_isSignOf_53
              · replace h := if_f c7 h
                refine lv_iload_n S.1 S.2.1 dX5_isSignOf_42 rfl (lv_at hl 0 rfl) ?_
                refine lv_bipush (v := 42) S.1 S.2.1 dX5_isSignOf_43 rfl ?_
                refine lv_icmp_ne (tgt := 52) S.1 S.2.1 dX5_isSignOf_45 rfl (fun c8 => ?_) (fun c8 => ?_)
                · replace h := if_f c8 h
                  refine lv_iconst (v := 0) S.1 S.2.1 dX5_isSignOf_52 rfl ?_
                  exact m_zret S hr hlocks hw rfl ⟨h, rfl⟩ dX5_isSignOf_53
                · replace h := if_t c8 h
                  refine lv_iconst (v := 1) S.1 S.2.1 dX5_isSignOf_48 rfl ?_
                  refine lv_goto (tgt := 53) S.1 S.2.1 dX5_isSignOf_49 rfl ?_
                  exact m_zret S hr hlocks hw rfl ⟨h, rfl⟩ dX5_isSignOf_53
def M_cutAll_p265 (k17 : Int32 → Int32 → MS → Option MS) (x1 : Int32) (x2 : Int32) (x5 : Int64) (w : MS) : Option MS :=
  bd1 (wAL w 6 1002 x1 x5) fun w16 =>
  k17 (x1 + (1 : Int32)) x2 w16
def M_cutAll_p218 (k17 : Int32 → Int32 → MS → Option MS) (x1 : Int32) (x2 : Int32) (x4 : Int32) (x5 : Int64) (w : MS) : Option MS :=
  if (x2 - x4) ≤ (4 : Int32) then
    bd1 (wA w 4 1002 x1 (2 : Int32)) fun w20 =>
    M_cutAll_p265 k17 x1 x2 x5 w20
  else
    bd1 (wA w 4 1002 x1 (4 : Int32)) fun w21 =>
    M_cutAll_p265 k17 x1 x2 x5 w21
def M_cutAll_p159 (k17 : Int32 → Int32 → MS → Option MS) : Nat → Int32 → Int32 → Int32 → Int64 → MS → Option MS
  | 0, _, _, _, _, _ => none
  | n + 1, x1, x2, x4, x5, w =>
    if (rI w 3 0) ≤ x2 then
      M_cutAll_p218 k17 x1 x2 x4 x5 w
    else
      bd1 (rA w 1 1000 x2) fun v22 =>
      if (M_isDigit v22) = 0 then
        M_cutAll_p218 k17 x1 x2 x4 x5 w
      else
        if (4 : Int32) ≤ (x2 - x4) then
          (M_cutAll_p159 k17 n) x1 (x2 + (1 : Int32)) x4 x5 w
        else
          bd1 (rA w 1 1000 x2) fun v25 =>
          bdp ((((10 : Int64) * x5) + v25.toInt64) - (48 : Int64)) fun y26 =>
          (M_cutAll_p159 k17 n) x1 (x2 + (1 : Int32)) x4 y26 w
def M_cutAll_p129 (k17 : Int32 → Int32 → MS → Option MS) (x1 : Int32) (x2 : Int32) (x4 : Int32) (x5 : Int64) (w : MS) : Option MS :=
  if (x2 - x4) ≤ (8 : Int32) then
    bd1 (wA w 4 1002 x1 (1 : Int32)) fun w29 =>
    M_cutAll_p265 k17 x1 x2 x5 w29
  else
    bd1 (wA w 4 1002 x1 (4 : Int32)) fun w30 =>
    M_cutAll_p265 k17 x1 x2 x5 w30
def M_cutAll_p70 (k17 : Int32 → Int32 → MS → Option MS) : Nat → Int32 → Int32 → Int32 → Int64 → MS → Option MS
  | 0, _, _, _, _, _ => none
  | n + 1, x1, x2, x4, x5, w =>
    if (rI w 3 0) ≤ x2 then
      M_cutAll_p129 k17 x1 x2 x4 x5 w
    else
      bd1 (rA w 1 1000 x2) fun v31 =>
      if (M_isLetter v31) = 0 then
        M_cutAll_p129 k17 x1 x2 x4 x5 w
      else
        if (8 : Int32) ≤ (x2 - x4) then
          (M_cutAll_p70 k17 n) x1 (x2 + (1 : Int32)) x4 x5 w
        else
          bd1 (rA w 1 1000 x2) fun v34 =>
          bdp (((37 : Int64) * x5) + ((M_rank v34).toInt64)) fun y35 =>
          (M_cutAll_p70 k17 n) x1 (x2 + (1 : Int32)) x4 y35 w
def M_cutAll_p17 : Nat → Int32 → Int32 → MS → Option MS
  | 0, _, _, _ => none
  | n + 1, x1, x2, w =>
    if (rI w 3 0) ≤ x2 then
      bd1 (wA w 4 1002 x1 (0 : Int32)) fun w4 =>
      bd1 (wA w4 5 1002 x1 (rI w4 3 0)) fun w5 =>
      bdp (wI w5 7 0 (0 : Int32)) fun w6 =>
      bdp (wI w6 8 0 (0 : Int32)) fun w7 =>
      some w7
    else
      bd1 (rA w 1 1000 x2) fun v8 =>
      if v8 = (10 : Int32) then
        (M_cutAll_p17 n) x1 (x2 + (1 : Int32)) w
      else
        if v8 = (32 : Int32) then
          (M_cutAll_p17 n) x1 (x2 + (1 : Int32)) w
        else
          bd1 (wA w 5 1002 x1 x2) fun w11 =>
          if (M_isLetter v8) = 0 then
            if (M_isDigit v8) = 0 then
              if (M_isSignOf v8) = 0 then
                bd1 (wA w11 4 1002 x1 (4 : Int32)) fun w15 =>
                M_cutAll_p265 (M_cutAll_p17 n) x1 (x2 + (1 : Int32)) v8.toInt64 w15
              else
                bd1 (wA w11 4 1002 x1 (3 : Int32)) fun w17 =>
                M_cutAll_p265 (M_cutAll_p17 n) x1 (x2 + (1 : Int32)) v8.toInt64 w17
            else
              M_cutAll_p159 (M_cutAll_p17 n) FU x1 x2 x2 (0 : Int64) w11
          else
            M_cutAll_p70 (M_cutAll_p17 n) FU x1 x2 x2 (0 : Int64) w11
def M_cutAll (w : MS) : Option MS :=
  bdp (wI w 3 0 (rI w 2 0)) fun w1 =>
  bdp (wI w1 2 0 (0 : Int32)) fun w2 =>
  M_cutAll_p17 FU (0 : Int32) (0 : Int32) w2
set_option maxRecDepth 100000 in
set_option maxHeartbeats 4000000 in
theorem wk_M_cutAll_p265 {p : Program} {l : Launch} {e : Env} {s : State} {m : MethodId} {args : Array Value} {below : List Frame} {meth : Method} {c : Code} {E : mE} {A : Nat → Prop} (S : CallFix p m c cX5_cutAll 7 s args lw_all RX5) (hr : meth.sig.returnType = none) (hlocks : meth.locks = false) {res : MS}  {k17 : Int32 → Int32 → MS → Option MS} (hk17 : ∀ (x1 : Int32) (x2 : Int32) (w : MS) (H : Heap) (locs : List Loc) (ls : Array Slot), k17 x1 x2 w = some res → mH E A s w H locs → lv_has ls 7 [(0, .ref (mM E)), (1, .int x1), (2, .int x2)] → W p l e rm_cutAll s m args below meth c H locs 0 0 (MQ below (mQv E A res) args s 0 0 A) (F0 m 17 ls [])) : ∀ (x1 : Int32) (x2 : Int32) (x5 : Int64) (w : MS) (H : Heap) (locs : List Loc) (ls : Array Slot), M_cutAll_p265 k17 x1 x2 x5 w = some res → mH E A s w H locs → lv_has ls 7 [(0, .ref (mM E)), (1, .int x1), (2, .int x2), (5, .long x5)] → W p l e rm_cutAll s m args below meth c H locs 0 0 (MQ below (mQv E A res) args s 0 0 A) (F0 m 265 ls []) := by
  intro x1 x2 x5 w H locs ls h hw hl
  unfold M_cutAll_p265 at h
  refine lv_aload_n S.1 S.2.1 dX5_cutAll_265 rfl (lv_at hl 0 rfl) ?_
  refine mg6 S hw dX5_cutAll_266 ?_
  refine lv_iload_n S.1 S.2.1 dX5_cutAll_269 rfl (lv_at hl 1 rfl) ?_
  refine lv_lload S.1 S.2.1 dX5_cutAll_270 (lv_at hl 3 rfl) ?_
  refine ms6 S hw dX5_cutAll_272 h (fun w16 H locs h hw => ?_)
  refine lv_iinc (v := x1 + (1 : Int32)) (lv' := [(1, .int (x1 + (1 : Int32))), (0, .ref (mM E)), (2, .int x2), (5, .long x5)]) S.1 S.2.1 dX5_cutAll_273 hl (k := 1) rfl rfl (by decide) rfl (fun ls hl => ?_)
  refine lv_goto (tgt := 17) S.1 S.2.1 dX5_cutAll_276 rfl ?_
  exact hk17 _ _ _ _ _ _ h hw (lv_sub hl [1, 0, 2] rfl)
set_option maxRecDepth 100000 in
set_option maxHeartbeats 4000000 in
theorem wk_M_cutAll_p218 {p : Program} {l : Launch} {e : Env} {s : State} {m : MethodId} {args : Array Value} {below : List Frame} {meth : Method} {c : Code} {E : mE} {A : Nat → Prop} (S : CallFix p m c cX5_cutAll 7 s args lw_all RX5) (hr : meth.sig.returnType = none) (hlocks : meth.locks = false) {res : MS}  {k17 : Int32 → Int32 → MS → Option MS} (hk17 : ∀ (x1 : Int32) (x2 : Int32) (w : MS) (H : Heap) (locs : List Loc) (ls : Array Slot), k17 x1 x2 w = some res → mH E A s w H locs → lv_has ls 7 [(0, .ref (mM E)), (1, .int x1), (2, .int x2)] → W p l e rm_cutAll s m args below meth c H locs 0 0 (MQ below (mQv E A res) args s 0 0 A) (F0 m 17 ls [])) : ∀ (x1 : Int32) (x2 : Int32) (x4 : Int32) (x5 : Int64) (w : MS) (H : Heap) (locs : List Loc) (ls : Array Slot), M_cutAll_p218 k17 x1 x2 x4 x5 w = some res → mH E A s w H locs → lv_has ls 7 [(0, .ref (mM E)), (1, .int x1), (2, .int x2), (4, .int x4), (5, .long x5)] → W p l e rm_cutAll s m args below meth c H locs 0 0 (MQ below (mQv E A res) args s 0 0 A) (F0 m 218 ls []) := by
  intro x1 x2 x4 x5 w H locs ls h hw hl
  unfold M_cutAll_p218 at h
  refine lv_aload_n S.1 S.2.1 dX5_cutAll_218 rfl (lv_at hl 0 rfl) ?_
  refine mg4 S hw dX5_cutAll_219 ?_
  refine lv_iload_n S.1 S.2.1 dX5_cutAll_222 rfl (lv_at hl 1 rfl) ?_
  refine lv_iload_n S.1 S.2.1 dX5_cutAll_223 rfl (lv_at hl 2 rfl) ?_
  refine lv_iload S.1 S.2.1 dX5_cutAll_224 (lv_at hl 3 rfl) ?_
  refine lv_isub S.1 S.2.1 dX5_cutAll_226 ?_
  refine lv_iconst (v := 4) S.1 S.2.1 dX5_cutAll_227 rfl ?_
  refine lv_icmp_le (tgt := 235) S.1 S.2.1 dX5_cutAll_228 rfl (fun c19 => ?_) (fun c19 => ?_)
  · replace h := if_t c19 h
    refine lv_iconst (v := 2) S.1 S.2.1 dX5_cutAll_235 rfl ?_
    refine ms4 S hw dX5_cutAll_236 h (fun w20 H locs h hw => ?_)
    refine lv_goto (tgt := 265) S.1 S.2.1 dX5_cutAll_237 rfl ?_
    exact wk_M_cutAll_p265 S hr hlocks hk17 _ _ _ _ _ _ _ h hw (lv_sub hl [0, 1, 2, 4] rfl)
  · replace h := if_f c19 h
    refine lv_iconst (v := 4) S.1 S.2.1 dX5_cutAll_231 rfl ?_
    refine lv_goto (tgt := 236) S.1 S.2.1 dX5_cutAll_232 rfl ?_
    refine ms4 S hw dX5_cutAll_236 h (fun w21 H locs h hw => ?_)
    refine lv_goto (tgt := 265) S.1 S.2.1 dX5_cutAll_237 rfl ?_
    exact wk_M_cutAll_p265 S hr hlocks hk17 _ _ _ _ _ _ _ h hw (lv_sub hl [0, 1, 2, 4] rfl)
set_option maxRecDepth 100000 in
set_option maxHeartbeats 4000000 in
theorem wk_M_cutAll_p159 {p : Program} {l : Launch} {e : Env} {s : State} {m : MethodId} {args : Array Value} {below : List Frame} {meth : Method} {c : Code} {E : mE} {A : Nat → Prop} (S : CallFix p m c cX5_cutAll 7 s args lw_all RX5) (hr : meth.sig.returnType = none) (hlocks : meth.locks = false) {res : MS}  {k17 : Int32 → Int32 → MS → Option MS} (hk17 : ∀ (x1 : Int32) (x2 : Int32) (w : MS) (H : Heap) (locs : List Loc) (ls : Array Slot), k17 x1 x2 w = some res → mH E A s w H locs → lv_has ls 7 [(0, .ref (mM E)), (1, .int x1), (2, .int x2)] → W p l e rm_cutAll s m args below meth c H locs 0 0 (MQ below (mQv E A res) args s 0 0 A) (F0 m 17 ls [])) : ∀ n : Nat, ∀ (x1 : Int32) (x2 : Int32) (x4 : Int32) (x5 : Int64) (w : MS) (H : Heap) (locs : List Loc) (ls : Array Slot), M_cutAll_p159 k17 n x1 x2 x4 x5 w = some res → mH E A s w H locs → lv_has ls 7 [(0, .ref (mM E)), (1, .int x1), (2, .int x2), (4, .int x4), (5, .long x5)] → W p l e rm_cutAll s m args below meth c H locs 0 0 (MQ below (mQv E A res) args s 0 0 A) (F0 m 159 ls []) := by
  intro n
  induction n with
  | zero => intro x1 x2 x4 x5 w H locs ls h; cases (show (none : Option MS) = some res from h)
  | succ n ih =>
    intro x1 x2 x4 x5 w H locs ls h hw hl
    rw [M_cutAll_p159] at h
    refine lv_iload_n S.1 S.2.1 dX5_cutAll_159 rfl (lv_at hl 2 rfl) ?_
    refine lv_aload_n S.1 S.2.1 dX5_cutAll_160 rfl (lv_at hl 0 rfl) ?_
    refine mg3 S hw dX5_cutAll_161 ?_
    refine lv_icmp_ge (tgt := 218) S.1 S.2.1 dX5_cutAll_164 rfl (fun c18 => ?_) (fun c18 => ?_)
    · replace h := if_t c18 h
      exact wk_M_cutAll_p218 S hr hlocks hk17 _ _ _ _ _ _ _ _ h hw (lv_sub hl [0, 1, 2, 3, 4] rfl)
    · replace h := if_f c18 h
      refine lv_aload_n S.1 S.2.1 dX5_cutAll_167 rfl (lv_at hl 0 rfl) ?_
      refine mg1 S hw dX5_cutAll_168 ?_
      refine lv_iload_n S.1 S.2.1 dX5_cutAll_171 rfl (lv_at hl 2 rfl) ?_
      refine ml1 S hw dX5_cutAll_172 h (fun v22 h => ?_)
      refine mcSti (As := [.int v22]) (rest := []) S hw (met_isDigit l E A v22 w _ rfl) (cw_isDigit S.2.2.2.2 rfl rfl ⟨Nat.le_of_ble_eq_true rfl, Nat.le_of_ble_eq_true rfl⟩) rfl hl.1 rfl (lv_room (Nat.le_of_ble_eq_true rfl)) dX5_cutAll_173 (fun H locs hw => ?_)
      refine lv_if_eq (tgt := 218) S.1 S.2.1 dX5_cutAll_176 rfl (fun c23 => ?_) (fun c23 => ?_)
      · replace h := if_t c23 h
        exact wk_M_cutAll_p218 S hr hlocks hk17 _ _ _ _ _ _ _ _ h hw (lv_sub hl [0, 1, 2, 3, 4] rfl)
      · replace h := if_f c23 h
        refine lv_iload_n S.1 S.2.1 dX5_cutAll_179 rfl (lv_at hl 2 rfl) ?_
        refine lv_iload S.1 S.2.1 dX5_cutAll_180 (lv_at hl 3 rfl) ?_
        refine lv_isub S.1 S.2.1 dX5_cutAll_182 ?_
        refine lv_iconst (v := 4) S.1 S.2.1 dX5_cutAll_183 rfl ?_
        refine lv_icmp_ge (tgt := 208) S.1 S.2.1 dX5_cutAll_184 rfl (fun c24 => ?_) (fun c24 => ?_)
        · replace h := if_t c24 h
          refine lv_lload S.1 S.2.1 dX5_cutAll_208 (lv_at hl 4 rfl) ?_
          refine lv_lstore (lv' := [(5, .long x5), (0, .ref (mM E)), (1, .int x1), (2, .int x2), (4, .int x4)]) S.1 S.2.1 dX5_cutAll_210 hl (by decide) rfl (fun ls hl => ?_)
          refine lv_iinc (v := x2 + (1 : Int32)) (lv' := [(2, .int (x2 + (1 : Int32))), (5, .long x5), (0, .ref (mM E)), (1, .int x1), (4, .int x4)]) S.1 S.2.1 dX5_cutAll_212 hl (k := 3) rfl rfl (by decide) rfl (fun ls hl => ?_)
          refine lv_goto (tgt := 159) S.1 S.2.1 dX5_cutAll_215 rfl ?_
          exact ih _ _ _ _ _ _ _ _ h hw (lv_sub hl [2, 3, 0, 4, 1] rfl)
        · replace h := if_f c24 h
          refine lv_ldc2 (v := 10) S.1 S.2.1 S.2.2.2.1 (S.2.2.2.2 _ q1935) dX5_cutAll_187 ?_
          refine lv_lload S.1 S.2.1 dX5_cutAll_190 (lv_at hl 4 rfl) ?_
          refine lv_lmul S.1 S.2.1 dX5_cutAll_192 ?_
          refine lv_aload_n S.1 S.2.1 dX5_cutAll_193 rfl (lv_at hl 0 rfl) ?_
          refine mg1 S hw dX5_cutAll_194 ?_
          refine lv_iload_n S.1 S.2.1 dX5_cutAll_197 rfl (lv_at hl 2 rfl) ?_
          refine ml1 S hw dX5_cutAll_198 h (fun v25 h => ?_)
          refine lv_i2l S.1 S.2.1 dX5_cutAll_199 rfl ?_
          refine lv_ladd S.1 S.2.1 dX5_cutAll_200 ?_
          refine lv_ldc2 (v := 48) S.1 S.2.1 S.2.2.2.1 (S.2.2.2.2 _ q1936) dX5_cutAll_201 ?_
          refine lv_lsub S.1 S.2.1 dX5_cutAll_204 ?_
          refine lv_goto (tgt := 210) S.1 S.2.1 dX5_cutAll_205 rfl ?_
          refine lv_topl (fun y26 ey => ?_)
          replace h := bdp_e ey h
          refine lv_lstore (lv' := [(5, .long y26), (0, .ref (mM E)), (1, .int x1), (2, .int x2), (4, .int x4)]) S.1 S.2.1 dX5_cutAll_210 hl (by decide) rfl (fun ls hl => ?_)
          refine lv_iinc (v := x2 + (1 : Int32)) (lv' := [(2, .int (x2 + (1 : Int32))), (5, .long y26), (0, .ref (mM E)), (1, .int x1), (4, .int x4)]) S.1 S.2.1 dX5_cutAll_212 hl (k := 3) rfl rfl (by decide) rfl (fun ls hl => ?_)
          refine lv_goto (tgt := 159) S.1 S.2.1 dX5_cutAll_215 rfl ?_
          exact ih _ _ _ _ _ _ _ _ h hw (lv_sub hl [2, 3, 0, 4, 1] rfl)
set_option maxRecDepth 100000 in
set_option maxHeartbeats 4000000 in
theorem wk_M_cutAll_p129 {p : Program} {l : Launch} {e : Env} {s : State} {m : MethodId} {args : Array Value} {below : List Frame} {meth : Method} {c : Code} {E : mE} {A : Nat → Prop} (S : CallFix p m c cX5_cutAll 7 s args lw_all RX5) (hr : meth.sig.returnType = none) (hlocks : meth.locks = false) {res : MS}  {k17 : Int32 → Int32 → MS → Option MS} (hk17 : ∀ (x1 : Int32) (x2 : Int32) (w : MS) (H : Heap) (locs : List Loc) (ls : Array Slot), k17 x1 x2 w = some res → mH E A s w H locs → lv_has ls 7 [(0, .ref (mM E)), (1, .int x1), (2, .int x2)] → W p l e rm_cutAll s m args below meth c H locs 0 0 (MQ below (mQv E A res) args s 0 0 A) (F0 m 17 ls [])) : ∀ (x1 : Int32) (x2 : Int32) (x4 : Int32) (x5 : Int64) (w : MS) (H : Heap) (locs : List Loc) (ls : Array Slot), M_cutAll_p129 k17 x1 x2 x4 x5 w = some res → mH E A s w H locs → lv_has ls 7 [(0, .ref (mM E)), (1, .int x1), (2, .int x2), (4, .int x4), (5, .long x5)] → W p l e rm_cutAll s m args below meth c H locs 0 0 (MQ below (mQv E A res) args s 0 0 A) (F0 m 129 ls []) := by
  intro x1 x2 x4 x5 w H locs ls h hw hl
  unfold M_cutAll_p129 at h
  refine lv_aload_n S.1 S.2.1 dX5_cutAll_129 rfl (lv_at hl 0 rfl) ?_
  refine mg4 S hw dX5_cutAll_130 ?_
  refine lv_iload_n S.1 S.2.1 dX5_cutAll_133 rfl (lv_at hl 1 rfl) ?_
  refine lv_iload_n S.1 S.2.1 dX5_cutAll_134 rfl (lv_at hl 2 rfl) ?_
  refine lv_iload S.1 S.2.1 dX5_cutAll_135 (lv_at hl 3 rfl) ?_
  refine lv_isub S.1 S.2.1 dX5_cutAll_137 ?_
  refine lv_bipush (v := 8) S.1 S.2.1 dX5_cutAll_138 rfl ?_
  refine lv_icmp_le (tgt := 147) S.1 S.2.1 dX5_cutAll_140 rfl (fun c28 => ?_) (fun c28 => ?_)
  · replace h := if_t c28 h
    refine lv_iconst (v := 1) S.1 S.2.1 dX5_cutAll_147 rfl ?_
    refine ms4 S hw dX5_cutAll_148 h (fun w29 H locs h hw => ?_)
    refine lv_goto (tgt := 265) S.1 S.2.1 dX5_cutAll_149 rfl ?_
    exact wk_M_cutAll_p265 S hr hlocks hk17 _ _ _ _ _ _ _ h hw (lv_sub hl [0, 1, 2, 4] rfl)
  · replace h := if_f c28 h
    refine lv_iconst (v := 4) S.1 S.2.1 dX5_cutAll_143 rfl ?_
    refine lv_goto (tgt := 148) S.1 S.2.1 dX5_cutAll_144 rfl ?_
    refine ms4 S hw dX5_cutAll_148 h (fun w30 H locs h hw => ?_)
    refine lv_goto (tgt := 265) S.1 S.2.1 dX5_cutAll_149 rfl ?_
    exact wk_M_cutAll_p265 S hr hlocks hk17 _ _ _ _ _ _ _ h hw (lv_sub hl [0, 1, 2, 4] rfl)
set_option maxRecDepth 100000 in
set_option maxHeartbeats 4000000 in
theorem wk_M_cutAll_p70 {p : Program} {l : Launch} {e : Env} {s : State} {m : MethodId} {args : Array Value} {below : List Frame} {meth : Method} {c : Code} {E : mE} {A : Nat → Prop} (S : CallFix p m c cX5_cutAll 7 s args lw_all RX5) (hr : meth.sig.returnType = none) (hlocks : meth.locks = false) {res : MS}  {k17 : Int32 → Int32 → MS → Option MS} (hk17 : ∀ (x1 : Int32) (x2 : Int32) (w : MS) (H : Heap) (locs : List Loc) (ls : Array Slot), k17 x1 x2 w = some res → mH E A s w H locs → lv_has ls 7 [(0, .ref (mM E)), (1, .int x1), (2, .int x2)] → W p l e rm_cutAll s m args below meth c H locs 0 0 (MQ below (mQv E A res) args s 0 0 A) (F0 m 17 ls [])) : ∀ n : Nat, ∀ (x1 : Int32) (x2 : Int32) (x4 : Int32) (x5 : Int64) (w : MS) (H : Heap) (locs : List Loc) (ls : Array Slot), M_cutAll_p70 k17 n x1 x2 x4 x5 w = some res → mH E A s w H locs → lv_has ls 7 [(0, .ref (mM E)), (1, .int x1), (2, .int x2), (4, .int x4), (5, .long x5)] → W p l e rm_cutAll s m args below meth c H locs 0 0 (MQ below (mQv E A res) args s 0 0 A) (F0 m 70 ls []) := by
  intro n
  induction n with
  | zero => intro x1 x2 x4 x5 w H locs ls h; cases (show (none : Option MS) = some res from h)
  | succ n ih =>
    intro x1 x2 x4 x5 w H locs ls h hw hl
    rw [M_cutAll_p70] at h
    refine lv_iload_n S.1 S.2.1 dX5_cutAll_70 rfl (lv_at hl 2 rfl) ?_
    refine lv_aload_n S.1 S.2.1 dX5_cutAll_71 rfl (lv_at hl 0 rfl) ?_
    refine mg3 S hw dX5_cutAll_72 ?_
    refine lv_icmp_ge (tgt := 129) S.1 S.2.1 dX5_cutAll_75 rfl (fun c27 => ?_) (fun c27 => ?_)
    · replace h := if_t c27 h
      exact wk_M_cutAll_p129 S hr hlocks hk17 _ _ _ _ _ _ _ _ h hw (lv_sub hl [0, 1, 2, 3, 4] rfl)
    · replace h := if_f c27 h
      refine lv_aload_n S.1 S.2.1 dX5_cutAll_78 rfl (lv_at hl 0 rfl) ?_
      refine mg1 S hw dX5_cutAll_79 ?_
      refine lv_iload_n S.1 S.2.1 dX5_cutAll_82 rfl (lv_at hl 2 rfl) ?_
      refine ml1 S hw dX5_cutAll_83 h (fun v31 h => ?_)
      refine mcSti (As := [.int v31]) (rest := []) S hw (met_isLetter l E A v31 w _ rfl) (cw_isLetter S.2.2.2.2 rfl rfl ⟨Nat.le_of_ble_eq_true rfl, Nat.le_of_ble_eq_true rfl⟩) rfl hl.1 rfl (lv_room (Nat.le_of_ble_eq_true rfl)) dX5_cutAll_84 (fun H locs hw => ?_)
      refine lv_if_eq (tgt := 129) S.1 S.2.1 dX5_cutAll_87 rfl (fun c32 => ?_) (fun c32 => ?_)
      · replace h := if_t c32 h
        exact wk_M_cutAll_p129 S hr hlocks hk17 _ _ _ _ _ _ _ _ h hw (lv_sub hl [0, 1, 2, 3, 4] rfl)
      · replace h := if_f c32 h
        refine lv_iload_n S.1 S.2.1 dX5_cutAll_90 rfl (lv_at hl 2 rfl) ?_
        refine lv_iload S.1 S.2.1 dX5_cutAll_91 (lv_at hl 3 rfl) ?_
        refine lv_isub S.1 S.2.1 dX5_cutAll_93 ?_
        refine lv_bipush (v := 8) S.1 S.2.1 dX5_cutAll_94 rfl ?_
        refine lv_icmp_ge (tgt := 119) S.1 S.2.1 dX5_cutAll_96 rfl (fun c33 => ?_) (fun c33 => ?_)
        · replace h := if_t c33 h
          refine lv_lload S.1 S.2.1 dX5_cutAll_119 (lv_at hl 4 rfl) ?_
          refine lv_lstore (lv' := [(5, .long x5), (0, .ref (mM E)), (1, .int x1), (2, .int x2), (4, .int x4)]) S.1 S.2.1 dX5_cutAll_121 hl (by decide) rfl (fun ls hl => ?_)
          refine lv_iinc (v := x2 + (1 : Int32)) (lv' := [(2, .int (x2 + (1 : Int32))), (5, .long x5), (0, .ref (mM E)), (1, .int x1), (4, .int x4)]) S.1 S.2.1 dX5_cutAll_123 hl (k := 3) rfl rfl (by decide) rfl (fun ls hl => ?_)
          refine lv_goto (tgt := 70) S.1 S.2.1 dX5_cutAll_126 rfl ?_
          exact ih _ _ _ _ _ _ _ _ h hw (lv_sub hl [2, 3, 0, 4, 1] rfl)
        · replace h := if_f c33 h
          refine lv_ldc2 (v := 37) S.1 S.2.1 S.2.2.2.1 (S.2.2.2.2 _ q1928) dX5_cutAll_99 ?_
          refine lv_lload S.1 S.2.1 dX5_cutAll_102 (lv_at hl 4 rfl) ?_
          refine lv_lmul S.1 S.2.1 dX5_cutAll_104 ?_
          refine lv_aload_n S.1 S.2.1 dX5_cutAll_105 rfl (lv_at hl 0 rfl) ?_
          refine mg1 S hw dX5_cutAll_106 ?_
          refine lv_iload_n S.1 S.2.1 dX5_cutAll_109 rfl (lv_at hl 2 rfl) ?_
          refine ml1 S hw dX5_cutAll_110 h (fun v34 h => ?_)
          refine mcSti (As := [.int v34]) (rest := [.long ((37 : Int64) * x5)]) S hw (met_rank l E A v34 w _ rfl) (cw_rank S.2.2.2.2 rfl rfl ⟨Nat.le_of_ble_eq_true rfl, Nat.le_of_ble_eq_true rfl⟩) rfl hl.1 rfl (lv_room (Nat.le_of_ble_eq_true rfl)) dX5_cutAll_111 (fun H locs hw => ?_)
          refine lv_i2l S.1 S.2.1 dX5_cutAll_114 rfl ?_
          refine lv_ladd S.1 S.2.1 dX5_cutAll_115 ?_
          refine lv_goto (tgt := 121) S.1 S.2.1 dX5_cutAll_116 rfl ?_
          refine lv_topl (fun y35 ey => ?_)
          replace h := bdp_e ey h
          refine lv_lstore (lv' := [(5, .long y35), (0, .ref (mM E)), (1, .int x1), (2, .int x2), (4, .int x4)]) S.1 S.2.1 dX5_cutAll_121 hl (by decide) rfl (fun ls hl => ?_)
          refine lv_iinc (v := x2 + (1 : Int32)) (lv' := [(2, .int (x2 + (1 : Int32))), (5, .long y35), (0, .ref (mM E)), (1, .int x1), (4, .int x4)]) S.1 S.2.1 dX5_cutAll_123 hl (k := 3) rfl rfl (by decide) rfl (fun ls hl => ?_)
          refine lv_goto (tgt := 70) S.1 S.2.1 dX5_cutAll_126 rfl ?_
          exact ih _ _ _ _ _ _ _ _ h hw (lv_sub hl [2, 3, 0, 4, 1] rfl)
set_option maxRecDepth 100000 in
set_option maxHeartbeats 4000000 in
theorem wk_M_cutAll_p17 {p : Program} {l : Launch} {e : Env} {s : State} {m : MethodId} {args : Array Value} {below : List Frame} {meth : Method} {c : Code} {E : mE} {A : Nat → Prop} (S : CallFix p m c cX5_cutAll 7 s args lw_all RX5) (hr : meth.sig.returnType = none) (hlocks : meth.locks = false) {res : MS}  : ∀ n : Nat, ∀ (x1 : Int32) (x2 : Int32) (w : MS) (H : Heap) (locs : List Loc) (ls : Array Slot), M_cutAll_p17 n x1 x2 w = some res → mH E A s w H locs → lv_has ls 7 [(0, .ref (mM E)), (1, .int x1), (2, .int x2)] → W p l e rm_cutAll s m args below meth c H locs 0 0 (MQ below (mQv E A res) args s 0 0 A) (F0 m 17 ls []) := by
  intro n
  induction n with
  | zero => intro x1 x2 w H locs ls h; cases (show (none : Option MS) = some res from h)
  | succ n ih =>
    intro x1 x2 w H locs ls h hw hl
    rw [M_cutAll_p17] at h
    refine lv_iload_n S.1 S.2.1 dX5_cutAll_17 rfl (lv_at hl 2 rfl) ?_
    refine lv_aload_n S.1 S.2.1 dX5_cutAll_18 rfl (lv_at hl 0 rfl) ?_
    refine mg3 S hw dX5_cutAll_19 ?_
    refine lv_icmp_ge (tgt := 279) S.1 S.2.1 dX5_cutAll_22 rfl (fun c3 => ?_) (fun c3 => ?_)
    · replace h := if_t c3 h
      refine lv_aload_n S.1 S.2.1 dX5_cutAll_279 rfl (lv_at hl 0 rfl) ?_
      refine mg4 S hw dX5_cutAll_280 ?_
      refine lv_iload_n S.1 S.2.1 dX5_cutAll_283 rfl (lv_at hl 1 rfl) ?_
      refine lv_iconst (v := 0) S.1 S.2.1 dX5_cutAll_284 rfl ?_
      refine ms4 S hw dX5_cutAll_285 h (fun w4 H locs h hw => ?_)
      refine lv_aload_n S.1 S.2.1 dX5_cutAll_286 rfl (lv_at hl 0 rfl) ?_
      refine mg5 S hw dX5_cutAll_287 ?_
      refine lv_iload_n S.1 S.2.1 dX5_cutAll_290 rfl (lv_at hl 1 rfl) ?_
      refine lv_aload_n S.1 S.2.1 dX5_cutAll_291 rfl (lv_at hl 0 rfl) ?_
      refine mg3 S hw dX5_cutAll_292 ?_
      refine ms5 S hw dX5_cutAll_295 h (fun w5 H locs h hw => ?_)
      refine lv_aload_n S.1 S.2.1 dX5_cutAll_296 rfl (lv_at hl 0 rfl) ?_
      refine lv_iconst (v := 0) S.1 S.2.1 dX5_cutAll_297 rfl ?_
      refine mp7 S hw dX5_cutAll_298 h (fun w6 H locs h hw => ?_)
      refine lv_aload_n S.1 S.2.1 dX5_cutAll_301 rfl (lv_at hl 0 rfl) ?_
      refine lv_iconst (v := 0) S.1 S.2.1 dX5_cutAll_302 rfl ?_
      refine mp8 S hw dX5_cutAll_303 h (fun w7 H locs h hw => ?_)
      exact m_vret S hr hlocks hw (so1 h) dX5_cutAll_306
    · replace h := if_f c3 h
      refine lv_aload_n S.1 S.2.1 dX5_cutAll_25 rfl (lv_at hl 0 rfl) ?_
      refine mg1 S hw dX5_cutAll_26 ?_
      refine lv_iload_n S.1 S.2.1 dX5_cutAll_29 rfl (lv_at hl 2 rfl) ?_
      refine ml1 S hw dX5_cutAll_30 h (fun v8 h => ?_)
      refine lv_istore_n (lv' := [(3, .int v8), (0, .ref (mM E)), (1, .int x1), (2, .int x2)]) S.1 S.2.1 dX5_cutAll_31 rfl hl (by decide) rfl (fun ls hl => ?_)
      refine lv_iload_n S.1 S.2.1 dX5_cutAll_32 rfl (lv_at hl 0 rfl) ?_
      refine lv_bipush (v := 10) S.1 S.2.1 dX5_cutAll_33 rfl ?_
      refine lv_icmp_eq (tgt := 44) S.1 S.2.1 dX5_cutAll_35 rfl (fun c9 => ?_) (fun c9 => ?_)
      · replace h := if_t c9 h
        refine lv_iinc (v := x2 + (1 : Int32)) (lv' := [(2, .int (x2 + (1 : Int32))), (3, .int v8), (0, .ref (mM E)), (1, .int x1)]) S.1 S.2.1 dX5_cutAll_44 hl (k := 3) rfl rfl (by decide) rfl (fun ls hl => ?_)
        refine lv_goto (tgt := 17) S.1 S.2.1 dX5_cutAll_47 rfl ?_
        exact ih _ _ _ _ _ _ h hw (lv_sub hl [2, 3, 0] rfl)
      · replace h := if_f c9 h
        refine lv_iload_n S.1 S.2.1 dX5_cutAll_38 rfl (lv_at hl 0 rfl) ?_
        refine lv_bipush (v := 32) S.1 S.2.1 dX5_cutAll_39 rfl ?_
        refine lv_icmp_ne (tgt := 50) S.1 S.2.1 dX5_cutAll_41 rfl (fun c10 => ?_) (fun c10 => ?_)
        · replace h := if_f c10 h
          refine lv_iload_n S.1 S.2.1 dX5_cutAll_50 rfl (lv_at hl 3 rfl) ?_
          refine lv_istore (lv' := [(4, .int x2), (3, .int v8), (0, .ref (mM E)), (1, .int x1), (2, .int x2)]) S.1 S.2.1 dX5_cutAll_51 hl (by decide) rfl (fun ls hl => ?_)
          refine lv_lconst (v := 0) S.1 S.2.1 dX5_cutAll_53 rfl ?_
          refine lv_lstore (lv' := [(5, .long (0 : Int64)), (4, .int x2), (3, .int v8), (0, .ref (mM E)), (1, .int x1), (2, .int x2)]) S.1 S.2.1 dX5_cutAll_54 hl (by decide) rfl (fun ls hl => ?_)
          refine lv_aload_n S.1 S.2.1 dX5_cutAll_56 rfl (lv_at hl 3 rfl) ?_
          refine mg5 S hw dX5_cutAll_57 ?_
          refine lv_iload_n S.1 S.2.1 dX5_cutAll_60 rfl (lv_at hl 4 rfl) ?_
          refine lv_iload_n S.1 S.2.1 dX5_cutAll_61 rfl (lv_at hl 5 rfl) ?_
          refine ms5 S hw dX5_cutAll_62 h (fun w11 H locs h hw => ?_)
          refine lv_iload_n S.1 S.2.1 dX5_cutAll_63 rfl (lv_at hl 2 rfl) ?_
          refine mcSti (As := [.int v8]) (rest := []) S hw (met_isLetter l E A v8 w11 _ rfl) (cw_isLetter S.2.2.2.2 rfl rfl ⟨Nat.le_of_ble_eq_true rfl, Nat.le_of_ble_eq_true rfl⟩) rfl hl.1 rfl (lv_room (Nat.le_of_ble_eq_true rfl)) dX5_cutAll_64 (fun H locs hw => ?_)
          refine lv_if_eq (tgt := 152) S.1 S.2.1 dX5_cutAll_67 rfl (fun c12 => ?_) (fun c12 => ?_)
          · replace h := if_t c12 h
            refine lv_iload_n S.1 S.2.1 dX5_cutAll_152 rfl (lv_at hl 2 rfl) ?_
            refine mcSti (As := [.int v8]) (rest := []) S hw (met_isDigit l E A v8 w11 _ rfl) (cw_isDigit S.2.2.2.2 rfl rfl ⟨Nat.le_of_ble_eq_true rfl, Nat.le_of_ble_eq_true rfl⟩) rfl hl.1 rfl (lv_room (Nat.le_of_ble_eq_true rfl)) dX5_cutAll_153 (fun H locs hw => ?_)
            refine lv_if_eq (tgt := 240) S.1 S.2.1 dX5_cutAll_156 rfl (fun c13 => ?_) (fun c13 => ?_)
            · replace h := if_t c13 h
              refine lv_iload_n S.1 S.2.1 dX5_cutAll_240 rfl (lv_at hl 2 rfl) ?_
              refine lv_i2l S.1 S.2.1 dX5_cutAll_241 rfl ?_
              refine lv_lstore (lv' := [(5, .long v8.toInt64), (4, .int x2), (3, .int v8), (0, .ref (mM E)), (1, .int x1), (2, .int x2)]) S.1 S.2.1 dX5_cutAll_242 hl (by decide) rfl (fun ls hl => ?_)
              refine lv_aload_n S.1 S.2.1 dX5_cutAll_244 rfl (lv_at hl 3 rfl) ?_
              refine mg4 S hw dX5_cutAll_245 ?_
              refine lv_iload_n S.1 S.2.1 dX5_cutAll_248 rfl (lv_at hl 4 rfl) ?_
              refine lv_iload_n S.1 S.2.1 dX5_cutAll_249 rfl (lv_at hl 2 rfl) ?_
              refine mcSti (As := [.int v8]) (rest := [.int x1, .ref (mAr E 4)]) S hw (met_isSignOf l E A v8 w11 _ rfl) (cw_isSignOf S.2.2.2.2 rfl rfl ⟨Nat.le_of_ble_eq_true rfl, Nat.le_of_ble_eq_true rfl⟩) rfl hl.1 rfl (lv_room (Nat.le_of_ble_eq_true rfl)) dX5_cutAll_250 (fun H locs hw => ?_)
              refine lv_if_eq (tgt := 260) S.1 S.2.1 dX5_cutAll_253 rfl (fun c14 => ?_) (fun c14 => ?_)
              · replace h := if_t c14 h
                refine lv_iconst (v := 4) S.1 S.2.1 dX5_cutAll_260 rfl ?_
                refine ms4 S hw dX5_cutAll_261 h (fun w15 H locs h hw => ?_)
                refine lv_iinc (v := x2 + (1 : Int32)) (lv' := [(2, .int (x2 + (1 : Int32))), (5, .long v8.toInt64), (4, .int x2), (3, .int v8), (0, .ref (mM E)), (1, .int x1)]) S.1 S.2.1 dX5_cutAll_262 hl (k := 5) rfl rfl (by decide) rfl (fun ls hl => ?_)
                exact wk_M_cutAll_p265 S hr hlocks ih _ _ _ _ _ _ _ h hw (lv_sub hl [4, 5, 0, 1] rfl)
              · replace h := if_f c14 h
                refine lv_iconst (v := 3) S.1 S.2.1 dX5_cutAll_256 rfl ?_
                refine lv_goto (tgt := 261) S.1 S.2.1 dX5_cutAll_257 rfl ?_
                refine ms4 S hw dX5_cutAll_261 h (fun w17 H locs h hw => ?_)
                refine lv_iinc (v := x2 + (1 : Int32)) (lv' := [(2, .int (x2 + (1 : Int32))), (5, .long v8.toInt64), (4, .int x2), (3, .int v8), (0, .ref (mM E)), (1, .int x1)]) S.1 S.2.1 dX5_cutAll_262 hl (k := 5) rfl rfl (by decide) rfl (fun ls hl => ?_)
                exact wk_M_cutAll_p265 S hr hlocks ih _ _ _ _ _ _ _ h hw (lv_sub hl [4, 5, 0, 1] rfl)
            · replace h := if_f c13 h
              exact wk_M_cutAll_p159 S hr hlocks ih FU _ _ _ _ _ _ _ _ h hw (lv_sub hl [3, 4, 5, 1, 0] rfl)
          · replace h := if_f c12 h
            exact wk_M_cutAll_p70 S hr hlocks ih FU _ _ _ _ _ _ _ _ h hw (lv_sub hl [3, 4, 5, 1, 0] rfl)
        · replace h := if_t c10 h
          refine lv_iinc (v := x2 + (1 : Int32)) (lv' := [(2, .int (x2 + (1 : Int32))), (3, .int v8), (0, .ref (mM E)), (1, .int x1)]) S.1 S.2.1 dX5_cutAll_44 hl (k := 3) rfl rfl (by decide) rfl (fun ls hl => ?_)
          refine lv_goto (tgt := 17) S.1 S.2.1 dX5_cutAll_47 rfl ?_
          exact ih _ _ _ _ _ _ h hw (lv_sub hl [2, 3, 0] rfl)
set_option maxRecDepth 100000 in
set_option maxHeartbeats 4000000 in
theorem met_cutAll (l : Launch) (E : mE) (A : Nat → Prop)  (w : MS) (res : MS) (h : M_cutAll w = some res) : Met l yX5_cutAll (ws_ yX5_cutAll cX5_cutAll 7 none) rm_cutAll (mPc E A [.ref (mM E)] w) (mQv E A res) 0 0 A := by
  refine mMet (by decide) rfl (Nat.le_of_ble_eq_true rfl) ?_
  intro p e s m below meth c S hr hlocks H ls hw hl
  replace hl : lv_has ls 7 [(0, .ref (mM E))] := hl
  unfold M_cutAll at h
  refine lv_aload_n S.1 S.2.1 dX5_cutAll_0 rfl (lv_at hl 0 rfl) ?_
  refine lv_aload_n S.1 S.2.1 dX5_cutAll_1 rfl (lv_at hl 0 rfl) ?_
  refine mg2 S hw dX5_cutAll_2 ?_
  refine mp3 S hw dX5_cutAll_5 h (fun w1 H locs h hw => ?_)
  refine lv_aload_n S.1 S.2.1 dX5_cutAll_8 rfl (lv_at hl 0 rfl) ?_
  refine lv_iconst (v := 0) S.1 S.2.1 dX5_cutAll_9 rfl ?_
  refine mp2 S hw dX5_cutAll_10 h (fun w2 H locs h hw => ?_)
  refine lv_iconst (v := 0) S.1 S.2.1 dX5_cutAll_13 rfl ?_
  refine lv_istore_n (lv' := [(1, .int (0 : Int32)), (0, .ref (mM E))]) S.1 S.2.1 dX5_cutAll_14 rfl hl (by decide) rfl (fun ls hl => ?_)
  refine lv_iconst (v := 0) S.1 S.2.1 dX5_cutAll_15 rfl ?_
  refine lv_istore_n (lv' := [(2, .int (0 : Int32)), (1, .int (0 : Int32)), (0, .ref (mM E))]) S.1 S.2.1 dX5_cutAll_16 rfl hl (by decide) rfl (fun ls hl => ?_)
  exact wk_M_cutAll_p17 S hr hlocks FU _ _ _ _ _ _ h hw (lv_sub hl [2, 1, 0] rfl)
def M_isWord (x1 : Int32) (w : MS) : Option Int32 :=
  if (rI w 8 0) = 0 then
    bd1 (rA w 4 1002 (rI w 7 0)) fun v2 =>
    if v2 = (1 : Int32) then
      bd1 (rAL w 6 1002 (rI w 7 0)) fun v4 =>
      bd1 (rAL w 9 37 x1) fun v5 =>
      if (lg_cmp v4 v5) = 0 then
        some (1 : Int32)
      else
        some (0 : Int32)
    else
      some (0 : Int32)
  else
    some (0 : Int32)
set_option maxRecDepth 100000 in
set_option maxHeartbeats 4000000 in
theorem met_isWord (l : Launch) (E : mE) (A : Nat → Prop)  (x1 : Int32) (w : MS) (res : Int32) (h : M_isWord x1 w = some res) : Met l yX5_isWord (ws_ yX5_isWord cX5_isWord 2 (some .boolean)) rm_isWord (mPc E A [.ref (mM E), .int x1] w) (mQi E A res w) 0 0 A := by
  refine mMet (by decide) rfl (Nat.le_of_ble_eq_true rfl) ?_
  intro p e s m below meth c S hr hlocks H ls hw hl
  replace hl : lv_has ls 2 [(0, .ref (mM E)), (1, .int x1)] := hl
  unfold M_isWord at h
  refine lv_aload_n S.1 S.2.1 dX5_isWord_0 rfl (lv_at hl 0 rfl) ?_
  refine mg8 S hw dX5_isWord_1 ?_
  refine lv_if_ne (tgt := 43) S.1 S.2.1 dX5_isWord_4 rfl (fun c1 => ?_) (fun c1 => ?_)
  · replace h := if_f c1 h
    refine lv_iconst (v := 0) S.1 S.2.1 dX5_isWord_43 rfl ?_
    exact m_zret S hr hlocks hw rfl ⟨so1 h, rfl⟩ dX5_isWord_44
  · replace h := if_t c1 h
    refine lv_aload_n S.1 S.2.1 dX5_isWord_7 rfl (lv_at hl 0 rfl) ?_
    refine mg4 S hw dX5_isWord_8 ?_
    refine lv_aload_n S.1 S.2.1 dX5_isWord_11 rfl (lv_at hl 0 rfl) ?_
    refine mg7 S hw dX5_isWord_12 ?_
    refine ml4 S hw dX5_isWord_15 h (fun v2 h => ?_)
    refine lv_iconst (v := 1) S.1 S.2.1 dX5_isWord_16 rfl ?_
    refine lv_icmp_ne (tgt := 43) S.1 S.2.1 dX5_isWord_17 rfl (fun c3 => ?_) (fun c3 => ?_)
    · replace h := if_f c3 h
      refine lv_iconst (v := 0) S.1 S.2.1 dX5_isWord_43 rfl ?_
      exact m_zret S hr hlocks hw rfl ⟨so1 h, rfl⟩ dX5_isWord_44
    · replace h := if_t c3 h
      refine lv_aload_n S.1 S.2.1 dX5_isWord_20 rfl (lv_at hl 0 rfl) ?_
      refine mg6 S hw dX5_isWord_21 ?_
      refine lv_aload_n S.1 S.2.1 dX5_isWord_24 rfl (lv_at hl 0 rfl) ?_
      refine mg7 S hw dX5_isWord_25 ?_
      refine ml6 S hw dX5_isWord_28 h (fun v4 h => ?_)
      refine lv_aload_n S.1 S.2.1 dX5_isWord_29 rfl (lv_at hl 0 rfl) ?_
      refine mg9 S hw dX5_isWord_30 ?_
      refine lv_iload_n S.1 S.2.1 dX5_isWord_33 rfl (lv_at hl 1 rfl) ?_
      refine ml9 S hw dX5_isWord_34 h (fun v5 h => ?_)
      refine W.lcmp S.1 S.2.1 dX5_isWord_35 ?_
      refine lv_if_ne (tgt := 43) S.1 S.2.1 dX5_isWord_36 rfl (fun c6 => ?_) (fun c6 => ?_)
      · replace h := if_f c6 h
        refine lv_iconst (v := 0) S.1 S.2.1 dX5_isWord_43 rfl ?_
        exact m_zret S hr hlocks hw rfl ⟨so1 h, rfl⟩ dX5_isWord_44
      · replace h := if_t c6 h
        refine lv_iconst (v := 1) S.1 S.2.1 dX5_isWord_39 rfl ?_
        refine lv_goto (tgt := 44) S.1 S.2.1 dX5_isWord_40 rfl ?_
        exact m_zret S hr hlocks hw rfl ⟨so1 h, rfl⟩ dX5_isWord_44
def M_wrong (x1 : Int32) (w : MS) : Option MS :=
  if (rI w 8 0) = 0 then
    bd1 (rA w 5 1002 (rI w 7 0)) fun v2 =>
    bdp (wI w 8 0 (x1 + ((16 : Int32) * v2))) fun w3 =>
    some w3
  else
    some w
set_option maxRecDepth 100000 in
set_option maxHeartbeats 4000000 in
theorem met_wrong (l : Launch) (E : mE) (A : Nat → Prop)  (x1 : Int32) (w : MS) (res : MS) (h : M_wrong x1 w = some res) : Met l yX5_wrong (ws_ yX5_wrong cX5_wrong 2 none) rm_wrong (mPc E A [.ref (mM E), .int x1] w) (mQv E A res) 0 0 A := by
  refine mMet (by decide) rfl (Nat.le_of_ble_eq_true rfl) ?_
  intro p e s m below meth c S hr hlocks H ls hw hl
  replace hl : lv_has ls 2 [(0, .ref (mM E)), (1, .int x1)] := hl
  unfold M_wrong at h
  refine lv_aload_n S.1 S.2.1 dX5_wrong_0 rfl (lv_at hl 0 rfl) ?_
  refine mg8 S hw dX5_wrong_1 ?_
  refine lv_if_ne (tgt := 25) S.1 S.2.1 dX5_wrong_4 rfl (fun c1 => ?_) (fun c1 => ?_)
  · replace h := if_f c1 h
    exact m_vret S hr hlocks hw (so1 h) dX5_wrong_25
  · replace h := if_t c1 h
    refine lv_aload_n S.1 S.2.1 dX5_wrong_7 rfl (lv_at hl 0 rfl) ?_
    refine lv_iload_n S.1 S.2.1 dX5_wrong_8 rfl (lv_at hl 1 rfl) ?_
    refine lv_bipush (v := 16) S.1 S.2.1 dX5_wrong_9 rfl ?_
    refine lv_aload_n S.1 S.2.1 dX5_wrong_11 rfl (lv_at hl 0 rfl) ?_
    refine mg5 S hw dX5_wrong_12 ?_
    refine lv_aload_n S.1 S.2.1 dX5_wrong_15 rfl (lv_at hl 0 rfl) ?_
    refine mg7 S hw dX5_wrong_16 ?_
    refine ml5 S hw dX5_wrong_19 h (fun v2 h => ?_)
    refine lv_imul S.1 S.2.1 dX5_wrong_20 ?_
    refine lv_iadd S.1 S.2.1 dX5_wrong_21 ?_
    refine mp8 S hw dX5_wrong_22 h (fun w3 H locs h hw => ?_)
    exact m_vret S hr hlocks hw (so1 h) dX5_wrong_25
def M_wordHere_p5 : Nat → Int32 → Int32 → Int32 → Int32 → MS → Option Int32
  | 0, _, _, _, _, _ => none
  | n + 1, x1, x2, x3, x4, w =>
    if x2 ≤ x4 then
      some x3
    else
      bd1 (M_isWord (x1 + x4) w) fun r2 =>
      if r2 = 0 then
        (M_wordHere_p5 n) x1 x2 x3 (x4 + (1 : Int32)) w
      else
        (M_wordHere_p5 n) x1 x2 x4 (x4 + (1 : Int32)) w
def M_wordHere (x1 : Int32) (x2 : Int32) (w : MS) : Option Int32 :=
  M_wordHere_p5 FU x1 x2 (-1 : Int32) (0 : Int32) w
set_option maxRecDepth 100000 in
set_option maxHeartbeats 4000000 in
theorem wk_M_wordHere_p5 {p : Program} {l : Launch} {e : Env} {s : State} {m : MethodId} {args : Array Value} {below : List Frame} {meth : Method} {c : Code} {E : mE} {A : Nat → Prop} (S : CallFix p m c cX5_wordHere 5 s args lw_all RX5) (hr : meth.sig.returnType = (some .int)) (hlocks : meth.locks = false) {res : Int32}  : ∀ n : Nat, ∀ (x1 : Int32) (x2 : Int32) (x3 : Int32) (x4 : Int32) (w : MS) (H : Heap) (locs : List Loc) (ls : Array Slot), M_wordHere_p5 n x1 x2 x3 x4 w = some res → mH E A s w H locs → lv_has ls 5 [(0, .ref (mM E)), (1, .int x1), (2, .int x2), (3, .int x3), (4, .int x4)] → W p l e rm_wordHere s m args below meth c H locs 0 0 (MQ below (mQi E A res w) args s 0 0 A) (F0 m 5 ls []) := by
  intro n
  induction n with
  | zero => intro x1 x2 x3 x4 w H locs ls h; cases (show (none : Option Int32) = some res from h)
  | succ n ih =>
    intro x1 x2 x3 x4 w H locs ls h hw hl
    rw [M_wordHere_p5] at h
    refine lv_iload S.1 S.2.1 dX5_wordHere_5 (lv_at hl 4 rfl) ?_
    refine lv_iload_n S.1 S.2.1 dX5_wordHere_7 rfl (lv_at hl 2 rfl) ?_
    refine lv_icmp_ge (tgt := 35) S.1 S.2.1 dX5_wordHere_8 rfl (fun c1 => ?_) (fun c1 => ?_)
    · replace h := if_t c1 h
      refine lv_iload_n S.1 S.2.1 dX5_wordHere_35 rfl (lv_at hl 3 rfl) ?_
      exact m_iret S hr hlocks hw ⟨so1 h, rfl⟩ dX5_wordHere_36
    · replace h := if_f c1 h
      refine lv_aload_n S.1 S.2.1 dX5_wordHere_11 rfl (lv_at hl 0 rfl) ?_
      refine lv_iload_n S.1 S.2.1 dX5_wordHere_12 rfl (lv_at hl 1 rfl) ?_
      refine lv_iload S.1 S.2.1 dX5_wordHere_13 (lv_at hl 4 rfl) ?_
      refine lv_iadd S.1 S.2.1 dX5_wordHere_15 ?_
      refine mcVri (As := [.int (x1 + x4)]) (rest := []) S hw h (fun u h1 => met_isWord l E A (x1 + x4) w u h1) (cw_isWord S.2.2.2.2 rfl rfl ⟨Nat.le_of_ble_eq_true rfl, Nat.le_of_ble_eq_true rfl⟩) rfl hl.1 rfl (lv_room (Nat.le_of_ble_eq_true rfl)) dX5_wordHere_16 (fun r2 H locs h hw => ?_)
      refine lv_if_eq (tgt := 27) S.1 S.2.1 dX5_wordHere_19 rfl (fun c3 => ?_) (fun c3 => ?_)
      · replace h := if_t c3 h
        refine lv_iload_n S.1 S.2.1 dX5_wordHere_27 rfl (lv_at hl 3 rfl) ?_
        refine lv_istore_n (lv' := [(3, .int x3), (0, .ref (mM E)), (1, .int x1), (2, .int x2), (4, .int x4)]) S.1 S.2.1 dX5_wordHere_28 rfl hl (by decide) rfl (fun ls hl => ?_)
        refine lv_iinc (v := x4 + (1 : Int32)) (lv' := [(4, .int (x4 + (1 : Int32))), (3, .int x3), (0, .ref (mM E)), (1, .int x1), (2, .int x2)]) S.1 S.2.1 dX5_wordHere_29 hl (k := 4) rfl rfl (by decide) rfl (fun ls hl => ?_)
        refine lv_goto (tgt := 5) S.1 S.2.1 dX5_wordHere_32 rfl ?_
        exact ih _ _ _ _ _ _ _ _ h hw (lv_sub hl [2, 3, 4, 1, 0] rfl)
      · replace h := if_f c3 h
        refine lv_iload S.1 S.2.1 dX5_wordHere_22 (lv_at hl 4 rfl) ?_
        refine lv_goto (tgt := 28) S.1 S.2.1 dX5_wordHere_24 rfl ?_
        refine lv_istore_n (lv' := [(3, .int x4), (0, .ref (mM E)), (1, .int x1), (2, .int x2), (4, .int x4)]) S.1 S.2.1 dX5_wordHere_28 rfl hl (by decide) rfl (fun ls hl => ?_)
        refine lv_iinc (v := x4 + (1 : Int32)) (lv' := [(4, .int (x4 + (1 : Int32))), (3, .int x4), (0, .ref (mM E)), (1, .int x1), (2, .int x2)]) S.1 S.2.1 dX5_wordHere_29 hl (k := 4) rfl rfl (by decide) rfl (fun ls hl => ?_)
        refine lv_goto (tgt := 5) S.1 S.2.1 dX5_wordHere_32 rfl ?_
        exact ih _ _ _ _ _ _ _ _ h hw (lv_sub hl [2, 3, 4, 1, 0] rfl)
set_option maxRecDepth 100000 in
set_option maxHeartbeats 4000000 in
theorem met_wordHere (l : Launch) (E : mE) (A : Nat → Prop)  (x1 : Int32) (x2 : Int32) (w : MS) (res : Int32) (h : M_wordHere x1 x2 w = some res) : Met l yX5_wordHere (ws_ yX5_wordHere cX5_wordHere 5 (some .int)) rm_wordHere (mPc E A [.ref (mM E), .int x1, .int x2] w) (mQi E A res w) 0 0 A := by
  refine mMet (by decide) rfl (Nat.le_of_ble_eq_true rfl) ?_
  intro p e s m below meth c S hr hlocks H ls hw hl
  replace hl : lv_has ls 5 [(0, .ref (mM E)), (1, .int x1), (2, .int x2)] := hl
  unfold M_wordHere at h
  refine lv_iconst (v := -1) S.1 S.2.1 dX5_wordHere_0 rfl ?_
  refine lv_istore_n (lv' := [(3, .int (-1 : Int32)), (0, .ref (mM E)), (1, .int x1), (2, .int x2)]) S.1 S.2.1 dX5_wordHere_1 rfl hl (by decide) rfl (fun ls hl => ?_)
  refine lv_iconst (v := 0) S.1 S.2.1 dX5_wordHere_2 rfl ?_
  refine lv_istore (lv' := [(4, .int (0 : Int32)), (3, .int (-1 : Int32)), (0, .ref (mM E)), (1, .int x1), (2, .int x2)]) S.1 S.2.1 dX5_wordHere_3 hl (by decide) rfl (fun ls hl => ?_)
  exact wk_M_wordHere_p5 S hr hlocks FU _ _ _ _ _ _ _ _ h hw (lv_sub hl [2, 3, 4, 1, 0] rfl)
def M_isName (w : MS) : Option Int32 :=
  if (rI w 8 0) = 0 then
    bd1 (rA w 4 1002 (rI w 7 0)) fun v2 =>
    if v2 = (1 : Int32) then
      bd1 (M_wordHere (0 : Int32) (32 : Int32) w) fun r4 =>
      if 0 ≤ r4 then
        some (0 : Int32)
      else
        some (1 : Int32)
    else
      some (0 : Int32)
  else
    some (0 : Int32)
set_option maxRecDepth 100000 in
set_option maxHeartbeats 4000000 in
theorem met_isName (l : Launch) (E : mE) (A : Nat → Prop)  (w : MS) (res : Int32) (h : M_isName w = some res) : Met l yX5_isName (ws_ yX5_isName cX5_isName 1 (some .boolean)) rm_isName (mPc E A [.ref (mM E)] w) (mQi E A res w) 0 0 A := by
  refine mMet (by decide) rfl (Nat.le_of_ble_eq_true rfl) ?_
  intro p e s m below meth c S hr hlocks H ls hw hl
  replace hl : lv_has ls 1 [(0, .ref (mM E))] := hl
  unfold M_isName at h
  refine lv_aload_n S.1 S.2.1 dX5_isName_0 rfl (lv_at hl 0 rfl) ?_
  refine mg8 S hw dX5_isName_1 ?_
  refine lv_if_ne (tgt := 34) S.1 S.2.1 dX5_isName_4 rfl (fun c1 => ?_) (fun c1 => ?_)
  · replace h := if_f c1 h
    refine lv_iconst (v := 0) S.1 S.2.1 dX5_isName_34 rfl ?_
    exact m_zret S hr hlocks hw rfl ⟨so1 h, rfl⟩ dX5_isName_35
  · replace h := if_t c1 h
    refine lv_aload_n S.1 S.2.1 dX5_isName_7 rfl (lv_at hl 0 rfl) ?_
    refine mg4 S hw dX5_isName_8 ?_
    refine lv_aload_n S.1 S.2.1 dX5_isName_11 rfl (lv_at hl 0 rfl) ?_
    refine mg7 S hw dX5_isName_12 ?_
    refine ml4 S hw dX5_isName_15 h (fun v2 h => ?_)
    refine lv_iconst (v := 1) S.1 S.2.1 dX5_isName_16 rfl ?_
    refine lv_icmp_ne (tgt := 34) S.1 S.2.1 dX5_isName_17 rfl (fun c3 => ?_) (fun c3 => ?_)
    · replace h := if_f c3 h
      refine lv_iconst (v := 0) S.1 S.2.1 dX5_isName_34 rfl ?_
      exact m_zret S hr hlocks hw rfl ⟨so1 h, rfl⟩ dX5_isName_35
    · replace h := if_t c3 h
      refine lv_aload_n S.1 S.2.1 dX5_isName_20 rfl (lv_at hl 0 rfl) ?_
      refine lv_iconst (v := 0) S.1 S.2.1 dX5_isName_21 rfl ?_
      refine lv_bipush (v := 32) S.1 S.2.1 dX5_isName_22 rfl ?_
      refine mcVri (As := [.int (0 : Int32), .int (32 : Int32)]) (rest := []) S hw h (fun u h1 => met_wordHere l E A (0 : Int32) (32 : Int32) w u h1) (cw_wordHere S.2.2.2.2 rfl rfl ⟨Nat.le_of_ble_eq_true rfl, Nat.le_of_ble_eq_true rfl⟩) rfl hl.1 rfl (lv_room (Nat.le_of_ble_eq_true rfl)) dX5_isName_24 (fun r4 H locs h hw => ?_)
      refine lv_if_ge (tgt := 34) S.1 S.2.1 dX5_isName_27 rfl (fun c5 => ?_) (fun c5 => ?_)
      · replace h := if_t c5 h
        refine lv_iconst (v := 0) S.1 S.2.1 dX5_isName_34 rfl ?_
        exact m_zret S hr hlocks hw rfl ⟨so1 h, rfl⟩ dX5_isName_35
      · replace h := if_f c5 h
        refine lv_iconst (v := 1) S.1 S.2.1 dX5_isName_30 rfl ?_
        refine lv_goto (tgt := 35) S.1 S.2.1 dX5_isName_31 rfl ?_
        exact m_zret S hr hlocks hw rfl ⟨so1 h, rfl⟩ dX5_isName_35
def M_find_p40 (k2 : Int32 → Int32 → MS → Option Int32) (x1 : Int32) (x2 : Int32) (t0 : Int64) (w : MS) : Option Int32 :=
  bd1 (rAL w 6 1002 (rI w 7 0)) fun v5 =>
  if (lg_cmp t0 v5) = 0 then
    if x1 = 0 then
      bd1 (rA w 16 18 x2) fun v8 =>
      some v8
    else
      bd1 (rA w 17 18 x2) fun v9 =>
      some v9
  else
    k2 x1 (x2 + (1 : Int32)) w
def M_find_p18 (k2 : Int32 → Int32 → MS → Option Int32) (x1 : Int32) (x2 : Int32) (t0 : Int32) (t1 : Int32) (w : MS) : Option Int32 :=
  if t0 ≤ t1 then
    some (-1 : Int32)
  else
    if x1 = 0 then
      bd1 (rAL w 14 18 x2) fun v4 =>
      M_find_p40 k2 x1 x2 v4 w
    else
      bd1 (rAL w 15 18 x2) fun v10 =>
      M_find_p40 k2 x1 x2 v10 w
def M_find_p2 : Nat → Int32 → Int32 → MS → Option Int32
  | 0, _, _, _ => none
  | n + 1, x1, x2, w =>
    if x1 = 0 then
      M_find_p18 (M_find_p2 n) x1 x2 (rI w 18 0) x2 w
    else
      M_find_p18 (M_find_p2 n) x1 x2 (rI w 19 0) x2 w
def M_find (x1 : Int32) (w : MS) : Option Int32 :=
  M_find_p2 FU x1 (0 : Int32) w
set_option maxRecDepth 100000 in
set_option maxHeartbeats 4000000 in
theorem wk_M_find_p40 {p : Program} {l : Launch} {e : Env} {s : State} {m : MethodId} {args : Array Value} {below : List Frame} {meth : Method} {c : Code} {E : mE} {A : Nat → Prop} (S : CallFix p m c cX5_find 3 s args lw_all RX5) (hr : meth.sig.returnType = (some .int)) (hlocks : meth.locks = false) {res : Int32}  {k2 : Int32 → Int32 → MS → Option Int32} (hk2 : ∀ (x1 : Int32) (x2 : Int32) (w : MS) (H : Heap) (locs : List Loc) (ls : Array Slot), k2 x1 x2 w = some res → mH E A s w H locs → lv_has ls 3 [(0, .ref (mM E)), (1, .int x1), (2, .int x2)] → W p l e rm_find s m args below meth c H locs 0 0 (MQ below (mQi E A res w) args s 0 0 A) (F0 m 2 ls [])) : ∀ (x1 : Int32) (x2 : Int32) (t0 : Int64) (w : MS) (H : Heap) (locs : List Loc) (ls : Array Slot), M_find_p40 k2 x1 x2 t0 w = some res → mH E A s w H locs → lv_has ls 3 [(0, .ref (mM E)), (1, .int x1), (2, .int x2)] → W p l e rm_find s m args below meth c H locs 0 0 (MQ below (mQi E A res w) args s 0 0 A) (F0 m 40 ls [.long t0]) := by
  intro x1 x2 t0 w H locs ls h hw hl
  unfold M_find_p40 at h
  refine lv_aload_n S.1 S.2.1 dX5_find_40 rfl (lv_at hl 0 rfl) ?_
  refine mg6 S hw dX5_find_41 ?_
  refine lv_aload_n S.1 S.2.1 dX5_find_44 rfl (lv_at hl 0 rfl) ?_
  refine mg7 S hw dX5_find_45 ?_
  refine ml6 S hw dX5_find_48 h (fun v5 h => ?_)
  refine W.lcmp S.1 S.2.1 dX5_find_49 ?_
  refine lv_if_ne (tgt := 73) S.1 S.2.1 dX5_find_50 rfl (fun c6 => ?_) (fun c6 => ?_)
  · replace h := if_f c6 h
    refine lv_iinc (v := x2 + (1 : Int32)) (lv' := [(2, .int (x2 + (1 : Int32))), (0, .ref (mM E)), (1, .int x1)]) S.1 S.2.1 dX5_find_73 hl (k := 2) rfl rfl (by decide) rfl (fun ls hl => ?_)
    refine lv_goto (tgt := 2) S.1 S.2.1 dX5_find_76 rfl ?_
    exact hk2 _ _ _ _ _ _ h hw (lv_sub hl [1, 2, 0] rfl)
  · replace h := if_t c6 h
    refine lv_iload_n S.1 S.2.1 dX5_find_53 rfl (lv_at hl 1 rfl) ?_
    refine lv_if_eq (tgt := 66) S.1 S.2.1 dX5_find_54 rfl (fun c7 => ?_) (fun c7 => ?_)
    · replace h := if_t c7 h
      refine lv_aload_n S.1 S.2.1 dX5_find_66 rfl (lv_at hl 0 rfl) ?_
      refine mg16 S hw dX5_find_67 ?_
      refine lv_iload_n S.1 S.2.1 dX5_find_70 rfl (lv_at hl 2 rfl) ?_
      refine ml16 S hw dX5_find_71 h (fun v8 h => ?_)
      exact m_iret S hr hlocks hw ⟨so1 h, rfl⟩ dX5_find_72
    · replace h := if_f c7 h
      refine lv_aload_n S.1 S.2.1 dX5_find_57 rfl (lv_at hl 0 rfl) ?_
      refine mg17 S hw dX5_find_58 ?_
      refine lv_iload_n S.1 S.2.1 dX5_find_61 rfl (lv_at hl 2 rfl) ?_
      refine ml17 S hw dX5_find_62 h (fun v9 h => ?_)
      refine lv_goto (tgt := 72) S.1 S.2.1 dX5_find_63 rfl ?_
      exact m_iret S hr hlocks hw ⟨so1 h, rfl⟩ dX5_find_72
set_option maxRecDepth 100000 in
set_option maxHeartbeats 4000000 in
theorem wk_M_find_p18 {p : Program} {l : Launch} {e : Env} {s : State} {m : MethodId} {args : Array Value} {below : List Frame} {meth : Method} {c : Code} {E : mE} {A : Nat → Prop} (S : CallFix p m c cX5_find 3 s args lw_all RX5) (hr : meth.sig.returnType = (some .int)) (hlocks : meth.locks = false) {res : Int32}  {k2 : Int32 → Int32 → MS → Option Int32} (hk2 : ∀ (x1 : Int32) (x2 : Int32) (w : MS) (H : Heap) (locs : List Loc) (ls : Array Slot), k2 x1 x2 w = some res → mH E A s w H locs → lv_has ls 3 [(0, .ref (mM E)), (1, .int x1), (2, .int x2)] → W p l e rm_find s m args below meth c H locs 0 0 (MQ below (mQi E A res w) args s 0 0 A) (F0 m 2 ls [])) : ∀ (x1 : Int32) (x2 : Int32) (t0 : Int32) (t1 : Int32) (w : MS) (H : Heap) (locs : List Loc) (ls : Array Slot), M_find_p18 k2 x1 x2 t0 t1 w = some res → mH E A s w H locs → lv_has ls 3 [(0, .ref (mM E)), (1, .int x1), (2, .int x2)] → W p l e rm_find s m args below meth c H locs 0 0 (MQ below (mQi E A res w) args s 0 0 A) (F0 m 18 ls [.int t0, .int t1]) := by
  intro x1 x2 t0 t1 w H locs ls h hw hl
  unfold M_find_p18 at h
  refine lv_icmp_ge (tgt := 79) S.1 S.2.1 dX5_find_18 rfl (fun c2 => ?_) (fun c2 => ?_)
  · replace h := if_t c2 h
    refine lv_iconst (v := -1) S.1 S.2.1 dX5_find_79 rfl ?_
    exact m_iret S hr hlocks hw ⟨so1 h, rfl⟩ dX5_find_80
  · replace h := if_f c2 h
    refine lv_iload_n S.1 S.2.1 dX5_find_21 rfl (lv_at hl 1 rfl) ?_
    refine lv_if_eq (tgt := 34) S.1 S.2.1 dX5_find_22 rfl (fun c3 => ?_) (fun c3 => ?_)
    · replace h := if_t c3 h
      refine lv_aload_n S.1 S.2.1 dX5_find_34 rfl (lv_at hl 0 rfl) ?_
      refine mg14 S hw dX5_find_35 ?_
      refine lv_iload_n S.1 S.2.1 dX5_find_38 rfl (lv_at hl 2 rfl) ?_
      refine ml14 S hw dX5_find_39 h (fun v4 h => ?_)
      exact wk_M_find_p40 S hr hlocks hk2 _ _ _ _ _ _ _ h hw (lv_sub hl [0, 1, 2] rfl)
    · replace h := if_f c3 h
      refine lv_aload_n S.1 S.2.1 dX5_find_25 rfl (lv_at hl 0 rfl) ?_
      refine mg15 S hw dX5_find_26 ?_
      refine lv_iload_n S.1 S.2.1 dX5_find_29 rfl (lv_at hl 2 rfl) ?_
      refine ml15 S hw dX5_find_30 h (fun v10 h => ?_)
      refine lv_goto (tgt := 40) S.1 S.2.1 dX5_find_31 rfl ?_
      exact wk_M_find_p40 S hr hlocks hk2 _ _ _ _ _ _ _ h hw (lv_sub hl [0, 1, 2] rfl)
set_option maxRecDepth 100000 in
set_option maxHeartbeats 4000000 in
theorem wk_M_find_p2 {p : Program} {l : Launch} {e : Env} {s : State} {m : MethodId} {args : Array Value} {below : List Frame} {meth : Method} {c : Code} {E : mE} {A : Nat → Prop} (S : CallFix p m c cX5_find 3 s args lw_all RX5) (hr : meth.sig.returnType = (some .int)) (hlocks : meth.locks = false) {res : Int32}  : ∀ n : Nat, ∀ (x1 : Int32) (x2 : Int32) (w : MS) (H : Heap) (locs : List Loc) (ls : Array Slot), M_find_p2 n x1 x2 w = some res → mH E A s w H locs → lv_has ls 3 [(0, .ref (mM E)), (1, .int x1), (2, .int x2)] → W p l e rm_find s m args below meth c H locs 0 0 (MQ below (mQi E A res w) args s 0 0 A) (F0 m 2 ls []) := by
  intro n
  induction n with
  | zero => intro x1 x2 w H locs ls h; cases (show (none : Option Int32) = some res from h)
  | succ n ih =>
    intro x1 x2 w H locs ls h hw hl
    rw [M_find_p2] at h
    refine lv_iload_n S.1 S.2.1 dX5_find_2 rfl (lv_at hl 2 rfl) ?_
    refine lv_iload_n S.1 S.2.1 dX5_find_3 rfl (lv_at hl 1 rfl) ?_
    refine lv_if_eq (tgt := 14) S.1 S.2.1 dX5_find_4 rfl (fun c1 => ?_) (fun c1 => ?_)
    · replace h := if_t c1 h
      refine lv_aload_n S.1 S.2.1 dX5_find_14 rfl (lv_at hl 0 rfl) ?_
      refine mg18 S hw dX5_find_15 ?_
      exact wk_M_find_p18 S hr hlocks ih _ _ _ _ _ _ _ _ h hw (lv_sub hl [0, 1, 2] rfl)
    · replace h := if_f c1 h
      refine lv_aload_n S.1 S.2.1 dX5_find_7 rfl (lv_at hl 0 rfl) ?_
      refine mg19 S hw dX5_find_8 ?_
      refine lv_goto (tgt := 18) S.1 S.2.1 dX5_find_11 rfl ?_
      exact wk_M_find_p18 S hr hlocks ih _ _ _ _ _ _ _ _ h hw (lv_sub hl [0, 1, 2] rfl)
set_option maxRecDepth 100000 in
set_option maxHeartbeats 4000000 in
theorem met_find (l : Launch) (E : mE) (A : Nat → Prop)  (x1 : Int32) (w : MS) (res : Int32) (h : M_find x1 w = some res) : Met l yX5_find (ws_ yX5_find cX5_find 3 (some .int)) rm_find (mPc E A [.ref (mM E), .int x1] w) (mQi E A res w) 0 0 A := by
  refine mMet (by decide) rfl (Nat.le_of_ble_eq_true rfl) ?_
  intro p e s m below meth c S hr hlocks H ls hw hl
  replace hl : lv_has ls 3 [(0, .ref (mM E)), (1, .int x1)] := hl
  unfold M_find at h
  refine lv_iconst (v := 0) S.1 S.2.1 dX5_find_0 rfl ?_
  refine lv_istore_n (lv' := [(2, .int (0 : Int32)), (0, .ref (mM E)), (1, .int x1)]) S.1 S.2.1 dX5_find_1 rfl hl (by decide) rfl (fun ls hl => ?_)
  exact wk_M_find_p2 S hr hlocks FU _ _ _ _ _ _ h hw (lv_sub hl [1, 2, 0] rfl)
