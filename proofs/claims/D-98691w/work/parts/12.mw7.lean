/-! walks of the Model, printed by gen/model.py -/
set_option maxRecDepth 100000
def M_haunt_p99 (k54 : Int32 → Int32 → Int32 → Int32 → Int32 → Int32 → Int32 → MS → Option (Int32 × MS)) (x1 : Int32) (x2 : Int32) (x3 : Int32) (x4 : Int32) (x6 : Int32) (x7 : Int32) (x8 : Int32) (t0 : Int32) (w : MS) : Option (Int32 × MS) :=
  if x8 ≤ x6 then
    k54 x1 x2 x3 x4 t0 x6 (x7 + (1 : Int32)) w
  else
    k54 x1 x2 x3 x4 t0 x8 (x7 + (1 : Int32)) w
def M_haunt_p83 (k54 : Int32 → Int32 → Int32 → Int32 → Int32 → Int32 → Int32 → MS → Option (Int32 × MS)) (x1 : Int32) (x2 : Int32) (x3 : Int32) (x4 : Int32) (x5 : Int32) (x6 : Int32) (x7 : Int32) (t0 : Int32) (w : MS) : Option (Int32 × MS) :=
  if t0 ≤ x6 then
    M_haunt_p99 k54 x1 x2 x3 x4 x6 x7 t0 x5 w
  else
    M_haunt_p99 k54 x1 x2 x3 x4 x6 x7 t0 x7 w
def M_haunt_p54 : Nat → Int32 → Int32 → Int32 → Int32 → Int32 → Int32 → Int32 → MS → Option (Int32 × MS)
  | 0, _, _, _, _, _, _, _, _ => none
  | n + 1, x1, x2, x3, x4, x5, x6, x7, w =>
    if (4096 : Int32) ≤ x7 then
      if x4 = 0 then
        some (x6, w)
      else
        some (x5, w)
    else
      bd1 (M_bits x7) fun r9 =>
      if r9 = x2 then
        bd2 (M_haunted x1 x7 x3 w) fun r14 w13 =>
        M_haunt_p83 (M_haunt_p54 n) x1 x2 x3 x4 x5 x6 x7 r14 w13
      else
        M_haunt_p83 (M_haunt_p54 n) x1 x2 x3 x4 x5 x6 x7 (-1 : Int32) w
def M_haunt (x1 : Int32) (x2 : Int32) (x3 : Int32) (x4 : Int32) (w : MS) : Option (Int32 × MS) :=
  bdp (wI w 0 0 (0 : Int32)) fun w1 =>
  bd1 (M_isIn (0 : Int32) x1 w1) fun r2 =>
  if r2 = 0 then
    some ((-1 : Int32), w1)
  else
    if (M_within x2 (1 : Int32) (3 : Int32)) = 0 then
      some ((-1 : Int32), w1)
    else
      if (M_within x3 (1 : Int32) (99 : Int32)) = 0 then
        some ((-1 : Int32), w1)
      else
        if (M_within x4 (0 : Int32) (1 : Int32)) = 0 then
          some ((-1 : Int32), w1)
        else
          M_haunt_p54 FU x1 x2 x3 x4 (0 : Int32) (-1 : Int32) (0 : Int32) w1
set_option maxRecDepth 100000 in
set_option maxHeartbeats 4000000 in
theorem wk_M_haunt_p99 {p : Program} {l : Launch} {e : Env} {s : State} {m : MethodId} {args : Array Value} {below : List Frame} {meth : Method} {c : Code} {E : mE} {A : Nat → Prop} (S : CallFix p m c cX5_haunt 9 s args lw_all RX5) (hr : meth.sig.returnType = (some .int)) (hlocks : meth.locks = false) {res : Int32 × MS}  {k54 : Int32 → Int32 → Int32 → Int32 → Int32 → Int32 → Int32 → MS → Option (Int32 × MS)} (hk54 : ∀ (x1 : Int32) (x2 : Int32) (x3 : Int32) (x4 : Int32) (x5 : Int32) (x6 : Int32) (x7 : Int32) (w : MS) (H : Heap) (locs : List Loc) (ls : Array Slot), k54 x1 x2 x3 x4 x5 x6 x7 w = some res → mH E A s w H locs → lv_has ls 9 [(0, .ref (mM E)), (1, .int x1), (2, .int x2), (3, .int x3), (4, .int x4), (5, .int x5), (6, .int x6), (7, .int x7)] → W p l e rm_haunt s m args below meth c H locs 0 0 (MQ below (mQi E A res.1 res.2) args s 0 0 A) (F0 m 54 ls [])) : ∀ (x1 : Int32) (x2 : Int32) (x3 : Int32) (x4 : Int32) (x6 : Int32) (x7 : Int32) (x8 : Int32) (t0 : Int32) (w : MS) (H : Heap) (locs : List Loc) (ls : Array Slot), M_haunt_p99 k54 x1 x2 x3 x4 x6 x7 x8 t0 w = some res → mH E A s w H locs → lv_has ls 9 [(0, .ref (mM E)), (1, .int x1), (2, .int x2), (3, .int x3), (4, .int x4), (6, .int x6), (7, .int x7), (8, .int x8)] → W p l e rm_haunt s m args below meth c H locs 0 0 (MQ below (mQi E A res.1 res.2) args s 0 0 A) (F0 m 99 ls [.int t0]) := by
  intro x1 x2 x3 x4 x6 x7 x8 t0 w H locs ls h hw hl
  unfold M_haunt_p99 at h
  refine lv_istore (lv' := [(5, .int t0), (0, .ref (mM E)), (1, .int x1), (2, .int x2), (3, .int x3), (4, .int x4), (6, .int x6), (7, .int x7), (8, .int x8)]) S.1 S.2.1 dX5_haunt_99 hl (by decide) rfl (fun ls hl => ?_)
  refine lv_iload S.1 S.2.1 dX5_haunt_101 (lv_at hl 8 rfl) ?_
  refine lv_iload S.1 S.2.1 dX5_haunt_103 (lv_at hl 6 rfl) ?_
  refine lv_icmp_le (tgt := 113) S.1 S.2.1 dX5_haunt_105 rfl (fun c12 => ?_) (fun c12 => ?_)
  · replace h := if_t c12 h
    refine lv_iload S.1 S.2.1 dX5_haunt_113 (lv_at hl 6 rfl) ?_
    refine lv_istore (lv' := [(6, .int x6), (5, .int t0), (0, .ref (mM E)), (1, .int x1), (2, .int x2), (3, .int x3), (4, .int x4), (7, .int x7), (8, .int x8)]) S.1 S.2.1 dX5_haunt_115 hl (by decide) rfl (fun ls hl => ?_)
    refine lv_iinc (v := x7 + (1 : Int32)) (lv' := [(7, .int (x7 + (1 : Int32))), (6, .int x6), (5, .int t0), (0, .ref (mM E)), (1, .int x1), (2, .int x2), (3, .int x3), (4, .int x4), (8, .int x8)]) S.1 S.2.1 dX5_haunt_117 hl (k := 7) rfl rfl (by decide) rfl (fun ls hl => ?_)
    refine lv_goto (tgt := 54) S.1 S.2.1 dX5_haunt_120 rfl ?_
    exact hk54 _ _ _ _ _ _ _ _ _ _ _ h hw (lv_sub hl [3, 4, 5, 6, 7, 2, 1, 0] rfl)
  · replace h := if_f c12 h
    refine lv_iload S.1 S.2.1 dX5_haunt_108 (lv_at hl 8 rfl) ?_
    refine lv_goto (tgt := 115) S.1 S.2.1 dX5_haunt_110 rfl ?_
    refine lv_istore (lv' := [(6, .int x8), (5, .int t0), (0, .ref (mM E)), (1, .int x1), (2, .int x2), (3, .int x3), (4, .int x4), (7, .int x7), (8, .int x8)]) S.1 S.2.1 dX5_haunt_115 hl (by decide) rfl (fun ls hl => ?_)
    refine lv_iinc (v := x7 + (1 : Int32)) (lv' := [(7, .int (x7 + (1 : Int32))), (6, .int x8), (5, .int t0), (0, .ref (mM E)), (1, .int x1), (2, .int x2), (3, .int x3), (4, .int x4), (8, .int x8)]) S.1 S.2.1 dX5_haunt_117 hl (k := 7) rfl rfl (by decide) rfl (fun ls hl => ?_)
    refine lv_goto (tgt := 54) S.1 S.2.1 dX5_haunt_120 rfl ?_
    exact hk54 _ _ _ _ _ _ _ _ _ _ _ h hw (lv_sub hl [3, 4, 5, 6, 7, 2, 1, 0] rfl)
set_option maxRecDepth 100000 in
set_option maxHeartbeats 4000000 in
theorem wk_M_haunt_p83 {p : Program} {l : Launch} {e : Env} {s : State} {m : MethodId} {args : Array Value} {below : List Frame} {meth : Method} {c : Code} {E : mE} {A : Nat → Prop} (S : CallFix p m c cX5_haunt 9 s args lw_all RX5) (hr : meth.sig.returnType = (some .int)) (hlocks : meth.locks = false) {res : Int32 × MS}  {k54 : Int32 → Int32 → Int32 → Int32 → Int32 → Int32 → Int32 → MS → Option (Int32 × MS)} (hk54 : ∀ (x1 : Int32) (x2 : Int32) (x3 : Int32) (x4 : Int32) (x5 : Int32) (x6 : Int32) (x7 : Int32) (w : MS) (H : Heap) (locs : List Loc) (ls : Array Slot), k54 x1 x2 x3 x4 x5 x6 x7 w = some res → mH E A s w H locs → lv_has ls 9 [(0, .ref (mM E)), (1, .int x1), (2, .int x2), (3, .int x3), (4, .int x4), (5, .int x5), (6, .int x6), (7, .int x7)] → W p l e rm_haunt s m args below meth c H locs 0 0 (MQ below (mQi E A res.1 res.2) args s 0 0 A) (F0 m 54 ls [])) : ∀ (x1 : Int32) (x2 : Int32) (x3 : Int32) (x4 : Int32) (x5 : Int32) (x6 : Int32) (x7 : Int32) (t0 : Int32) (w : MS) (H : Heap) (locs : List Loc) (ls : Array Slot), M_haunt_p83 k54 x1 x2 x3 x4 x5 x6 x7 t0 w = some res → mH E A s w H locs → lv_has ls 9 [(0, .ref (mM E)), (1, .int x1), (2, .int x2), (3, .int x3), (4, .int x4), (5, .int x5), (6, .int x6), (7, .int x7)] → W p l e rm_haunt s m args below meth c H locs 0 0 (MQ below (mQi E A res.1 res.2) args s 0 0 A) (F0 m 83 ls [.int t0]) := by
  intro x1 x2 x3 x4 x5 x6 x7 t0 w H locs ls h hw hl
  unfold M_haunt_p83 at h
  refine lv_istore (lv' := [(8, .int t0), (0, .ref (mM E)), (1, .int x1), (2, .int x2), (3, .int x3), (4, .int x4), (5, .int x5), (6, .int x6), (7, .int x7)]) S.1 S.2.1 dX5_haunt_83 hl (by decide) rfl (fun ls hl => ?_)
  refine lv_iload S.1 S.2.1 dX5_haunt_85 (lv_at hl 0 rfl) ?_
  refine lv_iload S.1 S.2.1 dX5_haunt_87 (lv_at hl 7 rfl) ?_
  refine lv_icmp_le (tgt := 97) S.1 S.2.1 dX5_haunt_89 rfl (fun c11 => ?_) (fun c11 => ?_)
  · replace h := if_t c11 h
    refine lv_iload S.1 S.2.1 dX5_haunt_97 (lv_at hl 6 rfl) ?_
    exact wk_M_haunt_p99 S hr hlocks hk54 _ _ _ _ _ _ _ _ _ _ _ _ h hw (lv_sub hl [1, 2, 3, 4, 5, 7, 8, 0] rfl)
  · replace h := if_f c11 h
    refine lv_iload S.1 S.2.1 dX5_haunt_92 (lv_at hl 8 rfl) ?_
    refine lv_goto (tgt := 99) S.1 S.2.1 dX5_haunt_94 rfl ?_
    exact wk_M_haunt_p99 S hr hlocks hk54 _ _ _ _ _ _ _ _ _ _ _ _ h hw (lv_sub hl [1, 2, 3, 4, 5, 7, 8, 0] rfl)
set_option maxRecDepth 100000 in
set_option maxHeartbeats 4000000 in
theorem wk_M_haunt_p54 {p : Program} {l : Launch} {e : Env} {s : State} {m : MethodId} {args : Array Value} {below : List Frame} {meth : Method} {c : Code} {E : mE} {A : Nat → Prop} (S : CallFix p m c cX5_haunt 9 s args lw_all RX5) (hr : meth.sig.returnType = (some .int)) (hlocks : meth.locks = false) {res : Int32 × MS}  : ∀ n : Nat, ∀ (x1 : Int32) (x2 : Int32) (x3 : Int32) (x4 : Int32) (x5 : Int32) (x6 : Int32) (x7 : Int32) (w : MS) (H : Heap) (locs : List Loc) (ls : Array Slot), M_haunt_p54 n x1 x2 x3 x4 x5 x6 x7 w = some res → mH E A s w H locs → lv_has ls 9 [(0, .ref (mM E)), (1, .int x1), (2, .int x2), (3, .int x3), (4, .int x4), (5, .int x5), (6, .int x6), (7, .int x7)] → W p l e rm_haunt s m args below meth c H locs 0 0 (MQ below (mQi E A res.1 res.2) args s 0 0 A) (F0 m 54 ls []) := by
  intro n
  induction n with
  | zero => intro x1 x2 x3 x4 x5 x6 x7 w H locs ls h; cases (show (none : Option (Int32 × MS)) = some res from h)
  | succ n ih =>
    intro x1 x2 x3 x4 x5 x6 x7 w H locs ls h hw hl
    rw [M_haunt_p54] at h
    refine lv_iload S.1 S.2.1 dX5_haunt_54 (lv_at hl 7 rfl) ?_
    refine lv_sipush (v := 4096) S.1 S.2.1 dX5_haunt_56 rfl ?_
    refine lv_icmp_ge (tgt := 123) S.1 S.2.1 dX5_haunt_59 rfl (fun c7 => ?_) (fun c7 => ?_)
    · replace h := if_t c7 h
      refine lv_iload S.1 S.2.1 dX5_haunt_123 (lv_at hl 4 rfl) ?_
      refine lv_if_ne (tgt := 133) S.1 S.2.1 dX5_haunt_125 rfl (fun c8 => ?_) (fun c8 => ?_)
      · replace h := if_f c8 h
        refine lv_iload S.1 S.2.1 dX5_haunt_133 (lv_at hl 5 rfl) ?_
        exact m_iret S hr hlocks hw (so2 h) dX5_haunt_135
      · replace h := if_t c8 h
        refine lv_iload S.1 S.2.1 dX5_haunt_128 (lv_at hl 6 rfl) ?_
        refine lv_goto (tgt := 135) S.1 S.2.1 dX5_haunt_130 rfl ?_
        exact m_iret S hr hlocks hw (so2 h) dX5_haunt_135
    · replace h := if_f c7 h
      refine lv_iload S.1 S.2.1 dX5_haunt_62 (lv_at hl 7 rfl) ?_
      refine mcSri (As := [.int x7]) (rest := []) S hw h (fun u h1 => met_bits l E A x7 w u h1) (cw_bits S.2.2.2.2 rfl rfl ⟨Nat.le_of_ble_eq_true rfl, Nat.le_of_ble_eq_true rfl⟩) rfl hl.1 rfl (lv_room (Nat.le_of_ble_eq_true rfl)) dX5_haunt_64 (fun r9 H locs h hw => ?_)
      refine lv_iload_n S.1 S.2.1 dX5_haunt_67 rfl (lv_at hl 2 rfl) ?_
      refine lv_icmp_ne (tgt := 82) S.1 S.2.1 dX5_haunt_68 rfl (fun c10 => ?_) (fun c10 => ?_)
      · replace h := if_f c10 h
        refine lv_iconst (v := -1) S.1 S.2.1 dX5_haunt_82 rfl ?_
        exact wk_M_haunt_p83 S hr hlocks ih _ _ _ _ _ _ _ _ _ _ _ _ h hw (lv_sub hl [0, 1, 2, 3, 4, 5, 6, 7] rfl)
      · replace h := if_t c10 h
        refine lv_aload_n S.1 S.2.1 dX5_haunt_71 rfl (lv_at hl 0 rfl) ?_
        refine lv_iload_n S.1 S.2.1 dX5_haunt_72 rfl (lv_at hl 1 rfl) ?_
        refine lv_iload S.1 S.2.1 dX5_haunt_73 (lv_at hl 7 rfl) ?_
        refine lv_iload_n S.1 S.2.1 dX5_haunt_75 rfl (lv_at hl 3 rfl) ?_
        refine mcVwi (As := [.int x1, .int x7, .int x3]) (rest := []) S hw h (fun u h1 => met_haunted l E A x1 x7 x3 w u h1) (cw_haunted S.2.2.2.2 rfl rfl ⟨Nat.le_of_ble_eq_true rfl, Nat.le_of_ble_eq_true rfl⟩) rfl hl.1 rfl (lv_room (Nat.le_of_ble_eq_true rfl)) dX5_haunt_76 (fun r14 w13 H locs h hw => ?_)
        refine lv_goto (tgt := 83) S.1 S.2.1 dX5_haunt_79 rfl ?_
        exact wk_M_haunt_p83 S hr hlocks ih _ _ _ _ _ _ _ _ _ _ _ _ h hw (lv_sub hl [0, 1, 2, 3, 4, 5, 6, 7] rfl)
set_option maxRecDepth 100000 in
set_option maxHeartbeats 4000000 in
theorem met_haunt (l : Launch) (E : mE) (A : Nat → Prop)  (x1 : Int32) (x2 : Int32) (x3 : Int32) (x4 : Int32) (w : MS) (res : Int32 × MS) (h : M_haunt x1 x2 x3 x4 w = some res) : Met l yX5_haunt (ws_ yX5_haunt cX5_haunt 9 (some .int)) rm_haunt (mPc E A [.ref (mM E), .int x1, .int x2, .int x3, .int x4] w) (mQi E A res.1 res.2) 0 0 A := by
  refine mMet (by decide) rfl (Nat.le_of_ble_eq_true rfl) ?_
  intro p e s m below meth c S hr hlocks H ls hw hl
  replace hl : lv_has ls 9 [(0, .ref (mM E)), (1, .int x1), (2, .int x2), (3, .int x3), (4, .int x4)] := hl
  unfold M_haunt at h
  refine lv_aload_n S.1 S.2.1 dX5_haunt_0 rfl (lv_at hl 0 rfl) ?_
  refine lv_iconst (v := 0) S.1 S.2.1 dX5_haunt_1 rfl ?_
  refine mp0 S hw dX5_haunt_2 h (fun w1 H locs h hw => ?_)
  refine lv_aload_n S.1 S.2.1 dX5_haunt_5 rfl (lv_at hl 0 rfl) ?_
  refine lv_iconst (v := 0) S.1 S.2.1 dX5_haunt_6 rfl ?_
  refine lv_iload_n S.1 S.2.1 dX5_haunt_7 rfl (lv_at hl 1 rfl) ?_
  refine mcVri (As := [.int (0 : Int32), .int x1]) (rest := []) S hw h (fun u h1 => met_isIn l E A (0 : Int32) x1 w1 u h1) (cw_isIn S.2.2.2.2 rfl rfl ⟨Nat.le_of_ble_eq_true rfl, Nat.le_of_ble_eq_true rfl⟩) rfl hl.1 rfl (lv_room (Nat.le_of_ble_eq_true rfl)) dX5_haunt_8 (fun r2 H locs h hw => ?_)
  refine lv_if_eq (tgt := 43) S.1 S.2.1 dX5_haunt_11 rfl (fun c3 => ?_) (fun c3 => ?_)
  · replace h := if_t c3 h
    refine lv_iconst (v := -1) S.1 S.2.1 dX5_haunt_43 rfl ?_
    exact m_iret S hr hlocks hw (so2 h) dX5_haunt_44
  · replace h := if_f c3 h
    refine lv_iload_n S.1 S.2.1 dX5_haunt_14 rfl (lv_at hl 2 rfl) ?_
    refine lv_iconst (v := 1) S.1 S.2.1 dX5_haunt_15 rfl ?_
    refine lv_iconst (v := 3) S.1 S.2.1 dX5_haunt_16 rfl ?_
    refine mcSti (As := [.int x2, .int (1 : Int32), .int (3 : Int32)]) (rest := []) S hw (met_within l E A x2 (1 : Int32) (3 : Int32) w1 _ rfl) (cw_within S.2.2.2.2 rfl rfl ⟨Nat.le_of_ble_eq_true rfl, Nat.le_of_ble_eq_true rfl⟩) rfl hl.1 rfl (lv_room (Nat.le_of_ble_eq_true rfl)) dX5_haunt_17 (fun H locs hw => ?_)
    refine lv_if_eq (tgt := 43) S.1 S.2.1 dX5_haunt_20 rfl (fun c4 => ?_) (fun c4 => ?_)
    · replace h := if_t c4 h
      refine lv_iconst (v := -1) S.1 S.2.1 dX5_haunt_43 rfl ?_
      exact m_iret S hr hlocks hw (so2 h) dX5_haunt_44
    · replace h := if_f c4 h
      refine lv_iload_n S.1 S.2.1 dX5_haunt_23 rfl (lv_at hl 3 rfl) ?_
      refine lv_iconst (v := 1) S.1 S.2.1 dX5_haunt_24 rfl ?_
      refine lv_bipush (v := 99) S.1 S.2.1 dX5_haunt_25 rfl ?_
      refine mcSti (As := [.int x3, .int (1 : Int32), .int (99 : Int32)]) (rest := []) S hw (met_within l E A x3 (1 : Int32) (99 : Int32) w1 _ rfl) (cw_within S.2.2.2.2 rfl rfl ⟨Nat.le_of_ble_eq_true rfl, Nat.le_of_ble_eq_true rfl⟩) rfl hl.1 rfl (lv_room (Nat.le_of_ble_eq_true rfl)) dX5_haunt_27 (fun H locs hw => ?_)
      refine lv_if_eq (tgt := 43) S.1 S.2.1 dX5_haunt_30 rfl (fun c5 => ?_) (fun c5 => ?_)
      · replace h := if_t c5 h
        refine lv_iconst (v := -1) S.1 S.2.1 dX5_haunt_43 rfl ?_
        exact m_iret S hr hlocks hw (so2 h) dX5_haunt_44
      · replace h := if_f c5 h
        refine lv_iload S.1 S.2.1 dX5_haunt_33 (lv_at hl 4 rfl) ?_
        refine lv_iconst (v := 0) S.1 S.2.1 dX5_haunt_35 rfl ?_
        refine lv_iconst (v := 1) S.1 S.2.1 dX5_haunt_36 rfl ?_
        refine mcSti (As := [.int x4, .int (0 : Int32), .int (1 : Int32)]) (rest := []) S hw (met_within l E A x4 (0 : Int32) (1 : Int32) w1 _ rfl) (cw_within S.2.2.2.2 rfl rfl ⟨Nat.le_of_ble_eq_true rfl, Nat.le_of_ble_eq_true rfl⟩) rfl hl.1 rfl (lv_room (Nat.le_of_ble_eq_true rfl)) dX5_haunt_37 (fun H locs hw => ?_)
        refine lv_if_ne (tgt := 45) S.1 S.2.1 dX5_haunt_40 rfl (fun c6 => ?_) (fun c6 => ?_)
        · replace h := if_f c6 h
          refine lv_iconst (v := 0) S.1 S.2.1 dX5_haunt_45 rfl ?_
          refine lv_istore (lv' := [(5, .int (0 : Int32)), (0, .ref (mM E)), (1, .int x1), (2, .int x2), (3, .int x3), (4, .int x4)]) S.1 S.2.1 dX5_haunt_46 hl (by decide) rfl (fun ls hl => ?_)
          refine lv_iconst (v := -1) S.1 S.2.1 dX5_haunt_48 rfl ?_
          refine lv_istore (lv' := [(6, .int (-1 : Int32)), (5, .int (0 : Int32)), (0, .ref (mM E)), (1, .int x1), (2, .int x2), (3, .int x3), (4, .int x4)]) S.1 S.2.1 dX5_haunt_49 hl (by decide) rfl (fun ls hl => ?_)
          refine lv_iconst (v := 0) S.1 S.2.1 dX5_haunt_51 rfl ?_
          refine lv_istore (lv' := [(7, .int (0 : Int32)), (6, .int (-1 : Int32)), (5, .int (0 : Int32)), (0, .ref (mM E)), (1, .int x1), (2, .int x2), (3, .int x3), (4, .int x4)]) S.1 S.2.1 dX5_haunt_52 hl (by decide) rfl (fun ls hl => ?_)
          exact wk_M_haunt_p54 S hr hlocks FU _ _ _ _ _ _ _ _ _ _ _ h hw (lv_sub hl [3, 4, 5, 6, 7, 2, 1, 0] rfl)
        · replace h := if_t c6 h
          refine lv_iconst (v := -1) S.1 S.2.1 dX5_haunt_43 rfl ?_
          exact m_iret S hr hlocks hw (so2 h) dX5_haunt_44
def M_areBothIn (x1 : Int32) (x2 : Int32) (w : MS) : Option Int32 :=
  if x1 = x2 then
    some (0 : Int32)
  else
    bd1 (M_isIn (0 : Int32) x1 w) fun r2 =>
    if r2 = 0 then
      some (0 : Int32)
    else
      bd1 (M_isIn (0 : Int32) x2 w) fun r4 =>
      if r4 = 0 then
        some (0 : Int32)
      else
        some (1 : Int32)
set_option maxRecDepth 100000 in
set_option maxHeartbeats 4000000 in
theorem met_areBothIn (l : Launch) (E : mE) (A : Nat → Prop)  (x1 : Int32) (x2 : Int32) (w : MS) (res : Int32) (h : M_areBothIn x1 x2 w = some res) : Met l yX5_areBothIn (ws_ yX5_areBothIn cX5_areBothIn 3 (some .boolean)) rm_areBothIn (mPc E A [.ref (mM E), .int x1, .int x2] w) (mQi E A res w) 0 0 A := by
  refine mMet (by decide) rfl (Nat.le_of_ble_eq_true rfl) ?_
  intro p e s m below meth c S hr hlocks H ls hw hl
  replace hl : lv_has ls 3 [(0, .ref (mM E)), (1, .int x1), (2, .int x2)] := hl
  unfold M_areBothIn at h
  refine lv_iload_n S.1 S.2.1 dX5_areBothIn_0 rfl (lv_at hl 1 rfl) ?_
  refine lv_iload_n S.1 S.2.1 dX5_areBothIn_1 rfl (lv_at hl 2 rfl) ?_
  refine lv_icmp_eq (tgt := 27) S.1 S.2.1 dX5_areBothIn_2 rfl (fun c1 => ?_) (fun c1 => ?_)
  · replace h := if_t c1 h
    refine lv_iconst (v := 0) S.1 S.2.1 dX5_areBothIn_27 rfl ?_
    exact m_zret S hr hlocks hw rfl ⟨so1 h, rfl⟩ dX5_areBothIn_28
  · replace h := if_f c1 h
    refine lv_aload_n S.1 S.2.1 dX5_areBothIn_5 rfl (lv_at hl 0 rfl) ?_
    refine lv_iconst (v := 0) S.1 S.2.1 dX5_areBothIn_6 rfl ?_
    refine lv_iload_n S.1 S.2.1 dX5_areBothIn_7 rfl (lv_at hl 1 rfl) ?_
    refine mcVri (As := [.int (0 : Int32), .int x1]) (rest := []) S hw h (fun u h1 => met_isIn l E A (0 : Int32) x1 w u h1) (cw_isIn S.2.2.2.2 rfl rfl ⟨Nat.le_of_ble_eq_true rfl, Nat.le_of_ble_eq_true rfl⟩) rfl hl.1 rfl (lv_room (Nat.le_of_ble_eq_true rfl)) dX5_areBothIn_8 (fun r2 H locs h hw => ?_)
    refine lv_if_eq (tgt := 27) S.1 S.2.1 dX5_areBothIn_11 rfl (fun c3 => ?_) (fun c3 => ?_)
    · replace h := if_t c3 h
      refine lv_iconst (v := 0) S.1 S.2.1 dX5_areBothIn_27 rfl ?_
      exact m_zret S hr hlocks hw rfl ⟨so1 h, rfl⟩ dX5_areBothIn_28
    · replace h := if_f c3 h
      refine lv_aload_n S.1 S.2.1 dX5_areBothIn_14 rfl (lv_at hl 0 rfl) ?_
      refine lv_iconst (v := 0) S.1 S.2.1 dX5_areBothIn_15 rfl ?_
      refine lv_iload_n S.1 S.2.1 dX5_areBothIn_16 rfl (lv_at hl 2 rfl) ?_
      refine mcVri (As := [.int (0 : Int32), .int x2]) (rest := []) S hw h (fun u h1 => met_isIn l E A (0 : Int32) x2 w u h1) (cw_isIn S.2.2.2.2 rfl rfl ⟨Nat.le_of_ble_eq_true rfl, Nat.le_of_ble_eq_true rfl⟩) rfl hl.1 rfl (lv_room (Nat.le_of_ble_eq_true rfl)) dX5_areBothIn_17 (fun r4 H locs h hw => ?_)
      refine lv_if_eq (tgt := 27) S.1 S.2.1 dX5_areBothIn_20 rfl (fun c5 => ?_) (fun c5 => ?_)
      · replace h := if_t c5 h
        refine lv_iconst (v := 0) S.1 S.2.1 dX5_areBothIn_27 rfl ?_
        exact m_zret S hr hlocks hw rfl ⟨so1 h, rfl⟩ dX5_areBothIn_28
      · replace h := if_f c5 h
        refine lv_iconst (v := 1) S.1 S.2.1 dX5_areBothIn_23 rfl ?_
        refine lv_goto (tgt := 28) S.1 S.2.1 dX5_areBothIn_24 rfl ?_
        exact m_zret S hr hlocks hw rfl ⟨so1 h, rfl⟩ dX5_areBothIn_28
def M_savedBy_p78 (x1 : Int32) (t0 : Int32) (t1 : Int32) (t3 : Int32) (w : MS) : Option (Int32 × MS) :=
  bd1 (M_tenantOf x1 (0 : Int32) w) fun r13 =>
  bd2 (M_dueBy t1 t0 r13 w) fun r15 w14 =>
  some (t3 - r15, w14)
def M_savedBy (x1 : Int32) (x2 : Int32) (w : MS) : Option (Int32 × MS) :=
  bd1 (rA w 25 1288 ((1 : Int32) + x1)) fun v1 =>
  bd1 (M_roomOf v1 (2 : Int32) w) fun r2 =>
  bd1 (rA w 25 1288 ((1 : Int32) + x2)) fun v3 =>
  bd1 (M_roomOf v3 (2 : Int32) w) fun r4 =>
  bd2 (M_dueOf (0 : Int32) x1 w) fun r6 w5 =>
  bd2 (M_dueOf (0 : Int32) x2 w5) fun r8 w7 =>
  bdp (r6 + r8) fun y9 =>
  bd1 (rA w7 25 1288 ((7 : Int32) + x1)) fun v10 =>
  bd1 (rA w7 25 1288 ((7 : Int32) + x2)) fun v11 =>
  if r4 ≤ r2 then
    M_savedBy_p78 x1 r4 (v10 + v11) y9 w7
  else
    M_savedBy_p78 x1 r2 (v10 + v11) y9 w7
set_option maxRecDepth 100000 in
set_option maxHeartbeats 4000000 in
theorem wk_M_savedBy_p78 {p : Program} {l : Launch} {e : Env} {s : State} {m : MethodId} {args : Array Value} {below : List Frame} {meth : Method} {c : Code} {E : mE} {A : Nat → Prop} (S : CallFix p m c cX5_savedBy 6 s args lw_all RX5) (hr : meth.sig.returnType = (some .int)) (hlocks : meth.locks = false) {res : Int32 × MS}  : ∀ (x1 : Int32) (t0 : Int32) (t1 : Int32) (t3 : Int32) (w : MS) (H : Heap) (locs : List Loc) (ls : Array Slot), M_savedBy_p78 x1 t0 t1 t3 w = some res → mH E A s w H locs → lv_has ls 6 [(0, .ref (mM E)), (1, .int x1)] → W p l e rm_savedBy s m args below meth c H locs 0 0 (MQ below (mQi E A res.1 res.2) args s 0 0 A) (F0 m 78 ls [.int t0, .int t1, .ref (mM E), .int t3]) := by
  intro x1 t0 t1 t3 w H locs ls h hw hl
  unfold M_savedBy_p78 at h
  refine lv_aload_n S.1 S.2.1 dX5_savedBy_78 rfl (lv_at hl 0 rfl) ?_
  refine lv_iload_n S.1 S.2.1 dX5_savedBy_79 rfl (lv_at hl 1 rfl) ?_
  refine lv_iconst (v := 0) S.1 S.2.1 dX5_savedBy_80 rfl ?_
  refine mcVri (As := [.int x1, .int (0 : Int32)]) (rest := [.int t0, .int t1, .ref (mM E), .int t3]) S hw h (fun u h1 => met_tenantOf l E A x1 (0 : Int32) w u h1) (cw_tenantOf S.2.2.2.2 rfl rfl ⟨Nat.le_of_ble_eq_true rfl, Nat.le_of_ble_eq_true rfl⟩) rfl hl.1 rfl (lv_room (Nat.le_of_ble_eq_true rfl)) dX5_savedBy_81 (fun r13 H locs h hw => ?_)
  refine mcVwi (As := [.int t1, .int t0, .int r13]) (rest := [.int t3]) S hw h (fun u h1 => met_dueBy l E A t1 t0 r13 w u h1) (cw_dueBy S.2.2.2.2 rfl rfl ⟨Nat.le_of_ble_eq_true rfl, Nat.le_of_ble_eq_true rfl⟩) rfl hl.1 rfl (lv_room (Nat.le_of_ble_eq_true rfl)) dX5_savedBy_84 (fun r15 w14 H locs h hw => ?_)
  refine lv_isub S.1 S.2.1 dX5_savedBy_87 ?_
  exact m_iret S hr hlocks hw (so2 h) dX5_savedBy_88
set_option maxRecDepth 100000 in
set_option maxHeartbeats 4000000 in
theorem met_savedBy (l : Launch) (E : mE) (A : Nat → Prop)  (x1 : Int32) (x2 : Int32) (w : MS) (res : Int32 × MS) (h : M_savedBy x1 x2 w = some res) : Met l yX5_savedBy (ws_ yX5_savedBy cX5_savedBy 6 (some .int)) rm_savedBy (mPc E A [.ref (mM E), .int x1, .int x2] w) (mQi E A res.1 res.2) 0 0 A := by
  refine mMet (by decide) rfl (Nat.le_of_ble_eq_true rfl) ?_
  intro p e s m below meth c S hr hlocks H ls hw hl
  replace hl : lv_has ls 6 [(0, .ref (mM E)), (1, .int x1), (2, .int x2)] := hl
  unfold M_savedBy at h
  refine lv_aload_n S.1 S.2.1 dX5_savedBy_0 rfl (lv_at hl 0 rfl) ?_
  refine lv_aload_n S.1 S.2.1 dX5_savedBy_1 rfl (lv_at hl 0 rfl) ?_
  refine mg25 S hw dX5_savedBy_2 ?_
  refine lv_iconst (v := 1) S.1 S.2.1 dX5_savedBy_5 rfl ?_
  refine lv_iload_n S.1 S.2.1 dX5_savedBy_6 rfl (lv_at hl 1 rfl) ?_
  refine lv_iadd S.1 S.2.1 dX5_savedBy_7 ?_
  refine ml25 S hw dX5_savedBy_8 h (fun v1 h => ?_)
  refine lv_iconst (v := 2) S.1 S.2.1 dX5_savedBy_9 rfl ?_
  refine mcVri (As := [.int v1, .int (2 : Int32)]) (rest := []) S hw h (fun u h1 => met_roomOf l E A v1 (2 : Int32) w u h1) (cw_roomOf S.2.2.2.2 rfl rfl ⟨Nat.le_of_ble_eq_true rfl, Nat.le_of_ble_eq_true rfl⟩) rfl hl.1 rfl (lv_room (Nat.le_of_ble_eq_true rfl)) dX5_savedBy_10 (fun r2 H locs h hw => ?_)
  refine lv_istore_n (lv' := [(3, .int r2), (0, .ref (mM E)), (1, .int x1), (2, .int x2)]) S.1 S.2.1 dX5_savedBy_13 rfl hl (by decide) rfl (fun ls hl => ?_)
  refine lv_aload_n S.1 S.2.1 dX5_savedBy_14 rfl (lv_at hl 1 rfl) ?_
  refine lv_aload_n S.1 S.2.1 dX5_savedBy_15 rfl (lv_at hl 1 rfl) ?_
  refine mg25 S hw dX5_savedBy_16 ?_
  refine lv_iconst (v := 1) S.1 S.2.1 dX5_savedBy_19 rfl ?_
  refine lv_iload_n S.1 S.2.1 dX5_savedBy_20 rfl (lv_at hl 3 rfl) ?_
  refine lv_iadd S.1 S.2.1 dX5_savedBy_21 ?_
  refine ml25 S hw dX5_savedBy_22 h (fun v3 h => ?_)
  refine lv_iconst (v := 2) S.1 S.2.1 dX5_savedBy_23 rfl ?_
  refine mcVri (As := [.int v3, .int (2 : Int32)]) (rest := []) S hw h (fun u h1 => met_roomOf l E A v3 (2 : Int32) w u h1) (cw_roomOf S.2.2.2.2 rfl rfl ⟨Nat.le_of_ble_eq_true rfl, Nat.le_of_ble_eq_true rfl⟩) rfl hl.1 rfl (lv_room (Nat.le_of_ble_eq_true rfl)) dX5_savedBy_24 (fun r4 H locs h hw => ?_)
  refine lv_istore (lv' := [(4, .int r4), (3, .int r2), (0, .ref (mM E)), (1, .int x1), (2, .int x2)]) S.1 S.2.1 dX5_savedBy_27 hl (by decide) rfl (fun ls hl => ?_)
  refine lv_aload_n S.1 S.2.1 dX5_savedBy_29 rfl (lv_at hl 2 rfl) ?_
  refine lv_iconst (v := 0) S.1 S.2.1 dX5_savedBy_30 rfl ?_
  refine lv_iload_n S.1 S.2.1 dX5_savedBy_31 rfl (lv_at hl 3 rfl) ?_
  refine mcVwi (As := [.int (0 : Int32), .int x1]) (rest := []) S hw h (fun u h1 => met_dueOf l E A (0 : Int32) x1 w u h1) (cw_dueOf S.2.2.2.2 rfl rfl ⟨Nat.le_of_ble_eq_true rfl, Nat.le_of_ble_eq_true rfl⟩) rfl hl.1 rfl (lv_room (Nat.le_of_ble_eq_true rfl)) dX5_savedBy_32 (fun r6 w5 H locs h hw => ?_)
  refine lv_aload_n S.1 S.2.1 dX5_savedBy_35 rfl (lv_at hl 2 rfl) ?_
  refine lv_iconst (v := 0) S.1 S.2.1 dX5_savedBy_36 rfl ?_
  refine lv_iload_n S.1 S.2.1 dX5_savedBy_37 rfl (lv_at hl 4 rfl) ?_
  refine mcVwi (As := [.int (0 : Int32), .int x2]) (rest := [.int r6]) S hw h (fun u h1 => met_dueOf l E A (0 : Int32) x2 w5 u h1) (cw_dueOf S.2.2.2.2 rfl rfl ⟨Nat.le_of_ble_eq_true rfl, Nat.le_of_ble_eq_true rfl⟩) rfl hl.1 rfl (lv_room (Nat.le_of_ble_eq_true rfl)) dX5_savedBy_38 (fun r8 w7 H locs h hw => ?_)
  refine lv_iadd S.1 S.2.1 dX5_savedBy_41 ?_
  refine lv_topi (fun y9 ey => ?_)
  replace h := bdp_e ey h
  refine lv_istore (lv' := [(5, .int y9), (4, .int r4), (3, .int r2), (0, .ref (mM E)), (1, .int x1), (2, .int x2)]) S.1 S.2.1 dX5_savedBy_42 hl (by decide) rfl (fun ls hl => ?_)
  refine lv_iload S.1 S.2.1 dX5_savedBy_44 (lv_at hl 0 rfl) ?_
  refine lv_aload_n S.1 S.2.1 dX5_savedBy_46 rfl (lv_at hl 3 rfl) ?_
  refine lv_aload_n S.1 S.2.1 dX5_savedBy_47 rfl (lv_at hl 3 rfl) ?_
  refine mg25 S hw dX5_savedBy_48 ?_
  refine lv_bipush (v := 7) S.1 S.2.1 dX5_savedBy_51 rfl ?_
  refine lv_iload_n S.1 S.2.1 dX5_savedBy_53 rfl (lv_at hl 4 rfl) ?_
  refine lv_iadd S.1 S.2.1 dX5_savedBy_54 ?_
  refine ml25 S hw dX5_savedBy_55 h (fun v10 h => ?_)
  refine lv_aload_n S.1 S.2.1 dX5_savedBy_56 rfl (lv_at hl 3 rfl) ?_
  refine mg25 S hw dX5_savedBy_57 ?_
  refine lv_bipush (v := 7) S.1 S.2.1 dX5_savedBy_60 rfl ?_
  refine lv_iload_n S.1 S.2.1 dX5_savedBy_62 rfl (lv_at hl 5 rfl) ?_
  refine lv_iadd S.1 S.2.1 dX5_savedBy_63 ?_
  refine ml25 S hw dX5_savedBy_64 h (fun v11 h => ?_)
  refine lv_iadd S.1 S.2.1 dX5_savedBy_65 ?_
  refine lv_iload_n S.1 S.2.1 dX5_savedBy_66 rfl (lv_at hl 2 rfl) ?_
  refine lv_iload S.1 S.2.1 dX5_savedBy_67 (lv_at hl 1 rfl) ?_
  refine lv_icmp_ge (tgt := 76) S.1 S.2.1 dX5_savedBy_69 rfl (fun c12 => ?_) (fun c12 => ?_)
  · replace h := if_t c12 h
    refine lv_iload S.1 S.2.1 dX5_savedBy_76 (lv_at hl 1 rfl) ?_
    exact wk_M_savedBy_p78 S hr hlocks _ _ _ _ _ _ _ _ h hw (lv_sub hl [3, 4] rfl)
  · replace h := if_f c12 h
    refine lv_iload_n S.1 S.2.1 dX5_savedBy_72 rfl (lv_at hl 2 rfl) ?_
    refine lv_goto (tgt := 78) S.1 S.2.1 dX5_savedBy_73 rfl ?_
    exact wk_M_savedBy_p78 S hr hlocks _ _ _ _ _ _ _ _ h hw (lv_sub hl [3, 4] rfl)
def M_lease_p15 (x1 : Int32) (x2 : Int32) (t0 : Int32) (w : MS) : Option (Int32 × MS) :=
  bdp (wI w 0 0 t0) fun w3 =>
  if (rI w3 0 0) ≤ 0 then
    bd2 (M_savedBy x1 x2 w3) fun r6 w5 =>
    some (r6, w5)
  else
    some ((0 : Int32), w3)
def M_lease (x1 : Int32) (x2 : Int32) (w : MS) : Option (Int32 × MS) :=
  bd1 (M_areBothIn x1 x2 w) fun r1 =>
  if r1 = 0 then
    M_lease_p15 x1 x2 (1 : Int32) w
  else
    M_lease_p15 x1 x2 (0 : Int32) w
set_option maxRecDepth 100000 in
set_option maxHeartbeats 4000000 in
theorem wk_M_lease_p15 {p : Program} {l : Launch} {e : Env} {s : State} {m : MethodId} {args : Array Value} {below : List Frame} {meth : Method} {c : Code} {E : mE} {A : Nat → Prop} (S : CallFix p m c cX5_lease 3 s args lw_all RX5) (hr : meth.sig.returnType = (some .int)) (hlocks : meth.locks = false) {res : Int32 × MS}  : ∀ (x1 : Int32) (x2 : Int32) (t0 : Int32) (w : MS) (H : Heap) (locs : List Loc) (ls : Array Slot), M_lease_p15 x1 x2 t0 w = some res → mH E A s w H locs → lv_has ls 3 [(0, .ref (mM E)), (1, .int x1), (2, .int x2)] → W p l e rm_lease s m args below meth c H locs 0 0 (MQ below (mQi E A res.1 res.2) args s 0 0 A) (F0 m 15 ls [.int t0, .ref (mM E)]) := by
  intro x1 x2 t0 w H locs ls h hw hl
  unfold M_lease_p15 at h
  refine mp0 S hw dX5_lease_15 h (fun w3 H locs h hw => ?_)
  refine lv_aload_n S.1 S.2.1 dX5_lease_18 rfl (lv_at hl 0 rfl) ?_
  refine mg0 S hw dX5_lease_19 ?_
  refine lv_if_le (tgt := 29) S.1 S.2.1 dX5_lease_22 rfl (fun c4 => ?_) (fun c4 => ?_)
  · replace h := if_t c4 h
    refine lv_aload_n S.1 S.2.1 dX5_lease_29 rfl (lv_at hl 0 rfl) ?_
    refine lv_iload_n S.1 S.2.1 dX5_lease_30 rfl (lv_at hl 1 rfl) ?_
    refine lv_iload_n S.1 S.2.1 dX5_lease_31 rfl (lv_at hl 2 rfl) ?_
    refine mcVwi (As := [.int x1, .int x2]) (rest := []) S hw h (fun u h1 => met_savedBy l E A x1 x2 w3 u h1) (cw_savedBy S.2.2.2.2 rfl rfl ⟨Nat.le_of_ble_eq_true rfl, Nat.le_of_ble_eq_true rfl⟩) rfl hl.1 rfl (lv_room (Nat.le_of_ble_eq_true rfl)) dX5_lease_32 (fun r6 w5 H locs h hw => ?_)
    exact m_iret S hr hlocks hw (so2 h) dX5_lease_35
  · replace h := if_f c4 h
    refine lv_iconst (v := 0) S.1 S.2.1 dX5_lease_25 rfl ?_
    refine lv_goto (tgt := 35) S.1 S.2.1 dX5_lease_26 rfl ?_
    exact m_iret S hr hlocks hw (so2 h) dX5_lease_35
set_option maxRecDepth 100000 in
set_option maxHeartbeats 4000000 in
theorem met_lease (l : Launch) (E : mE) (A : Nat → Prop)  (x1 : Int32) (x2 : Int32) (w : MS) (res : Int32 × MS) (h : M_lease x1 x2 w = some res) : Met l yX5_lease (ws_ yX5_lease cX5_lease 3 (some .int)) rm_lease (mPc E A [.ref (mM E), .int x1, .int x2] w) (mQi E A res.1 res.2) 0 0 A := by
  refine mMet (by decide) rfl (Nat.le_of_ble_eq_true rfl) ?_
  intro p e s m below meth c S hr hlocks H ls hw hl
  replace hl : lv_has ls 3 [(0, .ref (mM E)), (1, .int x1), (2, .int x2)] := hl
  unfold M_lease at h
  refine lv_aload_n S.1 S.2.1 dX5_lease_0 rfl (lv_at hl 0 rfl) ?_
  refine lv_aload_n S.1 S.2.1 dX5_lease_1 rfl (lv_at hl 0 rfl) ?_
  refine lv_iload_n S.1 S.2.1 dX5_lease_2 rfl (lv_at hl 1 rfl) ?_
  refine lv_iload_n S.1 S.2.1 dX5_lease_3 rfl (lv_at hl 2 rfl) ?_
  refine mcVri (As := [.int x1, .int x2]) (rest := [.ref (mM E)]) S hw h (fun u h1 => met_areBothIn l E A x1 x2 w u h1) (cw_areBothIn S.2.2.2.2 rfl rfl ⟨Nat.le_of_ble_eq_true rfl, Nat.le_of_ble_eq_true rfl⟩) rfl hl.1 rfl (lv_room (Nat.le_of_ble_eq_true rfl)) dX5_lease_4 (fun r1 H locs h hw => ?_)
  refine lv_if_eq (tgt := 14) S.1 S.2.1 dX5_lease_7 rfl (fun c2 => ?_) (fun c2 => ?_)
  · replace h := if_t c2 h
    refine lv_iconst (v := 1) S.1 S.2.1 dX5_lease_14 rfl ?_
    exact wk_M_lease_p15 S hr hlocks _ _ _ _ _ _ _ h hw (lv_sub hl [0, 1, 2] rfl)
  · replace h := if_f c2 h
    refine lv_iconst (v := 0) S.1 S.2.1 dX5_lease_10 rfl ?_
    refine lv_goto (tgt := 15) S.1 S.2.1 dX5_lease_11 rfl ?_
    exact wk_M_lease_p15 S hr hlocks _ _ _ _ _ _ _ h hw (lv_sub hl [0, 1, 2] rfl)
def M_share_p15 (x1 : Int32) (x2 : Int32) (t0 : Int32) (w : MS) : Option (Int32 × MS) :=
  bdp (wI w 0 0 t0) fun w3 =>
  if (rI w3 0 0) ≤ 0 then
    bd2 (M_dueOf (0 : Int32) x1 w3) fun r6 w5 =>
    bd2 (M_savedBy x1 x2 w5) fun r8 w7 =>
    some (r6 - (r8 / (2 : Int32)), w7)
  else
    some ((0 : Int32), w3)
def M_share (x1 : Int32) (x2 : Int32) (w : MS) : Option (Int32 × MS) :=
  bd1 (M_areBothIn x1 x2 w) fun r1 =>
  if r1 = 0 then
    M_share_p15 x1 x2 (1 : Int32) w
  else
    M_share_p15 x1 x2 (0 : Int32) w
set_option maxRecDepth 100000 in
set_option maxHeartbeats 4000000 in
theorem wk_M_share_p15 {p : Program} {l : Launch} {e : Env} {s : State} {m : MethodId} {args : Array Value} {below : List Frame} {meth : Method} {c : Code} {E : mE} {A : Nat → Prop} (S : CallFix p m c cX5_share 3 s args lw_all RX5) (hr : meth.sig.returnType = (some .int)) (hlocks : meth.locks = false) {res : Int32 × MS}  : ∀ (x1 : Int32) (x2 : Int32) (t0 : Int32) (w : MS) (H : Heap) (locs : List Loc) (ls : Array Slot), M_share_p15 x1 x2 t0 w = some res → mH E A s w H locs → lv_has ls 3 [(0, .ref (mM E)), (1, .int x1), (2, .int x2)] → W p l e rm_share s m args below meth c H locs 0 0 (MQ below (mQi E A res.1 res.2) args s 0 0 A) (F0 m 15 ls [.int t0, .ref (mM E)]) := by
  intro x1 x2 t0 w H locs ls h hw hl
  unfold M_share_p15 at h
  refine mp0 S hw dX5_share_15 h (fun w3 H locs h hw => ?_)
  refine lv_aload_n S.1 S.2.1 dX5_share_18 rfl (lv_at hl 0 rfl) ?_
  refine mg0 S hw dX5_share_19 ?_
  refine lv_if_le (tgt := 29) S.1 S.2.1 dX5_share_22 rfl (fun c4 => ?_) (fun c4 => ?_)
  · replace h := if_t c4 h
    refine lv_aload_n S.1 S.2.1 dX5_share_29 rfl (lv_at hl 0 rfl) ?_
    refine lv_iconst (v := 0) S.1 S.2.1 dX5_share_30 rfl ?_
    refine lv_iload_n S.1 S.2.1 dX5_share_31 rfl (lv_at hl 1 rfl) ?_
    refine mcVwi (As := [.int (0 : Int32), .int x1]) (rest := []) S hw h (fun u h1 => met_dueOf l E A (0 : Int32) x1 w3 u h1) (cw_dueOf S.2.2.2.2 rfl rfl ⟨Nat.le_of_ble_eq_true rfl, Nat.le_of_ble_eq_true rfl⟩) rfl hl.1 rfl (lv_room (Nat.le_of_ble_eq_true rfl)) dX5_share_32 (fun r6 w5 H locs h hw => ?_)
    refine lv_aload_n S.1 S.2.1 dX5_share_35 rfl (lv_at hl 0 rfl) ?_
    refine lv_iload_n S.1 S.2.1 dX5_share_36 rfl (lv_at hl 1 rfl) ?_
    refine lv_iload_n S.1 S.2.1 dX5_share_37 rfl (lv_at hl 2 rfl) ?_
    refine mcVwi (As := [.int x1, .int x2]) (rest := [.int r6]) S hw h (fun u h1 => met_savedBy l E A x1 x2 w5 u h1) (cw_savedBy S.2.2.2.2 rfl rfl ⟨Nat.le_of_ble_eq_true rfl, Nat.le_of_ble_eq_true rfl⟩) rfl hl.1 rfl (lv_room (Nat.le_of_ble_eq_true rfl)) dX5_share_38 (fun r8 w7 H locs h hw => ?_)
    refine lv_iconst (v := 2) S.1 S.2.1 dX5_share_41 rfl ?_
    refine lv_idiv S.1 S.2.1 dX5_share_42 (by decide) ?_
    refine lv_isub S.1 S.2.1 dX5_share_43 ?_
    exact m_iret S hr hlocks hw (so2 h) dX5_share_44
  · replace h := if_f c4 h
    refine lv_iconst (v := 0) S.1 S.2.1 dX5_share_25 rfl ?_
    refine lv_goto (tgt := 44) S.1 S.2.1 dX5_share_26 rfl ?_
    exact m_iret S hr hlocks hw (so2 h) dX5_share_44
set_option maxRecDepth 100000 in
set_option maxHeartbeats 4000000 in
theorem met_share (l : Launch) (E : mE) (A : Nat → Prop)  (x1 : Int32) (x2 : Int32) (w : MS) (res : Int32 × MS) (h : M_share x1 x2 w = some res) : Met l yX5_share (ws_ yX5_share cX5_share 3 (some .int)) rm_share (mPc E A [.ref (mM E), .int x1, .int x2] w) (mQi E A res.1 res.2) 0 0 A := by
  refine mMet (by decide) rfl (Nat.le_of_ble_eq_true rfl) ?_
  intro p e s m below meth c S hr hlocks H ls hw hl
  replace hl : lv_has ls 3 [(0, .ref (mM E)), (1, .int x1), (2, .int x2)] := hl
  unfold M_share at h
  refine lv_aload_n S.1 S.2.1 dX5_share_0 rfl (lv_at hl 0 rfl) ?_
  refine lv_aload_n S.1 S.2.1 dX5_share_1 rfl (lv_at hl 0 rfl) ?_
  refine lv_iload_n S.1 S.2.1 dX5_share_2 rfl (lv_at hl 1 rfl) ?_
  refine lv_iload_n S.1 S.2.1 dX5_share_3 rfl (lv_at hl 2 rfl) ?_
  refine mcVri (As := [.int x1, .int x2]) (rest := [.ref (mM E)]) S hw h (fun u h1 => met_areBothIn l E A x1 x2 w u h1) (cw_areBothIn S.2.2.2.2 rfl rfl ⟨Nat.le_of_ble_eq_true rfl, Nat.le_of_ble_eq_true rfl⟩) rfl hl.1 rfl (lv_room (Nat.le_of_ble_eq_true rfl)) dX5_share_4 (fun r1 H locs h hw => ?_)
  refine lv_if_eq (tgt := 14) S.1 S.2.1 dX5_share_7 rfl (fun c2 => ?_) (fun c2 => ?_)
  · replace h := if_t c2 h
    refine lv_iconst (v := 1) S.1 S.2.1 dX5_share_14 rfl ?_
    exact wk_M_share_p15 S hr hlocks _ _ _ _ _ _ _ h hw (lv_sub hl [0, 1, 2] rfl)
  · replace h := if_f c2 h
    refine lv_iconst (v := 0) S.1 S.2.1 dX5_share_10 rfl ?_
    refine lv_goto (tgt := 15) S.1 S.2.1 dX5_share_11 rfl ?_
    exact wk_M_share_p15 S hr hlocks _ _ _ _ _ _ _ h hw (lv_sub hl [0, 1, 2] rfl)
def M_law_p141 : Nat → Int32 → Int32 → MS → Option (Int32 × MS)
  | 0, _, _, _ => none
  | n + 1, x3, x4, w =>
    if (M_tenants w) ≤ x4 then
      some (x3, w)
    else
      bd1 (M_isIn (0 : Int32) x4 w) fun r12 =>
      if r12 = 0 then
        bdp (x3 ||| (0 : Int32)) fun y14 =>
        (M_law_p141 n) y14 (x4 + (1 : Int32)) w
      else
        bd1 (M_isIn (1176 : Int32) x4 w) fun r15 =>
        if r15 = 0 then
          bdp (x3 ||| ((1 : Int32) <<< (x4 &&& 31))) fun y18 =>
          (M_law_p141 n) y18 (x4 + (1 : Int32)) w
        else
          bdp (x3 ||| (0 : Int32)) fun y17 =>
          (M_law_p141 n) y17 (x4 + (1 : Int32)) w
def M_law_p99 : Nat → Int32 → Int32 → MS → Option (Int32 × MS)
  | 0, _, _, _ => none
  | n + 1, x2, x3, w =>
    if x2 ≤ x3 then
      bdp (wI w 28 0 (rI w 10 3)) fun w8 =>
      bd2 (M_noons (1176 : Int32) w8) fun r10 w9 =>
      M_law_p141 FU (0 : Int32) (0 : Int32) w9
    else
      bd2 (M_passes (1176 : Int32) w) fun r20 w19 =>
      (M_law_p99 n) x2 (x3 + (1 : Int32)) w19
def M_law_p40 : Nat → Int32 → Int32 → Int32 → MS → Option (Int32 × MS)
  | 0, _, _, _, _ => none
  | n + 1, x1, x2, x3, w =>
    if (M_tenants w) ≤ x3 then
      bdp (wI w 28 0 x1) fun w6 =>
      M_law_p99 FU x2 (0 : Int32) w6
    else
      bd1 (M_isIn (0 : Int32) x3 w) fun r21 =>
      if r21 = 0 then
        bd1 (rA w 25 1288 ((1195 : Int32) + x3)) fun v23 =>
        bd1 (wA w 25 1288 ((1195 : Int32) + x3) v23) fun w24 =>
        (M_law_p40 n) x1 x2 (x3 + (1 : Int32)) w24
      else
        bd1 (wA w 25 1288 ((1195 : Int32) + x3) (rI w 10 4)) fun w25 =>
        (M_law_p40 n) x1 x2 (x3 + (1 : Int32)) w25
def M_law (x1 : Int32) (x2 : Int32) (w : MS) : Option (Int32 × MS) :=
  bdp (wI w 0 0 (0 : Int32)) fun w1 =>
  if (M_within x1 (0 : Int32) (60 : Int32)) = 0 then
    some ((-1 : Int32), w1)
  else
    if (M_within x2 (1 : Int32) (240 : Int32)) = 0 then
      some ((-1 : Int32), w1)
    else
      bd1 (M_copies (0 : Int32) (1176 : Int32) (43 : Int32) w1) fun w4 =>
      M_law_p40 FU x1 x2 (0 : Int32) w4
set_option maxRecDepth 100000 in
set_option maxHeartbeats 4000000 in
theorem wk_M_law_p141 {p : Program} {l : Launch} {e : Env} {s : State} {m : MethodId} {args : Array Value} {below : List Frame} {meth : Method} {c : Code} {E : mE} {A : Nat → Prop} (S : CallFix p m c cX5_law 5 s args lw_all RX5) (hr : meth.sig.returnType = (some .int)) (hlocks : meth.locks = false) {res : Int32 × MS}  : ∀ n : Nat, ∀ (x3 : Int32) (x4 : Int32) (w : MS) (H : Heap) (locs : List Loc) (ls : Array Slot), M_law_p141 n x3 x4 w = some res → mH E A s w H locs → lv_has ls 5 [(0, .ref (mM E)), (3, .int x3), (4, .int x4)] → W p l e rm_law s m args below meth c H locs 0 0 (MQ below (mQi E A res.1 res.2) args s 0 0 A) (F0 m 141 ls []) := by
  intro n
  induction n with
  | zero => intro x3 x4 w H locs ls h; cases (show (none : Option (Int32 × MS)) = some res from h)
  | succ n ih =>
    intro x3 x4 w H locs ls h hw hl
    rw [M_law_p141] at h
    refine lv_iload S.1 S.2.1 dX5_law_141 (lv_at hl 2 rfl) ?_
    refine lv_aload_n S.1 S.2.1 dX5_law_143 rfl (lv_at hl 0 rfl) ?_
    refine mcVti (As := []) (rest := [.int x4]) S hw (met_tenants l E A  w _ rfl) (cw_tenants S.2.2.2.2 rfl rfl ⟨Nat.le_of_ble_eq_true rfl, Nat.le_of_ble_eq_true rfl⟩) rfl hl.1 rfl (lv_room (Nat.le_of_ble_eq_true rfl)) dX5_law_144 (fun H locs hw => ?_)
    refine lv_icmp_ge (tgt := 189) S.1 S.2.1 dX5_law_147 rfl (fun c11 => ?_) (fun c11 => ?_)
    · replace h := if_t c11 h
      refine lv_iload_n S.1 S.2.1 dX5_law_189 rfl (lv_at hl 1 rfl) ?_
      exact m_iret S hr hlocks hw (so2 h) dX5_law_190
    · replace h := if_f c11 h
      refine lv_iload_n S.1 S.2.1 dX5_law_150 rfl (lv_at hl 1 rfl) ?_
      refine lv_aload_n S.1 S.2.1 dX5_law_151 rfl (lv_at hl 0 rfl) ?_
      refine lv_iconst (v := 0) S.1 S.2.1 dX5_law_152 rfl ?_
      refine lv_iload S.1 S.2.1 dX5_law_153 (lv_at hl 2 rfl) ?_
      refine mcVri (As := [.int (0 : Int32), .int x4]) (rest := [.int x3]) S hw h (fun u h1 => met_isIn l E A (0 : Int32) x4 w u h1) (cw_isIn S.2.2.2.2 rfl rfl ⟨Nat.le_of_ble_eq_true rfl, Nat.le_of_ble_eq_true rfl⟩) rfl hl.1 rfl (lv_room (Nat.le_of_ble_eq_true rfl)) dX5_law_155 (fun r12 H locs h hw => ?_)
      refine lv_if_eq (tgt := 180) S.1 S.2.1 dX5_law_158 rfl (fun c13 => ?_) (fun c13 => ?_)
      · replace h := if_t c13 h
        refine lv_iconst (v := 0) S.1 S.2.1 dX5_law_180 rfl ?_
        refine lv_ior S.1 S.2.1 dX5_law_181 ?_
        refine lv_topi (fun y14 ey => ?_)
        replace h := bdp_e ey h
        refine lv_istore_n (lv' := [(3, .int y14), (0, .ref (mM E)), (4, .int x4)]) S.1 S.2.1 dX5_law_182 rfl hl (by decide) rfl (fun ls hl => ?_)
        refine lv_iinc (v := x4 + (1 : Int32)) (lv' := [(4, .int (x4 + (1 : Int32))), (3, .int y14), (0, .ref (mM E))]) S.1 S.2.1 dX5_law_183 hl (k := 2) rfl rfl (by decide) rfl (fun ls hl => ?_)
        refine lv_goto (tgt := 141) S.1 S.2.1 dX5_law_186 rfl ?_
        exact ih _ _ _ _ _ _ h hw (lv_sub hl [2, 1, 0] rfl)
      · replace h := if_f c13 h
        refine lv_aload_n S.1 S.2.1 dX5_law_161 rfl (lv_at hl 0 rfl) ?_
        refine lv_sipush (v := 1176) S.1 S.2.1 dX5_law_162 rfl ?_
        refine lv_iload S.1 S.2.1 dX5_law_165 (lv_at hl 2 rfl) ?_
        refine mcVri (As := [.int (1176 : Int32), .int x4]) (rest := [.int x3]) S hw h (fun u h1 => met_isIn l E A (1176 : Int32) x4 w u h1) (cw_isIn S.2.2.2.2 rfl rfl ⟨Nat.le_of_ble_eq_true rfl, Nat.le_of_ble_eq_true rfl⟩) rfl hl.1 rfl (lv_room (Nat.le_of_ble_eq_true rfl)) dX5_law_167 (fun r15 H locs h hw => ?_)
        refine lv_if_ne (tgt := 180) S.1 S.2.1 dX5_law_170 rfl (fun c16 => ?_) (fun c16 => ?_)
        · replace h := if_f c16 h
          refine lv_iconst (v := 0) S.1 S.2.1 dX5_law_180 rfl ?_
          refine lv_ior S.1 S.2.1 dX5_law_181 ?_
          refine lv_topi (fun y17 ey => ?_)
          replace h := bdp_e ey h
          refine lv_istore_n (lv' := [(3, .int y17), (0, .ref (mM E)), (4, .int x4)]) S.1 S.2.1 dX5_law_182 rfl hl (by decide) rfl (fun ls hl => ?_)
          refine lv_iinc (v := x4 + (1 : Int32)) (lv' := [(4, .int (x4 + (1 : Int32))), (3, .int y17), (0, .ref (mM E))]) S.1 S.2.1 dX5_law_183 hl (k := 2) rfl rfl (by decide) rfl (fun ls hl => ?_)
          refine lv_goto (tgt := 141) S.1 S.2.1 dX5_law_186 rfl ?_
          exact ih _ _ _ _ _ _ h hw (lv_sub hl [2, 1, 0] rfl)
        · replace h := if_t c16 h
          refine lv_iconst (v := 1) S.1 S.2.1 dX5_law_173 rfl ?_
          refine lv_iload S.1 S.2.1 dX5_law_174 (lv_at hl 2 rfl) ?_
          refine lv_ishl S.1 S.2.1 dX5_law_176 ?_
          refine lv_goto (tgt := 181) S.1 S.2.1 dX5_law_177 rfl ?_
          refine lv_ior S.1 S.2.1 dX5_law_181 ?_
          refine lv_topi (fun y18 ey => ?_)
          replace h := bdp_e ey h
          refine lv_istore_n (lv' := [(3, .int y18), (0, .ref (mM E)), (4, .int x4)]) S.1 S.2.1 dX5_law_182 rfl hl (by decide) rfl (fun ls hl => ?_)
          refine lv_iinc (v := x4 + (1 : Int32)) (lv' := [(4, .int (x4 + (1 : Int32))), (3, .int y18), (0, .ref (mM E))]) S.1 S.2.1 dX5_law_183 hl (k := 2) rfl rfl (by decide) rfl (fun ls hl => ?_)
          refine lv_goto (tgt := 141) S.1 S.2.1 dX5_law_186 rfl ?_
          exact ih _ _ _ _ _ _ h hw (lv_sub hl [2, 1, 0] rfl)
set_option maxRecDepth 100000 in
set_option maxHeartbeats 4000000 in
theorem wk_M_law_p99 {p : Program} {l : Launch} {e : Env} {s : State} {m : MethodId} {args : Array Value} {below : List Frame} {meth : Method} {c : Code} {E : mE} {A : Nat → Prop} (S : CallFix p m c cX5_law 5 s args lw_all RX5) (hr : meth.sig.returnType = (some .int)) (hlocks : meth.locks = false) {res : Int32 × MS}  : ∀ n : Nat, ∀ (x2 : Int32) (x3 : Int32) (w : MS) (H : Heap) (locs : List Loc) (ls : Array Slot), M_law_p99 n x2 x3 w = some res → mH E A s w H locs → lv_has ls 5 [(0, .ref (mM E)), (2, .int x2), (3, .int x3)] → W p l e rm_law s m args below meth c H locs 0 0 (MQ below (mQi E A res.1 res.2) args s 0 0 A) (F0 m 99 ls []) := by
  intro n
  induction n with
  | zero => intro x2 x3 w H locs ls h; cases (show (none : Option (Int32 × MS)) = some res from h)
  | succ n ih =>
    intro x2 x3 w H locs ls h hw hl
    rw [M_law_p99] at h
    refine lv_iload_n S.1 S.2.1 dX5_law_99 rfl (lv_at hl 2 rfl) ?_
    refine lv_iload_n S.1 S.2.1 dX5_law_100 rfl (lv_at hl 1 rfl) ?_
    refine lv_icmp_ge (tgt := 118) S.1 S.2.1 dX5_law_101 rfl (fun c7 => ?_) (fun c7 => ?_)
    · replace h := if_t c7 h
      refine lv_aload_n S.1 S.2.1 dX5_law_118 rfl (lv_at hl 0 rfl) ?_
      refine lv_aload_n S.1 S.2.1 dX5_law_119 rfl (lv_at hl 0 rfl) ?_
      refine mg10 S hw dX5_law_120 ?_
      refine lv_iconst (v := 3) S.1 S.2.1 dX5_law_123 rfl ?_
      refine mlc10 (j := 3) S hw dX5_law_124 (by decide) ?_
      refine mp28 S hw dX5_law_125 h (fun w8 H locs h hw => ?_)
      refine lv_aload_n S.1 S.2.1 dX5_law_128 rfl (lv_at hl 0 rfl) ?_
      refine lv_sipush (v := 1176) S.1 S.2.1 dX5_law_129 rfl ?_
      refine mcVwi (As := [.int (1176 : Int32)]) (rest := []) S hw h (fun u h1 => met_noons l E A (1176 : Int32) w8 u h1) (cw_noons S.2.2.2.2 rfl rfl ⟨Nat.le_of_ble_eq_true rfl, Nat.le_of_ble_eq_true rfl⟩) rfl hl.1 rfl (lv_room (Nat.le_of_ble_eq_true rfl)) dX5_law_132 (fun r10 w9 H locs h hw => ?_)
      refine lv_pop S.1 S.2.1 dX5_law_135 rfl ?_
      refine lv_iconst (v := 0) S.1 S.2.1 dX5_law_136 rfl ?_
      refine lv_istore_n (lv' := [(3, .int (0 : Int32)), (0, .ref (mM E)), (2, .int x2)]) S.1 S.2.1 dX5_law_137 rfl hl (by decide) rfl (fun ls hl => ?_)
      refine lv_iconst (v := 0) S.1 S.2.1 dX5_law_138 rfl ?_
      refine lv_istore (lv' := [(4, .int (0 : Int32)), (3, .int (0 : Int32)), (0, .ref (mM E)), (2, .int x2)]) S.1 S.2.1 dX5_law_139 hl (by decide) rfl (fun ls hl => ?_)
      exact wk_M_law_p141 S hr hlocks FU _ _ _ _ _ _ h hw (lv_sub hl [2, 1, 0] rfl)
    · replace h := if_f c7 h
      refine lv_aload_n S.1 S.2.1 dX5_law_104 rfl (lv_at hl 0 rfl) ?_
      refine lv_sipush (v := 1176) S.1 S.2.1 dX5_law_105 rfl ?_
      refine mcVwi (As := [.int (1176 : Int32)]) (rest := []) S hw h (fun u h1 => met_passes l E A (1176 : Int32) w u h1) (cw_passes S.2.2.2.2 rfl rfl ⟨Nat.le_of_ble_eq_true rfl, Nat.le_of_ble_eq_true rfl⟩) rfl hl.1 rfl (lv_room (Nat.le_of_ble_eq_true rfl)) dX5_law_108 (fun r20 w19 H locs h hw => ?_)
      refine lv_pop S.1 S.2.1 dX5_law_111 rfl ?_
      refine lv_iinc (v := x3 + (1 : Int32)) (lv' := [(3, .int (x3 + (1 : Int32))), (0, .ref (mM E)), (2, .int x2)]) S.1 S.2.1 dX5_law_112 hl (k := 2) rfl rfl (by decide) rfl (fun ls hl => ?_)
      refine lv_goto (tgt := 99) S.1 S.2.1 dX5_law_115 rfl ?_
      exact ih _ _ _ _ _ _ h hw (lv_sub hl [1, 2, 0] rfl)
set_option maxRecDepth 100000 in
set_option maxHeartbeats 4000000 in
theorem wk_M_law_p40 {p : Program} {l : Launch} {e : Env} {s : State} {m : MethodId} {args : Array Value} {below : List Frame} {meth : Method} {c : Code} {E : mE} {A : Nat → Prop} (S : CallFix p m c cX5_law 5 s args lw_all RX5) (hr : meth.sig.returnType = (some .int)) (hlocks : meth.locks = false) {res : Int32 × MS}  : ∀ n : Nat, ∀ (x1 : Int32) (x2 : Int32) (x3 : Int32) (w : MS) (H : Heap) (locs : List Loc) (ls : Array Slot), M_law_p40 n x1 x2 x3 w = some res → mH E A s w H locs → lv_has ls 5 [(0, .ref (mM E)), (1, .int x1), (2, .int x2), (3, .int x3)] → W p l e rm_law s m args below meth c H locs 0 0 (MQ below (mQi E A res.1 res.2) args s 0 0 A) (F0 m 40 ls []) := by
  intro n
  induction n with
  | zero => intro x1 x2 x3 w H locs ls h; cases (show (none : Option (Int32 × MS)) = some res from h)
  | succ n ih =>
    intro x1 x2 x3 w H locs ls h hw hl
    rw [M_law_p40] at h
    refine lv_iload_n S.1 S.2.1 dX5_law_40 rfl (lv_at hl 3 rfl) ?_
    refine lv_aload_n S.1 S.2.1 dX5_law_41 rfl (lv_at hl 0 rfl) ?_
    refine mcVti (As := []) (rest := [.int x3]) S hw (met_tenants l E A  w _ rfl) (cw_tenants S.2.2.2.2 rfl rfl ⟨Nat.le_of_ble_eq_true rfl, Nat.le_of_ble_eq_true rfl⟩) rfl hl.1 rfl (lv_room (Nat.le_of_ble_eq_true rfl)) dX5_law_42 (fun H locs hw => ?_)
    refine lv_icmp_ge (tgt := 92) S.1 S.2.1 dX5_law_45 rfl (fun c5 => ?_) (fun c5 => ?_)
    · replace h := if_t c5 h
      refine lv_aload_n S.1 S.2.1 dX5_law_92 rfl (lv_at hl 0 rfl) ?_
      refine lv_iload_n S.1 S.2.1 dX5_law_93 rfl (lv_at hl 1 rfl) ?_
      refine mp28 S hw dX5_law_94 h (fun w6 H locs h hw => ?_)
      refine lv_iconst (v := 0) S.1 S.2.1 dX5_law_97 rfl ?_
      refine lv_istore_n (lv' := [(3, .int (0 : Int32)), (0, .ref (mM E)), (1, .int x1), (2, .int x2)]) S.1 S.2.1 dX5_law_98 rfl hl (by decide) rfl (fun ls hl => ?_)
      exact wk_M_law_p99 S hr hlocks FU _ _ _ _ _ _ h hw (lv_sub hl [1, 3, 0] rfl)
    · replace h := if_f c5 h
      refine lv_aload_n S.1 S.2.1 dX5_law_48 rfl (lv_at hl 0 rfl) ?_
      refine mg25 S hw dX5_law_49 ?_
      refine lv_sipush (v := 1195) S.1 S.2.1 dX5_law_52 rfl ?_
      refine lv_iload_n S.1 S.2.1 dX5_law_55 rfl (lv_at hl 3 rfl) ?_
      refine lv_iadd S.1 S.2.1 dX5_law_56 ?_
      refine lv_aload_n S.1 S.2.1 dX5_law_57 rfl (lv_at hl 0 rfl) ?_
      refine lv_iconst (v := 0) S.1 S.2.1 dX5_law_58 rfl ?_
      refine lv_iload_n S.1 S.2.1 dX5_law_59 rfl (lv_at hl 3 rfl) ?_
      refine mcVri (As := [.int (0 : Int32), .int x3]) (rest := [.int ((1195 : Int32) + x3), .ref (mAr E 25)]) S hw h (fun u h1 => met_isIn l E A (0 : Int32) x3 w u h1) (cw_isIn S.2.2.2.2 rfl rfl ⟨Nat.le_of_ble_eq_true rfl, Nat.le_of_ble_eq_true rfl⟩) rfl hl.1 rfl (lv_room (Nat.le_of_ble_eq_true rfl)) dX5_law_60 (fun r21 H locs h hw => ?_)
      refine lv_if_eq (tgt := 75) S.1 S.2.1 dX5_law_63 rfl (fun c22 => ?_) (fun c22 => ?_)
      · replace h := if_t c22 h
        refine lv_aload_n S.1 S.2.1 dX5_law_75 rfl (lv_at hl 0 rfl) ?_
        refine mg25 S hw dX5_law_76 ?_
        refine lv_sipush (v := 1195) S.1 S.2.1 dX5_law_79 rfl ?_
        refine lv_iload_n S.1 S.2.1 dX5_law_82 rfl (lv_at hl 3 rfl) ?_
        refine lv_iadd S.1 S.2.1 dX5_law_83 ?_
        refine ml25 S hw dX5_law_84 h (fun v23 h => ?_)
        refine ms25 S hw dX5_law_85 h (fun w24 H locs h hw => ?_)
        refine lv_iinc (v := x3 + (1 : Int32)) (lv' := [(3, .int (x3 + (1 : Int32))), (0, .ref (mM E)), (1, .int x1), (2, .int x2)]) S.1 S.2.1 dX5_law_86 hl (k := 3) rfl rfl (by decide) rfl (fun ls hl => ?_)
        refine lv_goto (tgt := 40) S.1 S.2.1 dX5_law_89 rfl ?_
        exact ih _ _ _ _ _ _ _ h hw (lv_sub hl [1, 2, 3, 0] rfl)
      · replace h := if_f c22 h
        refine lv_aload_n S.1 S.2.1 dX5_law_66 rfl (lv_at hl 0 rfl) ?_
        refine mg10 S hw dX5_law_67 ?_
        refine lv_iconst (v := 4) S.1 S.2.1 dX5_law_70 rfl ?_
        refine mlc10 (j := 4) S hw dX5_law_71 (by decide) ?_
        refine lv_goto (tgt := 85) S.1 S.2.1 dX5_law_72 rfl ?_
        refine ms25 S hw dX5_law_85 h (fun w25 H locs h hw => ?_)
        refine lv_iinc (v := x3 + (1 : Int32)) (lv' := [(3, .int (x3 + (1 : Int32))), (0, .ref (mM E)), (1, .int x1), (2, .int x2)]) S.1 S.2.1 dX5_law_86 hl (k := 3) rfl rfl (by decide) rfl (fun ls hl => ?_)
        refine lv_goto (tgt := 40) S.1 S.2.1 dX5_law_89 rfl ?_
        exact ih _ _ _ _ _ _ _ h hw (lv_sub hl [1, 2, 3, 0] rfl)
set_option maxRecDepth 100000 in
set_option maxHeartbeats 4000000 in
theorem met_law (l : Launch) (E : mE) (A : Nat → Prop)  (x1 : Int32) (x2 : Int32) (w : MS) (res : Int32 × MS) (h : M_law x1 x2 w = some res) : Met l yX5_law (ws_ yX5_law cX5_law 5 (some .int)) rm_law (mPc E A [.ref (mM E), .int x1, .int x2] w) (mQi E A res.1 res.2) 0 0 A := by
  refine mMet (by decide) rfl (Nat.le_of_ble_eq_true rfl) ?_
  intro p e s m below meth c S hr hlocks H ls hw hl
  replace hl : lv_has ls 5 [(0, .ref (mM E)), (1, .int x1), (2, .int x2)] := hl
  unfold M_law at h
  refine lv_aload_n S.1 S.2.1 dX5_law_0 rfl (lv_at hl 0 rfl) ?_
  refine lv_iconst (v := 0) S.1 S.2.1 dX5_law_1 rfl ?_
  refine mp0 S hw dX5_law_2 h (fun w1 H locs h hw => ?_)
  refine lv_iload_n S.1 S.2.1 dX5_law_5 rfl (lv_at hl 1 rfl) ?_
  refine lv_iconst (v := 0) S.1 S.2.1 dX5_law_6 rfl ?_
  refine lv_bipush (v := 60) S.1 S.2.1 dX5_law_7 rfl ?_
  refine mcSti (As := [.int x1, .int (0 : Int32), .int (60 : Int32)]) (rest := []) S hw (met_within l E A x1 (0 : Int32) (60 : Int32) w1 _ rfl) (cw_within S.2.2.2.2 rfl rfl ⟨Nat.le_of_ble_eq_true rfl, Nat.le_of_ble_eq_true rfl⟩) rfl hl.1 rfl (lv_room (Nat.le_of_ble_eq_true rfl)) dX5_law_9 (fun H locs hw => ?_)
  refine lv_if_eq (tgt := 26) S.1 S.2.1 dX5_law_12 rfl (fun c2 => ?_) (fun c2 => ?_)
  · replace h := if_t c2 h
    refine lv_iconst (v := -1) S.1 S.2.1 dX5_law_26 rfl ?_
    exact m_iret S hr hlocks hw (so2 h) dX5_law_27
  · replace h := if_f c2 h
    refine lv_iload_n S.1 S.2.1 dX5_law_15 rfl (lv_at hl 2 rfl) ?_
    refine lv_iconst (v := 1) S.1 S.2.1 dX5_law_16 rfl ?_
    refine lv_sipush (v := 240) S.1 S.2.1 dX5_law_17 rfl ?_
    refine mcSti (As := [.int x2, .int (1 : Int32), .int (240 : Int32)]) (rest := []) S hw (met_within l E A x2 (1 : Int32) (240 : Int32) w1 _ rfl) (cw_within S.2.2.2.2 rfl rfl ⟨Nat.le_of_ble_eq_true rfl, Nat.le_of_ble_eq_true rfl⟩) rfl hl.1 rfl (lv_room (Nat.le_of_ble_eq_true rfl)) dX5_law_20 (fun H locs hw => ?_)
    refine lv_if_ne (tgt := 28) S.1 S.2.1 dX5_law_23 rfl (fun c3 => ?_) (fun c3 => ?_)
    · replace h := if_f c3 h
      refine lv_aload_n S.1 S.2.1 dX5_law_28 rfl (lv_at hl 0 rfl) ?_
      refine lv_iconst (v := 0) S.1 S.2.1 dX5_law_29 rfl ?_
      refine lv_sipush (v := 1176) S.1 S.2.1 dX5_law_30 rfl ?_
      refine lv_bipush (v := 43) S.1 S.2.1 dX5_law_33 rfl ?_
      refine mcVv (As := [.int (0 : Int32), .int (1176 : Int32), .int (43 : Int32)]) (rest := []) S hw h (fun u h1 => met_copies l E A (0 : Int32) (1176 : Int32) (43 : Int32) w1 u h1) (cw_copies S.2.2.2.2 rfl rfl ⟨Nat.le_of_ble_eq_true rfl, Nat.le_of_ble_eq_true rfl⟩) rfl hl.1 rfl (lv_room (Nat.le_of_ble_eq_true rfl)) dX5_law_35 (fun w4 H locs h hw => ?_)
      refine lv_iconst (v := 0) S.1 S.2.1 dX5_law_38 rfl ?_
      refine lv_istore_n (lv' := [(3, .int (0 : Int32)), (0, .ref (mM E)), (1, .int x1), (2, .int x2)]) S.1 S.2.1 dX5_law_39 rfl hl (by decide) rfl (fun ls hl => ?_)
      exact wk_M_law_p40 S hr hlocks FU _ _ _ _ _ _ _ h hw (lv_sub hl [1, 2, 3, 0] rfl)
    · replace h := if_t c3 h
      refine lv_iconst (v := -1) S.1 S.2.1 dX5_law_26 rfl ?_
      exact m_iret S hr hlocks hw (so2 h) dX5_law_27
def M_sample (x1 : Int32) (x2 : Int32) (w : MS) : Option (Int32 × MS) :=
  bdp (wI w 0 0 (0 : Int32)) fun w1 =>
  if (M_within x1 (0 : Int32) (5 : Int32)) = 0 then
    some ((0 : Int32), w1)
  else
    if (M_within x2 (0 : Int32) (240 : Int32)) = 0 then
      some ((0 : Int32), w1)
    else
      if (rI w1 25 43) = (6 : Int32) then
        some ((0 : Int32), w1)
      else
        bd1 (wA w1 25 1288 ((44 : Int32) + ((2 : Int32) * (rI w1 25 43))) x1) fun w5 =>
        bd1 (wA w5 25 1288 (((44 : Int32) + ((2 : Int32) * (rI w5 25 43))) + (1 : Int32)) x2) fun w6 =>
        bdp (wI w6 25 43 ((rI w6 25 43) + (1 : Int32))) fun w7 =>
        some ((1 : Int32), w7)
set_option maxRecDepth 100000 in
set_option maxHeartbeats 4000000 in
theorem met_sample (l : Launch) (E : mE) (A : Nat → Prop)  (x1 : Int32) (x2 : Int32) (w : MS) (res : Int32 × MS) (h : M_sample x1 x2 w = some res) : Met l yX5_sample (ws_ yX5_sample cX5_sample 3 (some .boolean)) rm_sample (mPc E A [.ref (mM E), .int x1, .int x2] w) (mQi E A res.1 res.2) 0 0 A := by
  refine mMet (by decide) rfl (Nat.le_of_ble_eq_true rfl) ?_
  intro p e s m below meth c S hr hlocks H ls hw hl
  replace hl : lv_has ls 3 [(0, .ref (mM E)), (1, .int x1), (2, .int x2)] := hl
  unfold M_sample at h
  refine lv_aload_n S.1 S.2.1 dX5_sample_0 rfl (lv_at hl 0 rfl) ?_
  refine lv_iconst (v := 0) S.1 S.2.1 dX5_sample_1 rfl ?_
  refine mp0 S hw dX5_sample_2 h (fun w1 H locs h hw => ?_)
  refine lv_iload_n S.1 S.2.1 dX5_sample_5 rfl (lv_at hl 1 rfl) ?_
  refine lv_iconst (v := 0) S.1 S.2.1 dX5_sample_6 rfl ?_
  refine lv_iconst (v := 5) S.1 S.2.1 dX5_sample_7 rfl ?_
  refine mcSti (As := [.int x1, .int (0 : Int32), .int (5 : Int32)]) (rest := []) S hw (met_within l E A x1 (0 : Int32) (5 : Int32) w1 _ rfl) (cw_within S.2.2.2.2 rfl rfl ⟨Nat.le_of_ble_eq_true rfl, Nat.le_of_ble_eq_true rfl⟩) rfl hl.1 rfl (lv_room (Nat.le_of_ble_eq_true rfl)) dX5_sample_8 (fun H locs hw => ?_)
  refine lv_if_eq (tgt := 37) S.1 S.2.1 dX5_sample_11 rfl (fun c2 => ?_) (fun c2 => ?_)
  · replace h := if_t c2 h
    refine lv_iconst (v := 0) S.1 S.2.1 dX5_sample_37 rfl ?_
    exact m_zret S hr hlocks hw rfl (so2 h) dX5_sample_38
  · replace h := if_f c2 h
    refine lv_iload_n S.1 S.2.1 dX5_sample_14 rfl (lv_at hl 2 rfl) ?_
    refine lv_iconst (v := 0) S.1 S.2.1 dX5_sample_15 rfl ?_
    refine lv_sipush (v := 240) S.1 S.2.1 dX5_sample_16 rfl ?_
    refine mcSti (As := [.int x2, .int (0 : Int32), .int (240 : Int32)]) (rest := []) S hw (met_within l E A x2 (0 : Int32) (240 : Int32) w1 _ rfl) (cw_within S.2.2.2.2 rfl rfl ⟨Nat.le_of_ble_eq_true rfl, Nat.le_of_ble_eq_true rfl⟩) rfl hl.1 rfl (lv_room (Nat.le_of_ble_eq_true rfl)) dX5_sample_19 (fun H locs hw => ?_)
    refine lv_if_eq (tgt := 37) S.1 S.2.1 dX5_sample_22 rfl (fun c3 => ?_) (fun c3 => ?_)
    · replace h := if_t c3 h
      refine lv_iconst (v := 0) S.1 S.2.1 dX5_sample_37 rfl ?_
      exact m_zret S hr hlocks hw rfl (so2 h) dX5_sample_38
    · replace h := if_f c3 h
      refine lv_aload_n S.1 S.2.1 dX5_sample_25 rfl (lv_at hl 0 rfl) ?_
      refine mg25 S hw dX5_sample_26 ?_
      refine lv_bipush (v := 43) S.1 S.2.1 dX5_sample_29 rfl ?_
      refine mlc25 (j := 43) S hw dX5_sample_31 (by decide) ?_
      refine lv_bipush (v := 6) S.1 S.2.1 dX5_sample_32 rfl ?_
      refine lv_icmp_ne (tgt := 39) S.1 S.2.1 dX5_sample_34 rfl (fun c4 => ?_) (fun c4 => ?_)
      · replace h := if_f c4 h
        refine lv_aload_n S.1 S.2.1 dX5_sample_39 rfl (lv_at hl 0 rfl) ?_
        refine mg25 S hw dX5_sample_40 ?_
        refine lv_bipush (v := 44) S.1 S.2.1 dX5_sample_43 rfl ?_
        refine lv_iconst (v := 2) S.1 S.2.1 dX5_sample_45 rfl ?_
        refine lv_aload_n S.1 S.2.1 dX5_sample_46 rfl (lv_at hl 0 rfl) ?_
        refine mg25 S hw dX5_sample_47 ?_
        refine lv_bipush (v := 43) S.1 S.2.1 dX5_sample_50 rfl ?_
        refine mlc25 (j := 43) S hw dX5_sample_52 (by decide) ?_
        refine lv_imul S.1 S.2.1 dX5_sample_53 ?_
        refine lv_iadd S.1 S.2.1 dX5_sample_54 ?_
        refine lv_iload_n S.1 S.2.1 dX5_sample_55 rfl (lv_at hl 1 rfl) ?_
        refine ms25 S hw dX5_sample_56 h (fun w5 H locs h hw => ?_)
        refine lv_aload_n S.1 S.2.1 dX5_sample_57 rfl (lv_at hl 0 rfl) ?_
        refine mg25 S hw dX5_sample_58 ?_
        refine lv_bipush (v := 44) S.1 S.2.1 dX5_sample_61 rfl ?_
        refine lv_iconst (v := 2) S.1 S.2.1 dX5_sample_63 rfl ?_
        refine lv_aload_n S.1 S.2.1 dX5_sample_64 rfl (lv_at hl 0 rfl) ?_
        refine mg25 S hw dX5_sample_65 ?_
        refine lv_bipush (v := 43) S.1 S.2.1 dX5_sample_68 rfl ?_
        refine mlc25 (j := 43) S hw dX5_sample_70 (by decide) ?_
        refine lv_imul S.1 S.2.1 dX5_sample_71 ?_
        refine lv_iadd S.1 S.2.1 dX5_sample_72 ?_
        refine lv_iconst (v := 1) S.1 S.2.1 dX5_sample_73 rfl ?_
        refine lv_iadd S.1 S.2.1 dX5_sample_74 ?_
        refine lv_iload_n S.1 S.2.1 dX5_sample_75 rfl (lv_at hl 2 rfl) ?_
        refine ms25 S hw dX5_sample_76 h (fun w6 H locs h hw => ?_)
        refine lv_aload_n S.1 S.2.1 dX5_sample_77 rfl (lv_at hl 0 rfl) ?_
        refine mg25 S hw dX5_sample_78 ?_
        refine lv_bipush (v := 43) S.1 S.2.1 dX5_sample_81 rfl ?_
        refine lv_dup2_11 S.1 S.2.1 dX5_sample_83 rfl rfl ?_
        refine mlc25 (j := 43) S hw dX5_sample_84 (by decide) ?_
        refine lv_iconst (v := 1) S.1 S.2.1 dX5_sample_85 rfl ?_
        refine lv_iadd S.1 S.2.1 dX5_sample_86 ?_
        refine msc25 (j := 43) S hw dX5_sample_87 (by decide) h (fun w7 H locs h hw => ?_)
        refine lv_iconst (v := 1) S.1 S.2.1 dX5_sample_88 rfl ?_
        exact m_zret S hr hlocks hw rfl (so2 h) dX5_sample_89
      · replace h := if_t c4 h
        refine lv_iconst (v := 0) S.1 S.2.1 dX5_sample_37 rfl ?_
        exact m_zret S hr hlocks hw rfl (so2 h) dX5_sample_38
def M_laysDay_p129 (k13 : Int32 → Int32 → Int32 → Int32 → Int32 → Int32 → MS → Option MS) (x1 : Int32) (x2 : Int32) (x3 : Int32) (x4 : Int32) (x5 : Int32) (x6 : Int32) (t0 : Int32) (t1 : Int32) (w : MS) : Option MS :=
  bd1 (wA w 35 6 t1 t0) fun w13 =>
  bd1 (M_calmed x1 x3 w13) fun r14 =>
  k13 x1 x2 r14 x4 x5 (x6 + (1 : Int32)) w13
def M_laysDay_p95 (k13 : Int32 → Int32 → Int32 → Int32 → Int32 → Int32 → MS → Option MS) (x1 : Int32) (x2 : Int32) (x3 : Int32) (x5 : Int32) (x6 : Int32) (t0 : Int32) (t1 : Int32) (w : MS) : Option MS :=
  bdp (t1 + t0) fun y9 =>
  bd1 (M_restOf x1 w) fun r10 =>
  bdp (r10 + x3) fun y11 =>
  if y11 ≤ (240 : Int32) then
    M_laysDay_p129 k13 x1 x2 x3 y9 x5 x6 y11 x6 w
  else
    M_laysDay_p129 k13 x1 x2 x3 y9 x5 x6 (240 : Int32) x6 w
def M_laysDay_p80 (k13 : Int32 → Int32 → Int32 → Int32 → Int32 → Int32 → MS → Option MS) (x1 : Int32) (x2 : Int32) (x4 : Int32) (x5 : Int32) (x6 : Int32) (x7 : Int32) (t0 : Int32) (t1 : Int32) (w : MS) : Option MS :=
  bdp (t1 + t0) fun y7 =>
  if x7 = (2 : Int32) then
    M_laysDay_p95 k13 x1 x2 y7 x5 x6 (1 : Int32) x4 w
  else
    M_laysDay_p95 k13 x1 x2 y7 x5 x6 (0 : Int32) x4 w
def M_laysDay_p13 : Nat → Int32 → Int32 → Int32 → Int32 → Int32 → Int32 → MS → Option MS
  | 0, _, _, _, _, _, _, _ => none
  | n + 1, x1, x2, x3, x4, x5, x6, w =>
    if (6 : Int32) ≤ x6 then
      some w
    else
      bd1 (o_idiv x2 x5) fun d2 =>
      bdp (d2 - d2 / (3 : Int32) * (3 : Int32)) fun y3 =>
      bdp (x5 / (3 : Int32)) fun y4 =>
      if y3 = (1 : Int32) then
        bd1 (M_tenantOf x1 (0 : Int32) w) fun r16 =>
        if r16 = (2 : Int32) then
          M_laysDay_p80 (M_laysDay_p13 n) x1 x2 x4 y4 x6 y3 (10 : Int32) x3 w
        else
          M_laysDay_p80 (M_laysDay_p13 n) x1 x2 x4 y4 x6 y3 (20 : Int32) x3 w
      else
        if y3 = (2 : Int32) then
          bd1 (M_frightened x1 (40 : Int32) x4 w) fun r15 =>
          M_laysDay_p80 (M_laysDay_p13 n) x1 x2 x4 y4 x6 y3 r15 x3 w
        else
          M_laysDay_p80 (M_laysDay_p13 n) x1 x2 x4 y4 x6 y3 (0 : Int32) x3 w
def M_laysDay (x1 : Int32) (x2 : Int32) (w : MS) : Option MS :=
  M_laysDay_p13 FU x1 x2 (0 : Int32) (0 : Int32) (243 : Int32) (0 : Int32) w
set_option maxRecDepth 100000 in
set_option maxHeartbeats 4000000 in
theorem wk_M_laysDay_p129 {p : Program} {l : Launch} {e : Env} {s : State} {m : MethodId} {args : Array Value} {below : List Frame} {meth : Method} {c : Code} {E : mE} {A : Nat → Prop} (S : CallFix p m c cX5_laysDay 9 s args lw_all RX5) (hr : meth.sig.returnType = none) (hlocks : meth.locks = false) {res : MS}  {k13 : Int32 → Int32 → Int32 → Int32 → Int32 → Int32 → MS → Option MS} (hk13 : ∀ (x1 : Int32) (x2 : Int32) (x3 : Int32) (x4 : Int32) (x5 : Int32) (x6 : Int32) (w : MS) (H : Heap) (locs : List Loc) (ls : Array Slot), k13 x1 x2 x3 x4 x5 x6 w = some res → mH E A s w H locs → lv_has ls 9 [(0, .ref (mM E)), (1, .int x1), (2, .int x2), (3, .int x3), (4, .int x4), (5, .int x5), (6, .int x6)] → W p l e rm_laysDay s m args below meth c H locs 0 0 (MQ below (mQv E A res) args s 0 0 A) (F0 m 13 ls [])) : ∀ (x1 : Int32) (x2 : Int32) (x3 : Int32) (x4 : Int32) (x5 : Int32) (x6 : Int32) (t0 : Int32) (t1 : Int32) (w : MS) (H : Heap) (locs : List Loc) (ls : Array Slot), M_laysDay_p129 k13 x1 x2 x3 x4 x5 x6 t0 t1 w = some res → mH E A s w H locs → lv_has ls 9 [(0, .ref (mM E)), (1, .int x1), (2, .int x2), (3, .int x3), (4, .int x4), (5, .int x5), (6, .int x6)] → W p l e rm_laysDay s m args below meth c H locs 0 0 (MQ below (mQv E A res) args s 0 0 A) (F0 m 129 ls [.int t0, .int t1, .ref (mAr E 35)]) := by
  intro x1 x2 x3 x4 x5 x6 t0 t1 w H locs ls h hw hl
  unfold M_laysDay_p129 at h
  refine ms35 S hw dX5_laysDay_129 h (fun w13 H locs h hw => ?_)
  refine lv_aload_n S.1 S.2.1 dX5_laysDay_130 rfl (lv_at hl 0 rfl) ?_
  refine lv_iload_n S.1 S.2.1 dX5_laysDay_131 rfl (lv_at hl 1 rfl) ?_
  refine lv_iload_n S.1 S.2.1 dX5_laysDay_132 rfl (lv_at hl 3 rfl) ?_
  refine mcVri (As := [.int x1, .int x3]) (rest := []) S hw h (fun u h1 => met_calmed l E A x1 x3 w13 u h1) (cw_calmed S.2.2.2.2 rfl rfl ⟨Nat.le_of_ble_eq_true rfl, Nat.le_of_ble_eq_true rfl⟩) rfl hl.1 rfl (lv_room (Nat.le_of_ble_eq_true rfl)) dX5_laysDay_133 (fun r14 H locs h hw => ?_)
  refine lv_istore_n (lv' := [(3, .int r14), (0, .ref (mM E)), (1, .int x1), (2, .int x2), (4, .int x4), (5, .int x5), (6, .int x6)]) S.1 S.2.1 dX5_laysDay_136 rfl hl (by decide) rfl (fun ls hl => ?_)
  refine lv_iinc (v := x6 + (1 : Int32)) (lv' := [(6, .int (x6 + (1 : Int32))), (3, .int r14), (0, .ref (mM E)), (1, .int x1), (2, .int x2), (4, .int x4), (5, .int x5)]) S.1 S.2.1 dX5_laysDay_137 hl (k := 6) rfl rfl (by decide) rfl (fun ls hl => ?_)
  refine lv_goto (tgt := 13) S.1 S.2.1 dX5_laysDay_140 rfl ?_
  exact hk13 _ _ _ _ _ _ _ _ _ _ h hw (lv_sub hl [2, 3, 4, 1, 5, 6, 0] rfl)
set_option maxRecDepth 100000 in
set_option maxHeartbeats 4000000 in
theorem wk_M_laysDay_p95 {p : Program} {l : Launch} {e : Env} {s : State} {m : MethodId} {args : Array Value} {below : List Frame} {meth : Method} {c : Code} {E : mE} {A : Nat → Prop} (S : CallFix p m c cX5_laysDay 9 s args lw_all RX5) (hr : meth.sig.returnType = none) (hlocks : meth.locks = false) {res : MS}  {k13 : Int32 → Int32 → Int32 → Int32 → Int32 → Int32 → MS → Option MS} (hk13 : ∀ (x1 : Int32) (x2 : Int32) (x3 : Int32) (x4 : Int32) (x5 : Int32) (x6 : Int32) (w : MS) (H : Heap) (locs : List Loc) (ls : Array Slot), k13 x1 x2 x3 x4 x5 x6 w = some res → mH E A s w H locs → lv_has ls 9 [(0, .ref (mM E)), (1, .int x1), (2, .int x2), (3, .int x3), (4, .int x4), (5, .int x5), (6, .int x6)] → W p l e rm_laysDay s m args below meth c H locs 0 0 (MQ below (mQv E A res) args s 0 0 A) (F0 m 13 ls [])) : ∀ (x1 : Int32) (x2 : Int32) (x3 : Int32) (x5 : Int32) (x6 : Int32) (t0 : Int32) (t1 : Int32) (w : MS) (H : Heap) (locs : List Loc) (ls : Array Slot), M_laysDay_p95 k13 x1 x2 x3 x5 x6 t0 t1 w = some res → mH E A s w H locs → lv_has ls 9 [(0, .ref (mM E)), (1, .int x1), (2, .int x2), (3, .int x3), (5, .int x5), (6, .int x6)] → W p l e rm_laysDay s m args below meth c H locs 0 0 (MQ below (mQv E A res) args s 0 0 A) (F0 m 95 ls [.int t0, .int t1]) := by
  intro x1 x2 x3 x5 x6 t0 t1 w H locs ls h hw hl
  unfold M_laysDay_p95 at h
  refine lv_iadd S.1 S.2.1 dX5_laysDay_95 ?_
  refine lv_topi (fun y9 ey => ?_)
  replace h := bdp_e ey h
  refine lv_istore (lv' := [(4, .int y9), (0, .ref (mM E)), (1, .int x1), (2, .int x2), (3, .int x3), (5, .int x5), (6, .int x6)]) S.1 S.2.1 dX5_laysDay_96 hl (by decide) rfl (fun ls hl => ?_)
  refine lv_aload_n S.1 S.2.1 dX5_laysDay_98 rfl (lv_at hl 1 rfl) ?_
  refine lv_iload_n S.1 S.2.1 dX5_laysDay_99 rfl (lv_at hl 2 rfl) ?_
  refine mcVri (As := [.int x1]) (rest := []) S hw h (fun u h1 => met_restOf l E A x1 w u h1) (cw_restOf S.2.2.2.2 rfl rfl ⟨Nat.le_of_ble_eq_true rfl, Nat.le_of_ble_eq_true rfl⟩) rfl hl.1 rfl (lv_room (Nat.le_of_ble_eq_true rfl)) dX5_laysDay_100 (fun r10 H locs h hw => ?_)
  refine lv_iload_n S.1 S.2.1 dX5_laysDay_103 rfl (lv_at hl 4 rfl) ?_
  refine lv_iadd S.1 S.2.1 dX5_laysDay_104 ?_
  refine lv_topi (fun y11 ey => ?_)
  replace h := bdp_e ey h
  refine lv_istore (lv' := [(8, .int y11), (4, .int y9), (0, .ref (mM E)), (1, .int x1), (2, .int x2), (3, .int x3), (5, .int x5), (6, .int x6)]) S.1 S.2.1 dX5_laysDay_105 hl (by decide) rfl (fun ls hl => ?_)
  refine lv_aload_n S.1 S.2.1 dX5_laysDay_107 rfl (lv_at hl 2 rfl) ?_
  refine mg35 S hw dX5_laysDay_108 ?_
  refine lv_iload S.1 S.2.1 dX5_laysDay_111 (lv_at hl 7 rfl) ?_
  refine lv_iload S.1 S.2.1 dX5_laysDay_113 (lv_at hl 0 rfl) ?_
  refine lv_sipush (v := 240) S.1 S.2.1 dX5_laysDay_115 rfl ?_
  refine lv_icmp_le (tgt := 127) S.1 S.2.1 dX5_laysDay_118 rfl (fun c12 => ?_) (fun c12 => ?_)
  · replace h := if_t c12 h
    refine lv_iload S.1 S.2.1 dX5_laysDay_127 (lv_at hl 0 rfl) ?_
    exact wk_M_laysDay_p129 S hr hlocks hk13 _ _ _ _ _ _ _ _ _ _ _ _ h hw (lv_sub hl [2, 3, 4, 5, 1, 6, 7] rfl)
  · replace h := if_f c12 h
    refine lv_sipush (v := 240) S.1 S.2.1 dX5_laysDay_121 rfl ?_
    refine lv_goto (tgt := 129) S.1 S.2.1 dX5_laysDay_124 rfl ?_
    exact wk_M_laysDay_p129 S hr hlocks hk13 _ _ _ _ _ _ _ _ _ _ _ _ h hw (lv_sub hl [2, 3, 4, 5, 1, 6, 7] rfl)
set_option maxRecDepth 100000 in
set_option maxHeartbeats 4000000 in
theorem wk_M_laysDay_p80 {p : Program} {l : Launch} {e : Env} {s : State} {m : MethodId} {args : Array Value} {below : List Frame} {meth : Method} {c : Code} {E : mE} {A : Nat → Prop} (S : CallFix p m c cX5_laysDay 9 s args lw_all RX5) (hr : meth.sig.returnType = none) (hlocks : meth.locks = false) {res : MS}  {k13 : Int32 → Int32 → Int32 → Int32 → Int32 → Int32 → MS → Option MS} (hk13 : ∀ (x1 : Int32) (x2 : Int32) (x3 : Int32) (x4 : Int32) (x5 : Int32) (x6 : Int32) (w : MS) (H : Heap) (locs : List Loc) (ls : Array Slot), k13 x1 x2 x3 x4 x5 x6 w = some res → mH E A s w H locs → lv_has ls 9 [(0, .ref (mM E)), (1, .int x1), (2, .int x2), (3, .int x3), (4, .int x4), (5, .int x5), (6, .int x6)] → W p l e rm_laysDay s m args below meth c H locs 0 0 (MQ below (mQv E A res) args s 0 0 A) (F0 m 13 ls [])) : ∀ (x1 : Int32) (x2 : Int32) (x4 : Int32) (x5 : Int32) (x6 : Int32) (x7 : Int32) (t0 : Int32) (t1 : Int32) (w : MS) (H : Heap) (locs : List Loc) (ls : Array Slot), M_laysDay_p80 k13 x1 x2 x4 x5 x6 x7 t0 t1 w = some res → mH E A s w H locs → lv_has ls 9 [(0, .ref (mM E)), (1, .int x1), (2, .int x2), (4, .int x4), (5, .int x5), (6, .int x6), (7, .int x7)] → W p l e rm_laysDay s m args below meth c H locs 0 0 (MQ below (mQv E A res) args s 0 0 A) (F0 m 80 ls [.int t0, .int t1]) := by
  intro x1 x2 x4 x5 x6 x7 t0 t1 w H locs ls h hw hl
  unfold M_laysDay_p80 at h
  refine lv_iadd S.1 S.2.1 dX5_laysDay_80 ?_
  refine lv_topi (fun y7 ey => ?_)
  replace h := bdp_e ey h
  refine lv_istore_n (lv' := [(3, .int y7), (0, .ref (mM E)), (1, .int x1), (2, .int x2), (4, .int x4), (5, .int x5), (6, .int x6), (7, .int x7)]) S.1 S.2.1 dX5_laysDay_81 rfl hl (by decide) rfl (fun ls hl => ?_)
  refine lv_iload S.1 S.2.1 dX5_laysDay_82 (lv_at hl 4 rfl) ?_
  refine lv_iload S.1 S.2.1 dX5_laysDay_84 (lv_at hl 7 rfl) ?_
  refine lv_iconst (v := 2) S.1 S.2.1 dX5_laysDay_86 rfl ?_
  refine lv_icmp_ne (tgt := 94) S.1 S.2.1 dX5_laysDay_87 rfl (fun c8 => ?_) (fun c8 => ?_)
  · replace h := if_f c8 h
    refine lv_iconst (v := 0) S.1 S.2.1 dX5_laysDay_94 rfl ?_
    exact wk_M_laysDay_p95 S hr hlocks hk13 _ _ _ _ _ _ _ _ _ _ _ h hw (lv_sub hl [1, 2, 3, 0, 5, 6] rfl)
  · replace h := if_t c8 h
    refine lv_iconst (v := 1) S.1 S.2.1 dX5_laysDay_90 rfl ?_
    refine lv_goto (tgt := 95) S.1 S.2.1 dX5_laysDay_91 rfl ?_
    exact wk_M_laysDay_p95 S hr hlocks hk13 _ _ _ _ _ _ _ _ _ _ _ h hw (lv_sub hl [1, 2, 3, 0, 5, 6] rfl)
set_option maxRecDepth 100000 in
set_option maxHeartbeats 4000000 in
theorem wk_M_laysDay_p13 {p : Program} {l : Launch} {e : Env} {s : State} {m : MethodId} {args : Array Value} {below : List Frame} {meth : Method} {c : Code} {E : mE} {A : Nat → Prop} (S : CallFix p m c cX5_laysDay 9 s args lw_all RX5) (hr : meth.sig.returnType = none) (hlocks : meth.locks = false) {res : MS}  : ∀ n : Nat, ∀ (x1 : Int32) (x2 : Int32) (x3 : Int32) (x4 : Int32) (x5 : Int32) (x6 : Int32) (w : MS) (H : Heap) (locs : List Loc) (ls : Array Slot), M_laysDay_p13 n x1 x2 x3 x4 x5 x6 w = some res → mH E A s w H locs → lv_has ls 9 [(0, .ref (mM E)), (1, .int x1), (2, .int x2), (3, .int x3), (4, .int x4), (5, .int x5), (6, .int x6)] → W p l e rm_laysDay s m args below meth c H locs 0 0 (MQ below (mQv E A res) args s 0 0 A) (F0 m 13 ls []) := by
  intro n
  induction n with
  | zero => intro x1 x2 x3 x4 x5 x6 w H locs ls h; cases (show (none : Option MS) = some res from h)
  | succ n ih =>
    intro x1 x2 x3 x4 x5 x6 w H locs ls h hw hl
    rw [M_laysDay_p13] at h
    refine lv_iload S.1 S.2.1 dX5_laysDay_13 (lv_at hl 6 rfl) ?_
    refine lv_bipush (v := 6) S.1 S.2.1 dX5_laysDay_15 rfl ?_
    refine lv_icmp_ge (tgt := 143) S.1 S.2.1 dX5_laysDay_17 rfl (fun c1 => ?_) (fun c1 => ?_)
    · replace h := if_t c1 h
      exact m_vret S hr hlocks hw (so1 h) dX5_laysDay_143
    · replace h := if_f c1 h
      refine lv_iload_n S.1 S.2.1 dX5_laysDay_20 rfl (lv_at hl 2 rfl) ?_
      refine lv_iload S.1 S.2.1 dX5_laysDay_21 (lv_at hl 5 rfl) ?_
      refine r_idiv S.1 S.2.1 dX5_laysDay_23 h (fun d2 h => ?_)
      refine lv_iconst (v := 3) S.1 S.2.1 dX5_laysDay_24 rfl ?_
      refine lv_irem S.1 S.2.1 dX5_laysDay_25 (by decide) ?_
      refine lv_topi (fun y3 ey => ?_)
      replace h := bdp_e ey h
      refine lv_istore (lv' := [(7, .int y3), (0, .ref (mM E)), (1, .int x1), (2, .int x2), (3, .int x3), (4, .int x4), (5, .int x5), (6, .int x6)]) S.1 S.2.1 dX5_laysDay_26 hl (by decide) rfl (fun ls hl => ?_)
      refine lv_iload S.1 S.2.1 dX5_laysDay_28 (lv_at hl 6 rfl) ?_
      refine lv_iconst (v := 3) S.1 S.2.1 dX5_laysDay_30 rfl ?_
      refine lv_idiv S.1 S.2.1 dX5_laysDay_31 (by decide) ?_
      refine lv_topi (fun y4 ey => ?_)
      replace h := bdp_e ey h
      refine lv_istore (lv' := [(5, .int y4), (7, .int y3), (0, .ref (mM E)), (1, .int x1), (2, .int x2), (3, .int x3), (4, .int x4), (6, .int x6)]) S.1 S.2.1 dX5_laysDay_32 hl (by decide) rfl (fun ls hl => ?_)
      refine lv_iload_n S.1 S.2.1 dX5_laysDay_34 rfl (lv_at hl 5 rfl) ?_
      refine lv_iload S.1 S.2.1 dX5_laysDay_35 (lv_at hl 1 rfl) ?_
      refine lv_iconst (v := 1) S.1 S.2.1 dX5_laysDay_37 rfl ?_
      refine lv_icmp_ne (tgt := 61) S.1 S.2.1 dX5_laysDay_38 rfl (fun c5 => ?_) (fun c5 => ?_)
      · replace h := if_f c5 h
        refine lv_iload S.1 S.2.1 dX5_laysDay_61 (lv_at hl 1 rfl) ?_
        refine lv_iconst (v := 2) S.1 S.2.1 dX5_laysDay_63 rfl ?_
        refine lv_icmp_ne (tgt := 79) S.1 S.2.1 dX5_laysDay_64 rfl (fun c6 => ?_) (fun c6 => ?_)
        · replace h := if_f c6 h
          refine lv_iconst (v := 0) S.1 S.2.1 dX5_laysDay_79 rfl ?_
          exact wk_M_laysDay_p80 S hr hlocks ih _ _ _ _ _ _ _ _ _ _ _ _ h hw (lv_sub hl [2, 3, 4, 6, 0, 7, 1] rfl)
        · replace h := if_t c6 h
          refine lv_aload_n S.1 S.2.1 dX5_laysDay_67 rfl (lv_at hl 2 rfl) ?_
          refine lv_iload_n S.1 S.2.1 dX5_laysDay_68 rfl (lv_at hl 3 rfl) ?_
          refine lv_bipush (v := 40) S.1 S.2.1 dX5_laysDay_69 rfl ?_
          refine lv_iload S.1 S.2.1 dX5_laysDay_71 (lv_at hl 6 rfl) ?_
          refine mcVri (As := [.int x1, .int (40 : Int32), .int x4]) (rest := [.int x3]) S hw h (fun u h1 => met_frightened l E A x1 (40 : Int32) x4 w u h1) (cw_frightened S.2.2.2.2 rfl rfl ⟨Nat.le_of_ble_eq_true rfl, Nat.le_of_ble_eq_true rfl⟩) rfl hl.1 rfl (lv_room (Nat.le_of_ble_eq_true rfl)) dX5_laysDay_73 (fun r15 H locs h hw => ?_)
          refine lv_goto (tgt := 80) S.1 S.2.1 dX5_laysDay_76 rfl ?_
          exact wk_M_laysDay_p80 S hr hlocks ih _ _ _ _ _ _ _ _ _ _ _ _ h hw (lv_sub hl [2, 3, 4, 6, 0, 7, 1] rfl)
      · replace h := if_t c5 h
        refine lv_aload_n S.1 S.2.1 dX5_laysDay_41 rfl (lv_at hl 2 rfl) ?_
        refine lv_iload_n S.1 S.2.1 dX5_laysDay_42 rfl (lv_at hl 3 rfl) ?_
        refine lv_iconst (v := 0) S.1 S.2.1 dX5_laysDay_43 rfl ?_
        refine mcVri (As := [.int x1, .int (0 : Int32)]) (rest := [.int x3]) S hw h (fun u h1 => met_tenantOf l E A x1 (0 : Int32) w u h1) (cw_tenantOf S.2.2.2.2 rfl rfl ⟨Nat.le_of_ble_eq_true rfl, Nat.le_of_ble_eq_true rfl⟩) rfl hl.1 rfl (lv_room (Nat.le_of_ble_eq_true rfl)) dX5_laysDay_44 (fun r16 H locs h hw => ?_)
        refine lv_iconst (v := 2) S.1 S.2.1 dX5_laysDay_47 rfl ?_
        refine lv_icmp_ne (tgt := 56) S.1 S.2.1 dX5_laysDay_48 rfl (fun c17 => ?_) (fun c17 => ?_)
        · replace h := if_f c17 h
          refine lv_bipush (v := 20) S.1 S.2.1 dX5_laysDay_56 rfl ?_
          refine lv_goto (tgt := 80) S.1 S.2.1 dX5_laysDay_58 rfl ?_
          exact wk_M_laysDay_p80 S hr hlocks ih _ _ _ _ _ _ _ _ _ _ _ _ h hw (lv_sub hl [2, 3, 4, 6, 0, 7, 1] rfl)
        · replace h := if_t c17 h
          refine lv_bipush (v := 10) S.1 S.2.1 dX5_laysDay_51 rfl ?_
          refine lv_goto (tgt := 80) S.1 S.2.1 dX5_laysDay_53 rfl ?_
          exact wk_M_laysDay_p80 S hr hlocks ih _ _ _ _ _ _ _ _ _ _ _ _ h hw (lv_sub hl [2, 3, 4, 6, 0, 7, 1] rfl)
set_option maxRecDepth 100000 in
set_option maxHeartbeats 4000000 in
theorem met_laysDay (l : Launch) (E : mE) (A : Nat → Prop)  (x1 : Int32) (x2 : Int32) (w : MS) (res : MS) (h : M_laysDay x1 x2 w = some res) : Met l yX5_laysDay (ws_ yX5_laysDay cX5_laysDay 9 none) rm_laysDay (mPc E A [.ref (mM E), .int x1, .int x2] w) (mQv E A res) 0 0 A := by
  refine mMet (by decide) rfl (Nat.le_of_ble_eq_true rfl) ?_
  intro p e s m below meth c S hr hlocks H ls hw hl
  replace hl : lv_has ls 9 [(0, .ref (mM E)), (1, .int x1), (2, .int x2)] := hl
  unfold M_laysDay at h
  refine lv_iconst (v := 0) S.1 S.2.1 dX5_laysDay_0 rfl ?_
  refine lv_istore_n (lv' := [(3, .int (0 : Int32)), (0, .ref (mM E)), (1, .int x1), (2, .int x2)]) S.1 S.2.1 dX5_laysDay_1 rfl hl (by decide) rfl (fun ls hl => ?_)
  refine lv_iconst (v := 0) S.1 S.2.1 dX5_laysDay_2 rfl ?_
  refine lv_istore (lv' := [(4, .int (0 : Int32)), (3, .int (0 : Int32)), (0, .ref (mM E)), (1, .int x1), (2, .int x2)]) S.1 S.2.1 dX5_laysDay_3 hl (by decide) rfl (fun ls hl => ?_)
  refine lv_sipush (v := 243) S.1 S.2.1 dX5_laysDay_5 rfl ?_
  refine lv_istore (lv' := [(5, .int (243 : Int32)), (4, .int (0 : Int32)), (3, .int (0 : Int32)), (0, .ref (mM E)), (1, .int x1), (2, .int x2)]) S.1 S.2.1 dX5_laysDay_8 hl (by decide) rfl (fun ls hl => ?_)
  refine lv_iconst (v := 0) S.1 S.2.1 dX5_laysDay_10 rfl ?_
  refine lv_istore (lv' := [(6, .int (0 : Int32)), (5, .int (243 : Int32)), (4, .int (0 : Int32)), (3, .int (0 : Int32)), (0, .ref (mM E)), (1, .int x1), (2, .int x2)]) S.1 S.2.1 dX5_laysDay_11 hl (by decide) rfl (fun ls hl => ?_)
  exact wk_M_laysDay_p13 S hr hlocks FU _ _ _ _ _ _ _ _ _ _ h hw (lv_sub hl [4, 5, 6, 3, 2, 1, 0] rfl)
def M_findDays_p150 (k34 : Int32 → Int32 → MS → Option MS) : Nat → Int32 → Int32 → Int32 → MS → Option MS
  | 0, _, _, _, _ => none
  | n + 1, x1, x2, x4, w =>
    if (6 : Int32) ≤ x4 then
      k34 x1 (x2 + (1 : Int32)) w
    else
      bd1 (rA w 35 6 x4) fun v12 =>
      bd1 (rA w 36 1446 (((241 : Int32) * x4) + v12)) fun v13 =>
      bd1 (wA w 36 1446 (((241 : Int32) * x4) + v12) (v13 + (1 : Int32))) fun w14 =>
      (M_findDays_p150 k34 n) x1 x2 (x4 + (1 : Int32)) w14
def M_findDays_p134 (k34 : Int32 → Int32 → MS → Option MS) (x1 : Int32) (x2 : Int32) (t0 : Int32) (w : MS) : Option MS :=
  bdp (wI w 38 0 t0) fun w9 =>
  bdp (wI w9 37 0 ((rI w9 37 0) + (1 : Int32))) fun w10 =>
  M_findDays_p150 k34 FU x1 x2 (0 : Int32) w10
def M_findDays_p114 (k34 : Int32 → Int32 → MS → Option MS) (x1 : Int32) (x2 : Int32) (x3 : Int32) (w : MS) : Option MS :=
  if x3 = 0 then
    k34 x1 (x2 + (1 : Int32)) w
  else
    if (rI w 37 0) = 0 then
      M_findDays_p134 k34 x1 x2 x2 w
    else
      M_findDays_p134 k34 x1 x2 (rI w 38 0) w
def M_findDays_p52 (k34 : Int32 → Int32 → MS → Option MS) : Nat → Int32 → Int32 → Int32 → Int32 → MS → Option MS
  | 0, _, _, _, _, _ => none
  | n + 1, x1, x2, x3, x4, w =>
    if (rI w 25 43) ≤ x4 then
      M_findDays_p114 k34 x1 x2 x3 w
    else
      if x3 = 0 then
        M_findDays_p114 k34 x1 x2 x3 w
      else
        bd1 (rA w 25 1288 ((44 : Int32) + ((2 : Int32) * x4))) fun v16 =>
        bd1 (rA w 35 6 v16) fun v17 =>
        bd1 (rA w 25 1288 (((44 : Int32) + ((2 : Int32) * x4)) + (1 : Int32))) fun v18 =>
        if v17 = v18 then
          (M_findDays_p52 k34 n) x1 x2 (1 : Int32) (x4 + (1 : Int32)) w
        else
          (M_findDays_p52 k34 n) x1 x2 (0 : Int32) (x4 + (1 : Int32)) w
def M_findDays_p34 : Nat → Int32 → Int32 → MS → Option MS
  | 0, _, _, _ => none
  | n + 1, x1, x2, w =>
    if (729 : Int32) ≤ x2 then
      some w
    else
      bd1 (M_laysDay x1 x2 w) fun w5 =>
      M_findDays_p52 (M_findDays_p34 n) FU x1 x2 (1 : Int32) (0 : Int32) w5
def M_findDays_p12 : Nat → Int32 → Int32 → MS → Option MS
  | 0, _, _, _ => none
  | n + 1, x1, x2, w =>
    if (1446 : Int32) ≤ x2 then
      M_findDays_p34 FU x1 (0 : Int32) w
    else
      bd1 (wA w 36 1446 x2 (0 : Int32)) fun w20 =>
      (M_findDays_p12 n) x1 (x2 + (1 : Int32)) w20
def M_findDays (x1 : Int32) (w : MS) : Option MS :=
  bdp (wI w 37 0 (0 : Int32)) fun w1 =>
  bdp (wI w1 38 0 (-1 : Int32)) fun w2 =>
  M_findDays_p12 FU x1 (0 : Int32) w2
set_option maxRecDepth 100000 in
set_option maxHeartbeats 4000000 in
theorem wk_M_findDays_p150 {p : Program} {l : Launch} {e : Env} {s : State} {m : MethodId} {args : Array Value} {below : List Frame} {meth : Method} {c : Code} {E : mE} {A : Nat → Prop} (S : CallFix p m c cX5_findDays 5 s args lw_all RX5) (hr : meth.sig.returnType = none) (hlocks : meth.locks = false) {res : MS}  {k34 : Int32 → Int32 → MS → Option MS} (hk34 : ∀ (x1 : Int32) (x2 : Int32) (w : MS) (H : Heap) (locs : List Loc) (ls : Array Slot), k34 x1 x2 w = some res → mH E A s w H locs → lv_has ls 5 [(0, .ref (mM E)), (1, .int x1), (2, .int x2)] → W p l e rm_findDays s m args below meth c H locs 0 0 (MQ below (mQv E A res) args s 0 0 A) (F0 m 34 ls [])) : ∀ n : Nat, ∀ (x1 : Int32) (x2 : Int32) (x4 : Int32) (w : MS) (H : Heap) (locs : List Loc) (ls : Array Slot), M_findDays_p150 k34 n x1 x2 x4 w = some res → mH E A s w H locs → lv_has ls 5 [(0, .ref (mM E)), (1, .int x1), (2, .int x2), (4, .int x4)] → W p l e rm_findDays s m args below meth c H locs 0 0 (MQ below (mQv E A res) args s 0 0 A) (F0 m 150 ls []) := by
  intro n
  induction n with
  | zero => intro x1 x2 x4 w H locs ls h; cases (show (none : Option MS) = some res from h)
  | succ n ih =>
    intro x1 x2 x4 w H locs ls h hw hl
    rw [M_findDays_p150] at h
    refine lv_iload S.1 S.2.1 dX5_findDays_150 (lv_at hl 3 rfl) ?_
    refine lv_bipush (v := 6) S.1 S.2.1 dX5_findDays_152 rfl ?_
    refine lv_icmp_ge (tgt := 186) S.1 S.2.1 dX5_findDays_154 rfl (fun c11 => ?_) (fun c11 => ?_)
    · replace h := if_t c11 h
      refine lv_iinc (v := x2 + (1 : Int32)) (lv' := [(2, .int (x2 + (1 : Int32))), (0, .ref (mM E)), (1, .int x1), (4, .int x4)]) S.1 S.2.1 dX5_findDays_186 hl (k := 2) rfl rfl (by decide) rfl (fun ls hl => ?_)
      refine lv_goto (tgt := 34) S.1 S.2.1 dX5_findDays_189 rfl ?_
      exact hk34 _ _ _ _ _ _ h hw (lv_sub hl [1, 2, 0] rfl)
    · replace h := if_f c11 h
      refine lv_aload_n S.1 S.2.1 dX5_findDays_157 rfl (lv_at hl 0 rfl) ?_
      refine mg36 S hw dX5_findDays_158 ?_
      refine lv_sipush (v := 241) S.1 S.2.1 dX5_findDays_161 rfl ?_
      refine lv_iload S.1 S.2.1 dX5_findDays_164 (lv_at hl 3 rfl) ?_
      refine lv_imul S.1 S.2.1 dX5_findDays_166 ?_
      refine lv_aload_n S.1 S.2.1 dX5_findDays_167 rfl (lv_at hl 0 rfl) ?_
      refine mg35 S hw dX5_findDays_168 ?_
      refine lv_iload S.1 S.2.1 dX5_findDays_171 (lv_at hl 3 rfl) ?_
      refine ml35 S hw dX5_findDays_173 h (fun v12 h => ?_)
      refine lv_iadd S.1 S.2.1 dX5_findDays_174 ?_
      refine lv_dup2_11 S.1 S.2.1 dX5_findDays_175 rfl rfl ?_
      refine ml36 S hw dX5_findDays_176 h (fun v13 h => ?_)
      refine lv_iconst (v := 1) S.1 S.2.1 dX5_findDays_177 rfl ?_
      refine lv_iadd S.1 S.2.1 dX5_findDays_178 ?_
      refine ms36 S hw dX5_findDays_179 h (fun w14 H locs h hw => ?_)
      refine lv_iinc (v := x4 + (1 : Int32)) (lv' := [(4, .int (x4 + (1 : Int32))), (0, .ref (mM E)), (1, .int x1), (2, .int x2)]) S.1 S.2.1 dX5_findDays_180 hl (k := 3) rfl rfl (by decide) rfl (fun ls hl => ?_)
      refine lv_goto (tgt := 150) S.1 S.2.1 dX5_findDays_183 rfl ?_
      exact ih _ _ _ _ _ _ _ h hw (lv_sub hl [1, 2, 3, 0] rfl)
set_option maxRecDepth 100000 in
set_option maxHeartbeats 4000000 in
theorem wk_M_findDays_p134 {p : Program} {l : Launch} {e : Env} {s : State} {m : MethodId} {args : Array Value} {below : List Frame} {meth : Method} {c : Code} {E : mE} {A : Nat → Prop} (S : CallFix p m c cX5_findDays 5 s args lw_all RX5) (hr : meth.sig.returnType = none) (hlocks : meth.locks = false) {res : MS}  {k34 : Int32 → Int32 → MS → Option MS} (hk34 : ∀ (x1 : Int32) (x2 : Int32) (w : MS) (H : Heap) (locs : List Loc) (ls : Array Slot), k34 x1 x2 w = some res → mH E A s w H locs → lv_has ls 5 [(0, .ref (mM E)), (1, .int x1), (2, .int x2)] → W p l e rm_findDays s m args below meth c H locs 0 0 (MQ below (mQv E A res) args s 0 0 A) (F0 m 34 ls [])) : ∀ (x1 : Int32) (x2 : Int32) (t0 : Int32) (w : MS) (H : Heap) (locs : List Loc) (ls : Array Slot), M_findDays_p134 k34 x1 x2 t0 w = some res → mH E A s w H locs → lv_has ls 5 [(0, .ref (mM E)), (1, .int x1), (2, .int x2)] → W p l e rm_findDays s m args below meth c H locs 0 0 (MQ below (mQv E A res) args s 0 0 A) (F0 m 134 ls [.int t0, .ref (mM E)]) := by
  intro x1 x2 t0 w H locs ls h hw hl
  unfold M_findDays_p134 at h
  refine mp38 S hw dX5_findDays_134 h (fun w9 H locs h hw => ?_)
  refine lv_aload_n S.1 S.2.1 dX5_findDays_137 rfl (lv_at hl 0 rfl) ?_
  refine lv_dup S.1 S.2.1 dX5_findDays_138 rfl ?_
  refine mg37 S hw dX5_findDays_139 ?_
  refine lv_iconst (v := 1) S.1 S.2.1 dX5_findDays_142 rfl ?_
  refine lv_iadd S.1 S.2.1 dX5_findDays_143 ?_
  refine mp37 S hw dX5_findDays_144 h (fun w10 H locs h hw => ?_)
  refine lv_iconst (v := 0) S.1 S.2.1 dX5_findDays_147 rfl ?_
  refine lv_istore (lv' := [(4, .int (0 : Int32)), (0, .ref (mM E)), (1, .int x1), (2, .int x2)]) S.1 S.2.1 dX5_findDays_148 hl (by decide) rfl (fun ls hl => ?_)
  exact wk_M_findDays_p150 S hr hlocks hk34 FU _ _ _ _ _ _ _ h hw (lv_sub hl [1, 2, 3, 0] rfl)
set_option maxRecDepth 100000 in
set_option maxHeartbeats 4000000 in
theorem wk_M_findDays_p114 {p : Program} {l : Launch} {e : Env} {s : State} {m : MethodId} {args : Array Value} {below : List Frame} {meth : Method} {c : Code} {E : mE} {A : Nat → Prop} (S : CallFix p m c cX5_findDays 5 s args lw_all RX5) (hr : meth.sig.returnType = none) (hlocks : meth.locks = false) {res : MS}  {k34 : Int32 → Int32 → MS → Option MS} (hk34 : ∀ (x1 : Int32) (x2 : Int32) (w : MS) (H : Heap) (locs : List Loc) (ls : Array Slot), k34 x1 x2 w = some res → mH E A s w H locs → lv_has ls 5 [(0, .ref (mM E)), (1, .int x1), (2, .int x2)] → W p l e rm_findDays s m args below meth c H locs 0 0 (MQ below (mQv E A res) args s 0 0 A) (F0 m 34 ls [])) : ∀ (x1 : Int32) (x2 : Int32) (x3 : Int32) (w : MS) (H : Heap) (locs : List Loc) (ls : Array Slot), M_findDays_p114 k34 x1 x2 x3 w = some res → mH E A s w H locs → lv_has ls 5 [(0, .ref (mM E)), (1, .int x1), (2, .int x2), (3, .int x3)] → W p l e rm_findDays s m args below meth c H locs 0 0 (MQ below (mQv E A res) args s 0 0 A) (F0 m 114 ls []) := by
  intro x1 x2 x3 w H locs ls h hw hl
  unfold M_findDays_p114 at h
  refine lv_iload_n S.1 S.2.1 dX5_findDays_114 rfl (lv_at hl 3 rfl) ?_
  refine lv_if_eq (tgt := 186) S.1 S.2.1 dX5_findDays_115 rfl (fun c7 => ?_) (fun c7 => ?_)
  · replace h := if_t c7 h
    refine lv_iinc (v := x2 + (1 : Int32)) (lv' := [(2, .int (x2 + (1 : Int32))), (0, .ref (mM E)), (1, .int x1), (3, .int x3)]) S.1 S.2.1 dX5_findDays_186 hl (k := 2) rfl rfl (by decide) rfl (fun ls hl => ?_)
    refine lv_goto (tgt := 34) S.1 S.2.1 dX5_findDays_189 rfl ?_
    exact hk34 _ _ _ _ _ _ h hw (lv_sub hl [1, 2, 0] rfl)
  · replace h := if_f c7 h
    refine lv_aload_n S.1 S.2.1 dX5_findDays_118 rfl (lv_at hl 0 rfl) ?_
    refine lv_aload_n S.1 S.2.1 dX5_findDays_119 rfl (lv_at hl 0 rfl) ?_
    refine mg37 S hw dX5_findDays_120 ?_
    refine lv_if_ne (tgt := 130) S.1 S.2.1 dX5_findDays_123 rfl (fun c8 => ?_) (fun c8 => ?_)
    · replace h := if_f c8 h
      refine lv_aload_n S.1 S.2.1 dX5_findDays_130 rfl (lv_at hl 0 rfl) ?_
      refine mg38 S hw dX5_findDays_131 ?_
      exact wk_M_findDays_p134 S hr hlocks hk34 _ _ _ _ _ _ _ h hw (lv_sub hl [0, 1, 2] rfl)
    · replace h := if_t c8 h
      refine lv_iload_n S.1 S.2.1 dX5_findDays_126 rfl (lv_at hl 2 rfl) ?_
      refine lv_goto (tgt := 134) S.1 S.2.1 dX5_findDays_127 rfl ?_
      exact wk_M_findDays_p134 S hr hlocks hk34 _ _ _ _ _ _ _ h hw (lv_sub hl [0, 1, 2] rfl)
set_option maxRecDepth 100000 in
set_option maxHeartbeats 4000000 in
theorem wk_M_findDays_p52 {p : Program} {l : Launch} {e : Env} {s : State} {m : MethodId} {args : Array Value} {below : List Frame} {meth : Method} {c : Code} {E : mE} {A : Nat → Prop} (S : CallFix p m c cX5_findDays 5 s args lw_all RX5) (hr : meth.sig.returnType = none) (hlocks : meth.locks = false) {res : MS}  {k34 : Int32 → Int32 → MS → Option MS} (hk34 : ∀ (x1 : Int32) (x2 : Int32) (w : MS) (H : Heap) (locs : List Loc) (ls : Array Slot), k34 x1 x2 w = some res → mH E A s w H locs → lv_has ls 5 [(0, .ref (mM E)), (1, .int x1), (2, .int x2)] → W p l e rm_findDays s m args below meth c H locs 0 0 (MQ below (mQv E A res) args s 0 0 A) (F0 m 34 ls [])) : ∀ n : Nat, ∀ (x1 : Int32) (x2 : Int32) (x3 : Int32) (x4 : Int32) (w : MS) (H : Heap) (locs : List Loc) (ls : Array Slot), M_findDays_p52 k34 n x1 x2 x3 x4 w = some res → mH E A s w H locs → lv_has ls 5 [(0, .ref (mM E)), (1, .int x1), (2, .int x2), (3, .int x3), (4, .int x4)] → W p l e rm_findDays s m args below meth c H locs 0 0 (MQ below (mQv E A res) args s 0 0 A) (F0 m 52 ls []) := by
  intro n
  induction n with
  | zero => intro x1 x2 x3 x4 w H locs ls h; cases (show (none : Option MS) = some res from h)
  | succ n ih =>
    intro x1 x2 x3 x4 w H locs ls h hw hl
    rw [M_findDays_p52] at h
    refine lv_iload S.1 S.2.1 dX5_findDays_52 (lv_at hl 4 rfl) ?_
    refine lv_aload_n S.1 S.2.1 dX5_findDays_54 rfl (lv_at hl 0 rfl) ?_
    refine mg25 S hw dX5_findDays_55 ?_
    refine lv_bipush (v := 43) S.1 S.2.1 dX5_findDays_58 rfl ?_
    refine mlc25 (j := 43) S hw dX5_findDays_60 (by decide) ?_
    refine lv_icmp_ge (tgt := 114) S.1 S.2.1 dX5_findDays_61 rfl (fun c6 => ?_) (fun c6 => ?_)
    · replace h := if_t c6 h
      exact wk_M_findDays_p114 S hr hlocks hk34 _ _ _ _ _ _ _ h hw (lv_sub hl [0, 1, 2, 3] rfl)
    · replace h := if_f c6 h
      refine lv_iload_n S.1 S.2.1 dX5_findDays_64 rfl (lv_at hl 3 rfl) ?_
      refine lv_if_eq (tgt := 114) S.1 S.2.1 dX5_findDays_65 rfl (fun c15 => ?_) (fun c15 => ?_)
      · replace h := if_t c15 h
        exact wk_M_findDays_p114 S hr hlocks hk34 _ _ _ _ _ _ _ h hw (lv_sub hl [0, 1, 2, 3] rfl)
      · replace h := if_f c15 h
        refine lv_aload_n S.1 S.2.1 dX5_findDays_68 rfl (lv_at hl 0 rfl) ?_
        refine mg35 S hw dX5_findDays_69 ?_
        refine lv_aload_n S.1 S.2.1 dX5_findDays_72 rfl (lv_at hl 0 rfl) ?_
        refine mg25 S hw dX5_findDays_73 ?_
        refine lv_bipush (v := 44) S.1 S.2.1 dX5_findDays_76 rfl ?_
        refine lv_iconst (v := 2) S.1 S.2.1 dX5_findDays_78 rfl ?_
        refine lv_iload S.1 S.2.1 dX5_findDays_79 (lv_at hl 4 rfl) ?_
        refine lv_imul S.1 S.2.1 dX5_findDays_81 ?_
        refine lv_iadd S.1 S.2.1 dX5_findDays_82 ?_
        refine ml25 S hw dX5_findDays_83 h (fun v16 h => ?_)
        refine ml35 S hw dX5_findDays_84 h (fun v17 h => ?_)
        refine lv_aload_n S.1 S.2.1 dX5_findDays_85 rfl (lv_at hl 0 rfl) ?_
        refine mg25 S hw dX5_findDays_86 ?_
        refine lv_bipush (v := 44) S.1 S.2.1 dX5_findDays_89 rfl ?_
        refine lv_iconst (v := 2) S.1 S.2.1 dX5_findDays_91 rfl ?_
        refine lv_iload S.1 S.2.1 dX5_findDays_92 (lv_at hl 4 rfl) ?_
        refine lv_imul S.1 S.2.1 dX5_findDays_94 ?_
        refine lv_iadd S.1 S.2.1 dX5_findDays_95 ?_
        refine lv_iconst (v := 1) S.1 S.2.1 dX5_findDays_96 rfl ?_
        refine lv_iadd S.1 S.2.1 dX5_findDays_97 ?_
        refine ml25 S hw dX5_findDays_98 h (fun v18 h => ?_)
        refine lv_icmp_ne (tgt := 106) S.1 S.2.1 dX5_findDays_99 rfl (fun c19 => ?_) (fun c19 => ?_)
        · replace h := if_f c19 h
          refine lv_iconst (v := 0) S.1 S.2.1 dX5_findDays_106 rfl ?_
          refine lv_istore_n (lv' := [(3, .int (0 : Int32)), (0, .ref (mM E)), (1, .int x1), (2, .int x2), (4, .int x4)]) S.1 S.2.1 dX5_findDays_107 rfl hl (by decide) rfl (fun ls hl => ?_)
          refine lv_iinc (v := x4 + (1 : Int32)) (lv' := [(4, .int (x4 + (1 : Int32))), (3, .int (0 : Int32)), (0, .ref (mM E)), (1, .int x1), (2, .int x2)]) S.1 S.2.1 dX5_findDays_108 hl (k := 4) rfl rfl (by decide) rfl (fun ls hl => ?_)
          refine lv_goto (tgt := 52) S.1 S.2.1 dX5_findDays_111 rfl ?_
          exact ih _ _ _ _ _ _ _ _ h hw (lv_sub hl [2, 3, 4, 1, 0] rfl)
        · replace h := if_t c19 h
          refine lv_iconst (v := 1) S.1 S.2.1 dX5_findDays_102 rfl ?_
          refine lv_goto (tgt := 107) S.1 S.2.1 dX5_findDays_103 rfl ?_
          refine lv_istore_n (lv' := [(3, .int (1 : Int32)), (0, .ref (mM E)), (1, .int x1), (2, .int x2), (4, .int x4)]) S.1 S.2.1 dX5_findDays_107 rfl hl (by decide) rfl (fun ls hl => ?_)
          refine lv_iinc (v := x4 + (1 : Int32)) (lv' := [(4, .int (x4 + (1 : Int32))), (3, .int (1 : Int32)), (0, .ref (mM E)), (1, .int x1), (2, .int x2)]) S.1 S.2.1 dX5_findDays_108 hl (k := 4) rfl rfl (by decide) rfl (fun ls hl => ?_)
          refine lv_goto (tgt := 52) S.1 S.2.1 dX5_findDays_111 rfl ?_
          exact ih _ _ _ _ _ _ _ _ h hw (lv_sub hl [2, 3, 4, 1, 0] rfl)
set_option maxRecDepth 100000 in
set_option maxHeartbeats 4000000 in
theorem wk_M_findDays_p34 {p : Program} {l : Launch} {e : Env} {s : State} {m : MethodId} {args : Array Value} {below : List Frame} {meth : Method} {c : Code} {E : mE} {A : Nat → Prop} (S : CallFix p m c cX5_findDays 5 s args lw_all RX5) (hr : meth.sig.returnType = none) (hlocks : meth.locks = false) {res : MS}  : ∀ n : Nat, ∀ (x1 : Int32) (x2 : Int32) (w : MS) (H : Heap) (locs : List Loc) (ls : Array Slot), M_findDays_p34 n x1 x2 w = some res → mH E A s w H locs → lv_has ls 5 [(0, .ref (mM E)), (1, .int x1), (2, .int x2)] → W p l e rm_findDays s m args below meth c H locs 0 0 (MQ below (mQv E A res) args s 0 0 A) (F0 m 34 ls []) := by
  intro n
  induction n with
  | zero => intro x1 x2 w H locs ls h; cases (show (none : Option MS) = some res from h)
  | succ n ih =>
    intro x1 x2 w H locs ls h hw hl
    rw [M_findDays_p34] at h
    refine lv_iload_n S.1 S.2.1 dX5_findDays_34 rfl (lv_at hl 2 rfl) ?_
    refine lv_sipush (v := 729) S.1 S.2.1 dX5_findDays_35 rfl ?_
    refine lv_icmp_ge (tgt := 192) S.1 S.2.1 dX5_findDays_38 rfl (fun c4 => ?_) (fun c4 => ?_)
    · replace h := if_t c4 h
      exact m_vret S hr hlocks hw (so1 h) dX5_findDays_192
    · replace h := if_f c4 h
      refine lv_aload_n S.1 S.2.1 dX5_findDays_41 rfl (lv_at hl 0 rfl) ?_
      refine lv_iload_n S.1 S.2.1 dX5_findDays_42 rfl (lv_at hl 1 rfl) ?_
      refine lv_iload_n S.1 S.2.1 dX5_findDays_43 rfl (lv_at hl 2 rfl) ?_
      refine mcVv (As := [.int x1, .int x2]) (rest := []) S hw h (fun u h1 => met_laysDay l E A x1 x2 w u h1) (cw_laysDay S.2.2.2.2 rfl rfl ⟨Nat.le_of_ble_eq_true rfl, Nat.le_of_ble_eq_true rfl⟩) rfl hl.1 rfl (lv_room (Nat.le_of_ble_eq_true rfl)) dX5_findDays_44 (fun w5 H locs h hw => ?_)
      refine lv_iconst (v := 1) S.1 S.2.1 dX5_findDays_47 rfl ?_
      refine lv_istore_n (lv' := [(3, .int (1 : Int32)), (0, .ref (mM E)), (1, .int x1), (2, .int x2)]) S.1 S.2.1 dX5_findDays_48 rfl hl (by decide) rfl (fun ls hl => ?_)
      refine lv_iconst (v := 0) S.1 S.2.1 dX5_findDays_49 rfl ?_
      refine lv_istore (lv' := [(4, .int (0 : Int32)), (3, .int (1 : Int32)), (0, .ref (mM E)), (1, .int x1), (2, .int x2)]) S.1 S.2.1 dX5_findDays_50 hl (by decide) rfl (fun ls hl => ?_)
      exact wk_M_findDays_p52 S hr hlocks ih FU _ _ _ _ _ _ _ _ h hw (lv_sub hl [2, 3, 4, 1, 0] rfl)
set_option maxRecDepth 100000 in
set_option maxHeartbeats 4000000 in
theorem wk_M_findDays_p12 {p : Program} {l : Launch} {e : Env} {s : State} {m : MethodId} {args : Array Value} {below : List Frame} {meth : Method} {c : Code} {E : mE} {A : Nat → Prop} (S : CallFix p m c cX5_findDays 5 s args lw_all RX5) (hr : meth.sig.returnType = none) (hlocks : meth.locks = false) {res : MS}  : ∀ n : Nat, ∀ (x1 : Int32) (x2 : Int32) (w : MS) (H : Heap) (locs : List Loc) (ls : Array Slot), M_findDays_p12 n x1 x2 w = some res → mH E A s w H locs → lv_has ls 5 [(0, .ref (mM E)), (1, .int x1), (2, .int x2)] → W p l e rm_findDays s m args below meth c H locs 0 0 (MQ below (mQv E A res) args s 0 0 A) (F0 m 12 ls []) := by
  intro n
  induction n with
  | zero => intro x1 x2 w H locs ls h; cases (show (none : Option MS) = some res from h)
  | succ n ih =>
    intro x1 x2 w H locs ls h hw hl
    rw [M_findDays_p12] at h
    refine lv_iload_n S.1 S.2.1 dX5_findDays_12 rfl (lv_at hl 2 rfl) ?_
    refine lv_sipush (v := 1446) S.1 S.2.1 dX5_findDays_13 rfl ?_
    refine lv_icmp_ge (tgt := 32) S.1 S.2.1 dX5_findDays_16 rfl (fun c3 => ?_) (fun c3 => ?_)
    · replace h := if_t c3 h
      refine lv_iconst (v := 0) S.1 S.2.1 dX5_findDays_32 rfl ?_
      refine lv_istore_n (lv' := [(2, .int (0 : Int32)), (0, .ref (mM E)), (1, .int x1)]) S.1 S.2.1 dX5_findDays_33 rfl hl (by decide) rfl (fun ls hl => ?_)
      exact wk_M_findDays_p34 S hr hlocks FU _ _ _ _ _ _ h hw (lv_sub hl [1, 2, 0] rfl)
    · replace h := if_f c3 h
      refine lv_aload_n S.1 S.2.1 dX5_findDays_19 rfl (lv_at hl 0 rfl) ?_
      refine mg36 S hw dX5_findDays_20 ?_
      refine lv_iload_n S.1 S.2.1 dX5_findDays_23 rfl (lv_at hl 2 rfl) ?_
      refine lv_iconst (v := 0) S.1 S.2.1 dX5_findDays_24 rfl ?_
      refine ms36 S hw dX5_findDays_25 h (fun w20 H locs h hw => ?_)
      refine lv_iinc (v := x2 + (1 : Int32)) (lv' := [(2, .int (x2 + (1 : Int32))), (0, .ref (mM E)), (1, .int x1)]) S.1 S.2.1 dX5_findDays_26 hl (k := 2) rfl rfl (by decide) rfl (fun ls hl => ?_)
      refine lv_goto (tgt := 12) S.1 S.2.1 dX5_findDays_29 rfl ?_
      exact ih _ _ _ _ _ _ h hw (lv_sub hl [1, 2, 0] rfl)
set_option maxRecDepth 100000 in
set_option maxHeartbeats 4000000 in
theorem met_findDays (l : Launch) (E : mE) (A : Nat → Prop)  (x1 : Int32) (w : MS) (res : MS) (h : M_findDays x1 w = some res) : Met l yX5_findDays (ws_ yX5_findDays cX5_findDays 5 none) rm_findDays (mPc E A [.ref (mM E), .int x1] w) (mQv E A res) 0 0 A := by
  refine mMet (by decide) rfl (Nat.le_of_ble_eq_true rfl) ?_
  intro p e s m below meth c S hr hlocks H ls hw hl
  replace hl : lv_has ls 5 [(0, .ref (mM E)), (1, .int x1)] := hl
  unfold M_findDays at h
  refine lv_aload_n S.1 S.2.1 dX5_findDays_0 rfl (lv_at hl 0 rfl) ?_
  refine lv_iconst (v := 0) S.1 S.2.1 dX5_findDays_1 rfl ?_
  refine mp37 S hw dX5_findDays_2 h (fun w1 H locs h hw => ?_)
  refine lv_aload_n S.1 S.2.1 dX5_findDays_5 rfl (lv_at hl 0 rfl) ?_
  refine lv_iconst (v := -1) S.1 S.2.1 dX5_findDays_6 rfl ?_
  refine mp38 S hw dX5_findDays_7 h (fun w2 H locs h hw => ?_)
  refine lv_iconst (v := 0) S.1 S.2.1 dX5_findDays_10 rfl ?_
  refine lv_istore_n (lv' := [(2, .int (0 : Int32)), (0, .ref (mM E)), (1, .int x1)]) S.1 S.2.1 dX5_findDays_11 rfl hl (by decide) rfl (fun ls hl => ?_)
  exact wk_M_findDays_p12 S hr hlocks FU _ _ _ _ _ _ h hw (lv_sub hl [1, 2, 0] rfl)
