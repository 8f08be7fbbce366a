/-! walks of the Model, printed by gen/model.py -/
set_option maxRecDepth 100000
def M_days (x1 : Int32) (w : MS) : Option (Int32 × MS) :=
  bdp (wI w 0 0 (0 : Int32)) fun w1 =>
  if (M_isTenant x1 w1) = 0 then
    some ((-1 : Int32), w1)
  else
    bd1 (M_findDays x1 w1) fun w3 =>
    some (rI w3 37 0, w3)
set_option maxRecDepth 100000 in
set_option maxHeartbeats 4000000 in
theorem met_days (l : Launch) (E : mE) (A : Nat → Prop)  (x1 : Int32) (w : MS) (res : Int32 × MS) (h : M_days x1 w = some res) : Met l yX5_days (ws_ yX5_days cX5_days 2 (some .int)) rm_days (mPc E A [.ref (mM E), .int x1] w) (mQi E A res.1 res.2) 0 0 A := by
  refine mMet (by decide) rfl (Nat.le_of_ble_eq_true rfl) ?_
  intro p e s m below meth c S hr hlocks H ls hw hl
  replace hl : lv_has ls 2 [(0, .ref (mM E)), (1, .int x1)] := hl
  unfold M_days at h
  refine lv_aload_n S.1 S.2.1 dX5_days_0 rfl (lv_at hl 0 rfl) ?_
  refine lv_iconst (v := 0) S.1 S.2.1 dX5_days_1 rfl ?_
  refine mp0 S hw dX5_days_2 h (fun w1 H locs h hw => ?_)
  refine lv_aload_n S.1 S.2.1 dX5_days_5 rfl (lv_at hl 0 rfl) ?_
  refine lv_iload_n S.1 S.2.1 dX5_days_6 rfl (lv_at hl 1 rfl) ?_
  refine mcVti (As := [.int x1]) (rest := []) S hw (met_isTenant l E A x1 w1 _ rfl) (cw_isTenant S.2.2.2.2 rfl rfl ⟨Nat.le_of_ble_eq_true rfl, Nat.le_of_ble_eq_true rfl⟩) rfl hl.1 rfl (lv_room (Nat.le_of_ble_eq_true rfl)) dX5_days_7 (fun H locs hw => ?_)
  refine lv_if_ne (tgt := 15) S.1 S.2.1 dX5_days_10 rfl (fun c2 => ?_) (fun c2 => ?_)
  · replace h := if_f c2 h
    refine lv_aload_n S.1 S.2.1 dX5_days_15 rfl (lv_at hl 0 rfl) ?_
    refine lv_iload_n S.1 S.2.1 dX5_days_16 rfl (lv_at hl 1 rfl) ?_
    refine mcVv (As := [.int x1]) (rest := []) S hw h (fun u h1 => met_findDays l E A x1 w1 u h1) (cw_findDays S.2.2.2.2 rfl rfl ⟨Nat.le_of_ble_eq_true rfl, Nat.le_of_ble_eq_true rfl⟩) rfl hl.1 rfl (lv_room (Nat.le_of_ble_eq_true rfl)) dX5_days_17 (fun w3 H locs h hw => ?_)
    refine lv_aload_n S.1 S.2.1 dX5_days_20 rfl (lv_at hl 0 rfl) ?_
    refine mg37 S hw dX5_days_21 ?_
    exact m_iret S hr hlocks hw (so2 h) dX5_days_24
  · replace h := if_t c2 h
    refine lv_iconst (v := -1) S.1 S.2.1 dX5_days_13 rfl ?_
    exact m_iret S hr hlocks hw (so2 h) dX5_days_14
def M_did_p37 : Nat → Int32 → Int32 → Int32 → MS → Option (Int32 × MS)
  | 0, _, _, _, _ => none
  | n + 1, x2, x3, x4, w =>
    if x4 ≤ x2 then
      if (rI w 37 0) = 0 then
        some ((-1 : Int32), w)
      else
        some (x3 - x3 / (3 : Int32) * (3 : Int32), w)
    else
      bdp (x3 / (3 : Int32)) fun y8 =>
      (M_did_p37 n) x2 y8 (x4 + (-1 : Int32)) w
def M_did (x1 : Int32) (x2 : Int32) (w : MS) : Option (Int32 × MS) :=
  bdp (wI w 0 0 (0 : Int32)) fun w1 =>
  if (M_isTenant x1 w1) = 0 then
    some ((-1 : Int32), w1)
  else
    if (M_within x2 (0 : Int32) (5 : Int32)) = 0 then
      some ((-1 : Int32), w1)
    else
      bd1 (M_findDays x1 w1) fun w4 =>
      bdp (rI w4 38 0) fun y5 =>
      M_did_p37 FU x2 y5 (5 : Int32) w4
set_option maxRecDepth 100000 in
set_option maxHeartbeats 4000000 in
theorem wk_M_did_p37 {p : Program} {l : Launch} {e : Env} {s : State} {m : MethodId} {args : Array Value} {below : List Frame} {meth : Method} {c : Code} {E : mE} {A : Nat → Prop} (S : CallFix p m c cX5_did 5 s args lw_all RX5) (hr : meth.sig.returnType = (some .int)) (hlocks : meth.locks = false) {res : Int32 × MS}  : ∀ n : Nat, ∀ (x2 : Int32) (x3 : Int32) (x4 : Int32) (w : MS) (H : Heap) (locs : List Loc) (ls : Array Slot), M_did_p37 n x2 x3 x4 w = some res → mH E A s w H locs → lv_has ls 5 [(0, .ref (mM E)), (2, .int x2), (3, .int x3), (4, .int x4)] → W p l e rm_did s m args below meth c H locs 0 0 (MQ below (mQi E A res.1 res.2) args s 0 0 A) (F0 m 37 ls []) := by
  intro n
  induction n with
  | zero => intro x2 x3 x4 w H locs ls h; cases (show (none : Option (Int32 × MS)) = some res from h)
  | succ n ih =>
    intro x2 x3 x4 w H locs ls h hw hl
    rw [M_did_p37] at h
    refine lv_iload S.1 S.2.1 dX5_did_37 (lv_at hl 3 rfl) ?_
    refine lv_iload_n S.1 S.2.1 dX5_did_39 rfl (lv_at hl 1 rfl) ?_
    refine lv_icmp_le (tgt := 53) S.1 S.2.1 dX5_did_40 rfl (fun c6 => ?_) (fun c6 => ?_)
    · replace h := if_t c6 h
      refine lv_aload_n S.1 S.2.1 dX5_did_53 rfl (lv_at hl 0 rfl) ?_
      refine mg37 S hw dX5_did_54 ?_
      refine lv_if_ne (tgt := 64) S.1 S.2.1 dX5_did_57 rfl (fun c7 => ?_) (fun c7 => ?_)
      · replace h := if_f c7 h
        refine lv_iload_n S.1 S.2.1 dX5_did_64 rfl (lv_at hl 2 rfl) ?_
        refine lv_iconst (v := 3) S.1 S.2.1 dX5_did_65 rfl ?_
        refine lv_irem S.1 S.2.1 dX5_did_66 (by decide) ?_
        exact m_iret S hr hlocks hw (so2 h) dX5_did_67
      · replace h := if_t c7 h
        refine lv_iconst (v := -1) S.1 S.2.1 dX5_did_60 rfl ?_
        refine lv_goto (tgt := 67) S.1 S.2.1 dX5_did_61 rfl ?_
        exact m_iret S hr hlocks hw (so2 h) dX5_did_67
    · replace h := if_f c6 h
      refine lv_iload_n S.1 S.2.1 dX5_did_43 rfl (lv_at hl 2 rfl) ?_
      refine lv_iconst (v := 3) S.1 S.2.1 dX5_did_44 rfl ?_
      refine lv_idiv S.1 S.2.1 dX5_did_45 (by decide) ?_
      refine lv_topi (fun y8 ey => ?_)
      replace h := bdp_e ey h
      refine lv_istore_n (lv' := [(3, .int y8), (0, .ref (mM E)), (2, .int x2), (4, .int x4)]) S.1 S.2.1 dX5_did_46 rfl hl (by decide) rfl (fun ls hl => ?_)
      refine lv_iinc (v := x4 + (-1 : Int32)) (lv' := [(4, .int (x4 + (-1 : Int32))), (3, .int y8), (0, .ref (mM E)), (2, .int x2)]) S.1 S.2.1 dX5_did_47 hl (k := 3) rfl rfl (by decide) rfl (fun ls hl => ?_)
      refine lv_goto (tgt := 37) S.1 S.2.1 dX5_did_50 rfl ?_
      exact ih _ _ _ _ _ _ _ h hw (lv_sub hl [2, 3, 1, 0] rfl)
set_option maxRecDepth 100000 in
set_option maxHeartbeats 4000000 in
theorem met_did (l : Launch) (E : mE) (A : Nat → Prop)  (x1 : Int32) (x2 : Int32) (w : MS) (res : Int32 × MS) (h : M_did x1 x2 w = some res) : Met l yX5_did (ws_ yX5_did cX5_did 5 (some .int)) rm_did (mPc E A [.ref (mM E), .int x1, .int x2] w) (mQi E A res.1 res.2) 0 0 A := by
  refine mMet (by decide) rfl (Nat.le_of_ble_eq_true rfl) ?_
  intro p e s m below meth c S hr hlocks H ls hw hl
  replace hl : lv_has ls 5 [(0, .ref (mM E)), (1, .int x1), (2, .int x2)] := hl
  unfold M_did at h
  refine lv_aload_n S.1 S.2.1 dX5_did_0 rfl (lv_at hl 0 rfl) ?_
  refine lv_iconst (v := 0) S.1 S.2.1 dX5_did_1 rfl ?_
  refine mp0 S hw dX5_did_2 h (fun w1 H locs h hw => ?_)
  refine lv_aload_n S.1 S.2.1 dX5_did_5 rfl (lv_at hl 0 rfl) ?_
  refine lv_iload_n S.1 S.2.1 dX5_did_6 rfl (lv_at hl 1 rfl) ?_
  refine mcVti (As := [.int x1]) (rest := []) S hw (met_isTenant l E A x1 w1 _ rfl) (cw_isTenant S.2.2.2.2 rfl rfl ⟨Nat.le_of_ble_eq_true rfl, Nat.le_of_ble_eq_true rfl⟩) rfl hl.1 rfl (lv_room (Nat.le_of_ble_eq_true rfl)) dX5_did_7 (fun H locs hw => ?_)
  refine lv_if_eq (tgt := 22) S.1 S.2.1 dX5_did_10 rfl (fun c2 => ?_) (fun c2 => ?_)
  · replace h := if_t c2 h
    refine lv_iconst (v := -1) S.1 S.2.1 dX5_did_22 rfl ?_
    exact m_iret S hr hlocks hw (so2 h) dX5_did_23
  · replace h := if_f c2 h
    refine lv_iload_n S.1 S.2.1 dX5_did_13 rfl (lv_at hl 2 rfl) ?_
    refine lv_iconst (v := 0) S.1 S.2.1 dX5_did_14 rfl ?_
    refine lv_iconst (v := 5) S.1 S.2.1 dX5_did_15 rfl ?_
    refine mcSti (As := [.int x2, .int (0 : Int32), .int (5 : Int32)]) (rest := []) S hw (met_within l E A x2 (0 : Int32) (5 : Int32) w1 _ rfl) (cw_within S.2.2.2.2 rfl rfl ⟨Nat.le_of_ble_eq_true rfl, Nat.le_of_ble_eq_true rfl⟩) rfl hl.1 rfl (lv_room (Nat.le_of_ble_eq_true rfl)) dX5_did_16 (fun H locs hw => ?_)
    refine lv_if_ne (tgt := 24) S.1 S.2.1 dX5_did_19 rfl (fun c3 => ?_) (fun c3 => ?_)
    · replace h := if_f c3 h
      refine lv_aload_n S.1 S.2.1 dX5_did_24 rfl (lv_at hl 0 rfl) ?_
      refine lv_iload_n S.1 S.2.1 dX5_did_25 rfl (lv_at hl 1 rfl) ?_
      refine mcVv (As := [.int x1]) (rest := []) S hw h (fun u h1 => met_findDays l E A x1 w1 u h1) (cw_findDays S.2.2.2.2 rfl rfl ⟨Nat.le_of_ble_eq_true rfl, Nat.le_of_ble_eq_true rfl⟩) rfl hl.1 rfl (lv_room (Nat.le_of_ble_eq_true rfl)) dX5_did_26 (fun w4 H locs h hw => ?_)
      refine lv_aload_n S.1 S.2.1 dX5_did_29 rfl (lv_at hl 0 rfl) ?_
      refine mg38 S hw dX5_did_30 ?_
      refine lv_topi (fun y5 ey => ?_)
      replace h := bdp_e ey h
      refine lv_istore_n (lv' := [(3, .int y5), (0, .ref (mM E)), (1, .int x1), (2, .int x2)]) S.1 S.2.1 dX5_did_33 rfl hl (by decide) rfl (fun ls hl => ?_)
      refine lv_iconst (v := 5) S.1 S.2.1 dX5_did_34 rfl ?_
      refine lv_istore (lv' := [(4, .int (5 : Int32)), (3, .int y5), (0, .ref (mM E)), (1, .int x1), (2, .int x2)]) S.1 S.2.1 dX5_did_35 hl (by decide) rfl (fun ls hl => ?_)
      exact wk_M_did_p37 S hr hlocks FU _ _ _ _ _ _ _ h hw (lv_sub hl [2, 4, 1, 0] rfl)
    · replace h := if_t c3 h
      refine lv_iconst (v := -1) S.1 S.2.1 dX5_did_22 rfl ?_
      exact m_iret S hr hlocks hw (so2 h) dX5_did_23
def M_next_p109 (k30 : Int32 → Int32 → Int32 → MS → Option (Int32 × MS)) (x3 : Int32) (x4 : Int32) (x5 : Int32) (t0 : Int32) (w : MS) : Option (Int32 × MS) :=
  if x3 ≤ x5 then
    k30 t0 x3 (x4 + (1 : Int32)) w
  else
    k30 t0 x5 (x4 + (1 : Int32)) w
def M_next_p43 (k30 : Int32 → Int32 → Int32 → MS → Option (Int32 × MS)) : Nat → Int32 → Int32 → Int32 → Int32 → Int32 → MS → Option (Int32 × MS)
  | 0, _, _, _, _, _, _ => none
  | n + 1, x2, x3, x4, x5, x6, w =>
    if (241 : Int32) ≤ x6 then
      if x3 ≤ x5 then
        M_next_p109 k30 x3 x4 x5 x2 w
      else
        M_next_p109 k30 x3 x4 x5 x4 w
    else
      bd1 (rA w 36 1446 (((241 : Int32) * x4) + x6)) fun v9 =>
      if v9 ≤ x5 then
        (M_next_p43 k30 n) x2 x3 x4 x5 (x6 + (1 : Int32)) w
      else
        bd1 (rA w 36 1446 (((241 : Int32) * x4) + x6)) fun v11 =>
        (M_next_p43 k30 n) x2 x3 x4 v11 (x6 + (1 : Int32)) w
def M_next_p30 : Nat → Int32 → Int32 → Int32 → MS → Option (Int32 × MS)
  | 0, _, _, _, _ => none
  | n + 1, x2, x3, x4, w =>
    if (6 : Int32) ≤ x4 then
      some (x2, w)
    else
      M_next_p43 (M_next_p30 n) FU x2 x3 x4 (0 : Int32) (0 : Int32) w
def M_next (x1 : Int32) (w : MS) : Option (Int32 × MS) :=
  bdp (wI w 0 0 (0 : Int32)) fun w1 =>
  if (M_isTenant x1 w1) = 0 then
    some ((-1 : Int32), w1)
  else
    bd1 (M_findDays x1 w1) fun w3 =>
    bdp (rI w3 37 0) fun y4 =>
    M_next_p30 FU (-1 : Int32) y4 (0 : Int32) w3
set_option maxRecDepth 100000 in
set_option maxHeartbeats 4000000 in
theorem wk_M_next_p109 {p : Program} {l : Launch} {e : Env} {s : State} {m : MethodId} {args : Array Value} {below : List Frame} {meth : Method} {c : Code} {E : mE} {A : Nat → Prop} (S : CallFix p m c cX5_next 7 s args lw_all RX5) (hr : meth.sig.returnType = (some .int)) (hlocks : meth.locks = false) {res : Int32 × MS}  {k30 : Int32 → Int32 → Int32 → MS → Option (Int32 × MS)} (hk30 : ∀ (x2 : Int32) (x3 : Int32) (x4 : Int32) (w : MS) (H : Heap) (locs : List Loc) (ls : Array Slot), k30 x2 x3 x4 w = some res → mH E A s w H locs → lv_has ls 7 [(0, .ref (mM E)), (2, .int x2), (3, .int x3), (4, .int x4)] → W p l e rm_next s m args below meth c H locs 0 0 (MQ below (mQi E A res.1 res.2) args s 0 0 A) (F0 m 30 ls [])) : ∀ (x3 : Int32) (x4 : Int32) (x5 : Int32) (t0 : Int32) (w : MS) (H : Heap) (locs : List Loc) (ls : Array Slot), M_next_p109 k30 x3 x4 x5 t0 w = some res → mH E A s w H locs → lv_has ls 7 [(0, .ref (mM E)), (3, .int x3), (4, .int x4), (5, .int x5)] → W p l e rm_next s m args below meth c H locs 0 0 (MQ below (mQi E A res.1 res.2) args s 0 0 A) (F0 m 109 ls [.int t0]) := by
  intro x3 x4 x5 t0 w H locs ls h hw hl
  unfold M_next_p109 at h
  refine lv_istore_n (lv' := [(2, .int t0), (0, .ref (mM E)), (3, .int x3), (4, .int x4), (5, .int x5)]) S.1 S.2.1 dX5_next_109 rfl hl (by decide) rfl (fun ls hl => ?_)
  refine lv_iload S.1 S.2.1 dX5_next_110 (lv_at hl 4 rfl) ?_
  refine lv_iload_n S.1 S.2.1 dX5_next_112 rfl (lv_at hl 2 rfl) ?_
  refine lv_icmp_ge (tgt := 121) S.1 S.2.1 dX5_next_113 rfl (fun c8 => ?_) (fun c8 => ?_)
  · replace h := if_t c8 h
    refine lv_iload_n S.1 S.2.1 dX5_next_121 rfl (lv_at hl 2 rfl) ?_
    refine lv_istore_n (lv' := [(3, .int x3), (2, .int t0), (0, .ref (mM E)), (4, .int x4), (5, .int x5)]) S.1 S.2.1 dX5_next_122 rfl hl (by decide) rfl (fun ls hl => ?_)
    refine lv_iinc (v := x4 + (1 : Int32)) (lv' := [(4, .int (x4 + (1 : Int32))), (3, .int x3), (2, .int t0), (0, .ref (mM E)), (5, .int x5)]) S.1 S.2.1 dX5_next_123 hl (k := 3) rfl rfl (by decide) rfl (fun ls hl => ?_)
    refine lv_goto (tgt := 30) S.1 S.2.1 dX5_next_126 rfl ?_
    exact hk30 _ _ _ _ _ _ _ h hw (lv_sub hl [3, 2, 1, 0] rfl)
  · replace h := if_f c8 h
    refine lv_iload S.1 S.2.1 dX5_next_116 (lv_at hl 4 rfl) ?_
    refine lv_goto (tgt := 122) S.1 S.2.1 dX5_next_118 rfl ?_
    refine lv_istore_n (lv' := [(3, .int x5), (2, .int t0), (0, .ref (mM E)), (4, .int x4), (5, .int x5)]) S.1 S.2.1 dX5_next_122 rfl hl (by decide) rfl (fun ls hl => ?_)
    refine lv_iinc (v := x4 + (1 : Int32)) (lv' := [(4, .int (x4 + (1 : Int32))), (3, .int x5), (2, .int t0), (0, .ref (mM E)), (5, .int x5)]) S.1 S.2.1 dX5_next_123 hl (k := 3) rfl rfl (by decide) rfl (fun ls hl => ?_)
    refine lv_goto (tgt := 30) S.1 S.2.1 dX5_next_126 rfl ?_
    exact hk30 _ _ _ _ _ _ _ h hw (lv_sub hl [3, 2, 1, 0] rfl)
set_option maxRecDepth 100000 in
set_option maxHeartbeats 4000000 in
theorem wk_M_next_p43 {p : Program} {l : Launch} {e : Env} {s : State} {m : MethodId} {args : Array Value} {below : List Frame} {meth : Method} {c : Code} {E : mE} {A : Nat → Prop} (S : CallFix p m c cX5_next 7 s args lw_all RX5) (hr : meth.sig.returnType = (some .int)) (hlocks : meth.locks = false) {res : Int32 × MS}  {k30 : Int32 → Int32 → Int32 → MS → Option (Int32 × MS)} (hk30 : ∀ (x2 : Int32) (x3 : Int32) (x4 : Int32) (w : MS) (H : Heap) (locs : List Loc) (ls : Array Slot), k30 x2 x3 x4 w = some res → mH E A s w H locs → lv_has ls 7 [(0, .ref (mM E)), (2, .int x2), (3, .int x3), (4, .int x4)] → W p l e rm_next s m args below meth c H locs 0 0 (MQ below (mQi E A res.1 res.2) args s 0 0 A) (F0 m 30 ls [])) : ∀ n : Nat, ∀ (x2 : Int32) (x3 : Int32) (x4 : Int32) (x5 : Int32) (x6 : Int32) (w : MS) (H : Heap) (locs : List Loc) (ls : Array Slot), M_next_p43 k30 n x2 x3 x4 x5 x6 w = some res → mH E A s w H locs → lv_has ls 7 [(0, .ref (mM E)), (2, .int x2), (3, .int x3), (4, .int x4), (5, .int x5), (6, .int x6)] → W p l e rm_next s m args below meth c H locs 0 0 (MQ below (mQi E A res.1 res.2) args s 0 0 A) (F0 m 43 ls []) := by
  intro n
  induction n with
  | zero => intro x2 x3 x4 x5 x6 w H locs ls h; cases (show (none : Option (Int32 × MS)) = some res from h)
  | succ n ih =>
    intro x2 x3 x4 x5 x6 w H locs ls h hw hl
    rw [M_next_p43] at h
    refine lv_iload S.1 S.2.1 dX5_next_43 (lv_at hl 5 rfl) ?_
    refine lv_sipush (v := 241) S.1 S.2.1 dX5_next_45 rfl ?_
    refine lv_icmp_ge (tgt := 97) S.1 S.2.1 dX5_next_48 rfl (fun c6 => ?_) (fun c6 => ?_)
    · replace h := if_t c6 h
      refine lv_iload S.1 S.2.1 dX5_next_97 (lv_at hl 4 rfl) ?_
      refine lv_iload_n S.1 S.2.1 dX5_next_99 rfl (lv_at hl 2 rfl) ?_
      refine lv_icmp_ge (tgt := 108) S.1 S.2.1 dX5_next_100 rfl (fun c7 => ?_) (fun c7 => ?_)
      · replace h := if_t c7 h
        refine lv_iload_n S.1 S.2.1 dX5_next_108 rfl (lv_at hl 1 rfl) ?_
        exact wk_M_next_p109 S hr hlocks hk30 _ _ _ _ _ _ _ _ h hw (lv_sub hl [0, 2, 3, 4] rfl)
      · replace h := if_f c7 h
        refine lv_iload S.1 S.2.1 dX5_next_103 (lv_at hl 3 rfl) ?_
        refine lv_goto (tgt := 109) S.1 S.2.1 dX5_next_105 rfl ?_
        exact wk_M_next_p109 S hr hlocks hk30 _ _ _ _ _ _ _ _ h hw (lv_sub hl [0, 2, 3, 4] rfl)
    · replace h := if_f c6 h
      refine lv_aload_n S.1 S.2.1 dX5_next_51 rfl (lv_at hl 0 rfl) ?_
      refine mg36 S hw dX5_next_52 ?_
      refine lv_sipush (v := 241) S.1 S.2.1 dX5_next_55 rfl ?_
      refine lv_iload S.1 S.2.1 dX5_next_58 (lv_at hl 3 rfl) ?_
      refine lv_imul S.1 S.2.1 dX5_next_60 ?_
      refine lv_iload S.1 S.2.1 dX5_next_61 (lv_at hl 5 rfl) ?_
      refine lv_iadd S.1 S.2.1 dX5_next_63 ?_
      refine ml36 S hw dX5_next_64 h (fun v9 h => ?_)
      refine lv_iload S.1 S.2.1 dX5_next_65 (lv_at hl 4 rfl) ?_
      refine lv_icmp_le (tgt := 87) S.1 S.2.1 dX5_next_67 rfl (fun c10 => ?_) (fun c10 => ?_)
      · replace h := if_t c10 h
        refine lv_iload S.1 S.2.1 dX5_next_87 (lv_at hl 4 rfl) ?_
        refine lv_istore (lv' := [(5, .int x5), (0, .ref (mM E)), (2, .int x2), (3, .int x3), (4, .int x4), (6, .int x6)]) S.1 S.2.1 dX5_next_89 hl (by decide) rfl (fun ls hl => ?_)
        refine lv_iinc (v := x6 + (1 : Int32)) (lv' := [(6, .int (x6 + (1 : Int32))), (5, .int x5), (0, .ref (mM E)), (2, .int x2), (3, .int x3), (4, .int x4)]) S.1 S.2.1 dX5_next_91 hl (k := 5) rfl rfl (by decide) rfl (fun ls hl => ?_)
        refine lv_goto (tgt := 43) S.1 S.2.1 dX5_next_94 rfl ?_
        exact ih _ _ _ _ _ _ _ _ _ h hw (lv_sub hl [2, 3, 4, 5, 1, 0] rfl)
      · replace h := if_f c10 h
        refine lv_aload_n S.1 S.2.1 dX5_next_70 rfl (lv_at hl 0 rfl) ?_
        refine mg36 S hw dX5_next_71 ?_
        refine lv_sipush (v := 241) S.1 S.2.1 dX5_next_74 rfl ?_
        refine lv_iload S.1 S.2.1 dX5_next_77 (lv_at hl 3 rfl) ?_
        refine lv_imul S.1 S.2.1 dX5_next_79 ?_
        refine lv_iload S.1 S.2.1 dX5_next_80 (lv_at hl 5 rfl) ?_
        refine lv_iadd S.1 S.2.1 dX5_next_82 ?_
        refine ml36 S hw dX5_next_83 h (fun v11 h => ?_)
        refine lv_goto (tgt := 89) S.1 S.2.1 dX5_next_84 rfl ?_
        refine lv_istore (lv' := [(5, .int v11), (0, .ref (mM E)), (2, .int x2), (3, .int x3), (4, .int x4), (6, .int x6)]) S.1 S.2.1 dX5_next_89 hl (by decide) rfl (fun ls hl => ?_)
        refine lv_iinc (v := x6 + (1 : Int32)) (lv' := [(6, .int (x6 + (1 : Int32))), (5, .int v11), (0, .ref (mM E)), (2, .int x2), (3, .int x3), (4, .int x4)]) S.1 S.2.1 dX5_next_91 hl (k := 5) rfl rfl (by decide) rfl (fun ls hl => ?_)
        refine lv_goto (tgt := 43) S.1 S.2.1 dX5_next_94 rfl ?_
        exact ih _ _ _ _ _ _ _ _ _ h hw (lv_sub hl [2, 3, 4, 5, 1, 0] rfl)
set_option maxRecDepth 100000 in
set_option maxHeartbeats 4000000 in
theorem wk_M_next_p30 {p : Program} {l : Launch} {e : Env} {s : State} {m : MethodId} {args : Array Value} {below : List Frame} {meth : Method} {c : Code} {E : mE} {A : Nat → Prop} (S : CallFix p m c cX5_next 7 s args lw_all RX5) (hr : meth.sig.returnType = (some .int)) (hlocks : meth.locks = false) {res : Int32 × MS}  : ∀ n : Nat, ∀ (x2 : Int32) (x3 : Int32) (x4 : Int32) (w : MS) (H : Heap) (locs : List Loc) (ls : Array Slot), M_next_p30 n x2 x3 x4 w = some res → mH E A s w H locs → lv_has ls 7 [(0, .ref (mM E)), (2, .int x2), (3, .int x3), (4, .int x4)] → W p l e rm_next s m args below meth c H locs 0 0 (MQ below (mQi E A res.1 res.2) args s 0 0 A) (F0 m 30 ls []) := by
  intro n
  induction n with
  | zero => intro x2 x3 x4 w H locs ls h; cases (show (none : Option (Int32 × MS)) = some res from h)
  | succ n ih =>
    intro x2 x3 x4 w H locs ls h hw hl
    rw [M_next_p30] at h
    refine lv_iload S.1 S.2.1 dX5_next_30 (lv_at hl 3 rfl) ?_
    refine lv_bipush (v := 6) S.1 S.2.1 dX5_next_32 rfl ?_
    refine lv_icmp_ge (tgt := 129) S.1 S.2.1 dX5_next_34 rfl (fun c5 => ?_) (fun c5 => ?_)
    · replace h := if_t c5 h
      refine lv_iload_n S.1 S.2.1 dX5_next_129 rfl (lv_at hl 1 rfl) ?_
      exact m_iret S hr hlocks hw (so2 h) dX5_next_130
    · replace h := if_f c5 h
      refine lv_iconst (v := 0) S.1 S.2.1 dX5_next_37 rfl ?_
      refine lv_istore (lv' := [(5, .int (0 : Int32)), (0, .ref (mM E)), (2, .int x2), (3, .int x3), (4, .int x4)]) S.1 S.2.1 dX5_next_38 hl (by decide) rfl (fun ls hl => ?_)
      refine lv_iconst (v := 0) S.1 S.2.1 dX5_next_40 rfl ?_
      refine lv_istore (lv' := [(6, .int (0 : Int32)), (5, .int (0 : Int32)), (0, .ref (mM E)), (2, .int x2), (3, .int x3), (4, .int x4)]) S.1 S.2.1 dX5_next_41 hl (by decide) rfl (fun ls hl => ?_)
      exact wk_M_next_p43 S hr hlocks ih FU _ _ _ _ _ _ _ _ _ h hw (lv_sub hl [2, 3, 4, 5, 1, 0] rfl)
set_option maxRecDepth 100000 in
set_option maxHeartbeats 4000000 in
theorem met_next (l : Launch) (E : mE) (A : Nat → Prop)  (x1 : Int32) (w : MS) (res : Int32 × MS) (h : M_next x1 w = some res) : Met l yX5_next (ws_ yX5_next cX5_next 7 (some .int)) rm_next (mPc E A [.ref (mM E), .int x1] w) (mQi E A res.1 res.2) 0 0 A := by
  refine mMet (by decide) rfl (Nat.le_of_ble_eq_true rfl) ?_
  intro p e s m below meth c S hr hlocks H ls hw hl
  replace hl : lv_has ls 7 [(0, .ref (mM E)), (1, .int x1)] := hl
  unfold M_next at h
  refine lv_aload_n S.1 S.2.1 dX5_next_0 rfl (lv_at hl 0 rfl) ?_
  refine lv_iconst (v := 0) S.1 S.2.1 dX5_next_1 rfl ?_
  refine mp0 S hw dX5_next_2 h (fun w1 H locs h hw => ?_)
  refine lv_aload_n S.1 S.2.1 dX5_next_5 rfl (lv_at hl 0 rfl) ?_
  refine lv_iload_n S.1 S.2.1 dX5_next_6 rfl (lv_at hl 1 rfl) ?_
  refine mcVti (As := [.int x1]) (rest := []) S hw (met_isTenant l E A x1 w1 _ rfl) (cw_isTenant S.2.2.2.2 rfl rfl ⟨Nat.le_of_ble_eq_true rfl, Nat.le_of_ble_eq_true rfl⟩) rfl hl.1 rfl (lv_room (Nat.le_of_ble_eq_true rfl)) dX5_next_7 (fun H locs hw => ?_)
  refine lv_if_ne (tgt := 15) S.1 S.2.1 dX5_next_10 rfl (fun c2 => ?_) (fun c2 => ?_)
  · replace h := if_f c2 h
    refine lv_aload_n S.1 S.2.1 dX5_next_15 rfl (lv_at hl 0 rfl) ?_
    refine lv_iload_n S.1 S.2.1 dX5_next_16 rfl (lv_at hl 1 rfl) ?_
    refine mcVv (As := [.int x1]) (rest := []) S hw h (fun u h1 => met_findDays l E A x1 w1 u h1) (cw_findDays S.2.2.2.2 rfl rfl ⟨Nat.le_of_ble_eq_true rfl, Nat.le_of_ble_eq_true rfl⟩) rfl hl.1 rfl (lv_room (Nat.le_of_ble_eq_true rfl)) dX5_next_17 (fun w3 H locs h hw => ?_)
    refine lv_iconst (v := -1) S.1 S.2.1 dX5_next_20 rfl ?_
    refine lv_istore_n (lv' := [(2, .int (-1 : Int32)), (0, .ref (mM E)), (1, .int x1)]) S.1 S.2.1 dX5_next_21 rfl hl (by decide) rfl (fun ls hl => ?_)
    refine lv_aload_n S.1 S.2.1 dX5_next_22 rfl (lv_at hl 1 rfl) ?_
    refine mg37 S hw dX5_next_23 ?_
    refine lv_topi (fun y4 ey => ?_)
    replace h := bdp_e ey h
    refine lv_istore_n (lv' := [(3, .int y4), (2, .int (-1 : Int32)), (0, .ref (mM E)), (1, .int x1)]) S.1 S.2.1 dX5_next_26 rfl hl (by decide) rfl (fun ls hl => ?_)
    refine lv_iconst (v := 0) S.1 S.2.1 dX5_next_27 rfl ?_
    refine lv_istore (lv' := [(4, .int (0 : Int32)), (3, .int y4), (2, .int (-1 : Int32)), (0, .ref (mM E)), (1, .int x1)]) S.1 S.2.1 dX5_next_28 hl (by decide) rfl (fun ls hl => ?_)
    exact wk_M_next_p30 S hr hlocks FU _ _ _ _ _ _ _ h hw (lv_sub hl [3, 2, 1, 0] rfl)
  · replace h := if_t c2 h
    refine lv_iconst (v := -1) S.1 S.2.1 dX5_next_13 rfl ?_
    exact m_iret S hr hlocks hw (so2 h) dX5_next_14
def M_draw (x1 : Int32) (w : MS) : Option (Int32 × MS) :=
  bdp (wL w 39 0 ((((rL w 39 0) * (1103515245 : Int64)) + (12345 : Int64)) - (((rL w 39 0) * (1103515245 : Int64)) + (12345 : Int64)) / (2147483648 : Int64) * (2147483648 : Int64))) fun w1 =>
  bd1 (o_lrem ((rL w1 39 0) / (65536 : Int64)) x1.toInt64) fun d2 =>
  some (d2.toInt32, w1)
set_option maxRecDepth 100000 in
set_option maxHeartbeats 4000000 in
theorem met_draw (l : Launch) (E : mE) (A : Nat → Prop)  (x1 : Int32) (w : MS) (res : Int32 × MS) (h : M_draw x1 w = some res) : Met l yX5_draw (ws_ yX5_draw cX5_draw 2 (some .int)) rm_draw (mPc E A [.ref (mM E), .int x1] w) (mQi E A res.1 res.2) 0 0 A := by
  refine mMet (by decide) rfl (Nat.le_of_ble_eq_true rfl) ?_
  intro p e s m below meth c S hr hlocks H ls hw hl
  replace hl : lv_has ls 2 [(0, .ref (mM E)), (1, .int x1)] := hl
  unfold M_draw at h
  refine lv_aload_n S.1 S.2.1 dX5_draw_0 rfl (lv_at hl 0 rfl) ?_
  refine lv_aload_n S.1 S.2.1 dX5_draw_1 rfl (lv_at hl 0 rfl) ?_
  refine mg39 S hw dX5_draw_2 ?_
  refine lv_ldc2 (v := 1103515245) S.1 S.2.1 S.2.2.2.1 (S.2.2.2.2 _ q2337) dX5_draw_5 ?_
  refine lv_lmul S.1 S.2.1 dX5_draw_8 ?_
  refine lv_ldc2 (v := 12345) S.1 S.2.1 S.2.2.2.1 (S.2.2.2.2 _ q2338) dX5_draw_9 ?_
  refine lv_ladd S.1 S.2.1 dX5_draw_12 ?_
  refine lv_ldc2 (v := 2147483648) S.1 S.2.1 S.2.2.2.1 (S.2.2.2.2 _ q2339) dX5_draw_13 ?_
  refine lv_lrem S.1 S.2.1 dX5_draw_16 (by decide) ?_
  refine mp39 S hw dX5_draw_17 h (fun w1 H locs h hw => ?_)
  refine lv_aload_n S.1 S.2.1 dX5_draw_20 rfl (lv_at hl 0 rfl) ?_
  refine mg39 S hw dX5_draw_21 ?_
  refine lv_ldc2 (v := 65536) S.1 S.2.1 S.2.2.2.1 (S.2.2.2.2 _ q2340) dX5_draw_24 ?_
  refine lv_ldiv S.1 S.2.1 dX5_draw_27 (by decide) ?_
  refine lv_iload_n S.1 S.2.1 dX5_draw_28 rfl (lv_at hl 1 rfl) ?_
  refine lv_i2l S.1 S.2.1 dX5_draw_29 rfl ?_
  refine r_lrem S.1 S.2.1 dX5_draw_30 h (fun d2 h => ?_)
  refine lv_l2i S.1 S.2.1 dX5_draw_31 rfl ?_
  exact m_iret S hr hlocks hw (so2 h) dX5_draw_32
def M_drawsActs_p31 (k2 : Int32 → MS → Option MS) (x1 : Int32) (t0 : Int32) (w : MS) : Option MS :=
  if t0 = 0 then
    bd1 (M_climbs (1232 : Int32) x1 w) fun w9 =>
    k2 (x1 + (1 : Int32)) w9
  else
    if t0 = (1 : Int32) then
      bd1 (M_frights (1232 : Int32) x1 (30 : Int32) w) fun w8 =>
      k2 (x1 + (1 : Int32)) w8
    else
      if t0 = (2 : Int32) then
        bd1 (wA w 25 1288 ((1251 : Int32) + x1) (rI w 10 4)) fun w7 =>
        k2 (x1 + (1 : Int32)) w7
      else
        k2 (x1 + (1 : Int32)) w
def M_drawsActs_p2 : Nat → Int32 → MS → Option MS
  | 0, _, _ => none
  | n + 1, x1, w =>
    if (M_tenants w) ≤ x1 then
      some w
    else
      bd1 (M_isIn (1232 : Int32) x1 w) fun r2 =>
      if r2 = 0 then
        M_drawsActs_p31 (M_drawsActs_p2 n) x1 (5 : Int32) w
      else
        bd2 (M_draw (6 : Int32) w) fun r11 w10 =>
        M_drawsActs_p31 (M_drawsActs_p2 n) x1 r11 w10
def M_drawsActs (w : MS) : Option MS :=
  M_drawsActs_p2 FU (0 : Int32) w
set_option maxRecDepth 100000 in
set_option maxHeartbeats 4000000 in
theorem wk_M_drawsActs_p31 {p : Program} {l : Launch} {e : Env} {s : State} {m : MethodId} {args : Array Value} {below : List Frame} {meth : Method} {c : Code} {E : mE} {A : Nat → Prop} (S : CallFix p m c cX5_drawsActs 3 s args lw_all RX5) (hr : meth.sig.returnType = none) (hlocks : meth.locks = false) {res : MS}  {k2 : Int32 → MS → Option MS} (hk2 : ∀ (x1 : Int32) (w : MS) (H : Heap) (locs : List Loc) (ls : Array Slot), k2 x1 w = some res → mH E A s w H locs → lv_has ls 3 [(0, .ref (mM E)), (1, .int x1)] → W p l e rm_drawsActs s m args below meth c H locs 0 0 (MQ below (mQv E A res) args s 0 0 A) (F0 m 2 ls [])) : ∀ (x1 : Int32) (t0 : Int32) (w : MS) (H : Heap) (locs : List Loc) (ls : Array Slot), M_drawsActs_p31 k2 x1 t0 w = some res → mH E A s w H locs → lv_has ls 3 [(0, .ref (mM E)), (1, .int x1)] → W p l e rm_drawsActs s m args below meth c H locs 0 0 (MQ below (mQv E A res) args s 0 0 A) (F0 m 31 ls [.int t0]) := by
  intro x1 t0 w H locs ls h hw hl
  unfold M_drawsActs_p31 at h
  refine lv_istore_n (lv' := [(2, .int t0), (0, .ref (mM E)), (1, .int x1)]) S.1 S.2.1 dX5_drawsActs_31 rfl hl (by decide) rfl (fun ls hl => ?_)
  refine lv_iload_n S.1 S.2.1 dX5_drawsActs_32 rfl (lv_at hl 0 rfl) ?_
  refine lv_if_ne (tgt := 47) S.1 S.2.1 dX5_drawsActs_33 rfl (fun c4 => ?_) (fun c4 => ?_)
  · replace h := if_f c4 h
    refine lv_iload_n S.1 S.2.1 dX5_drawsActs_47 rfl (lv_at hl 0 rfl) ?_
    refine lv_iconst (v := 1) S.1 S.2.1 dX5_drawsActs_48 rfl ?_
    refine lv_icmp_ne (tgt := 65) S.1 S.2.1 dX5_drawsActs_49 rfl (fun c5 => ?_) (fun c5 => ?_)
    · replace h := if_f c5 h
      refine lv_iload_n S.1 S.2.1 dX5_drawsActs_65 rfl (lv_at hl 0 rfl) ?_
      refine lv_iconst (v := 2) S.1 S.2.1 dX5_drawsActs_66 rfl ?_
      refine lv_icmp_ne (tgt := 86) S.1 S.2.1 dX5_drawsActs_67 rfl (fun c6 => ?_) (fun c6 => ?_)
      · replace h := if_f c6 h
        refine lv_iinc (v := x1 + (1 : Int32)) (lv' := [(1, .int (x1 + (1 : Int32))), (2, .int t0), (0, .ref (mM E))]) S.1 S.2.1 dX5_drawsActs_86 hl (k := 2) rfl rfl (by decide) rfl (fun ls hl => ?_)
        refine lv_goto (tgt := 2) S.1 S.2.1 dX5_drawsActs_89 rfl ?_
        exact hk2 _ _ _ _ _ h hw (lv_sub hl [2, 0] rfl)
      · replace h := if_t c6 h
        refine lv_aload_n S.1 S.2.1 dX5_drawsActs_70 rfl (lv_at hl 1 rfl) ?_
        refine mg25 S hw dX5_drawsActs_71 ?_
        refine lv_sipush (v := 1251) S.1 S.2.1 dX5_drawsActs_74 rfl ?_
        refine lv_iload_n S.1 S.2.1 dX5_drawsActs_77 rfl (lv_at hl 2 rfl) ?_
        refine lv_iadd S.1 S.2.1 dX5_drawsActs_78 ?_
        refine lv_aload_n S.1 S.2.1 dX5_drawsActs_79 rfl (lv_at hl 1 rfl) ?_
        refine mg10 S hw dX5_drawsActs_80 ?_
        refine lv_iconst (v := 4) S.1 S.2.1 dX5_drawsActs_83 rfl ?_
        refine mlc10 (j := 4) S hw dX5_drawsActs_84 (by decide) ?_
        refine ms25 S hw dX5_drawsActs_85 h (fun w7 H locs h hw => ?_)
        refine lv_iinc (v := x1 + (1 : Int32)) (lv' := [(1, .int (x1 + (1 : Int32))), (2, .int t0), (0, .ref (mM E))]) S.1 S.2.1 dX5_drawsActs_86 hl (k := 2) rfl rfl (by decide) rfl (fun ls hl => ?_)
        refine lv_goto (tgt := 2) S.1 S.2.1 dX5_drawsActs_89 rfl ?_
        exact hk2 _ _ _ _ _ h hw (lv_sub hl [2, 0] rfl)
    · replace h := if_t c5 h
      refine lv_aload_n S.1 S.2.1 dX5_drawsActs_52 rfl (lv_at hl 1 rfl) ?_
      refine lv_sipush (v := 1232) S.1 S.2.1 dX5_drawsActs_53 rfl ?_
      refine lv_iload_n S.1 S.2.1 dX5_drawsActs_56 rfl (lv_at hl 2 rfl) ?_
      refine lv_bipush (v := 30) S.1 S.2.1 dX5_drawsActs_57 rfl ?_
      refine mcVv (As := [.int (1232 : Int32), .int x1, .int (30 : Int32)]) (rest := []) S hw h (fun u h1 => met_frights l E A (1232 : Int32) x1 (30 : Int32) w u h1) (cw_frights S.2.2.2.2 rfl rfl ⟨Nat.le_of_ble_eq_true rfl, Nat.le_of_ble_eq_true rfl⟩) rfl hl.1 rfl (lv_room (Nat.le_of_ble_eq_true rfl)) dX5_drawsActs_59 (fun w8 H locs h hw => ?_)
      refine lv_goto (tgt := 86) S.1 S.2.1 dX5_drawsActs_62 rfl ?_
      refine lv_iinc (v := x1 + (1 : Int32)) (lv' := [(1, .int (x1 + (1 : Int32))), (2, .int t0), (0, .ref (mM E))]) S.1 S.2.1 dX5_drawsActs_86 hl (k := 2) rfl rfl (by decide) rfl (fun ls hl => ?_)
      refine lv_goto (tgt := 2) S.1 S.2.1 dX5_drawsActs_89 rfl ?_
      exact hk2 _ _ _ _ _ h hw (lv_sub hl [2, 0] rfl)
  · replace h := if_t c4 h
    refine lv_aload_n S.1 S.2.1 dX5_drawsActs_36 rfl (lv_at hl 1 rfl) ?_
    refine lv_sipush (v := 1232) S.1 S.2.1 dX5_drawsActs_37 rfl ?_
    refine lv_iload_n S.1 S.2.1 dX5_drawsActs_40 rfl (lv_at hl 2 rfl) ?_
    refine mcVv (As := [.int (1232 : Int32), .int x1]) (rest := []) S hw h (fun u h1 => met_climbs l E A (1232 : Int32) x1 w u h1) (cw_climbs S.2.2.2.2 rfl rfl ⟨Nat.le_of_ble_eq_true rfl, Nat.le_of_ble_eq_true rfl⟩) rfl hl.1 rfl (lv_room (Nat.le_of_ble_eq_true rfl)) dX5_drawsActs_41 (fun w9 H locs h hw => ?_)
    refine lv_goto (tgt := 86) S.1 S.2.1 dX5_drawsActs_44 rfl ?_
    refine lv_iinc (v := x1 + (1 : Int32)) (lv' := [(1, .int (x1 + (1 : Int32))), (2, .int t0), (0, .ref (mM E))]) S.1 S.2.1 dX5_drawsActs_86 hl (k := 2) rfl rfl (by decide) rfl (fun ls hl => ?_)
    refine lv_goto (tgt := 2) S.1 S.2.1 dX5_drawsActs_89 rfl ?_
    exact hk2 _ _ _ _ _ h hw (lv_sub hl [2, 0] rfl)
set_option maxRecDepth 100000 in
set_option maxHeartbeats 4000000 in
theorem wk_M_drawsActs_p2 {p : Program} {l : Launch} {e : Env} {s : State} {m : MethodId} {args : Array Value} {below : List Frame} {meth : Method} {c : Code} {E : mE} {A : Nat → Prop} (S : CallFix p m c cX5_drawsActs 3 s args lw_all RX5) (hr : meth.sig.returnType = none) (hlocks : meth.locks = false) {res : MS}  : ∀ n : Nat, ∀ (x1 : Int32) (w : MS) (H : Heap) (locs : List Loc) (ls : Array Slot), M_drawsActs_p2 n x1 w = some res → mH E A s w H locs → lv_has ls 3 [(0, .ref (mM E)), (1, .int x1)] → W p l e rm_drawsActs s m args below meth c H locs 0 0 (MQ below (mQv E A res) args s 0 0 A) (F0 m 2 ls []) := by
  intro n
  induction n with
  | zero => intro x1 w H locs ls h; cases (show (none : Option MS) = some res from h)
  | succ n ih =>
    intro x1 w H locs ls h hw hl
    rw [M_drawsActs_p2] at h
    refine lv_iload_n S.1 S.2.1 dX5_drawsActs_2 rfl (lv_at hl 1 rfl) ?_
    refine lv_aload_n S.1 S.2.1 dX5_drawsActs_3 rfl (lv_at hl 0 rfl) ?_
    refine mcVti (As := []) (rest := [.int x1]) S hw (met_tenants l E A  w _ rfl) (cw_tenants S.2.2.2.2 rfl rfl ⟨Nat.le_of_ble_eq_true rfl, Nat.le_of_ble_eq_true rfl⟩) rfl hl.1 rfl (lv_room (Nat.le_of_ble_eq_true rfl)) dX5_drawsActs_4 (fun H locs hw => ?_)
    refine lv_icmp_ge (tgt := 92) S.1 S.2.1 dX5_drawsActs_7 rfl (fun c1 => ?_) (fun c1 => ?_)
    · replace h := if_t c1 h
      exact m_vret S hr hlocks hw (so1 h) dX5_drawsActs_92
    · replace h := if_f c1 h
      refine lv_aload_n S.1 S.2.1 dX5_drawsActs_10 rfl (lv_at hl 0 rfl) ?_
      refine lv_sipush (v := 1232) S.1 S.2.1 dX5_drawsActs_11 rfl ?_
      refine lv_iload_n S.1 S.2.1 dX5_drawsActs_14 rfl (lv_at hl 1 rfl) ?_
      refine mcVri (As := [.int (1232 : Int32), .int x1]) (rest := []) S hw h (fun u h1 => met_isIn l E A (1232 : Int32) x1 w u h1) (cw_isIn S.2.2.2.2 rfl rfl ⟨Nat.le_of_ble_eq_true rfl, Nat.le_of_ble_eq_true rfl⟩) rfl hl.1 rfl (lv_room (Nat.le_of_ble_eq_true rfl)) dX5_drawsActs_15 (fun r2 H locs h hw => ?_)
      refine lv_if_eq (tgt := 30) S.1 S.2.1 dX5_drawsActs_18 rfl (fun c3 => ?_) (fun c3 => ?_)
      · replace h := if_t c3 h
        refine lv_iconst (v := 5) S.1 S.2.1 dX5_drawsActs_30 rfl ?_
        exact wk_M_drawsActs_p31 S hr hlocks ih _ _ _ _ _ _ h hw (lv_sub hl [0, 1] rfl)
      · replace h := if_f c3 h
        refine lv_aload_n S.1 S.2.1 dX5_drawsActs_21 rfl (lv_at hl 0 rfl) ?_
        refine lv_bipush (v := 6) S.1 S.2.1 dX5_drawsActs_22 rfl ?_
        refine mcVwi (As := [.int (6 : Int32)]) (rest := []) S hw h (fun u h1 => met_draw l E A (6 : Int32) w u h1) (cw_draw S.2.2.2.2 rfl rfl ⟨Nat.le_of_ble_eq_true rfl, Nat.le_of_ble_eq_true rfl⟩) rfl hl.1 rfl (lv_room (Nat.le_of_ble_eq_true rfl)) dX5_drawsActs_24 (fun r11 w10 H locs h hw => ?_)
        refine lv_goto (tgt := 31) S.1 S.2.1 dX5_drawsActs_27 rfl ?_
        exact wk_M_drawsActs_p31 S hr hlocks ih _ _ _ _ _ _ h hw (lv_sub hl [0, 1] rfl)
set_option maxRecDepth 100000 in
set_option maxHeartbeats 4000000 in
theorem met_drawsActs (l : Launch) (E : mE) (A : Nat → Prop)  (w : MS) (res : MS) (h : M_drawsActs w = some res) : Met l yX5_drawsActs (ws_ yX5_drawsActs cX5_drawsActs 3 none) rm_drawsActs (mPc E A [.ref (mM E)] w) (mQv E A res) 0 0 A := by
  refine mMet (by decide) rfl (Nat.le_of_ble_eq_true rfl) ?_
  intro p e s m below meth c S hr hlocks H ls hw hl
  replace hl : lv_has ls 3 [(0, .ref (mM E))] := hl
  unfold M_drawsActs at h
  refine lv_iconst (v := 0) S.1 S.2.1 dX5_drawsActs_0 rfl ?_
  refine lv_istore_n (lv' := [(1, .int (0 : Int32)), (0, .ref (mM E))]) S.1 S.2.1 dX5_drawsActs_1 rfl hl (by decide) rfl (fun ls hl => ?_)
  exact wk_M_drawsActs_p2 S hr hlocks FU _ _ _ _ _ h hw (lv_sub hl [1, 0] rfl)
def M_inMany_p4 : Nat → Int32 → Int32 → Int32 → MS → Option Int32
  | 0, _, _, _, _ => none
  | n + 1, x1, x2, x3, w =>
    if (M_tenants w) ≤ x3 then
      some x2
    else
      bd1 (M_isIn x1 x3 w) fun r2 =>
      if r2 = 0 then
        bdp (x2 + (0 : Int32)) fun y4 =>
        (M_inMany_p4 n) x1 y4 (x3 + (1 : Int32)) w
      else
        bdp (x2 + (1 : Int32)) fun y5 =>
        (M_inMany_p4 n) x1 y5 (x3 + (1 : Int32)) w
def M_inMany (x1 : Int32) (w : MS) : Option Int32 :=
  M_inMany_p4 FU x1 (0 : Int32) (0 : Int32) w
set_option maxRecDepth 100000 in
set_option maxHeartbeats 4000000 in
theorem wk_M_inMany_p4 {p : Program} {l : Launch} {e : Env} {s : State} {m : MethodId} {args : Array Value} {below : List Frame} {meth : Method} {c : Code} {E : mE} {A : Nat → Prop} (S : CallFix p m c cX5_inMany 4 s args lw_all RX5) (hr : meth.sig.returnType = (some .int)) (hlocks : meth.locks = false) {res : Int32}  : ∀ n : Nat, ∀ (x1 : Int32) (x2 : Int32) (x3 : Int32) (w : MS) (H : Heap) (locs : List Loc) (ls : Array Slot), M_inMany_p4 n x1 x2 x3 w = some res → mH E A s w H locs → lv_has ls 4 [(0, .ref (mM E)), (1, .int x1), (2, .int x2), (3, .int x3)] → W p l e rm_inMany s m args below meth c H locs 0 0 (MQ below (mQi E A res w) args s 0 0 A) (F0 m 4 ls []) := by
  intro n
  induction n with
  | zero => intro x1 x2 x3 w H locs ls h; cases (show (none : Option Int32) = some res from h)
  | succ n ih =>
    intro x1 x2 x3 w H locs ls h hw hl
    rw [M_inMany_p4] at h
    refine lv_iload_n S.1 S.2.1 dX5_inMany_4 rfl (lv_at hl 3 rfl) ?_
    refine lv_aload_n S.1 S.2.1 dX5_inMany_5 rfl (lv_at hl 0 rfl) ?_
    refine mcVti (As := []) (rest := [.int x3]) S hw (met_tenants l E A  w _ rfl) (cw_tenants S.2.2.2.2 rfl rfl ⟨Nat.le_of_ble_eq_true rfl, Nat.le_of_ble_eq_true rfl⟩) rfl hl.1 rfl (lv_room (Nat.le_of_ble_eq_true rfl)) dX5_inMany_6 (fun H locs hw => ?_)
    refine lv_icmp_ge (tgt := 35) S.1 S.2.1 dX5_inMany_9 rfl (fun c1 => ?_) (fun c1 => ?_)
    · replace h := if_t c1 h
      refine lv_iload_n S.1 S.2.1 dX5_inMany_35 rfl (lv_at hl 2 rfl) ?_
      exact m_iret S hr hlocks hw ⟨so1 h, rfl⟩ dX5_inMany_36
    · replace h := if_f c1 h
      refine lv_iload_n S.1 S.2.1 dX5_inMany_12 rfl (lv_at hl 2 rfl) ?_
      refine lv_aload_n S.1 S.2.1 dX5_inMany_13 rfl (lv_at hl 0 rfl) ?_
      refine lv_iload_n S.1 S.2.1 dX5_inMany_14 rfl (lv_at hl 1 rfl) ?_
      refine lv_iload_n S.1 S.2.1 dX5_inMany_15 rfl (lv_at hl 3 rfl) ?_
      refine mcVri (As := [.int x1, .int x3]) (rest := [.int x2]) S hw h (fun u h1 => met_isIn l E A x1 x3 w u h1) (cw_isIn S.2.2.2.2 rfl rfl ⟨Nat.le_of_ble_eq_true rfl, Nat.le_of_ble_eq_true rfl⟩) rfl hl.1 rfl (lv_room (Nat.le_of_ble_eq_true rfl)) dX5_inMany_16 (fun r2 H locs h hw => ?_)
      refine lv_if_eq (tgt := 26) S.1 S.2.1 dX5_inMany_19 rfl (fun c3 => ?_) (fun c3 => ?_)
      · replace h := if_t c3 h
        refine lv_iconst (v := 0) S.1 S.2.1 dX5_inMany_26 rfl ?_
        refine lv_iadd S.1 S.2.1 dX5_inMany_27 ?_
        refine lv_topi (fun y4 ey => ?_)
        replace h := bdp_e ey h
        refine lv_istore_n (lv' := [(2, .int y4), (0, .ref (mM E)), (1, .int x1), (3, .int x3)]) S.1 S.2.1 dX5_inMany_28 rfl hl (by decide) rfl (fun ls hl => ?_)
        refine lv_iinc (v := x3 + (1 : Int32)) (lv' := [(3, .int (x3 + (1 : Int32))), (2, .int y4), (0, .ref (mM E)), (1, .int x1)]) S.1 S.2.1 dX5_inMany_29 hl (k := 3) rfl rfl (by decide) rfl (fun ls hl => ?_)
        refine lv_goto (tgt := 4) S.1 S.2.1 dX5_inMany_32 rfl ?_
        exact ih _ _ _ _ _ _ _ h hw (lv_sub hl [2, 3, 1, 0] rfl)
      · replace h := if_f c3 h
        refine lv_iconst (v := 1) S.1 S.2.1 dX5_inMany_22 rfl ?_
        refine lv_goto (tgt := 27) S.1 S.2.1 dX5_inMany_23 rfl ?_
        refine lv_iadd S.1 S.2.1 dX5_inMany_27 ?_
        refine lv_topi (fun y5 ey => ?_)
        replace h := bdp_e ey h
        refine lv_istore_n (lv' := [(2, .int y5), (0, .ref (mM E)), (1, .int x1), (3, .int x3)]) S.1 S.2.1 dX5_inMany_28 rfl hl (by decide) rfl (fun ls hl => ?_)
        refine lv_iinc (v := x3 + (1 : Int32)) (lv' := [(3, .int (x3 + (1 : Int32))), (2, .int y5), (0, .ref (mM E)), (1, .int x1)]) S.1 S.2.1 dX5_inMany_29 hl (k := 3) rfl rfl (by decide) rfl (fun ls hl => ?_)
        refine lv_goto (tgt := 4) S.1 S.2.1 dX5_inMany_32 rfl ?_
        exact ih _ _ _ _ _ _ _ h hw (lv_sub hl [2, 3, 1, 0] rfl)
set_option maxRecDepth 100000 in
set_option maxHeartbeats 4000000 in
theorem met_inMany (l : Launch) (E : mE) (A : Nat → Prop)  (x1 : Int32) (w : MS) (res : Int32) (h : M_inMany x1 w = some res) : Met l yX5_inMany (ws_ yX5_inMany cX5_inMany 4 (some .int)) rm_inMany (mPc E A [.ref (mM E), .int x1] w) (mQi E A res w) 0 0 A := by
  refine mMet (by decide) rfl (Nat.le_of_ble_eq_true rfl) ?_
  intro p e s m below meth c S hr hlocks H ls hw hl
  replace hl : lv_has ls 4 [(0, .ref (mM E)), (1, .int x1)] := hl
  unfold M_inMany at h
  refine lv_iconst (v := 0) S.1 S.2.1 dX5_inMany_0 rfl ?_
  refine lv_istore_n (lv' := [(2, .int (0 : Int32)), (0, .ref (mM E)), (1, .int x1)]) S.1 S.2.1 dX5_inMany_1 rfl hl (by decide) rfl (fun ls hl => ?_)
  refine lv_iconst (v := 0) S.1 S.2.1 dX5_inMany_2 rfl ?_
  refine lv_istore_n (lv' := [(3, .int (0 : Int32)), (2, .int (0 : Int32)), (0, .ref (mM E)), (1, .int x1)]) S.1 S.2.1 dX5_inMany_3 rfl hl (by decide) rfl (fun ls hl => ?_)
  exact wk_M_inMany_p4 S hr hlocks FU _ _ _ _ _ _ _ h hw (lv_sub hl [2, 3, 1, 0] rfl)
def M_years_p75 (k62 : Int32 → Int32 → Int32 → Int32 → Int32 → MS → Option (Int32 × MS)) : Nat → Int32 → Int32 → Int32 → Int32 → Int32 → Int32 → MS → Option (Int32 × MS)
  | 0, _, _, _, _, _, _, _ => none
  | n + 1, x2, x3, x4, x5, x6, x7, w =>
    if (10 : Int32) ≤ x7 then
      bd2 (M_noons (1232 : Int32) w) fun r14 w13 =>
      bdp (x4 + r14) fun y15 =>
      k62 x2 x3 y15 x5 (x6 + (1 : Int32)) w13
    else
      bd2 (M_passes (1232 : Int32) w) fun r17 w16 =>
      bdp (x5 + r17) fun y18 =>
      (M_years_p75 k62 n) x2 x3 x4 y18 x6 (x7 + (1 : Int32)) w16
def M_years_p62 : Nat → Int32 → Int32 → Int32 → Int32 → Int32 → MS → Option (Int32 × MS)
  | 0, _, _, _, _, _, _ => none
  | n + 1, x2, x3, x4, x5, x6, w =>
    if x2 ≤ x6 then
      if x3 = 0 then
        some (x4, w)
      else
        if x3 = (1 : Int32) then
          bd1 (M_inMany (1232 : Int32) w) fun r10 =>
          some (r10, w)
        else
          some (x5, w)
    else
      bd1 (M_drawsActs w) fun w11 =>
      M_years_p75 (M_years_p62 n) FU x2 x3 x4 x5 x6 (0 : Int32) w11
def M_years (x1 : Int32) (x2 : Int32) (x3 : Int32) (w : MS) : Option (Int32 × MS) :=
  bdp (wI w 0 0 (0 : Int32)) fun w1 =>
  if (M_within x1 (0 : Int32) (9999 : Int32)) = 0 then
    some ((-1 : Int32), w1)
  else
    if (M_within x2 (1 : Int32) (30 : Int32)) = 0 then
      some ((-1 : Int32), w1)
    else
      if (M_within x3 (0 : Int32) (2 : Int32)) = 0 then
        some ((-1 : Int32), w1)
      else
        bd1 (M_copies (0 : Int32) (1232 : Int32) (43 : Int32) w1) fun w5 =>
        bdp (wL w5 39 0 x1.toInt64) fun w6 =>
        M_years_p62 FU x2 x3 (0 : Int32) (0 : Int32) (0 : Int32) w6
set_option maxRecDepth 100000 in
set_option maxHeartbeats 4000000 in
theorem wk_M_years_p75 {p : Program} {l : Launch} {e : Env} {s : State} {m : MethodId} {args : Array Value} {below : List Frame} {meth : Method} {c : Code} {E : mE} {A : Nat → Prop} (S : CallFix p m c cX5_years 8 s args lw_all RX5) (hr : meth.sig.returnType = (some .int)) (hlocks : meth.locks = false) {res : Int32 × MS}  {k62 : Int32 → Int32 → Int32 → Int32 → Int32 → MS → Option (Int32 × MS)} (hk62 : ∀ (x2 : Int32) (x3 : Int32) (x4 : Int32) (x5 : Int32) (x6 : Int32) (w : MS) (H : Heap) (locs : List Loc) (ls : Array Slot), k62 x2 x3 x4 x5 x6 w = some res → mH E A s w H locs → lv_has ls 8 [(0, .ref (mM E)), (2, .int x2), (3, .int x3), (4, .int x4), (5, .int x5), (6, .int x6)] → W p l e rm_years s m args below meth c H locs 0 0 (MQ below (mQi E A res.1 res.2) args s 0 0 A) (F0 m 62 ls [])) : ∀ n : Nat, ∀ (x2 : Int32) (x3 : Int32) (x4 : Int32) (x5 : Int32) (x6 : Int32) (x7 : Int32) (w : MS) (H : Heap) (locs : List Loc) (ls : Array Slot), M_years_p75 k62 n x2 x3 x4 x5 x6 x7 w = some res → mH E A s w H locs → lv_has ls 8 [(0, .ref (mM E)), (2, .int x2), (3, .int x3), (4, .int x4), (5, .int x5), (6, .int x6), (7, .int x7)] → W p l e rm_years s m args below meth c H locs 0 0 (MQ below (mQi E A res.1 res.2) args s 0 0 A) (F0 m 75 ls []) := by
  intro n
  induction n with
  | zero => intro x2 x3 x4 x5 x6 x7 w H locs ls h; cases (show (none : Option (Int32 × MS)) = some res from h)
  | succ n ih =>
    intro x2 x3 x4 x5 x6 x7 w H locs ls h hw hl
    rw [M_years_p75] at h
    refine lv_iload S.1 S.2.1 dX5_years_75 (lv_at hl 6 rfl) ?_
    refine lv_bipush (v := 10) S.1 S.2.1 dX5_years_77 rfl ?_
    refine lv_icmp_ge (tgt := 100) S.1 S.2.1 dX5_years_79 rfl (fun c12 => ?_) (fun c12 => ?_)
    · replace h := if_t c12 h
      refine lv_iload S.1 S.2.1 dX5_years_100 (lv_at hl 3 rfl) ?_
      refine lv_aload_n S.1 S.2.1 dX5_years_102 rfl (lv_at hl 0 rfl) ?_
      refine lv_sipush (v := 1232) S.1 S.2.1 dX5_years_103 rfl ?_
      refine mcVwi (As := [.int (1232 : Int32)]) (rest := [.int x4]) S hw h (fun u h1 => met_noons l E A (1232 : Int32) w u h1) (cw_noons S.2.2.2.2 rfl rfl ⟨Nat.le_of_ble_eq_true rfl, Nat.le_of_ble_eq_true rfl⟩) rfl hl.1 rfl (lv_room (Nat.le_of_ble_eq_true rfl)) dX5_years_106 (fun r14 w13 H locs h hw => ?_)
      refine lv_iadd S.1 S.2.1 dX5_years_109 ?_
      refine lv_topi (fun y15 ey => ?_)
      replace h := bdp_e ey h
      refine lv_istore (lv' := [(4, .int y15), (0, .ref (mM E)), (2, .int x2), (3, .int x3), (5, .int x5), (6, .int x6), (7, .int x7)]) S.1 S.2.1 dX5_years_110 hl (by decide) rfl (fun ls hl => ?_)
      refine lv_iinc (v := x6 + (1 : Int32)) (lv' := [(6, .int (x6 + (1 : Int32))), (4, .int y15), (0, .ref (mM E)), (2, .int x2), (3, .int x3), (5, .int x5), (7, .int x7)]) S.1 S.2.1 dX5_years_112 hl (k := 5) rfl rfl (by decide) rfl (fun ls hl => ?_)
      refine lv_goto (tgt := 62) S.1 S.2.1 dX5_years_115 rfl ?_
      exact hk62 _ _ _ _ _ _ _ _ _ h hw (lv_sub hl [2, 3, 4, 1, 5, 0] rfl)
    · replace h := if_f c12 h
      refine lv_iload S.1 S.2.1 dX5_years_82 (lv_at hl 4 rfl) ?_
      refine lv_aload_n S.1 S.2.1 dX5_years_84 rfl (lv_at hl 0 rfl) ?_
      refine lv_sipush (v := 1232) S.1 S.2.1 dX5_years_85 rfl ?_
      refine mcVwi (As := [.int (1232 : Int32)]) (rest := [.int x5]) S hw h (fun u h1 => met_passes l E A (1232 : Int32) w u h1) (cw_passes S.2.2.2.2 rfl rfl ⟨Nat.le_of_ble_eq_true rfl, Nat.le_of_ble_eq_true rfl⟩) rfl hl.1 rfl (lv_room (Nat.le_of_ble_eq_true rfl)) dX5_years_88 (fun r17 w16 H locs h hw => ?_)
      refine lv_iadd S.1 S.2.1 dX5_years_91 ?_
      refine lv_topi (fun y18 ey => ?_)
      replace h := bdp_e ey h
      refine lv_istore (lv' := [(5, .int y18), (0, .ref (mM E)), (2, .int x2), (3, .int x3), (4, .int x4), (6, .int x6), (7, .int x7)]) S.1 S.2.1 dX5_years_92 hl (by decide) rfl (fun ls hl => ?_)
      refine lv_iinc (v := x7 + (1 : Int32)) (lv' := [(7, .int (x7 + (1 : Int32))), (5, .int y18), (0, .ref (mM E)), (2, .int x2), (3, .int x3), (4, .int x4), (6, .int x6)]) S.1 S.2.1 dX5_years_94 hl (k := 6) rfl rfl (by decide) rfl (fun ls hl => ?_)
      refine lv_goto (tgt := 75) S.1 S.2.1 dX5_years_97 rfl ?_
      exact ih _ _ _ _ _ _ _ _ _ _ h hw (lv_sub hl [2, 3, 4, 5, 1, 6, 0] rfl)
set_option maxRecDepth 100000 in
set_option maxHeartbeats 4000000 in
theorem wk_M_years_p62 {p : Program} {l : Launch} {e : Env} {s : State} {m : MethodId} {args : Array Value} {below : List Frame} {meth : Method} {c : Code} {E : mE} {A : Nat → Prop} (S : CallFix p m c cX5_years 8 s args lw_all RX5) (hr : meth.sig.returnType = (some .int)) (hlocks : meth.locks = false) {res : Int32 × MS}  : ∀ n : Nat, ∀ (x2 : Int32) (x3 : Int32) (x4 : Int32) (x5 : Int32) (x6 : Int32) (w : MS) (H : Heap) (locs : List Loc) (ls : Array Slot), M_years_p62 n x2 x3 x4 x5 x6 w = some res → mH E A s w H locs → lv_has ls 8 [(0, .ref (mM E)), (2, .int x2), (3, .int x3), (4, .int x4), (5, .int x5), (6, .int x6)] → W p l e rm_years s m args below meth c H locs 0 0 (MQ below (mQi E A res.1 res.2) args s 0 0 A) (F0 m 62 ls []) := by
  intro n
  induction n with
  | zero => intro x2 x3 x4 x5 x6 w H locs ls h; cases (show (none : Option (Int32 × MS)) = some res from h)
  | succ n ih =>
    intro x2 x3 x4 x5 x6 w H locs ls h hw hl
    rw [M_years_p62] at h
    refine lv_iload S.1 S.2.1 dX5_years_62 (lv_at hl 5 rfl) ?_
    refine lv_iload_n S.1 S.2.1 dX5_years_64 rfl (lv_at hl 1 rfl) ?_
    refine lv_icmp_ge (tgt := 118) S.1 S.2.1 dX5_years_65 rfl (fun c7 => ?_) (fun c7 => ?_)
    · replace h := if_t c7 h
      refine lv_iload_n S.1 S.2.1 dX5_years_118 rfl (lv_at hl 2 rfl) ?_
      refine lv_if_ne (tgt := 127) S.1 S.2.1 dX5_years_119 rfl (fun c8 => ?_) (fun c8 => ?_)
      · replace h := if_f c8 h
        refine lv_iload_n S.1 S.2.1 dX5_years_127 rfl (lv_at hl 2 rfl) ?_
        refine lv_iconst (v := 1) S.1 S.2.1 dX5_years_128 rfl ?_
        refine lv_icmp_ne (tgt := 142) S.1 S.2.1 dX5_years_129 rfl (fun c9 => ?_) (fun c9 => ?_)
        · replace h := if_f c9 h
          refine lv_iload S.1 S.2.1 dX5_years_142 (lv_at hl 4 rfl) ?_
          exact m_iret S hr hlocks hw (so2 h) dX5_years_144
        · replace h := if_t c9 h
          refine lv_aload_n S.1 S.2.1 dX5_years_132 rfl (lv_at hl 0 rfl) ?_
          refine lv_sipush (v := 1232) S.1 S.2.1 dX5_years_133 rfl ?_
          refine mcVri (As := [.int (1232 : Int32)]) (rest := []) S hw h (fun u h1 => met_inMany l E A (1232 : Int32) w u h1) (cw_inMany S.2.2.2.2 rfl rfl ⟨Nat.le_of_ble_eq_true rfl, Nat.le_of_ble_eq_true rfl⟩) rfl hl.1 rfl (lv_room (Nat.le_of_ble_eq_true rfl)) dX5_years_136 (fun r10 H locs h hw => ?_)
          refine lv_goto (tgt := 144) S.1 S.2.1 dX5_years_139 rfl ?_
          exact m_iret S hr hlocks hw (so2 h) dX5_years_144
      · replace h := if_t c8 h
        refine lv_iload S.1 S.2.1 dX5_years_122 (lv_at hl 3 rfl) ?_
        refine lv_goto (tgt := 144) S.1 S.2.1 dX5_years_124 rfl ?_
        exact m_iret S hr hlocks hw (so2 h) dX5_years_144
    · replace h := if_f c7 h
      refine lv_aload_n S.1 S.2.1 dX5_years_68 rfl (lv_at hl 0 rfl) ?_
      refine mcVv (As := []) (rest := []) S hw h (fun u h1 => met_drawsActs l E A  w u h1) (cw_drawsActs S.2.2.2.2 rfl rfl ⟨Nat.le_of_ble_eq_true rfl, Nat.le_of_ble_eq_true rfl⟩) rfl hl.1 rfl (lv_room (Nat.le_of_ble_eq_true rfl)) dX5_years_69 (fun w11 H locs h hw => ?_)
      refine lv_iconst (v := 0) S.1 S.2.1 dX5_years_72 rfl ?_
      refine lv_istore (lv' := [(7, .int (0 : Int32)), (0, .ref (mM E)), (2, .int x2), (3, .int x3), (4, .int x4), (5, .int x5), (6, .int x6)]) S.1 S.2.1 dX5_years_73 hl (by decide) rfl (fun ls hl => ?_)
      exact wk_M_years_p75 S hr hlocks ih FU _ _ _ _ _ _ _ _ _ _ h hw (lv_sub hl [1, 2, 3, 4, 5, 6, 0] rfl)
set_option maxRecDepth 100000 in
set_option maxHeartbeats 4000000 in
theorem met_years (l : Launch) (E : mE) (A : Nat → Prop)  (x1 : Int32) (x2 : Int32) (x3 : Int32) (w : MS) (res : Int32 × MS) (h : M_years x1 x2 x3 w = some res) : Met l yX5_years (ws_ yX5_years cX5_years 8 (some .int)) rm_years (mPc E A [.ref (mM E), .int x1, .int x2, .int x3] w) (mQi E A res.1 res.2) 0 0 A := by
  refine mMet (by decide) rfl (Nat.le_of_ble_eq_true rfl) ?_
  intro p e s m below meth c S hr hlocks H ls hw hl
  replace hl : lv_has ls 8 [(0, .ref (mM E)), (1, .int x1), (2, .int x2), (3, .int x3)] := hl
  unfold M_years at h
  refine lv_aload_n S.1 S.2.1 dX5_years_0 rfl (lv_at hl 0 rfl) ?_
  refine lv_iconst (v := 0) S.1 S.2.1 dX5_years_1 rfl ?_
  refine mp0 S hw dX5_years_2 h (fun w1 H locs h hw => ?_)
  refine lv_iload_n S.1 S.2.1 dX5_years_5 rfl (lv_at hl 1 rfl) ?_
  refine lv_iconst (v := 0) S.1 S.2.1 dX5_years_6 rfl ?_
  refine lv_sipush (v := 9999) S.1 S.2.1 dX5_years_7 rfl ?_
  refine mcSti (As := [.int x1, .int (0 : Int32), .int (9999 : Int32)]) (rest := []) S hw (met_within l E A x1 (0 : Int32) (9999 : Int32) w1 _ rfl) (cw_within S.2.2.2.2 rfl rfl ⟨Nat.le_of_ble_eq_true rfl, Nat.le_of_ble_eq_true rfl⟩) rfl hl.1 rfl (lv_room (Nat.le_of_ble_eq_true rfl)) dX5_years_10 (fun H locs hw => ?_)
  refine lv_if_eq (tgt := 35) S.1 S.2.1 dX5_years_13 rfl (fun c2 => ?_) (fun c2 => ?_)
  · replace h := if_t c2 h
    refine lv_iconst (v := -1) S.1 S.2.1 dX5_years_35 rfl ?_
    exact m_iret S hr hlocks hw (so2 h) dX5_years_36
  · replace h := if_f c2 h
    refine lv_iload_n S.1 S.2.1 dX5_years_16 rfl (lv_at hl 2 rfl) ?_
    refine lv_iconst (v := 1) S.1 S.2.1 dX5_years_17 rfl ?_
    refine lv_bipush (v := 30) S.1 S.2.1 dX5_years_18 rfl ?_
    refine mcSti (As := [.int x2, .int (1 : Int32), .int (30 : Int32)]) (rest := []) S hw (met_within l E A x2 (1 : Int32) (30 : Int32) w1 _ rfl) (cw_within S.2.2.2.2 rfl rfl ⟨Nat.le_of_ble_eq_true rfl, Nat.le_of_ble_eq_true rfl⟩) rfl hl.1 rfl (lv_room (Nat.le_of_ble_eq_true rfl)) dX5_years_20 (fun H locs hw => ?_)
    refine lv_if_eq (tgt := 35) S.1 S.2.1 dX5_years_23 rfl (fun c3 => ?_) (fun c3 => ?_)
    · replace h := if_t c3 h
      refine lv_iconst (v := -1) S.1 S.2.1 dX5_years_35 rfl ?_
      exact m_iret S hr hlocks hw (so2 h) dX5_years_36
    · replace h := if_f c3 h
      refine lv_iload_n S.1 S.2.1 dX5_years_26 rfl (lv_at hl 3 rfl) ?_
      refine lv_iconst (v := 0) S.1 S.2.1 dX5_years_27 rfl ?_
      refine lv_iconst (v := 2) S.1 S.2.1 dX5_years_28 rfl ?_
      refine mcSti (As := [.int x3, .int (0 : Int32), .int (2 : Int32)]) (rest := []) S hw (met_within l E A x3 (0 : Int32) (2 : Int32) w1 _ rfl) (cw_within S.2.2.2.2 rfl rfl ⟨Nat.le_of_ble_eq_true rfl, Nat.le_of_ble_eq_true rfl⟩) rfl hl.1 rfl (lv_room (Nat.le_of_ble_eq_true rfl)) dX5_years_29 (fun H locs hw => ?_)
      refine lv_if_ne (tgt := 37) S.1 S.2.1 dX5_years_32 rfl (fun c4 => ?_) (fun c4 => ?_)
      · replace h := if_f c4 h
        refine lv_aload_n S.1 S.2.1 dX5_years_37 rfl (lv_at hl 0 rfl) ?_
        refine lv_iconst (v := 0) S.1 S.2.1 dX5_years_38 rfl ?_
        refine lv_sipush (v := 1232) S.1 S.2.1 dX5_years_39 rfl ?_
        refine lv_bipush (v := 43) S.1 S.2.1 dX5_years_42 rfl ?_
        refine mcVv (As := [.int (0 : Int32), .int (1232 : Int32), .int (43 : Int32)]) (rest := []) S hw h (fun u h1 => met_copies l E A (0 : Int32) (1232 : Int32) (43 : Int32) w1 u h1) (cw_copies S.2.2.2.2 rfl rfl ⟨Nat.le_of_ble_eq_true rfl, Nat.le_of_ble_eq_true rfl⟩) rfl hl.1 rfl (lv_room (Nat.le_of_ble_eq_true rfl)) dX5_years_44 (fun w5 H locs h hw => ?_)
        refine lv_aload_n S.1 S.2.1 dX5_years_47 rfl (lv_at hl 0 rfl) ?_
        refine lv_iload_n S.1 S.2.1 dX5_years_48 rfl (lv_at hl 1 rfl) ?_
        refine lv_i2l S.1 S.2.1 dX5_years_49 rfl ?_
        refine mp39 S hw dX5_years_50 h (fun w6 H locs h hw => ?_)
        refine lv_iconst (v := 0) S.1 S.2.1 dX5_years_53 rfl ?_
        refine lv_istore (lv' := [(4, .int (0 : Int32)), (0, .ref (mM E)), (1, .int x1), (2, .int x2), (3, .int x3)]) S.1 S.2.1 dX5_years_54 hl (by decide) rfl (fun ls hl => ?_)
        refine lv_iconst (v := 0) S.1 S.2.1 dX5_years_56 rfl ?_
        refine lv_istore (lv' := [(5, .int (0 : Int32)), (4, .int (0 : Int32)), (0, .ref (mM E)), (1, .int x1), (2, .int x2), (3, .int x3)]) S.1 S.2.1 dX5_years_57 hl (by decide) rfl (fun ls hl => ?_)
        refine lv_iconst (v := 0) S.1 S.2.1 dX5_years_59 rfl ?_
        refine lv_istore (lv' := [(6, .int (0 : Int32)), (5, .int (0 : Int32)), (4, .int (0 : Int32)), (0, .ref (mM E)), (1, .int x1), (2, .int x2), (3, .int x3)]) S.1 S.2.1 dX5_years_60 hl (by decide) rfl (fun ls hl => ?_)
        exact wk_M_years_p62 S hr hlocks FU _ _ _ _ _ _ _ _ _ h hw (lv_sub hl [3, 5, 6, 2, 1, 0] rfl)
      · replace h := if_t c4 h
        refine lv_iconst (v := -1) S.1 S.2.1 dX5_years_35 rfl ?_
        exact m_iret S hr hlocks hw (so2 h) dX5_years_36
def M_mark_p65 (x2 : Int32) (t0 : Int32) (t1 : Int32) (w : MS) : Option (Int32 × MS) :=
  bd1 (M_copies t1 t0 (56 : Int32) w) fun w7 =>
  if x2 = 0 then
    bdp (wI w7 26 0 (rI w7 26 0)) fun w9 =>
    some ((1 : Int32), w9)
  else
    bdp (wI w7 26 0 (0 : Int32)) fun w10 =>
    some ((1 : Int32), w10)
def M_mark_p51 (x1 : Int32) (x2 : Int32) (t0 : Int32) (w : MS) : Option (Int32 × MS) :=
  if x2 = 0 then
    M_mark_p65 x2 ((56 : Int32) * ((1 : Int32) + x1)) t0 w
  else
    M_mark_p65 x2 (0 : Int32) t0 w
def M_mark_p29 (x1 : Int32) (x2 : Int32) (w : MS) : Option (Int32 × MS) :=
  bd1 (wA w 27 4 x1 (1 : Int32)) fun w4 =>
  if x2 = 0 then
    M_mark_p51 x1 x2 (0 : Int32) w4
  else
    M_mark_p51 x1 x2 ((56 : Int32) * ((1 : Int32) + x1)) w4
def M_mark (x1 : Int32) (x2 : Int32) (w : MS) : Option (Int32 × MS) :=
  bdp (wI w 0 0 (0 : Int32)) fun w1 =>
  if (M_within x1 (0 : Int32) (3 : Int32)) = 0 then
    some ((0 : Int32), w1)
  else
    if x2 = 0 then
      M_mark_p29 x1 x2 w1
    else
      bd1 (rA w1 27 4 x1) fun v11 =>
      if v11 = 0 then
        some ((0 : Int32), w1)
      else
        M_mark_p29 x1 x2 w1
set_option maxRecDepth 100000 in
set_option maxHeartbeats 4000000 in
theorem wk_M_mark_p65 {p : Program} {l : Launch} {e : Env} {s : State} {m : MethodId} {args : Array Value} {below : List Frame} {meth : Method} {c : Code} {E : mE} {A : Nat → Prop} (S : CallFix p m c cX5_mark 3 s args lw_all RX5) (hr : meth.sig.returnType = (some .boolean)) (hlocks : meth.locks = false) {res : Int32 × MS}  : ∀ (x2 : Int32) (t0 : Int32) (t1 : Int32) (w : MS) (H : Heap) (locs : List Loc) (ls : Array Slot), M_mark_p65 x2 t0 t1 w = some res → mH E A s w H locs → lv_has ls 3 [(0, .ref (mM E)), (2, .int x2)] → W p l e rm_mark s m args below meth c H locs 0 0 (MQ below (mQi E A res.1 res.2) args s 0 0 A) (F0 m 65 ls [.int t0, .int t1, .ref (mM E)]) := by
  intro x2 t0 t1 w H locs ls h hw hl
  unfold M_mark_p65 at h
  refine lv_bipush (v := 56) S.1 S.2.1 dX5_mark_65 rfl ?_
  refine mcVv (As := [.int t1, .int t0, .int (56 : Int32)]) (rest := []) S hw h (fun u h1 => met_copies l E A t1 t0 (56 : Int32) w u h1) (cw_copies S.2.2.2.2 rfl rfl ⟨Nat.le_of_ble_eq_true rfl, Nat.le_of_ble_eq_true rfl⟩) rfl hl.1 rfl (lv_room (Nat.le_of_ble_eq_true rfl)) dX5_mark_67 (fun w7 H locs h hw => ?_)
  refine lv_aload_n S.1 S.2.1 dX5_mark_70 rfl (lv_at hl 0 rfl) ?_
  refine lv_iload_n S.1 S.2.1 dX5_mark_71 rfl (lv_at hl 1 rfl) ?_
  refine lv_if_eq (tgt := 79) S.1 S.2.1 dX5_mark_72 rfl (fun c8 => ?_) (fun c8 => ?_)
  · replace h := if_t c8 h
    refine lv_aload_n S.1 S.2.1 dX5_mark_79 rfl (lv_at hl 0 rfl) ?_
    refine mg26 S hw dX5_mark_80 ?_
    refine mp26 S hw dX5_mark_83 h (fun w9 H locs h hw => ?_)
    refine lv_iconst (v := 1) S.1 S.2.1 dX5_mark_86 rfl ?_
    exact m_zret S hr hlocks hw rfl (so2 h) dX5_mark_87
  · replace h := if_f c8 h
    refine lv_iconst (v := 0) S.1 S.2.1 dX5_mark_75 rfl ?_
    refine lv_goto (tgt := 83) S.1 S.2.1 dX5_mark_76 rfl ?_
    refine mp26 S hw dX5_mark_83 h (fun w10 H locs h hw => ?_)
    refine lv_iconst (v := 1) S.1 S.2.1 dX5_mark_86 rfl ?_
    exact m_zret S hr hlocks hw rfl (so2 h) dX5_mark_87
set_option maxRecDepth 100000 in
set_option maxHeartbeats 4000000 in
theorem wk_M_mark_p51 {p : Program} {l : Launch} {e : Env} {s : State} {m : MethodId} {args : Array Value} {below : List Frame} {meth : Method} {c : Code} {E : mE} {A : Nat → Prop} (S : CallFix p m c cX5_mark 3 s args lw_all RX5) (hr : meth.sig.returnType = (some .boolean)) (hlocks : meth.locks = false) {res : Int32 × MS}  : ∀ (x1 : Int32) (x2 : Int32) (t0 : Int32) (w : MS) (H : Heap) (locs : List Loc) (ls : Array Slot), M_mark_p51 x1 x2 t0 w = some res → mH E A s w H locs → lv_has ls 3 [(0, .ref (mM E)), (1, .int x1), (2, .int x2)] → W p l e rm_mark s m args below meth c H locs 0 0 (MQ below (mQi E A res.1 res.2) args s 0 0 A) (F0 m 51 ls [.int t0, .ref (mM E)]) := by
  intro x1 x2 t0 w H locs ls h hw hl
  unfold M_mark_p51 at h
  refine lv_iload_n S.1 S.2.1 dX5_mark_51 rfl (lv_at hl 2 rfl) ?_
  refine lv_if_eq (tgt := 59) S.1 S.2.1 dX5_mark_52 rfl (fun c6 => ?_) (fun c6 => ?_)
  · replace h := if_t c6 h
    refine lv_bipush (v := 56) S.1 S.2.1 dX5_mark_59 rfl ?_
    refine lv_iconst (v := 1) S.1 S.2.1 dX5_mark_61 rfl ?_
    refine lv_iload_n S.1 S.2.1 dX5_mark_62 rfl (lv_at hl 1 rfl) ?_
    refine lv_iadd S.1 S.2.1 dX5_mark_63 ?_
    refine lv_imul S.1 S.2.1 dX5_mark_64 ?_
    exact wk_M_mark_p65 S hr hlocks _ _ _ _ _ _ _ h hw (lv_sub hl [0, 2] rfl)
  · replace h := if_f c6 h
    refine lv_iconst (v := 0) S.1 S.2.1 dX5_mark_55 rfl ?_
    refine lv_goto (tgt := 65) S.1 S.2.1 dX5_mark_56 rfl ?_
    exact wk_M_mark_p65 S hr hlocks _ _ _ _ _ _ _ h hw (lv_sub hl [0, 2] rfl)
set_option maxRecDepth 100000 in
set_option maxHeartbeats 4000000 in
theorem wk_M_mark_p29 {p : Program} {l : Launch} {e : Env} {s : State} {m : MethodId} {args : Array Value} {below : List Frame} {meth : Method} {c : Code} {E : mE} {A : Nat → Prop} (S : CallFix p m c cX5_mark 3 s args lw_all RX5) (hr : meth.sig.returnType = (some .boolean)) (hlocks : meth.locks = false) {res : Int32 × MS}  : ∀ (x1 : Int32) (x2 : Int32) (w : MS) (H : Heap) (locs : List Loc) (ls : Array Slot), M_mark_p29 x1 x2 w = some res → mH E A s w H locs → lv_has ls 3 [(0, .ref (mM E)), (1, .int x1), (2, .int x2)] → W p l e rm_mark s m args below meth c H locs 0 0 (MQ below (mQi E A res.1 res.2) args s 0 0 A) (F0 m 29 ls []) := by
  intro x1 x2 w H locs ls h hw hl
  unfold M_mark_p29 at h
  refine lv_aload_n S.1 S.2.1 dX5_mark_29 rfl (lv_at hl 0 rfl) ?_
  refine mg27 S hw dX5_mark_30 ?_
  refine lv_iload_n S.1 S.2.1 dX5_mark_33 rfl (lv_at hl 1 rfl) ?_
  refine lv_iconst (v := 1) S.1 S.2.1 dX5_mark_34 rfl ?_
  refine ms27 S hw dX5_mark_35 (by decide) h (fun w4 H locs h hw => ?_)
  refine lv_aload_n S.1 S.2.1 dX5_mark_36 rfl (lv_at hl 0 rfl) ?_
  refine lv_iload_n S.1 S.2.1 dX5_mark_37 rfl (lv_at hl 2 rfl) ?_
  refine lv_if_eq (tgt := 50) S.1 S.2.1 dX5_mark_38 rfl (fun c5 => ?_) (fun c5 => ?_)
  · replace h := if_t c5 h
    refine lv_iconst (v := 0) S.1 S.2.1 dX5_mark_50 rfl ?_
    exact wk_M_mark_p51 S hr hlocks _ _ _ _ _ _ _ h hw (lv_sub hl [0, 1, 2] rfl)
  · replace h := if_f c5 h
    refine lv_bipush (v := 56) S.1 S.2.1 dX5_mark_41 rfl ?_
    refine lv_iconst (v := 1) S.1 S.2.1 dX5_mark_43 rfl ?_
    refine lv_iload_n S.1 S.2.1 dX5_mark_44 rfl (lv_at hl 1 rfl) ?_
    refine lv_iadd S.1 S.2.1 dX5_mark_45 ?_
    refine lv_imul S.1 S.2.1 dX5_mark_46 ?_
    refine lv_goto (tgt := 51) S.1 S.2.1 dX5_mark_47 rfl ?_
    exact wk_M_mark_p51 S hr hlocks _ _ _ _ _ _ _ h hw (lv_sub hl [0, 1, 2] rfl)
set_option maxRecDepth 100000 in
set_option maxHeartbeats 4000000 in
theorem met_mark (l : Launch) (E : mE) (A : Nat → Prop)  (x1 : Int32) (x2 : Int32) (w : MS) (res : Int32 × MS) (h : M_mark x1 x2 w = some res) : Met l yX5_mark (ws_ yX5_mark cX5_mark 3 (some .boolean)) rm_mark (mPc E A [.ref (mM E), .int x1, .int x2] w) (mQi E A res.1 res.2) 0 0 A := by
  refine mMet (by decide) rfl (Nat.le_of_ble_eq_true rfl) ?_
  intro p e s m below meth c S hr hlocks H ls hw hl
  replace hl : lv_has ls 3 [(0, .ref (mM E)), (1, .int x1), (2, .int x2)] := hl
  unfold M_mark at h
  refine lv_aload_n S.1 S.2.1 dX5_mark_0 rfl (lv_at hl 0 rfl) ?_
  refine lv_iconst (v := 0) S.1 S.2.1 dX5_mark_1 rfl ?_
  refine mp0 S hw dX5_mark_2 h (fun w1 H locs h hw => ?_)
  refine lv_iload_n S.1 S.2.1 dX5_mark_5 rfl (lv_at hl 1 rfl) ?_
  refine lv_iconst (v := 0) S.1 S.2.1 dX5_mark_6 rfl ?_
  refine lv_iconst (v := 3) S.1 S.2.1 dX5_mark_7 rfl ?_
  refine mcSti (As := [.int x1, .int (0 : Int32), .int (3 : Int32)]) (rest := []) S hw (met_within l E A x1 (0 : Int32) (3 : Int32) w1 _ rfl) (cw_within S.2.2.2.2 rfl rfl ⟨Nat.le_of_ble_eq_true rfl, Nat.le_of_ble_eq_true rfl⟩) rfl hl.1 rfl (lv_room (Nat.le_of_ble_eq_true rfl)) dX5_mark_8 (fun H locs hw => ?_)
  refine lv_if_eq (tgt := 27) S.1 S.2.1 dX5_mark_11 rfl (fun c2 => ?_) (fun c2 => ?_)
  · replace h := if_t c2 h
    refine lv_iconst (v := 0) S.1 S.2.1 dX5_mark_27 rfl ?_
    exact m_zret S hr hlocks hw rfl (so2 h) dX5_mark_28
  · replace h := if_f c2 h
    refine lv_iload_n S.1 S.2.1 dX5_mark_14 rfl (lv_at hl 2 rfl) ?_
    refine lv_if_eq (tgt := 29) S.1 S.2.1 dX5_mark_15 rfl (fun c3 => ?_) (fun c3 => ?_)
    · replace h := if_t c3 h
      exact wk_M_mark_p29 S hr hlocks _ _ _ _ _ _ h hw (lv_sub hl [0, 1, 2] rfl)
    · replace h := if_f c3 h
      refine lv_aload_n S.1 S.2.1 dX5_mark_18 rfl (lv_at hl 0 rfl) ?_
      refine mg27 S hw dX5_mark_19 ?_
      refine lv_iload_n S.1 S.2.1 dX5_mark_22 rfl (lv_at hl 1 rfl) ?_
      refine ml27 S hw dX5_mark_23 h (fun v11 h => ?_)
      refine lv_if_ne (tgt := 29) S.1 S.2.1 dX5_mark_24 rfl (fun c12 => ?_) (fun c12 => ?_)
      · replace h := if_f c12 h
        exact wk_M_mark_p29 S hr hlocks _ _ _ _ _ _ h hw (lv_sub hl [0, 1, 2] rfl)
      · replace h := if_t c12 h
        refine lv_iconst (v := 0) S.1 S.2.1 dX5_mark_27 rfl ?_
        exact m_zret S hr hlocks hw rfl (so2 h) dX5_mark_28
def M_coinsOfAll_p4 : Nat → Int32 → Int32 → MS → Option Int32
  | 0, _, _, _ => none
  | n + 1, x1, x2, w =>
    if (M_tenants w) ≤ x2 then
      some x1
    else
      bd1 (rA w 25 1288 ((31 : Int32) + x2)) fun v2 =>
      bdp (x1 + v2) fun y3 =>
      (M_coinsOfAll_p4 n) y3 (x2 + (1 : Int32)) w
def M_coinsOfAll (w : MS) : Option Int32 :=
  M_coinsOfAll_p4 FU (0 : Int32) (0 : Int32) w
set_option maxRecDepth 100000 in
set_option maxHeartbeats 4000000 in
theorem wk_M_coinsOfAll_p4 {p : Program} {l : Launch} {e : Env} {s : State} {m : MethodId} {args : Array Value} {below : List Frame} {meth : Method} {c : Code} {E : mE} {A : Nat → Prop} (S : CallFix p m c cX5_coinsOfAll 3 s args lw_all RX5) (hr : meth.sig.returnType = (some .int)) (hlocks : meth.locks = false) {res : Int32}  : ∀ n : Nat, ∀ (x1 : Int32) (x2 : Int32) (w : MS) (H : Heap) (locs : List Loc) (ls : Array Slot), M_coinsOfAll_p4 n x1 x2 w = some res → mH E A s w H locs → lv_has ls 3 [(0, .ref (mM E)), (1, .int x1), (2, .int x2)] → W p l e rm_coinsOfAll s m args below meth c H locs 0 0 (MQ below (mQi E A res w) args s 0 0 A) (F0 m 4 ls []) := by
  intro n
  induction n with
  | zero => intro x1 x2 w H locs ls h; cases (show (none : Option Int32) = some res from h)
  | succ n ih =>
    intro x1 x2 w H locs ls h hw hl
    rw [M_coinsOfAll_p4] at h
    refine lv_iload_n S.1 S.2.1 dX5_coinsOfAll_4 rfl (lv_at hl 2 rfl) ?_
    refine lv_aload_n S.1 S.2.1 dX5_coinsOfAll_5 rfl (lv_at hl 0 rfl) ?_
    refine mcVti (As := []) (rest := [.int x2]) S hw (met_tenants l E A  w _ rfl) (cw_tenants S.2.2.2.2 rfl rfl ⟨Nat.le_of_ble_eq_true rfl, Nat.le_of_ble_eq_true rfl⟩) rfl hl.1 rfl (lv_room (Nat.le_of_ble_eq_true rfl)) dX5_coinsOfAll_6 (fun H locs hw => ?_)
    refine lv_icmp_ge (tgt := 30) S.1 S.2.1 dX5_coinsOfAll_9 rfl (fun c1 => ?_) (fun c1 => ?_)
    · replace h := if_t c1 h
      refine lv_iload_n S.1 S.2.1 dX5_coinsOfAll_30 rfl (lv_at hl 1 rfl) ?_
      exact m_iret S hr hlocks hw ⟨so1 h, rfl⟩ dX5_coinsOfAll_31
    · replace h := if_f c1 h
      refine lv_iload_n S.1 S.2.1 dX5_coinsOfAll_12 rfl (lv_at hl 1 rfl) ?_
      refine lv_aload_n S.1 S.2.1 dX5_coinsOfAll_13 rfl (lv_at hl 0 rfl) ?_
      refine mg25 S hw dX5_coinsOfAll_14 ?_
      refine lv_bipush (v := 31) S.1 S.2.1 dX5_coinsOfAll_17 rfl ?_
      refine lv_iload_n S.1 S.2.1 dX5_coinsOfAll_19 rfl (lv_at hl 2 rfl) ?_
      refine lv_iadd S.1 S.2.1 dX5_coinsOfAll_20 ?_
      refine ml25 S hw dX5_coinsOfAll_21 h (fun v2 h => ?_)
      refine lv_iadd S.1 S.2.1 dX5_coinsOfAll_22 ?_
      refine lv_topi (fun y3 ey => ?_)
      replace h := bdp_e ey h
      refine lv_istore_n (lv' := [(1, .int y3), (0, .ref (mM E)), (2, .int x2)]) S.1 S.2.1 dX5_coinsOfAll_23 rfl hl (by decide) rfl (fun ls hl => ?_)
      refine lv_iinc (v := x2 + (1 : Int32)) (lv' := [(2, .int (x2 + (1 : Int32))), (1, .int y3), (0, .ref (mM E))]) S.1 S.2.1 dX5_coinsOfAll_24 hl (k := 2) rfl rfl (by decide) rfl (fun ls hl => ?_)
      refine lv_goto (tgt := 4) S.1 S.2.1 dX5_coinsOfAll_27 rfl ?_
      exact ih _ _ _ _ _ _ h hw (lv_sub hl [2, 1, 0] rfl)
set_option maxRecDepth 100000 in
set_option maxHeartbeats 4000000 in
theorem met_coinsOfAll (l : Launch) (E : mE) (A : Nat → Prop)  (w : MS) (res : Int32) (h : M_coinsOfAll w = some res) : Met l yX5_coinsOfAll (ws_ yX5_coinsOfAll cX5_coinsOfAll 3 (some .int)) rm_coinsOfAll (mPc E A [.ref (mM E)] w) (mQi E A res w) 0 0 A := by
  refine mMet (by decide) rfl (Nat.le_of_ble_eq_true rfl) ?_
  intro p e s m below meth c S hr hlocks H ls hw hl
  replace hl : lv_has ls 3 [(0, .ref (mM E))] := hl
  unfold M_coinsOfAll at h
  refine lv_iconst (v := 0) S.1 S.2.1 dX5_coinsOfAll_0 rfl ?_
  refine lv_istore_n (lv' := [(1, .int (0 : Int32)), (0, .ref (mM E))]) S.1 S.2.1 dX5_coinsOfAll_1 rfl hl (by decide) rfl (fun ls hl => ?_)
  refine lv_iconst (v := 0) S.1 S.2.1 dX5_coinsOfAll_2 rfl ?_
  refine lv_istore_n (lv' := [(2, .int (0 : Int32)), (1, .int (0 : Int32)), (0, .ref (mM E))]) S.1 S.2.1 dX5_coinsOfAll_3 rfl hl (by decide) rfl (fun ls hl => ?_)
  exact wk_M_coinsOfAll_p4 S hr hlocks FU _ _ _ _ _ _ h hw (lv_sub hl [2, 1, 0] rfl)
def M_count (x1 : Int32) (w : MS) : Option (Int32 × MS) :=
  bdp (wI w 0 0 (0 : Int32)) fun w1 =>
  if x1 = (0 : Int32) then
    some (M_rooms w1, w1)
  else
    if x1 = (1 : Int32) then
      some (M_tenants w1, w1)
    else
      if x1 = (2 : Int32) then
        some (M_errandsMany w1, w1)
      else
        if x1 = (3 : Int32) then
          some (rI w1 25 0, w1)
        else
          if x1 = (4 : Int32) then
            bd1 (M_coinsOfAll w1) fun r2 =>
            some (r2, w1)
          else
            if x1 = (5 : Int32) then
              bd1 (M_inMany (0 : Int32) w1) fun r3 =>
              some (r3, w1)
            else
              if x1 = (6 : Int32) then
                bd1 (M_goneMany (0 : Int32) w1) fun r4 =>
                some (r4, w1)
              else
                if x1 = (7 : Int32) then
                  some (rI w1 10 3, w1)
                else
                  if x1 = (8 : Int32) then
                    some (rI w1 10 5, w1)
                  else
                    if x1 = (9 : Int32) then
                      some (rI w1 22 0, w1)
                    else
                      if x1 = (10 : Int32) then
                        some (rI w1 25 43, w1)
                      else
                        if x1 = (11 : Int32) then
                          some (rI w1 26 0, w1)
                        else
                          if x1 = (12 : Int32) then
                            some (rI w1 2 0, w1)
                          else
                            some ((-1 : Int32), w1)
set_option maxRecDepth 100000 in
set_option maxHeartbeats 4000000 in
theorem met_count (l : Launch) (E : mE) (A : Nat → Prop)  (x1 : Int32) (w : MS) (res : Int32 × MS) (h : M_count x1 w = some res) : Met l yX5_count (ws_ yX5_count cX5_count 2 (some .int)) rm_count (mPc E A [.ref (mM E), .int x1] w) (mQi E A res.1 res.2) 0 0 A := by
  refine mMet (by decide) rfl (Nat.le_of_ble_eq_true rfl) ?_
  intro p e s m below meth c S hr hlocks H ls hw hl
  replace hl : lv_has ls 2 [(0, .ref (mM E)), (1, .int x1)] := hl
  unfold M_count at h
  refine lv_aload_n S.1 S.2.1 dX5_count_0 rfl (lv_at hl 0 rfl) ?_
  refine lv_iconst (v := 0) S.1 S.2.1 dX5_count_1 rfl ?_
  refine mp0 S hw dX5_count_2 h (fun w1 H locs h hw => ?_)
  refine lv_iload_n S.1 S.2.1 dX5_count_5 rfl (lv_at hl 1 rfl) ?_
  by_cases e0 : x1 = (0 : Int32)
  · replace h := if_t e0 h
    refine lv_tableIn (tgt := 72) S.1 S.2.1 dX5_count_6 (by rw [e0]; decide) (by rw [e0]; decide) (by rw [e0]; rfl) rfl ?_
    refine lv_aload_n S.1 S.2.1 dX5_count_72 rfl (lv_at hl 0 rfl) ?_
    refine mcVti (As := []) (rest := []) S hw (met_rooms l E A  w1 _ rfl) (cw_rooms S.2.2.2.2 rfl rfl ⟨Nat.le_of_ble_eq_true rfl, Nat.le_of_ble_eq_true rfl⟩) rfl hl.1 rfl (lv_room (Nat.le_of_ble_eq_true rfl)) dX5_count_73 (fun H locs hw => ?_)
    exact m_iret S hr hlocks hw (so2 h) dX5_count_76
  · replace h := if_f e0 h
    by_cases e1 : x1 = (1 : Int32)
    · replace h := if_t e1 h
      refine lv_tableIn (tgt := 77) S.1 S.2.1 dX5_count_6 (by rw [e1]; decide) (by rw [e1]; decide) (by rw [e1]; rfl) rfl ?_
      refine lv_aload_n S.1 S.2.1 dX5_count_77 rfl (lv_at hl 0 rfl) ?_
      refine mcVti (As := []) (rest := []) S hw (met_tenants l E A  w1 _ rfl) (cw_tenants S.2.2.2.2 rfl rfl ⟨Nat.le_of_ble_eq_true rfl, Nat.le_of_ble_eq_true rfl⟩) rfl hl.1 rfl (lv_room (Nat.le_of_ble_eq_true rfl)) dX5_count_78 (fun H locs hw => ?_)
      exact m_iret S hr hlocks hw (so2 h) dX5_count_81
    · replace h := if_f e1 h
      by_cases e2 : x1 = (2 : Int32)
      · replace h := if_t e2 h
        refine lv_tableIn (tgt := 82) S.1 S.2.1 dX5_count_6 (by rw [e2]; decide) (by rw [e2]; decide) (by rw [e2]; rfl) rfl ?_
        refine lv_aload_n S.1 S.2.1 dX5_count_82 rfl (lv_at hl 0 rfl) ?_
        refine mcVti (As := []) (rest := []) S hw (met_errandsMany l E A  w1 _ rfl) (cw_errandsMany S.2.2.2.2 rfl rfl ⟨Nat.le_of_ble_eq_true rfl, Nat.le_of_ble_eq_true rfl⟩) rfl hl.1 rfl (lv_room (Nat.le_of_ble_eq_true rfl)) dX5_count_83 (fun H locs hw => ?_)
        exact m_iret S hr hlocks hw (so2 h) dX5_count_86
      · replace h := if_f e2 h
        by_cases e3 : x1 = (3 : Int32)
        · replace h := if_t e3 h
          refine lv_tableIn (tgt := 87) S.1 S.2.1 dX5_count_6 (by rw [e3]; decide) (by rw [e3]; decide) (by rw [e3]; rfl) rfl ?_
          refine lv_aload_n S.1 S.2.1 dX5_count_87 rfl (lv_at hl 0 rfl) ?_
          refine mg25 S hw dX5_count_88 ?_
          refine lv_iconst (v := 0) S.1 S.2.1 dX5_count_91 rfl ?_
          refine mlc25 (j := 0) S hw dX5_count_92 (by decide) ?_
          exact m_iret S hr hlocks hw (so2 h) dX5_count_93
        · replace h := if_f e3 h
          by_cases e4 : x1 = (4 : Int32)
          · replace h := if_t e4 h
            refine lv_tableIn (tgt := 94) S.1 S.2.1 dX5_count_6 (by rw [e4]; decide) (by rw [e4]; decide) (by rw [e4]; rfl) rfl ?_
            refine lv_aload_n S.1 S.2.1 dX5_count_94 rfl (lv_at hl 0 rfl) ?_
            refine mcVri (As := []) (rest := []) S hw h (fun u h1 => met_coinsOfAll l E A  w1 u h1) (cw_coinsOfAll S.2.2.2.2 rfl rfl ⟨Nat.le_of_ble_eq_true rfl, Nat.le_of_ble_eq_true rfl⟩) rfl hl.1 rfl (lv_room (Nat.le_of_ble_eq_true rfl)) dX5_count_95 (fun r2 H locs h hw => ?_)
            exact m_iret S hr hlocks hw (so2 h) dX5_count_98
          · replace h := if_f e4 h
            by_cases e5 : x1 = (5 : Int32)
            · replace h := if_t e5 h
              refine lv_tableIn (tgt := 99) S.1 S.2.1 dX5_count_6 (by rw [e5]; decide) (by rw [e5]; decide) (by rw [e5]; rfl) rfl ?_
              refine lv_aload_n S.1 S.2.1 dX5_count_99 rfl (lv_at hl 0 rfl) ?_
              refine lv_iconst (v := 0) S.1 S.2.1 dX5_count_100 rfl ?_
              refine mcVri (As := [.int (0 : Int32)]) (rest := []) S hw h (fun u h1 => met_inMany l E A (0 : Int32) w1 u h1) (cw_inMany S.2.2.2.2 rfl rfl ⟨Nat.le_of_ble_eq_true rfl, Nat.le_of_ble_eq_true rfl⟩) rfl hl.1 rfl (lv_room (Nat.le_of_ble_eq_true rfl)) dX5_count_101 (fun r3 H locs h hw => ?_)
              exact m_iret S hr hlocks hw (so2 h) dX5_count_104
            · replace h := if_f e5 h
              by_cases e6 : x1 = (6 : Int32)
              · replace h := if_t e6 h
                refine lv_tableIn (tgt := 105) S.1 S.2.1 dX5_count_6 (by rw [e6]; decide) (by rw [e6]; decide) (by rw [e6]; rfl) rfl ?_
                refine lv_aload_n S.1 S.2.1 dX5_count_105 rfl (lv_at hl 0 rfl) ?_
                refine lv_iconst (v := 0) S.1 S.2.1 dX5_count_106 rfl ?_
                refine mcVri (As := [.int (0 : Int32)]) (rest := []) S hw h (fun u h1 => met_goneMany l E A (0 : Int32) w1 u h1) (cw_goneMany S.2.2.2.2 rfl rfl ⟨Nat.le_of_ble_eq_true rfl, Nat.le_of_ble_eq_true rfl⟩) rfl hl.1 rfl (lv_room (Nat.le_of_ble_eq_true rfl)) dX5_count_107 (fun r4 H locs h hw => ?_)
                exact m_iret S hr hlocks hw (so2 h) dX5_count_110
              · replace h := if_f e6 h
                by_cases e7 : x1 = (7 : Int32)
                · replace h := if_t e7 h
                  refine lv_tableIn (tgt := 111) S.1 S.2.1 dX5_count_6 (by rw [e7]; decide) (by rw [e7]; decide) (by rw [e7]; rfl) rfl ?_
                  refine lv_aload_n S.1 S.2.1 dX5_count_111 rfl (lv_at hl 0 rfl) ?_
                  refine mg10 S hw dX5_count_112 ?_
                  refine lv_iconst (v := 3) S.1 S.2.1 dX5_count_115 rfl ?_
                  refine mlc10 (j := 3) S hw dX5_count_116 (by decide) ?_
                  exact m_iret S hr hlocks hw (so2 h) dX5_count_117
                · replace h := if_f e7 h
                  by_cases e8 : x1 = (8 : Int32)
                  · replace h := if_t e8 h
                    refine lv_tableIn (tgt := 118) S.1 S.2.1 dX5_count_6 (by rw [e8]; decide) (by rw [e8]; decide) (by rw [e8]; rfl) rfl ?_
                    refine lv_aload_n S.1 S.2.1 dX5_count_118 rfl (lv_at hl 0 rfl) ?_
                    refine mg10 S hw dX5_count_119 ?_
                    refine lv_iconst (v := 5) S.1 S.2.1 dX5_count_122 rfl ?_
                    refine mlc10 (j := 5) S hw dX5_count_123 (by decide) ?_
                    exact m_iret S hr hlocks hw (so2 h) dX5_count_124
                  · replace h := if_f e8 h
                    by_cases e9 : x1 = (9 : Int32)
                    · replace h := if_t e9 h
                      refine lv_tableIn (tgt := 125) S.1 S.2.1 dX5_count_6 (by rw [e9]; decide) (by rw [e9]; decide) (by rw [e9]; rfl) rfl ?_
                      refine lv_aload_n S.1 S.2.1 dX5_count_125 rfl (lv_at hl 0 rfl) ?_
                      refine mg22 S hw dX5_count_126 ?_
                      refine lv_iconst (v := 0) S.1 S.2.1 dX5_count_129 rfl ?_
                      refine mlc22 (j := 0) S hw dX5_count_130 (by decide) ?_
                      exact m_iret S hr hlocks hw (so2 h) dX5_count_131
                    · replace h := if_f e9 h
                      by_cases e10 : x1 = (10 : Int32)
                      · replace h := if_t e10 h
                        refine lv_tableIn (tgt := 132) S.1 S.2.1 dX5_count_6 (by rw [e10]; decide) (by rw [e10]; decide) (by rw [e10]; rfl) rfl ?_
                        refine lv_aload_n S.1 S.2.1 dX5_count_132 rfl (lv_at hl 0 rfl) ?_
                        refine mg25 S hw dX5_count_133 ?_
                        refine lv_bipush (v := 43) S.1 S.2.1 dX5_count_136 rfl ?_
                        refine mlc25 (j := 43) S hw dX5_count_138 (by decide) ?_
                        exact m_iret S hr hlocks hw (so2 h) dX5_count_139
                      · replace h := if_f e10 h
                        by_cases e11 : x1 = (11 : Int32)
                        · replace h := if_t e11 h
                          refine lv_tableIn (tgt := 140) S.1 S.2.1 dX5_count_6 (by rw [e11]; decide) (by rw [e11]; decide) (by rw [e11]; rfl) rfl ?_
                          refine lv_aload_n S.1 S.2.1 dX5_count_140 rfl (lv_at hl 0 rfl) ?_
                          refine mg26 S hw dX5_count_141 ?_
                          exact m_iret S hr hlocks hw (so2 h) dX5_count_144
                        · replace h := if_f e11 h
                          by_cases e12 : x1 = (12 : Int32)
                          · replace h := if_t e12 h
                            refine lv_tableIn (tgt := 145) S.1 S.2.1 dX5_count_6 (by rw [e12]; decide) (by rw [e12]; decide) (by rw [e12]; rfl) rfl ?_
                            refine lv_aload_n S.1 S.2.1 dX5_count_145 rfl (lv_at hl 0 rfl) ?_
                            refine mg2 S hw dX5_count_146 ?_
                            exact m_iret S hr hlocks hw (so2 h) dX5_count_149
                          · replace h := if_f e12 h
                            refine lv_tableOut (tgt := 150) S.1 S.2.1 dX5_count_6 (by have z0 := ne_toInt e0 (j := 0) rfl; have z1 := ne_toInt e1 (j := 1) rfl; have z2 := ne_toInt e2 (j := 2) rfl; have z3 := ne_toInt e3 (j := 3) rfl; have z4 := ne_toInt e4 (j := 4) rfl; have z5 := ne_toInt e5 (j := 5) rfl; have z6 := ne_toInt e6 (j := 6) rfl; have z7 := ne_toInt e7 (j := 7) rfl; have z8 := ne_toInt e8 (j := 8) rfl; have z9 := ne_toInt e9 (j := 9) rfl; have z10 := ne_toInt e10 (j := 10) rfl; have z11 := ne_toInt e11 (j := 11) rfl; have z12 := ne_toInt e12 (j := 12) rfl; omega) rfl ?_
                            refine lv_iconst (v := -1) S.1 S.2.1 dX5_count_150 rfl ?_
                            exact m_iret S hr hlocks hw (so2 h) dX5_count_151
