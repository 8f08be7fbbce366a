/-! walks of the Model, printed by gen/model.py -/
set_option maxRecDepth 100000
def M_takeSign (x1 : Int32) (w : MS) : Option MS :=
  bd1 (M_isSign x1 w) fun r1 =>
  if r1 = 0 then
    bd1 (M_wrong (1 : Int32) w) fun w3 =>
    some w3
  else
    bdp (wI w 7 0 ((rI w 7 0) + (1 : Int32))) fun w4 =>
    some w4
set_option maxRecDepth 100000 in
set_option maxHeartbeats 4000000 in
theorem met_takeSign (l : Launch) (E : mE) (A : Nat → Prop)  (x1 : Int32) (w : MS) (res : MS) (h : M_takeSign x1 w = some res) : Met l yX5_takeSign (ws_ yX5_takeSign cX5_takeSign 2 none) rm_takeSign (mPc E A [.ref (mM E), .int x1] w) (mQv E A res) 0 0 A := by
  refine mMet (by decide) rfl (Nat.le_of_ble_eq_true rfl) ?_
  intro p e s m below meth c S hr hlocks H ls hw hl
  replace hl : lv_has ls 2 [(0, .ref (mM E)), (1, .int x1)] := hl
  unfold M_takeSign at h
  refine lv_aload_n S.1 S.2.1 dX5_takeSign_0 rfl (lv_at hl 0 rfl) ?_
  refine lv_iload_n S.1 S.2.1 dX5_takeSign_1 rfl (lv_at hl 1 rfl) ?_
  refine mcVri (As := [.int x1]) (rest := []) S hw h (fun u h1 => met_isSign l E A x1 w u h1) (cw_isSign S.2.2.2.2 rfl rfl ⟨Nat.le_of_ble_eq_true rfl, Nat.le_of_ble_eq_true rfl⟩) rfl hl.1 rfl (lv_room (Nat.le_of_ble_eq_true rfl)) dX5_takeSign_2 (fun r1 H locs h hw => ?_)
  refine lv_if_eq (tgt := 21) S.1 S.2.1 dX5_takeSign_5 rfl (fun c2 => ?_) (fun c2 => ?_)
  · replace h := if_t c2 h
    refine lv_aload_n S.1 S.2.1 dX5_takeSign_21 rfl (lv_at hl 0 rfl) ?_
    refine lv_iconst (v := 1) S.1 S.2.1 dX5_takeSign_22 rfl ?_
    refine mcVv (As := [.int (1 : Int32)]) (rest := []) S hw h (fun u h1 => met_wrong l E A (1 : Int32) w u h1) (cw_wrong S.2.2.2.2 rfl rfl ⟨Nat.le_of_ble_eq_true rfl, Nat.le_of_ble_eq_true rfl⟩) rfl hl.1 rfl (lv_room (Nat.le_of_ble_eq_true rfl)) dX5_takeSign_23 (fun w3 H locs h hw => ?_)
    exact m_vret S hr hlocks hw (so1 h) dX5_takeSign_26
  · replace h := if_f c2 h
    refine lv_aload_n S.1 S.2.1 dX5_takeSign_8 rfl (lv_at hl 0 rfl) ?_
    refine lv_dup S.1 S.2.1 dX5_takeSign_9 rfl ?_
    refine mg7 S hw dX5_takeSign_10 ?_
    refine lv_iconst (v := 1) S.1 S.2.1 dX5_takeSign_13 rfl ?_
    refine lv_iadd S.1 S.2.1 dX5_takeSign_14 ?_
    refine mp7 S hw dX5_takeSign_15 h (fun w4 H locs h hw => ?_)
    refine lv_goto (tgt := 26) S.1 S.2.1 dX5_takeSign_18 rfl ?_
    exact m_vret S hr hlocks hw (so1 h) dX5_takeSign_26
def M_products_p5 (tp : Int32 → MS → Option MS) : Nat → Int32 → MS → Option MS
  | 0, _, _ => none
  | n + 1, x1, w =>
    bd2 (M_hasSign (42 : Int32) w) fun r3 w2 =>
    if r3 = 0 then
      some w2
    else
      bd1 (tp x1 w2) fun w5 =>
      bd1 (M_emit (6 : Int32) (0 : Int32) w5) fun w6 =>
      (M_products_p5 tp n) x1 w6
def M_products (tp : Int32 → MS → Option MS) (x1 : Int32) (w : MS) : Option MS :=
  bd1 (tp x1 w) fun w1 =>
  M_products_p5 tp FU x1 w1
set_option maxRecDepth 100000 in
set_option maxHeartbeats 4000000 in
theorem wk_M_products_p5 {p : Program} {l : Launch} {e : Env} {s : State} {m : MethodId} {args : Array Value} {below : List Frame} {meth : Method} {c : Code} {E : mE} {A : Nat → Prop} (S : CallFix p m c cX5_products 2 s args lw_all RX5) (hr : meth.sig.returnType = none) (hlocks : meth.locks = false) {res : MS} {d : Nat} {tp : Int32 → MS → Option MS} (htp : ∀ (x1 : Int32) (w res : MS), tp x1 w = some res → Met l yX5_takePart (ws_ yX5_takePart cX5_takePart 4 none) (rm_takePart d) (mPc E A [.ref (mM E), .int x1] w) (mQv E A res) 0 0 A) : ∀ n : Nat, ∀ (x1 : Int32) (w : MS) (H : Heap) (locs : List Loc) (ls : Array Slot), M_products_p5 tp n x1 w = some res → mH E A s w H locs → lv_has ls 2 [(0, .ref (mM E)), (1, .int x1)] → W p l e (rm_products d) s m args below meth c H locs 0 0 (MQ below (mQv E A res) args s 0 0 A) (F0 m 5 ls []) := by
  intro n
  induction n with
  | zero => intro x1 w H locs ls h; cases (show (none : Option MS) = some res from h)
  | succ n ih =>
    intro x1 w H locs ls h hw hl
    rw [M_products_p5] at h
    refine lv_aload_n S.1 S.2.1 dX5_products_5 rfl (lv_at hl 0 rfl) ?_
    refine lv_bipush (v := 42) S.1 S.2.1 dX5_products_6 rfl ?_
    refine mcVwi (As := [.int (42 : Int32)]) (rest := []) S hw h (fun u h1 => met_hasSign l E A (42 : Int32) w u h1) (cw_hasSign S.2.2.2.2 rfl rfl ⟨(show 1 + 1 ≤ 5 * d + 4 by omega), (show 8 + (3 + 11) + (21) ≤ 200 * d + 240 by omega)⟩) rfl hl.1 rfl (lv_room (Nat.le_of_ble_eq_true rfl)) dX5_products_8 (fun r3 w2 H locs h hw => ?_)
    refine lv_if_eq (tgt := 29) S.1 S.2.1 dX5_products_11 rfl (fun c4 => ?_) (fun c4 => ?_)
    · replace h := if_t c4 h
      exact m_vret S hr hlocks hw (so1 h) dX5_products_29
    · replace h := if_f c4 h
      refine lv_aload_n S.1 S.2.1 dX5_products_14 rfl (lv_at hl 0 rfl) ?_
      refine lv_iload_n S.1 S.2.1 dX5_products_15 rfl (lv_at hl 1 rfl) ?_
      refine mcVv (As := [.int x1]) (rest := []) S hw h (fun u h1 => htp x1 w2 u h1) (cw_takePart S.2.2.2.2 rfl rfl ⟨(show 5 * d + 3 + 1 ≤ 5 * d + 4 by omega), (show 8 + (4 + 11) + (200 * d + 200) ≤ 200 * d + 240 by omega)⟩) rfl hl.1 rfl (lv_room (Nat.le_of_ble_eq_true rfl)) dX5_products_16 (fun w5 H locs h hw => ?_)
      refine lv_aload_n S.1 S.2.1 dX5_products_19 rfl (lv_at hl 0 rfl) ?_
      refine lv_bipush (v := 6) S.1 S.2.1 dX5_products_20 rfl ?_
      refine lv_iconst (v := 0) S.1 S.2.1 dX5_products_22 rfl ?_
      refine mcVv (As := [.int (6 : Int32), .int (0 : Int32)]) (rest := []) S hw h (fun u h1 => met_emit l E A (6 : Int32) (0 : Int32) w5 u h1) (cw_emit S.2.2.2.2 rfl rfl ⟨(show 0 + 1 ≤ 5 * d + 4 by omega), (show 8 + (3 + 11) + (0) ≤ 200 * d + 240 by omega)⟩) rfl hl.1 rfl (lv_room (Nat.le_of_ble_eq_true rfl)) dX5_products_23 (fun w6 H locs h hw => ?_)
      refine lv_goto (tgt := 5) S.1 S.2.1 dX5_products_26 rfl ?_
      exact ih _ _ _ _ _ h hw (lv_sub hl [0, 1] rfl)
set_option maxRecDepth 100000 in
set_option maxHeartbeats 4000000 in
theorem met_products (l : Launch) (E : mE) (A : Nat → Prop) {d : Nat} {tp : Int32 → MS → Option MS} (htp : ∀ (x1 : Int32) (w res : MS), tp x1 w = some res → Met l yX5_takePart (ws_ yX5_takePart cX5_takePart 4 none) (rm_takePart d) (mPc E A [.ref (mM E), .int x1] w) (mQv E A res) 0 0 A)  (x1 : Int32) (w : MS) (res : MS) (h : M_products tp x1 w = some res) : Met l yX5_products (ws_ yX5_products cX5_products 2 none) (rm_products d) (mPc E A [.ref (mM E), .int x1] w) (mQv E A res) 0 0 A := by
  refine mMet (by decide) rfl (Nat.le_of_ble_eq_true rfl) ?_
  intro p e s m below meth c S hr hlocks H ls hw hl
  replace hl : lv_has ls 2 [(0, .ref (mM E)), (1, .int x1)] := hl
  unfold M_products at h
  refine lv_aload_n S.1 S.2.1 dX5_products_0 rfl (lv_at hl 0 rfl) ?_
  refine lv_iload_n S.1 S.2.1 dX5_products_1 rfl (lv_at hl 1 rfl) ?_
  refine mcVv (As := [.int x1]) (rest := []) S hw h (fun u h1 => htp x1 w u h1) (cw_takePart S.2.2.2.2 rfl rfl ⟨(show 5 * d + 3 + 1 ≤ 5 * d + 4 by omega), (show 8 + (4 + 11) + (200 * d + 200) ≤ 200 * d + 240 by omega)⟩) rfl hl.1 rfl (lv_room (Nat.le_of_ble_eq_true rfl)) dX5_products_2 (fun w1 H locs h hw => ?_)
  exact wk_M_products_p5 S hr hlocks htp FU _ _ _ _ _ h hw (lv_sub hl [0, 1] rfl)
def M_sums_p55 (tp : Int32 → MS → Option MS) (k5 : Int32 → MS → Option MS) (x1 : Int32) (t0 : Int32) (w : MS) : Option MS :=
  bd1 (M_emit t0 (0 : Int32) w) fun w8 =>
  k5 x1 w8
def M_sums_p23 (tp : Int32 → MS → Option MS) (k5 : Int32 → MS → Option MS) (x1 : Int32) (w : MS) : Option MS :=
  bd1 (M_isSign (43 : Int32) w) fun r4 =>
  bdp (wI w 7 0 ((rI w 7 0) + (1 : Int32))) fun w5 =>
  bd1 (M_products tp x1 w5) fun w6 =>
  if r4 = 0 then
    M_sums_p55 tp k5 x1 (5 : Int32) w6
  else
    M_sums_p55 tp k5 x1 (4 : Int32) w6
def M_sums_p5 (tp : Int32 → MS → Option MS) : Nat → Int32 → MS → Option MS
  | 0, _, _ => none
  | n + 1, x1, w =>
    bd1 (M_isSign (43 : Int32) w) fun r2 =>
    if r2 = 0 then
      bd1 (M_isSign (45 : Int32) w) fun r9 =>
      if r9 = 0 then
        some w
      else
        M_sums_p23 tp (M_sums_p5 tp n) x1 w
    else
      M_sums_p23 tp (M_sums_p5 tp n) x1 w
def M_sums (tp : Int32 → MS → Option MS) (x1 : Int32) (w : MS) : Option MS :=
  bd1 (M_products tp x1 w) fun w1 =>
  M_sums_p5 tp FU x1 w1
set_option maxRecDepth 100000 in
set_option maxHeartbeats 4000000 in
theorem wk_M_sums_p55 {p : Program} {l : Launch} {e : Env} {s : State} {m : MethodId} {args : Array Value} {below : List Frame} {meth : Method} {c : Code} {E : mE} {A : Nat → Prop} (S : CallFix p m c cX5_sums 3 s args lw_all RX5) (hr : meth.sig.returnType = none) (hlocks : meth.locks = false) {res : MS} {d : Nat} {tp : Int32 → MS → Option MS} (htp : ∀ (x1 : Int32) (w res : MS), tp x1 w = some res → Met l yX5_takePart (ws_ yX5_takePart cX5_takePart 4 none) (rm_takePart d) (mPc E A [.ref (mM E), .int x1] w) (mQv E A res) 0 0 A) {k5 : Int32 → MS → Option MS} (hk5 : ∀ (x1 : Int32) (w : MS) (H : Heap) (locs : List Loc) (ls : Array Slot), k5 x1 w = some res → mH E A s w H locs → lv_has ls 3 [(0, .ref (mM E)), (1, .int x1)] → W p l e (rm_sums d) s m args below meth c H locs 0 0 (MQ below (mQv E A res) args s 0 0 A) (F0 m 5 ls [])) : ∀ (x1 : Int32) (t0 : Int32) (w : MS) (H : Heap) (locs : List Loc) (ls : Array Slot), M_sums_p55 tp k5 x1 t0 w = some res → mH E A s w H locs → lv_has ls 3 [(0, .ref (mM E)), (1, .int x1)] → W p l e (rm_sums d) s m args below meth c H locs 0 0 (MQ below (mQv E A res) args s 0 0 A) (F0 m 55 ls [.int t0, .ref (mM E)]) := by
  intro x1 t0 w H locs ls h hw hl
  unfold M_sums_p55 at h
  refine lv_iconst (v := 0) S.1 S.2.1 dX5_sums_55 rfl ?_
  refine mcVv (As := [.int t0, .int (0 : Int32)]) (rest := []) S hw h (fun u h1 => met_emit l E A t0 (0 : Int32) w u h1) (cw_emit S.2.2.2.2 rfl rfl ⟨(show 0 + 1 ≤ 5 * d + 5 by omega), (show 8 + (3 + 11) + (0) ≤ 200 * d + 280 by omega)⟩) rfl hl.1 rfl (lv_room (Nat.le_of_ble_eq_true rfl)) dX5_sums_56 (fun w8 H locs h hw => ?_)
  refine lv_goto (tgt := 5) S.1 S.2.1 dX5_sums_59 rfl ?_
  exact hk5 _ _ _ _ _ h hw (lv_sub hl [0, 1] rfl)
set_option maxRecDepth 100000 in
set_option maxHeartbeats 4000000 in
theorem wk_M_sums_p23 {p : Program} {l : Launch} {e : Env} {s : State} {m : MethodId} {args : Array Value} {below : List Frame} {meth : Method} {c : Code} {E : mE} {A : Nat → Prop} (S : CallFix p m c cX5_sums 3 s args lw_all RX5) (hr : meth.sig.returnType = none) (hlocks : meth.locks = false) {res : MS} {d : Nat} {tp : Int32 → MS → Option MS} (htp : ∀ (x1 : Int32) (w res : MS), tp x1 w = some res → Met l yX5_takePart (ws_ yX5_takePart cX5_takePart 4 none) (rm_takePart d) (mPc E A [.ref (mM E), .int x1] w) (mQv E A res) 0 0 A) {k5 : Int32 → MS → Option MS} (hk5 : ∀ (x1 : Int32) (w : MS) (H : Heap) (locs : List Loc) (ls : Array Slot), k5 x1 w = some res → mH E A s w H locs → lv_has ls 3 [(0, .ref (mM E)), (1, .int x1)] → W p l e (rm_sums d) s m args below meth c H locs 0 0 (MQ below (mQv E A res) args s 0 0 A) (F0 m 5 ls [])) : ∀ (x1 : Int32) (w : MS) (H : Heap) (locs : List Loc) (ls : Array Slot), M_sums_p23 tp k5 x1 w = some res → mH E A s w H locs → lv_has ls 3 [(0, .ref (mM E)), (1, .int x1)] → W p l e (rm_sums d) s m args below meth c H locs 0 0 (MQ below (mQv E A res) args s 0 0 A) (F0 m 23 ls []) := by
  intro x1 w H locs ls h hw hl
  unfold M_sums_p23 at h
  refine lv_aload_n S.1 S.2.1 dX5_sums_23 rfl (lv_at hl 0 rfl) ?_
  refine lv_bipush (v := 43) S.1 S.2.1 dX5_sums_24 rfl ?_
  refine mcVri (As := [.int (43 : Int32)]) (rest := []) S hw h (fun u h1 => met_isSign l E A (43 : Int32) w u h1) (cw_isSign S.2.2.2.2 rfl rfl ⟨(show 0 + 1 ≤ 5 * d + 5 by omega), (show 8 + (2 + 11) + (0) ≤ 200 * d + 280 by omega)⟩) rfl hl.1 rfl (lv_room (Nat.le_of_ble_eq_true rfl)) dX5_sums_26 (fun r4 H locs h hw => ?_)
  refine lv_istore_n (lv' := [(2, .int r4), (0, .ref (mM E)), (1, .int x1)]) S.1 S.2.1 dX5_sums_29 rfl hl (by decide) rfl (fun ls hl => ?_)
  refine lv_aload_n S.1 S.2.1 dX5_sums_30 rfl (lv_at hl 1 rfl) ?_
  refine lv_dup S.1 S.2.1 dX5_sums_31 rfl ?_
  refine mg7 S hw dX5_sums_32 ?_
  refine lv_iconst (v := 1) S.1 S.2.1 dX5_sums_35 rfl ?_
  refine lv_iadd S.1 S.2.1 dX5_sums_36 ?_
  refine mp7 S hw dX5_sums_37 h (fun w5 H locs h hw => ?_)
  refine lv_aload_n S.1 S.2.1 dX5_sums_40 rfl (lv_at hl 1 rfl) ?_
  refine lv_iload_n S.1 S.2.1 dX5_sums_41 rfl (lv_at hl 2 rfl) ?_
  refine mcVv (As := [.int x1]) (rest := []) S hw h (fun u h1 => met_products l E A htp x1 w5 u h1) (cw_products S.2.2.2.2 rfl rfl ⟨(show 5 * d + 4 + 1 ≤ 5 * d + 5 by omega), (show 8 + (2 + 11) + (200 * d + 240) ≤ 200 * d + 280 by omega)⟩) rfl hl.1 rfl (lv_room (Nat.le_of_ble_eq_true rfl)) dX5_sums_42 (fun w6 H locs h hw => ?_)
  refine lv_aload_n S.1 S.2.1 dX5_sums_45 rfl (lv_at hl 1 rfl) ?_
  refine lv_iload_n S.1 S.2.1 dX5_sums_46 rfl (lv_at hl 0 rfl) ?_
  refine lv_if_eq (tgt := 54) S.1 S.2.1 dX5_sums_47 rfl (fun c7 => ?_) (fun c7 => ?_)
  · replace h := if_t c7 h
    refine lv_iconst (v := 5) S.1 S.2.1 dX5_sums_54 rfl ?_
    exact wk_M_sums_p55 S hr hlocks htp hk5 _ _ _ _ _ _ h hw (lv_sub hl [1, 2] rfl)
  · replace h := if_f c7 h
    refine lv_iconst (v := 4) S.1 S.2.1 dX5_sums_50 rfl ?_
    refine lv_goto (tgt := 55) S.1 S.2.1 dX5_sums_51 rfl ?_
    exact wk_M_sums_p55 S hr hlocks htp hk5 _ _ _ _ _ _ h hw (lv_sub hl [1, 2] rfl)
set_option maxRecDepth 100000 in
set_option maxHeartbeats 4000000 in
theorem wk_M_sums_p5 {p : Program} {l : Launch} {e : Env} {s : State} {m : MethodId} {args : Array Value} {below : List Frame} {meth : Method} {c : Code} {E : mE} {A : Nat → Prop} (S : CallFix p m c cX5_sums 3 s args lw_all RX5) (hr : meth.sig.returnType = none) (hlocks : meth.locks = false) {res : MS} {d : Nat} {tp : Int32 → MS → Option MS} (htp : ∀ (x1 : Int32) (w res : MS), tp x1 w = some res → Met l yX5_takePart (ws_ yX5_takePart cX5_takePart 4 none) (rm_takePart d) (mPc E A [.ref (mM E), .int x1] w) (mQv E A res) 0 0 A) : ∀ n : Nat, ∀ (x1 : Int32) (w : MS) (H : Heap) (locs : List Loc) (ls : Array Slot), M_sums_p5 tp n x1 w = some res → mH E A s w H locs → lv_has ls 3 [(0, .ref (mM E)), (1, .int x1)] → W p l e (rm_sums d) s m args below meth c H locs 0 0 (MQ below (mQv E A res) args s 0 0 A) (F0 m 5 ls []) := by
  intro n
  induction n with
  | zero => intro x1 w H locs ls h; cases (show (none : Option MS) = some res from h)
  | succ n ih =>
    intro x1 w H locs ls h hw hl
    rw [M_sums_p5] at h
    refine lv_aload_n S.1 S.2.1 dX5_sums_5 rfl (lv_at hl 0 rfl) ?_
    refine lv_bipush (v := 43) S.1 S.2.1 dX5_sums_6 rfl ?_
    refine mcVri (As := [.int (43 : Int32)]) (rest := []) S hw h (fun u h1 => met_isSign l E A (43 : Int32) w u h1) (cw_isSign S.2.2.2.2 rfl rfl ⟨(show 0 + 1 ≤ 5 * d + 5 by omega), (show 8 + (2 + 11) + (0) ≤ 200 * d + 280 by omega)⟩) rfl hl.1 rfl (lv_room (Nat.le_of_ble_eq_true rfl)) dX5_sums_8 (fun r2 H locs h hw => ?_)
    refine lv_if_ne (tgt := 23) S.1 S.2.1 dX5_sums_11 rfl (fun c3 => ?_) (fun c3 => ?_)
    · replace h := if_f c3 h
      exact wk_M_sums_p23 S hr hlocks htp ih _ _ _ _ _ h hw (lv_sub hl [0, 1] rfl)
    · replace h := if_t c3 h
      refine lv_aload_n S.1 S.2.1 dX5_sums_14 rfl (lv_at hl 0 rfl) ?_
      refine lv_bipush (v := 45) S.1 S.2.1 dX5_sums_15 rfl ?_
      refine mcVri (As := [.int (45 : Int32)]) (rest := []) S hw h (fun u h1 => met_isSign l E A (45 : Int32) w u h1) (cw_isSign S.2.2.2.2 rfl rfl ⟨(show 0 + 1 ≤ 5 * d + 5 by omega), (show 8 + (2 + 11) + (0) ≤ 200 * d + 280 by omega)⟩) rfl hl.1 rfl (lv_room (Nat.le_of_ble_eq_true rfl)) dX5_sums_17 (fun r9 H locs h hw => ?_)
      refine lv_if_eq (tgt := 62) S.1 S.2.1 dX5_sums_20 rfl (fun c10 => ?_) (fun c10 => ?_)
      · replace h := if_t c10 h
        exact m_vret S hr hlocks hw (so1 h) dX5_sums_62
      · replace h := if_f c10 h
        exact wk_M_sums_p23 S hr hlocks htp ih _ _ _ _ _ h hw (lv_sub hl [0, 1] rfl)
set_option maxRecDepth 100000 in
set_option maxHeartbeats 4000000 in
theorem met_sums (l : Launch) (E : mE) (A : Nat → Prop) {d : Nat} {tp : Int32 → MS → Option MS} (htp : ∀ (x1 : Int32) (w res : MS), tp x1 w = some res → Met l yX5_takePart (ws_ yX5_takePart cX5_takePart 4 none) (rm_takePart d) (mPc E A [.ref (mM E), .int x1] w) (mQv E A res) 0 0 A)  (x1 : Int32) (w : MS) (res : MS) (h : M_sums tp x1 w = some res) : Met l yX5_sums (ws_ yX5_sums cX5_sums 3 none) (rm_sums d) (mPc E A [.ref (mM E), .int x1] w) (mQv E A res) 0 0 A := by
  refine mMet (by decide) rfl (Nat.le_of_ble_eq_true rfl) ?_
  intro p e s m below meth c S hr hlocks H ls hw hl
  replace hl : lv_has ls 3 [(0, .ref (mM E)), (1, .int x1)] := hl
  unfold M_sums at h
  refine lv_aload_n S.1 S.2.1 dX5_sums_0 rfl (lv_at hl 0 rfl) ?_
  refine lv_iload_n S.1 S.2.1 dX5_sums_1 rfl (lv_at hl 1 rfl) ?_
  refine mcVv (As := [.int x1]) (rest := []) S hw h (fun u h1 => met_products l E A htp x1 w u h1) (cw_products S.2.2.2.2 rfl rfl ⟨(show 5 * d + 4 + 1 ≤ 5 * d + 5 by omega), (show 8 + (2 + 11) + (200 * d + 240) ≤ 200 * d + 280 by omega)⟩) rfl hl.1 rfl (lv_room (Nat.le_of_ble_eq_true rfl)) dX5_sums_2 (fun w1 H locs h hw => ?_)
  exact wk_M_sums_p5 S hr hlocks htp FU _ _ _ _ _ h hw (lv_sub hl [0, 1] rfl)
def M_test_p47 (tp : Int32 → MS → Option MS) (t0 : Int32) (w : MS) : Option MS :=
  bd1 (M_emit t0 (0 : Int32) w) fun w8 =>
  some w8
def M_test_p30 (tp : Int32 → MS → Option MS) (x1 : Int32) (x2 : Int32) (w : MS) : Option MS :=
  bd1 (M_sums tp x1 w) fun w6 =>
  if x2 = 0 then
    M_test_p47 tp (8 : Int32) w6
  else
    M_test_p47 tp (7 : Int32) w6
def M_test (tp : Int32 → MS → Option MS) (x1 : Int32) (w : MS) : Option MS :=
  bd1 (M_sums tp x1 w) fun w1 =>
  bd1 (M_isSign (60 : Int32) w1) fun r2 =>
  bd2 (M_hasSign (60 : Int32) w1) fun r4 w3 =>
  if r4 = 0 then
    bd2 (M_hasSign (61 : Int32) w3) fun r10 w9 =>
    if r10 = 0 then
      some w9
    else
      M_test_p30 tp x1 r2 w9
  else
    M_test_p30 tp x1 r2 w3
set_option maxRecDepth 100000 in
set_option maxHeartbeats 4000000 in
theorem wk_M_test_p47 {p : Program} {l : Launch} {e : Env} {s : State} {m : MethodId} {args : Array Value} {below : List Frame} {meth : Method} {c : Code} {E : mE} {A : Nat → Prop} (S : CallFix p m c cX5_test 3 s args lw_all RX5) (hr : meth.sig.returnType = none) (hlocks : meth.locks = false) {res : MS} {d : Nat} {tp : Int32 → MS → Option MS} (htp : ∀ (x1 : Int32) (w res : MS), tp x1 w = some res → Met l yX5_takePart (ws_ yX5_takePart cX5_takePart 4 none) (rm_takePart d) (mPc E A [.ref (mM E), .int x1] w) (mQv E A res) 0 0 A) : ∀ (t0 : Int32) (w : MS) (H : Heap) (locs : List Loc) (ls : Array Slot), M_test_p47 tp t0 w = some res → mH E A s w H locs → lv_has ls 3 [(0, .ref (mM E))] → W p l e (rm_test d) s m args below meth c H locs 0 0 (MQ below (mQv E A res) args s 0 0 A) (F0 m 47 ls [.int t0, .ref (mM E)]) := by
  intro t0 w H locs ls h hw hl
  unfold M_test_p47 at h
  refine lv_iconst (v := 0) S.1 S.2.1 dX5_test_47 rfl ?_
  refine mcVv (As := [.int t0, .int (0 : Int32)]) (rest := []) S hw h (fun u h1 => met_emit l E A t0 (0 : Int32) w u h1) (cw_emit S.2.2.2.2 rfl rfl ⟨(show 0 + 1 ≤ 5 * d + 6 by omega), (show 8 + (3 + 11) + (0) ≤ 200 * d + 320 by omega)⟩) rfl hl.1 rfl (lv_room (Nat.le_of_ble_eq_true rfl)) dX5_test_48 (fun w8 H locs h hw => ?_)
  exact m_vret S hr hlocks hw (so1 h) dX5_test_51
set_option maxRecDepth 100000 in
set_option maxHeartbeats 4000000 in
theorem wk_M_test_p30 {p : Program} {l : Launch} {e : Env} {s : State} {m : MethodId} {args : Array Value} {below : List Frame} {meth : Method} {c : Code} {E : mE} {A : Nat → Prop} (S : CallFix p m c cX5_test 3 s args lw_all RX5) (hr : meth.sig.returnType = none) (hlocks : meth.locks = false) {res : MS} {d : Nat} {tp : Int32 → MS → Option MS} (htp : ∀ (x1 : Int32) (w res : MS), tp x1 w = some res → Met l yX5_takePart (ws_ yX5_takePart cX5_takePart 4 none) (rm_takePart d) (mPc E A [.ref (mM E), .int x1] w) (mQv E A res) 0 0 A) : ∀ (x1 : Int32) (x2 : Int32) (w : MS) (H : Heap) (locs : List Loc) (ls : Array Slot), M_test_p30 tp x1 x2 w = some res → mH E A s w H locs → lv_has ls 3 [(0, .ref (mM E)), (1, .int x1), (2, .int x2)] → W p l e (rm_test d) s m args below meth c H locs 0 0 (MQ below (mQv E A res) args s 0 0 A) (F0 m 30 ls []) := by
  intro x1 x2 w H locs ls h hw hl
  unfold M_test_p30 at h
  refine lv_aload_n S.1 S.2.1 dX5_test_30 rfl (lv_at hl 0 rfl) ?_
  refine lv_iload_n S.1 S.2.1 dX5_test_31 rfl (lv_at hl 1 rfl) ?_
  refine mcVv (As := [.int x1]) (rest := []) S hw h (fun u h1 => met_sums l E A htp x1 w u h1) (cw_sums S.2.2.2.2 rfl rfl ⟨(show 5 * d + 5 + 1 ≤ 5 * d + 6 by omega), (show 8 + (3 + 11) + (200 * d + 280) ≤ 200 * d + 320 by omega)⟩) rfl hl.1 rfl (lv_room (Nat.le_of_ble_eq_true rfl)) dX5_test_32 (fun w6 H locs h hw => ?_)
  refine lv_aload_n S.1 S.2.1 dX5_test_35 rfl (lv_at hl 0 rfl) ?_
  refine lv_iload_n S.1 S.2.1 dX5_test_36 rfl (lv_at hl 2 rfl) ?_
  refine lv_if_eq (tgt := 45) S.1 S.2.1 dX5_test_37 rfl (fun c7 => ?_) (fun c7 => ?_)
  · replace h := if_t c7 h
    refine lv_bipush (v := 8) S.1 S.2.1 dX5_test_45 rfl ?_
    exact wk_M_test_p47 S hr hlocks htp _ _ _ _ _ h hw (lv_sub hl [0] rfl)
  · replace h := if_f c7 h
    refine lv_bipush (v := 7) S.1 S.2.1 dX5_test_40 rfl ?_
    refine lv_goto (tgt := 47) S.1 S.2.1 dX5_test_42 rfl ?_
    exact wk_M_test_p47 S hr hlocks htp _ _ _ _ _ h hw (lv_sub hl [0] rfl)
set_option maxRecDepth 100000 in
set_option maxHeartbeats 4000000 in
theorem met_test (l : Launch) (E : mE) (A : Nat → Prop) {d : Nat} {tp : Int32 → MS → Option MS} (htp : ∀ (x1 : Int32) (w res : MS), tp x1 w = some res → Met l yX5_takePart (ws_ yX5_takePart cX5_takePart 4 none) (rm_takePart d) (mPc E A [.ref (mM E), .int x1] w) (mQv E A res) 0 0 A)  (x1 : Int32) (w : MS) (res : MS) (h : M_test tp x1 w = some res) : Met l yX5_test (ws_ yX5_test cX5_test 3 none) (rm_test d) (mPc E A [.ref (mM E), .int x1] w) (mQv E A res) 0 0 A := by
  refine mMet (by decide) rfl (Nat.le_of_ble_eq_true rfl) ?_
  intro p e s m below meth c S hr hlocks H ls hw hl
  replace hl : lv_has ls 3 [(0, .ref (mM E)), (1, .int x1)] := hl
  unfold M_test at h
  refine lv_aload_n S.1 S.2.1 dX5_test_0 rfl (lv_at hl 0 rfl) ?_
  refine lv_iload_n S.1 S.2.1 dX5_test_1 rfl (lv_at hl 1 rfl) ?_
  refine mcVv (As := [.int x1]) (rest := []) S hw h (fun u h1 => met_sums l E A htp x1 w u h1) (cw_sums S.2.2.2.2 rfl rfl ⟨(show 5 * d + 5 + 1 ≤ 5 * d + 6 by omega), (show 8 + (3 + 11) + (200 * d + 280) ≤ 200 * d + 320 by omega)⟩) rfl hl.1 rfl (lv_room (Nat.le_of_ble_eq_true rfl)) dX5_test_2 (fun w1 H locs h hw => ?_)
  refine lv_aload_n S.1 S.2.1 dX5_test_5 rfl (lv_at hl 0 rfl) ?_
  refine lv_bipush (v := 60) S.1 S.2.1 dX5_test_6 rfl ?_
  refine mcVri (As := [.int (60 : Int32)]) (rest := []) S hw h (fun u h1 => met_isSign l E A (60 : Int32) w1 u h1) (cw_isSign S.2.2.2.2 rfl rfl ⟨(show 0 + 1 ≤ 5 * d + 6 by omega), (show 8 + (2 + 11) + (0) ≤ 200 * d + 320 by omega)⟩) rfl hl.1 rfl (lv_room (Nat.le_of_ble_eq_true rfl)) dX5_test_8 (fun r2 H locs h hw => ?_)
  refine lv_istore_n (lv' := [(2, .int r2), (0, .ref (mM E)), (1, .int x1)]) S.1 S.2.1 dX5_test_11 rfl hl (by decide) rfl (fun ls hl => ?_)
  refine lv_aload_n S.1 S.2.1 dX5_test_12 rfl (lv_at hl 1 rfl) ?_
  refine lv_bipush (v := 60) S.1 S.2.1 dX5_test_13 rfl ?_
  refine mcVwi (As := [.int (60 : Int32)]) (rest := []) S hw h (fun u h1 => met_hasSign l E A (60 : Int32) w1 u h1) (cw_hasSign S.2.2.2.2 rfl rfl ⟨(show 1 + 1 ≤ 5 * d + 6 by omega), (show 8 + (3 + 11) + (21) ≤ 200 * d + 320 by omega)⟩) rfl hl.1 rfl (lv_room (Nat.le_of_ble_eq_true rfl)) dX5_test_15 (fun r4 w3 H locs h hw => ?_)
  refine lv_if_ne (tgt := 30) S.1 S.2.1 dX5_test_18 rfl (fun c5 => ?_) (fun c5 => ?_)
  · replace h := if_f c5 h
    exact wk_M_test_p30 S hr hlocks htp _ _ _ _ _ _ h hw (lv_sub hl [1, 2, 0] rfl)
  · replace h := if_t c5 h
    refine lv_aload_n S.1 S.2.1 dX5_test_21 rfl (lv_at hl 1 rfl) ?_
    refine lv_bipush (v := 61) S.1 S.2.1 dX5_test_22 rfl ?_
    refine mcVwi (As := [.int (61 : Int32)]) (rest := []) S hw h (fun u h1 => met_hasSign l E A (61 : Int32) w3 u h1) (cw_hasSign S.2.2.2.2 rfl rfl ⟨(show 1 + 1 ≤ 5 * d + 6 by omega), (show 8 + (3 + 11) + (21) ≤ 200 * d + 320 by omega)⟩) rfl hl.1 rfl (lv_room (Nat.le_of_ble_eq_true rfl)) dX5_test_24 (fun r10 w9 H locs h hw => ?_)
    refine lv_if_eq (tgt := 51) S.1 S.2.1 dX5_test_27 rfl (fun c11 => ?_) (fun c11 => ?_)
    · replace h := if_t c11 h
      exact m_vret S hr hlocks hw (so1 h) dX5_test_51
    · replace h := if_f c11 h
      exact wk_M_test_p30 S hr hlocks htp _ _ _ _ _ _ h hw (lv_sub hl [1, 2, 0] rfl)
def M_all_p57 (tp : Int32 → MS → Option MS) (k5 : Int32 → MS → Option MS) (x1 : Int32) (t0 : Int32) (w : MS) : Option MS :=
  bd1 (M_emit t0 (0 : Int32) w) fun w8 =>
  k5 x1 w8
def M_all_p23 (tp : Int32 → MS → Option MS) (k5 : Int32 → MS → Option MS) (x1 : Int32) (w : MS) : Option MS :=
  bd1 (M_isWord (30 : Int32) w) fun r4 =>
  bdp (wI w 7 0 ((rI w 7 0) + (1 : Int32))) fun w5 =>
  bd1 (M_test tp x1 w5) fun w6 =>
  if r4 = 0 then
    M_all_p57 tp k5 x1 (10 : Int32) w6
  else
    M_all_p57 tp k5 x1 (9 : Int32) w6
def M_all_p5 (tp : Int32 → MS → Option MS) : Nat → Int32 → MS → Option MS
  | 0, _, _ => none
  | n + 1, x1, w =>
    bd1 (M_isWord (30 : Int32) w) fun r2 =>
    if r2 = 0 then
      bd1 (M_isWord (31 : Int32) w) fun r9 =>
      if r9 = 0 then
        some w
      else
        M_all_p23 tp (M_all_p5 tp n) x1 w
    else
      M_all_p23 tp (M_all_p5 tp n) x1 w
def M_all (tp : Int32 → MS → Option MS) (x1 : Int32) (w : MS) : Option MS :=
  bd1 (M_test tp x1 w) fun w1 =>
  M_all_p5 tp FU x1 w1
set_option maxRecDepth 100000 in
set_option maxHeartbeats 4000000 in
theorem wk_M_all_p57 {p : Program} {l : Launch} {e : Env} {s : State} {m : MethodId} {args : Array Value} {below : List Frame} {meth : Method} {c : Code} {E : mE} {A : Nat → Prop} (S : CallFix p m c cX5_all 3 s args lw_all RX5) (hr : meth.sig.returnType = none) (hlocks : meth.locks = false) {res : MS} {d : Nat} {tp : Int32 → MS → Option MS} (htp : ∀ (x1 : Int32) (w res : MS), tp x1 w = some res → Met l yX5_takePart (ws_ yX5_takePart cX5_takePart 4 none) (rm_takePart d) (mPc E A [.ref (mM E), .int x1] w) (mQv E A res) 0 0 A) {k5 : Int32 → MS → Option MS} (hk5 : ∀ (x1 : Int32) (w : MS) (H : Heap) (locs : List Loc) (ls : Array Slot), k5 x1 w = some res → mH E A s w H locs → lv_has ls 3 [(0, .ref (mM E)), (1, .int x1)] → W p l e (rm_all d) s m args below meth c H locs 0 0 (MQ below (mQv E A res) args s 0 0 A) (F0 m 5 ls [])) : ∀ (x1 : Int32) (t0 : Int32) (w : MS) (H : Heap) (locs : List Loc) (ls : Array Slot), M_all_p57 tp k5 x1 t0 w = some res → mH E A s w H locs → lv_has ls 3 [(0, .ref (mM E)), (1, .int x1)] → W p l e (rm_all d) s m args below meth c H locs 0 0 (MQ below (mQv E A res) args s 0 0 A) (F0 m 57 ls [.int t0, .ref (mM E)]) := by
  intro x1 t0 w H locs ls h hw hl
  unfold M_all_p57 at h
  refine lv_iconst (v := 0) S.1 S.2.1 dX5_all_57 rfl ?_
  refine mcVv (As := [.int t0, .int (0 : Int32)]) (rest := []) S hw h (fun u h1 => met_emit l E A t0 (0 : Int32) w u h1) (cw_emit S.2.2.2.2 rfl rfl ⟨(show 0 + 1 ≤ 5 * d + 7 by omega), (show 8 + (3 + 11) + (0) ≤ 200 * d + 360 by omega)⟩) rfl hl.1 rfl (lv_room (Nat.le_of_ble_eq_true rfl)) dX5_all_58 (fun w8 H locs h hw => ?_)
  refine lv_goto (tgt := 5) S.1 S.2.1 dX5_all_61 rfl ?_
  exact hk5 _ _ _ _ _ h hw (lv_sub hl [0, 1] rfl)
set_option maxRecDepth 100000 in
set_option maxHeartbeats 4000000 in
theorem wk_M_all_p23 {p : Program} {l : Launch} {e : Env} {s : State} {m : MethodId} {args : Array Value} {below : List Frame} {meth : Method} {c : Code} {E : mE} {A : Nat → Prop} (S : CallFix p m c cX5_all 3 s args lw_all RX5) (hr : meth.sig.returnType = none) (hlocks : meth.locks = false) {res : MS} {d : Nat} {tp : Int32 → MS → Option MS} (htp : ∀ (x1 : Int32) (w res : MS), tp x1 w = some res → Met l yX5_takePart (ws_ yX5_takePart cX5_takePart 4 none) (rm_takePart d) (mPc E A [.ref (mM E), .int x1] w) (mQv E A res) 0 0 A) {k5 : Int32 → MS → Option MS} (hk5 : ∀ (x1 : Int32) (w : MS) (H : Heap) (locs : List Loc) (ls : Array Slot), k5 x1 w = some res → mH E A s w H locs → lv_has ls 3 [(0, .ref (mM E)), (1, .int x1)] → W p l e (rm_all d) s m args below meth c H locs 0 0 (MQ below (mQv E A res) args s 0 0 A) (F0 m 5 ls [])) : ∀ (x1 : Int32) (w : MS) (H : Heap) (locs : List Loc) (ls : Array Slot), M_all_p23 tp k5 x1 w = some res → mH E A s w H locs → lv_has ls 3 [(0, .ref (mM E)), (1, .int x1)] → W p l e (rm_all d) s m args below meth c H locs 0 0 (MQ below (mQv E A res) args s 0 0 A) (F0 m 23 ls []) := by
  intro x1 w H locs ls h hw hl
  unfold M_all_p23 at h
  refine lv_aload_n S.1 S.2.1 dX5_all_23 rfl (lv_at hl 0 rfl) ?_
  refine lv_bipush (v := 30) S.1 S.2.1 dX5_all_24 rfl ?_
  refine mcVri (As := [.int (30 : Int32)]) (rest := []) S hw h (fun u h1 => met_isWord l E A (30 : Int32) w u h1) (cw_isWord S.2.2.2.2 rfl rfl ⟨(show 0 + 1 ≤ 5 * d + 7 by omega), (show 8 + (2 + 11) + (0) ≤ 200 * d + 360 by omega)⟩) rfl hl.1 rfl (lv_room (Nat.le_of_ble_eq_true rfl)) dX5_all_26 (fun r4 H locs h hw => ?_)
  refine lv_istore_n (lv' := [(2, .int r4), (0, .ref (mM E)), (1, .int x1)]) S.1 S.2.1 dX5_all_29 rfl hl (by decide) rfl (fun ls hl => ?_)
  refine lv_aload_n S.1 S.2.1 dX5_all_30 rfl (lv_at hl 1 rfl) ?_
  refine lv_dup S.1 S.2.1 dX5_all_31 rfl ?_
  refine mg7 S hw dX5_all_32 ?_
  refine lv_iconst (v := 1) S.1 S.2.1 dX5_all_35 rfl ?_
  refine lv_iadd S.1 S.2.1 dX5_all_36 ?_
  refine mp7 S hw dX5_all_37 h (fun w5 H locs h hw => ?_)
  refine lv_aload_n S.1 S.2.1 dX5_all_40 rfl (lv_at hl 1 rfl) ?_
  refine lv_iload_n S.1 S.2.1 dX5_all_41 rfl (lv_at hl 2 rfl) ?_
  refine mcVv (As := [.int x1]) (rest := []) S hw h (fun u h1 => met_test l E A htp x1 w5 u h1) (cw_test S.2.2.2.2 rfl rfl ⟨(show 5 * d + 6 + 1 ≤ 5 * d + 7 by omega), (show 8 + (3 + 11) + (200 * d + 320) ≤ 200 * d + 360 by omega)⟩) rfl hl.1 rfl (lv_room (Nat.le_of_ble_eq_true rfl)) dX5_all_42 (fun w6 H locs h hw => ?_)
  refine lv_aload_n S.1 S.2.1 dX5_all_45 rfl (lv_at hl 1 rfl) ?_
  refine lv_iload_n S.1 S.2.1 dX5_all_46 rfl (lv_at hl 0 rfl) ?_
  refine lv_if_eq (tgt := 55) S.1 S.2.1 dX5_all_47 rfl (fun c7 => ?_) (fun c7 => ?_)
  · replace h := if_t c7 h
    refine lv_bipush (v := 10) S.1 S.2.1 dX5_all_55 rfl ?_
    exact wk_M_all_p57 S hr hlocks htp hk5 _ _ _ _ _ _ h hw (lv_sub hl [1, 2] rfl)
  · replace h := if_f c7 h
    refine lv_bipush (v := 9) S.1 S.2.1 dX5_all_50 rfl ?_
    refine lv_goto (tgt := 57) S.1 S.2.1 dX5_all_52 rfl ?_
    exact wk_M_all_p57 S hr hlocks htp hk5 _ _ _ _ _ _ h hw (lv_sub hl [1, 2] rfl)
set_option maxRecDepth 100000 in
set_option maxHeartbeats 4000000 in
theorem wk_M_all_p5 {p : Program} {l : Launch} {e : Env} {s : State} {m : MethodId} {args : Array Value} {below : List Frame} {meth : Method} {c : Code} {E : mE} {A : Nat → Prop} (S : CallFix p m c cX5_all 3 s args lw_all RX5) (hr : meth.sig.returnType = none) (hlocks : meth.locks = false) {res : MS} {d : Nat} {tp : Int32 → MS → Option MS} (htp : ∀ (x1 : Int32) (w res : MS), tp x1 w = some res → Met l yX5_takePart (ws_ yX5_takePart cX5_takePart 4 none) (rm_takePart d) (mPc E A [.ref (mM E), .int x1] w) (mQv E A res) 0 0 A) : ∀ n : Nat, ∀ (x1 : Int32) (w : MS) (H : Heap) (locs : List Loc) (ls : Array Slot), M_all_p5 tp n x1 w = some res → mH E A s w H locs → lv_has ls 3 [(0, .ref (mM E)), (1, .int x1)] → W p l e (rm_all d) s m args below meth c H locs 0 0 (MQ below (mQv E A res) args s 0 0 A) (F0 m 5 ls []) := by
  intro n
  induction n with
  | zero => intro x1 w H locs ls h; cases (show (none : Option MS) = some res from h)
  | succ n ih =>
    intro x1 w H locs ls h hw hl
    rw [M_all_p5] at h
    refine lv_aload_n S.1 S.2.1 dX5_all_5 rfl (lv_at hl 0 rfl) ?_
    refine lv_bipush (v := 30) S.1 S.2.1 dX5_all_6 rfl ?_
    refine mcVri (As := [.int (30 : Int32)]) (rest := []) S hw h (fun u h1 => met_isWord l E A (30 : Int32) w u h1) (cw_isWord S.2.2.2.2 rfl rfl ⟨(show 0 + 1 ≤ 5 * d + 7 by omega), (show 8 + (2 + 11) + (0) ≤ 200 * d + 360 by omega)⟩) rfl hl.1 rfl (lv_room (Nat.le_of_ble_eq_true rfl)) dX5_all_8 (fun r2 H locs h hw => ?_)
    refine lv_if_ne (tgt := 23) S.1 S.2.1 dX5_all_11 rfl (fun c3 => ?_) (fun c3 => ?_)
    · replace h := if_f c3 h
      exact wk_M_all_p23 S hr hlocks htp ih _ _ _ _ _ h hw (lv_sub hl [0, 1] rfl)
    · replace h := if_t c3 h
      refine lv_aload_n S.1 S.2.1 dX5_all_14 rfl (lv_at hl 0 rfl) ?_
      refine lv_bipush (v := 31) S.1 S.2.1 dX5_all_15 rfl ?_
      refine mcVri (As := [.int (31 : Int32)]) (rest := []) S hw h (fun u h1 => met_isWord l E A (31 : Int32) w u h1) (cw_isWord S.2.2.2.2 rfl rfl ⟨(show 0 + 1 ≤ 5 * d + 7 by omega), (show 8 + (2 + 11) + (0) ≤ 200 * d + 360 by omega)⟩) rfl hl.1 rfl (lv_room (Nat.le_of_ble_eq_true rfl)) dX5_all_17 (fun r9 H locs h hw => ?_)
      refine lv_if_eq (tgt := 64) S.1 S.2.1 dX5_all_20 rfl (fun c10 => ?_) (fun c10 => ?_)
      · replace h := if_t c10 h
        exact m_vret S hr hlocks hw (so1 h) dX5_all_64
      · replace h := if_f c10 h
        exact wk_M_all_p23 S hr hlocks htp ih _ _ _ _ _ h hw (lv_sub hl [0, 1] rfl)
set_option maxRecDepth 100000 in
set_option maxHeartbeats 4000000 in
theorem met_all (l : Launch) (E : mE) (A : Nat → Prop) {d : Nat} {tp : Int32 → MS → Option MS} (htp : ∀ (x1 : Int32) (w res : MS), tp x1 w = some res → Met l yX5_takePart (ws_ yX5_takePart cX5_takePart 4 none) (rm_takePart d) (mPc E A [.ref (mM E), .int x1] w) (mQv E A res) 0 0 A)  (x1 : Int32) (w : MS) (res : MS) (h : M_all tp x1 w = some res) : Met l yX5_all (ws_ yX5_all cX5_all 3 none) (rm_all d) (mPc E A [.ref (mM E), .int x1] w) (mQv E A res) 0 0 A := by
  refine mMet (by decide) rfl (Nat.le_of_ble_eq_true rfl) ?_
  intro p e s m below meth c S hr hlocks H ls hw hl
  replace hl : lv_has ls 3 [(0, .ref (mM E)), (1, .int x1)] := hl
  unfold M_all at h
  refine lv_aload_n S.1 S.2.1 dX5_all_0 rfl (lv_at hl 0 rfl) ?_
  refine lv_iload_n S.1 S.2.1 dX5_all_1 rfl (lv_at hl 1 rfl) ?_
  refine mcVv (As := [.int x1]) (rest := []) S hw h (fun u h1 => met_test l E A htp x1 w u h1) (cw_test S.2.2.2.2 rfl rfl ⟨(show 5 * d + 6 + 1 ≤ 5 * d + 7 by omega), (show 8 + (3 + 11) + (200 * d + 320) ≤ 200 * d + 360 by omega)⟩) rfl hl.1 rfl (lv_room (Nat.le_of_ble_eq_true rfl)) dX5_all_2 (fun w1 H locs h hw => ?_)
  exact wk_M_all_p5 S hr hlocks htp FU _ _ _ _ _ h hw (lv_sub hl [0, 1] rfl)
def M_takePart_b_p187 (tp : Int32 → MS → Option MS) (t0 : Int32) (t1 : Int32) (w : MS) : Option MS :=
  bd1 (M_emit t1 t0 w) fun w17 =>
  bdp (wI w17 7 0 ((rI w17 7 0) + (1 : Int32))) fun w18 =>
  some w18
def M_takePart_b_p169 (tp : Int32 → MS → Option MS) (x2 : Int32) (x3 : Int32) (t0 : Int32) (w : MS) : Option MS :=
  if x2 = 0 then
    M_takePart_b_p187 tp x3 t0 w
  else
    bd1 (rAL w 6 1002 (rI w 7 0)) fun v19 =>
    M_takePart_b_p187 tp v19.toInt32 t0 w
def M_takePart_b_p101 (tp : Int32 → MS → Option MS) (x1 : Int32) (x2 : Int32) (x3 : Int32) (w : MS) : Option MS :=
  if (rI w 8 0) ≤ 0 then
    bd2 (M_hasWord (29 : Int32) w) fun r10 w9 =>
    if r10 = 0 then
      bd2 (M_hasSign (40 : Int32) w9) fun r13 w12 =>
      if r13 = 0 then
        if x2 = 0 then
          M_takePart_b_p169 tp x2 x3 (2 : Int32) w12
        else
          M_takePart_b_p169 tp x2 x3 (1 : Int32) w12
      else
        bd1 (M_all tp (x1 + (1 : Int32)) w12) fun w20 =>
        bd1 (M_takeSign (41 : Int32) w20) fun w21 =>
        some w21
    else
      bd1 (tp (x1 + (1 : Int32)) w9) fun w22 =>
      bd1 (M_emit (3 : Int32) (0 : Int32) w22) fun w23 =>
      some w23
  else
    some w
def M_takePart_b_p91 (tp : Int32 → MS → Option MS) (x1 : Int32) (x2 : Int32) (x3 : Int32) (w : MS) : Option MS :=
  if x1 = (5 : Int32) then
    bd1 (M_wrong (5 : Int32) w) fun w24 =>
    M_takePart_b_p101 tp x1 x2 x3 w24
  else
    M_takePart_b_p101 tp x1 x2 x3 w
def M_takePart_b_p56 (tp : Int32 → MS → Option MS) (x1 : Int32) (x2 : Int32) (t0 : Int32) (w : MS) : Option MS :=
  if 0 ≤ t0 then
    M_takePart_b_p91 tp x1 x2 t0 w
  else
    if x2 = 0 then
      bd1 (M_isSign (40 : Int32) w) fun r26 =>
      if r26 = 0 then
        bd1 (M_isWord (29 : Int32) w) fun r28 =>
        if r28 = 0 then
          bd1 (M_wrong (1 : Int32) w) fun w30 =>
          M_takePart_b_p101 tp x1 x2 t0 w30
        else
          M_takePart_b_p91 tp x1 x2 t0 w
      else
        M_takePart_b_p91 tp x1 x2 t0 w
    else
      M_takePart_b_p91 tp x1 x2 t0 w
def M_takePart_b_p26 (tp : Int32 → MS → Option MS) (x1 : Int32) (t0 : Int32) (w : MS) : Option MS :=
  bd1 (M_wordHere (32 : Int32) (5 : Int32) w) fun r4 =>
  if r4 < 0 then
    M_takePart_b_p56 tp x1 t0 (-1 : Int32) w
  else
    if (((rI w 21 0) >>> (r4 &&& 31)) &&& (1 : Int32)) = (1 : Int32) then
      M_takePart_b_p56 tp x1 t0 r4 w
    else
      M_takePart_b_p56 tp x1 t0 (-1 : Int32) w
def M_takePart_b (tp : Int32 → MS → Option MS) (x1 : Int32) (w : MS) : Option MS :=
  if (rI w 8 0) ≤ 0 then
    bd1 (rA w 4 1002 (rI w 7 0)) fun v2 =>
    if v2 = (2 : Int32) then
      M_takePart_b_p26 tp x1 (1 : Int32) w
    else
      M_takePart_b_p26 tp x1 (0 : Int32) w
  else
    some w
def M_takePart : Nat → Int32 → MS → Option MS
  | 0 => fun _ _ => none
  | d + 1 => M_takePart_b (M_takePart d)
set_option maxRecDepth 100000 in
set_option maxHeartbeats 4000000 in
theorem wk_M_takePart_b_p187 {p : Program} {l : Launch} {e : Env} {s : State} {m : MethodId} {args : Array Value} {below : List Frame} {meth : Method} {c : Code} {E : mE} {A : Nat → Prop} (S : CallFix p m c cX5_takePart 4 s args lw_all RX5) (hr : meth.sig.returnType = none) (hlocks : meth.locks = false) {res : MS} {d : Nat} {tp : Int32 → MS → Option MS} (htp : ∀ (x1 : Int32) (w res : MS), tp x1 w = some res → Met l yX5_takePart (ws_ yX5_takePart cX5_takePart 4 none) (rm_takePart d) (mPc E A [.ref (mM E), .int x1] w) (mQv E A res) 0 0 A) : ∀ (t0 : Int32) (t1 : Int32) (w : MS) (H : Heap) (locs : List Loc) (ls : Array Slot), M_takePart_b_p187 tp t0 t1 w = some res → mH E A s w H locs → lv_has ls 4 [(0, .ref (mM E))] → W p l e (rm_takePart (d + 1)) s m args below meth c H locs 0 0 (MQ below (mQv E A res) args s 0 0 A) (F0 m 187 ls [.int t0, .int t1, .ref (mM E)]) := by
  intro t0 t1 w H locs ls h hw hl
  unfold M_takePart_b_p187 at h
  refine mcVv (As := [.int t1, .int t0]) (rest := []) S hw h (fun u h1 => met_emit l E A t1 t0 w u h1) (cw_emit S.2.2.2.2 rfl rfl ⟨(show 0 + 1 ≤ 5 * (d + 1) + 3 by omega), (show 8 + (3 + 11) + (0) ≤ 200 * (d + 1) + 200 by omega)⟩) rfl hl.1 rfl (lv_room (Nat.le_of_ble_eq_true rfl)) dX5_takePart_187 (fun w17 H locs h hw => ?_)
  refine lv_aload_n S.1 S.2.1 dX5_takePart_190 rfl (lv_at hl 0 rfl) ?_
  refine lv_dup S.1 S.2.1 dX5_takePart_191 rfl ?_
  refine mg7 S hw dX5_takePart_192 ?_
  refine lv_iconst (v := 1) S.1 S.2.1 dX5_takePart_195 rfl ?_
  refine lv_iadd S.1 S.2.1 dX5_takePart_196 ?_
  refine mp7 S hw dX5_takePart_197 h (fun w18 H locs h hw => ?_)
  exact m_vret S hr hlocks hw (so1 h) dX5_takePart_200
set_option maxRecDepth 100000 in
set_option maxHeartbeats 4000000 in
theorem wk_M_takePart_b_p169 {p : Program} {l : Launch} {e : Env} {s : State} {m : MethodId} {args : Array Value} {below : List Frame} {meth : Method} {c : Code} {E : mE} {A : Nat → Prop} (S : CallFix p m c cX5_takePart 4 s args lw_all RX5) (hr : meth.sig.returnType = none) (hlocks : meth.locks = false) {res : MS} {d : Nat} {tp : Int32 → MS → Option MS} (htp : ∀ (x1 : Int32) (w res : MS), tp x1 w = some res → Met l yX5_takePart (ws_ yX5_takePart cX5_takePart 4 none) (rm_takePart d) (mPc E A [.ref (mM E), .int x1] w) (mQv E A res) 0 0 A) : ∀ (x2 : Int32) (x3 : Int32) (t0 : Int32) (w : MS) (H : Heap) (locs : List Loc) (ls : Array Slot), M_takePart_b_p169 tp x2 x3 t0 w = some res → mH E A s w H locs → lv_has ls 4 [(0, .ref (mM E)), (2, .int x2), (3, .int x3)] → W p l e (rm_takePart (d + 1)) s m args below meth c H locs 0 0 (MQ below (mQv E A res) args s 0 0 A) (F0 m 169 ls [.int t0, .ref (mM E)]) := by
  intro x2 x3 t0 w H locs ls h hw hl
  unfold M_takePart_b_p169 at h
  refine lv_iload_n S.1 S.2.1 dX5_takePart_169 rfl (lv_at hl 1 rfl) ?_
  refine lv_if_eq (tgt := 186) S.1 S.2.1 dX5_takePart_170 rfl (fun c16 => ?_) (fun c16 => ?_)
  · replace h := if_t c16 h
    refine lv_iload_n S.1 S.2.1 dX5_takePart_186 rfl (lv_at hl 2 rfl) ?_
    exact wk_M_takePart_b_p187 S hr hlocks htp _ _ _ _ _ _ h hw (lv_sub hl [0] rfl)
  · replace h := if_f c16 h
    refine lv_aload_n S.1 S.2.1 dX5_takePart_173 rfl (lv_at hl 0 rfl) ?_
    refine mg6 S hw dX5_takePart_174 ?_
    refine lv_aload_n S.1 S.2.1 dX5_takePart_177 rfl (lv_at hl 0 rfl) ?_
    refine mg7 S hw dX5_takePart_178 ?_
    refine ml6 S hw dX5_takePart_181 h (fun v19 h => ?_)
    refine lv_l2i S.1 S.2.1 dX5_takePart_182 rfl ?_
    refine lv_goto (tgt := 187) S.1 S.2.1 dX5_takePart_183 rfl ?_
    exact wk_M_takePart_b_p187 S hr hlocks htp _ _ _ _ _ _ h hw (lv_sub hl [0] rfl)
set_option maxRecDepth 100000 in
set_option maxHeartbeats 4000000 in
theorem wk_M_takePart_b_p101 {p : Program} {l : Launch} {e : Env} {s : State} {m : MethodId} {args : Array Value} {below : List Frame} {meth : Method} {c : Code} {E : mE} {A : Nat → Prop} (S : CallFix p m c cX5_takePart 4 s args lw_all RX5) (hr : meth.sig.returnType = none) (hlocks : meth.locks = false) {res : MS} {d : Nat} {tp : Int32 → MS → Option MS} (htp : ∀ (x1 : Int32) (w res : MS), tp x1 w = some res → Met l yX5_takePart (ws_ yX5_takePart cX5_takePart 4 none) (rm_takePart d) (mPc E A [.ref (mM E), .int x1] w) (mQv E A res) 0 0 A) : ∀ (x1 : Int32) (x2 : Int32) (x3 : Int32) (w : MS) (H : Heap) (locs : List Loc) (ls : Array Slot), M_takePart_b_p101 tp x1 x2 x3 w = some res → mH E A s w H locs → lv_has ls 4 [(0, .ref (mM E)), (1, .int x1), (2, .int x2), (3, .int x3)] → W p l e (rm_takePart (d + 1)) s m args below meth c H locs 0 0 (MQ below (mQv E A res) args s 0 0 A) (F0 m 101 ls []) := by
  intro x1 x2 x3 w H locs ls h hw hl
  unfold M_takePart_b_p101 at h
  refine lv_aload_n S.1 S.2.1 dX5_takePart_101 rfl (lv_at hl 0 rfl) ?_
  refine mg8 S hw dX5_takePart_102 ?_
  refine lv_if_le (tgt := 109) S.1 S.2.1 dX5_takePart_105 rfl (fun c8 => ?_) (fun c8 => ?_)
  · replace h := if_t c8 h
    refine lv_aload_n S.1 S.2.1 dX5_takePart_109 rfl (lv_at hl 0 rfl) ?_
    refine lv_bipush (v := 29) S.1 S.2.1 dX5_takePart_110 rfl ?_
    refine mcVwi (As := [.int (29 : Int32)]) (rest := []) S hw h (fun u h1 => met_hasWord l E A (29 : Int32) w u h1) (cw_hasWord S.2.2.2.2 rfl rfl ⟨(show 1 + 1 ≤ 5 * (d + 1) + 3 by omega), (show 8 + (3 + 11) + (21) ≤ 200 * (d + 1) + 200 by omega)⟩) rfl hl.1 rfl (lv_room (Nat.le_of_ble_eq_true rfl)) dX5_takePart_112 (fun r10 w9 H locs h hw => ?_)
    refine lv_if_eq (tgt := 134) S.1 S.2.1 dX5_takePart_115 rfl (fun c11 => ?_) (fun c11 => ?_)
    · replace h := if_t c11 h
      refine lv_aload_n S.1 S.2.1 dX5_takePart_134 rfl (lv_at hl 0 rfl) ?_
      refine lv_bipush (v := 40) S.1 S.2.1 dX5_takePart_135 rfl ?_
      refine mcVwi (As := [.int (40 : Int32)]) (rest := []) S hw h (fun u h1 => met_hasSign l E A (40 : Int32) w9 u h1) (cw_hasSign S.2.2.2.2 rfl rfl ⟨(show 1 + 1 ≤ 5 * (d + 1) + 3 by omega), (show 8 + (3 + 11) + (21) ≤ 200 * (d + 1) + 200 by omega)⟩) rfl hl.1 rfl (lv_room (Nat.le_of_ble_eq_true rfl)) dX5_takePart_137 (fun r13 w12 H locs h hw => ?_)
      refine lv_if_eq (tgt := 159) S.1 S.2.1 dX5_takePart_140 rfl (fun c14 => ?_) (fun c14 => ?_)
      · replace h := if_t c14 h
        refine lv_aload_n S.1 S.2.1 dX5_takePart_159 rfl (lv_at hl 0 rfl) ?_
        refine lv_iload_n S.1 S.2.1 dX5_takePart_160 rfl (lv_at hl 2 rfl) ?_
        refine lv_if_eq (tgt := 168) S.1 S.2.1 dX5_takePart_161 rfl (fun c15 => ?_) (fun c15 => ?_)
        · replace h := if_t c15 h
          refine lv_iconst (v := 2) S.1 S.2.1 dX5_takePart_168 rfl ?_
          exact wk_M_takePart_b_p169 S hr hlocks htp _ _ _ _ _ _ _ h hw (lv_sub hl [0, 2, 3] rfl)
        · replace h := if_f c15 h
          refine lv_iconst (v := 1) S.1 S.2.1 dX5_takePart_164 rfl ?_
          refine lv_goto (tgt := 169) S.1 S.2.1 dX5_takePart_165 rfl ?_
          exact wk_M_takePart_b_p169 S hr hlocks htp _ _ _ _ _ _ _ h hw (lv_sub hl [0, 2, 3] rfl)
      · replace h := if_f c14 h
        refine lv_aload_n S.1 S.2.1 dX5_takePart_143 rfl (lv_at hl 0 rfl) ?_
        refine lv_iload_n S.1 S.2.1 dX5_takePart_144 rfl (lv_at hl 1 rfl) ?_
        refine lv_iconst (v := 1) S.1 S.2.1 dX5_takePart_145 rfl ?_
        refine lv_iadd S.1 S.2.1 dX5_takePart_146 ?_
        refine mcVv (As := [.int (x1 + (1 : Int32))]) (rest := []) S hw h (fun u h1 => met_all l E A htp (x1 + (1 : Int32)) w12 u h1) (cw_all S.2.2.2.2 rfl rfl ⟨(show 5 * d + 7 + 1 ≤ 5 * (d + 1) + 3 by omega), (show 8 + (3 + 11) + (200 * d + 360) ≤ 200 * (d + 1) + 200 by omega)⟩) rfl hl.1 rfl (lv_room (Nat.le_of_ble_eq_true rfl)) dX5_takePart_147 (fun w20 H locs h hw => ?_)
        refine lv_aload_n S.1 S.2.1 dX5_takePart_150 rfl (lv_at hl 0 rfl) ?_
        refine lv_bipush (v := 41) S.1 S.2.1 dX5_takePart_151 rfl ?_
        refine mcVv (As := [.int (41 : Int32)]) (rest := []) S hw h (fun u h1 => met_takeSign l E A (41 : Int32) w20 u h1) (cw_takeSign S.2.2.2.2 rfl rfl ⟨(show 1 + 1 ≤ 5 * (d + 1) + 3 by omega), (show 8 + (2 + 11) + (21) ≤ 200 * (d + 1) + 200 by omega)⟩) rfl hl.1 rfl (lv_room (Nat.le_of_ble_eq_true rfl)) dX5_takePart_153 (fun w21 H locs h hw => ?_)
        refine lv_goto (tgt := 200) S.1 S.2.1 dX5_takePart_156 rfl ?_
        exact m_vret S hr hlocks hw (so1 h) dX5_takePart_200
    · replace h := if_f c11 h
      refine lv_aload_n S.1 S.2.1 dX5_takePart_118 rfl (lv_at hl 0 rfl) ?_
      refine lv_iload_n S.1 S.2.1 dX5_takePart_119 rfl (lv_at hl 1 rfl) ?_
      refine lv_iconst (v := 1) S.1 S.2.1 dX5_takePart_120 rfl ?_
      refine lv_iadd S.1 S.2.1 dX5_takePart_121 ?_
      refine mcVv (As := [.int (x1 + (1 : Int32))]) (rest := []) S hw h (fun u h1 => htp (x1 + (1 : Int32)) w9 u h1) (cw_takePart S.2.2.2.2 rfl rfl ⟨(show 5 * d + 3 + 1 ≤ 5 * (d + 1) + 3 by omega), (show 8 + (4 + 11) + (200 * d + 200) ≤ 200 * (d + 1) + 200 by omega)⟩) rfl hl.1 rfl (lv_room (Nat.le_of_ble_eq_true rfl)) dX5_takePart_122 (fun w22 H locs h hw => ?_)
      refine lv_aload_n S.1 S.2.1 dX5_takePart_125 rfl (lv_at hl 0 rfl) ?_
      refine lv_iconst (v := 3) S.1 S.2.1 dX5_takePart_126 rfl ?_
      refine lv_iconst (v := 0) S.1 S.2.1 dX5_takePart_127 rfl ?_
      refine mcVv (As := [.int (3 : Int32), .int (0 : Int32)]) (rest := []) S hw h (fun u h1 => met_emit l E A (3 : Int32) (0 : Int32) w22 u h1) (cw_emit S.2.2.2.2 rfl rfl ⟨(show 0 + 1 ≤ 5 * (d + 1) + 3 by omega), (show 8 + (3 + 11) + (0) ≤ 200 * (d + 1) + 200 by omega)⟩) rfl hl.1 rfl (lv_room (Nat.le_of_ble_eq_true rfl)) dX5_takePart_128 (fun w23 H locs h hw => ?_)
      refine lv_goto (tgt := 200) S.1 S.2.1 dX5_takePart_131 rfl ?_
      exact m_vret S hr hlocks hw (so1 h) dX5_takePart_200
  · replace h := if_f c8 h
    exact m_vret S hr hlocks hw (so1 h) dX5_takePart_108
set_option maxRecDepth 100000 in
set_option maxHeartbeats 4000000 in
theorem wk_M_takePart_b_p91 {p : Program} {l : Launch} {e : Env} {s : State} {m : MethodId} {args : Array Value} {below : List Frame} {meth : Method} {c : Code} {E : mE} {A : Nat → Prop} (S : CallFix p m c cX5_takePart 4 s args lw_all RX5) (hr : meth.sig.returnType = none) (hlocks : meth.locks = false) {res : MS} {d : Nat} {tp : Int32 → MS → Option MS} (htp : ∀ (x1 : Int32) (w res : MS), tp x1 w = some res → Met l yX5_takePart (ws_ yX5_takePart cX5_takePart 4 none) (rm_takePart d) (mPc E A [.ref (mM E), .int x1] w) (mQv E A res) 0 0 A) : ∀ (x1 : Int32) (x2 : Int32) (x3 : Int32) (w : MS) (H : Heap) (locs : List Loc) (ls : Array Slot), M_takePart_b_p91 tp x1 x2 x3 w = some res → mH E A s w H locs → lv_has ls 4 [(0, .ref (mM E)), (1, .int x1), (2, .int x2), (3, .int x3)] → W p l e (rm_takePart (d + 1)) s m args below meth c H locs 0 0 (MQ below (mQv E A res) args s 0 0 A) (F0 m 91 ls []) := by
  intro x1 x2 x3 w H locs ls h hw hl
  unfold M_takePart_b_p91 at h
  refine lv_iload_n S.1 S.2.1 dX5_takePart_91 rfl (lv_at hl 1 rfl) ?_
  refine lv_iconst (v := 5) S.1 S.2.1 dX5_takePart_92 rfl ?_
  refine lv_icmp_ne (tgt := 101) S.1 S.2.1 dX5_takePart_93 rfl (fun c7 => ?_) (fun c7 => ?_)
  · replace h := if_f c7 h
    exact wk_M_takePart_b_p101 S hr hlocks htp _ _ _ _ _ _ _ h hw (lv_sub hl [0, 1, 2, 3] rfl)
  · replace h := if_t c7 h
    refine lv_aload_n S.1 S.2.1 dX5_takePart_96 rfl (lv_at hl 0 rfl) ?_
    refine lv_iconst (v := 5) S.1 S.2.1 dX5_takePart_97 rfl ?_
    refine mcVv (As := [.int (5 : Int32)]) (rest := []) S hw h (fun u h1 => met_wrong l E A (5 : Int32) w u h1) (cw_wrong S.2.2.2.2 rfl rfl ⟨(show 0 + 1 ≤ 5 * (d + 1) + 3 by omega), (show 8 + (2 + 11) + (0) ≤ 200 * (d + 1) + 200 by omega)⟩) rfl hl.1 rfl (lv_room (Nat.le_of_ble_eq_true rfl)) dX5_takePart_98 (fun w24 H locs h hw => ?_)
    exact wk_M_takePart_b_p101 S hr hlocks htp _ _ _ _ _ _ _ h hw (lv_sub hl [0, 1, 2, 3] rfl)
set_option maxRecDepth 100000 in
set_option maxHeartbeats 4000000 in
theorem wk_M_takePart_b_p56 {p : Program} {l : Launch} {e : Env} {s : State} {m : MethodId} {args : Array Value} {below : List Frame} {meth : Method} {c : Code} {E : mE} {A : Nat → Prop} (S : CallFix p m c cX5_takePart 4 s args lw_all RX5) (hr : meth.sig.returnType = none) (hlocks : meth.locks = false) {res : MS} {d : Nat} {tp : Int32 → MS → Option MS} (htp : ∀ (x1 : Int32) (w res : MS), tp x1 w = some res → Met l yX5_takePart (ws_ yX5_takePart cX5_takePart 4 none) (rm_takePart d) (mPc E A [.ref (mM E), .int x1] w) (mQv E A res) 0 0 A) : ∀ (x1 : Int32) (x2 : Int32) (t0 : Int32) (w : MS) (H : Heap) (locs : List Loc) (ls : Array Slot), M_takePart_b_p56 tp x1 x2 t0 w = some res → mH E A s w H locs → lv_has ls 4 [(0, .ref (mM E)), (1, .int x1), (2, .int x2)] → W p l e (rm_takePart (d + 1)) s m args below meth c H locs 0 0 (MQ below (mQv E A res) args s 0 0 A) (F0 m 56 ls [.int t0]) := by
  intro x1 x2 t0 w H locs ls h hw hl
  unfold M_takePart_b_p56 at h
  refine lv_istore_n (lv' := [(3, .int t0), (0, .ref (mM E)), (1, .int x1), (2, .int x2)]) S.1 S.2.1 dX5_takePart_56 rfl hl (by decide) rfl (fun ls hl => ?_)
  refine lv_iload_n S.1 S.2.1 dX5_takePart_57 rfl (lv_at hl 0 rfl) ?_
  refine lv_if_ge (tgt := 91) S.1 S.2.1 dX5_takePart_58 rfl (fun c6 => ?_) (fun c6 => ?_)
  · replace h := if_t c6 h
    exact wk_M_takePart_b_p91 S hr hlocks htp _ _ _ _ _ _ _ h hw (lv_sub hl [1, 2, 3, 0] rfl)
  · replace h := if_f c6 h
    refine lv_iload_n S.1 S.2.1 dX5_takePart_61 rfl (lv_at hl 3 rfl) ?_
    refine lv_if_ne (tgt := 91) S.1 S.2.1 dX5_takePart_62 rfl (fun c25 => ?_) (fun c25 => ?_)
    · replace h := if_f c25 h
      exact wk_M_takePart_b_p91 S hr hlocks htp _ _ _ _ _ _ _ h hw (lv_sub hl [1, 2, 3, 0] rfl)
    · replace h := if_t c25 h
      refine lv_aload_n S.1 S.2.1 dX5_takePart_65 rfl (lv_at hl 1 rfl) ?_
      refine lv_bipush (v := 40) S.1 S.2.1 dX5_takePart_66 rfl ?_
      refine mcVri (As := [.int (40 : Int32)]) (rest := []) S hw h (fun u h1 => met_isSign l E A (40 : Int32) w u h1) (cw_isSign S.2.2.2.2 rfl rfl ⟨(show 0 + 1 ≤ 5 * (d + 1) + 3 by omega), (show 8 + (2 + 11) + (0) ≤ 200 * (d + 1) + 200 by omega)⟩) rfl hl.1 rfl (lv_room (Nat.le_of_ble_eq_true rfl)) dX5_takePart_68 (fun r26 H locs h hw => ?_)
      refine lv_if_ne (tgt := 91) S.1 S.2.1 dX5_takePart_71 rfl (fun c27 => ?_) (fun c27 => ?_)
      · replace h := if_f c27 h
        exact wk_M_takePart_b_p91 S hr hlocks htp _ _ _ _ _ _ _ h hw (lv_sub hl [1, 2, 3, 0] rfl)
      · replace h := if_t c27 h
        refine lv_aload_n S.1 S.2.1 dX5_takePart_74 rfl (lv_at hl 1 rfl) ?_
        refine lv_bipush (v := 29) S.1 S.2.1 dX5_takePart_75 rfl ?_
        refine mcVri (As := [.int (29 : Int32)]) (rest := []) S hw h (fun u h1 => met_isWord l E A (29 : Int32) w u h1) (cw_isWord S.2.2.2.2 rfl rfl ⟨(show 0 + 1 ≤ 5 * (d + 1) + 3 by omega), (show 8 + (2 + 11) + (0) ≤ 200 * (d + 1) + 200 by omega)⟩) rfl hl.1 rfl (lv_room (Nat.le_of_ble_eq_true rfl)) dX5_takePart_77 (fun r28 H locs h hw => ?_)
        refine lv_if_ne (tgt := 91) S.1 S.2.1 dX5_takePart_80 rfl (fun c29 => ?_) (fun c29 => ?_)
        · replace h := if_f c29 h
          exact wk_M_takePart_b_p91 S hr hlocks htp _ _ _ _ _ _ _ h hw (lv_sub hl [1, 2, 3, 0] rfl)
        · replace h := if_t c29 h
          refine lv_aload_n S.1 S.2.1 dX5_takePart_83 rfl (lv_at hl 1 rfl) ?_
          refine lv_iconst (v := 1) S.1 S.2.1 dX5_takePart_84 rfl ?_
          refine mcVv (As := [.int (1 : Int32)]) (rest := []) S hw h (fun u h1 => met_wrong l E A (1 : Int32) w u h1) (cw_wrong S.2.2.2.2 rfl rfl ⟨(show 0 + 1 ≤ 5 * (d + 1) + 3 by omega), (show 8 + (2 + 11) + (0) ≤ 200 * (d + 1) + 200 by omega)⟩) rfl hl.1 rfl (lv_room (Nat.le_of_ble_eq_true rfl)) dX5_takePart_85 (fun w30 H locs h hw => ?_)
          refine lv_goto (tgt := 101) S.1 S.2.1 dX5_takePart_88 rfl ?_
          exact wk_M_takePart_b_p101 S hr hlocks htp _ _ _ _ _ _ _ h hw (lv_sub hl [1, 2, 3, 0] rfl)
set_option maxRecDepth 100000 in
set_option maxHeartbeats 4000000 in
theorem wk_M_takePart_b_p26 {p : Program} {l : Launch} {e : Env} {s : State} {m : MethodId} {args : Array Value} {below : List Frame} {meth : Method} {c : Code} {E : mE} {A : Nat → Prop} (S : CallFix p m c cX5_takePart 4 s args lw_all RX5) (hr : meth.sig.returnType = none) (hlocks : meth.locks = false) {res : MS} {d : Nat} {tp : Int32 → MS → Option MS} (htp : ∀ (x1 : Int32) (w res : MS), tp x1 w = some res → Met l yX5_takePart (ws_ yX5_takePart cX5_takePart 4 none) (rm_takePart d) (mPc E A [.ref (mM E), .int x1] w) (mQv E A res) 0 0 A) : ∀ (x1 : Int32) (t0 : Int32) (w : MS) (H : Heap) (locs : List Loc) (ls : Array Slot), M_takePart_b_p26 tp x1 t0 w = some res → mH E A s w H locs → lv_has ls 4 [(0, .ref (mM E)), (1, .int x1)] → W p l e (rm_takePart (d + 1)) s m args below meth c H locs 0 0 (MQ below (mQv E A res) args s 0 0 A) (F0 m 26 ls [.int t0]) := by
  intro x1 t0 w H locs ls h hw hl
  unfold M_takePart_b_p26 at h
  refine lv_istore_n (lv' := [(2, .int t0), (0, .ref (mM E)), (1, .int x1)]) S.1 S.2.1 dX5_takePart_26 rfl hl (by decide) rfl (fun ls hl => ?_)
  refine lv_aload_n S.1 S.2.1 dX5_takePart_27 rfl (lv_at hl 1 rfl) ?_
  refine lv_bipush (v := 32) S.1 S.2.1 dX5_takePart_28 rfl ?_
  refine lv_iconst (v := 5) S.1 S.2.1 dX5_takePart_30 rfl ?_
  refine mcVri (As := [.int (32 : Int32), .int (5 : Int32)]) (rest := []) S hw h (fun u h1 => met_wordHere l E A (32 : Int32) (5 : Int32) w u h1) (cw_wordHere S.2.2.2.2 rfl rfl ⟨(show 1 + 1 ≤ 5 * (d + 1) + 3 by omega), (show 8 + (5 + 11) + (21) ≤ 200 * (d + 1) + 200 by omega)⟩) rfl hl.1 rfl (lv_room (Nat.le_of_ble_eq_true rfl)) dX5_takePart_31 (fun r4 H locs h hw => ?_)
  refine lv_istore_n (lv' := [(3, .int r4), (2, .int t0), (0, .ref (mM E)), (1, .int x1)]) S.1 S.2.1 dX5_takePart_34 rfl hl (by decide) rfl (fun ls hl => ?_)
  refine lv_iload_n S.1 S.2.1 dX5_takePart_35 rfl (lv_at hl 0 rfl) ?_
  refine lv_if_lt (tgt := 55) S.1 S.2.1 dX5_takePart_36 rfl (fun c5 => ?_) (fun c5 => ?_)
  · replace h := if_t c5 h
    refine lv_iconst (v := -1) S.1 S.2.1 dX5_takePart_55 rfl ?_
    exact wk_M_takePart_b_p56 S hr hlocks htp _ _ _ _ _ _ _ h hw (lv_sub hl [2, 3, 1] rfl)
  · replace h := if_f c5 h
    refine lv_aload_n S.1 S.2.1 dX5_takePart_39 rfl (lv_at hl 2 rfl) ?_
    refine mg21 S hw dX5_takePart_40 ?_
    refine lv_iload_n S.1 S.2.1 dX5_takePart_43 rfl (lv_at hl 0 rfl) ?_
    refine lv_ishr S.1 S.2.1 dX5_takePart_44 ?_
    refine lv_iconst (v := 1) S.1 S.2.1 dX5_takePart_45 rfl ?_
    refine lv_iand S.1 S.2.1 dX5_takePart_46 ?_
    refine lv_iconst (v := 1) S.1 S.2.1 dX5_takePart_47 rfl ?_
    refine lv_icmp_ne (tgt := 55) S.1 S.2.1 dX5_takePart_48 rfl (fun c31 => ?_) (fun c31 => ?_)
    · replace h := if_f c31 h
      refine lv_iconst (v := -1) S.1 S.2.1 dX5_takePart_55 rfl ?_
      exact wk_M_takePart_b_p56 S hr hlocks htp _ _ _ _ _ _ _ h hw (lv_sub hl [2, 3, 1] rfl)
    · replace h := if_t c31 h
      refine lv_iload_n S.1 S.2.1 dX5_takePart_51 rfl (lv_at hl 0 rfl) ?_
      refine lv_goto (tgt := 56) S.1 S.2.1 dX5_takePart_52 rfl ?_
      exact wk_M_takePart_b_p56 S hr hlocks htp _ _ _ _ _ _ _ h hw (lv_sub hl [2, 3, 1] rfl)
set_option maxRecDepth 100000 in
set_option maxHeartbeats 4000000 in
theorem met_takePart_b (l : Launch) (E : mE) (A : Nat → Prop) {d : Nat} {tp : Int32 → MS → Option MS} (htp : ∀ (x1 : Int32) (w res : MS), tp x1 w = some res → Met l yX5_takePart (ws_ yX5_takePart cX5_takePart 4 none) (rm_takePart d) (mPc E A [.ref (mM E), .int x1] w) (mQv E A res) 0 0 A)  (x1 : Int32) (w : MS) (res : MS) (h : M_takePart_b tp x1 w = some res) : Met l yX5_takePart (ws_ yX5_takePart cX5_takePart 4 none) (rm_takePart (d + 1)) (mPc E A [.ref (mM E), .int x1] w) (mQv E A res) 0 0 A := by
  refine mMet (by decide) rfl (Nat.le_of_ble_eq_true rfl) ?_
  intro p e s m below meth c S hr hlocks H ls hw hl
  replace hl : lv_has ls 4 [(0, .ref (mM E)), (1, .int x1)] := hl
  unfold M_takePart_b at h
  refine lv_aload_n S.1 S.2.1 dX5_takePart_0 rfl (lv_at hl 0 rfl) ?_
  refine mg8 S hw dX5_takePart_1 ?_
  refine lv_if_le (tgt := 8) S.1 S.2.1 dX5_takePart_4 rfl (fun c1 => ?_) (fun c1 => ?_)
  · replace h := if_t c1 h
    refine lv_aload_n S.1 S.2.1 dX5_takePart_8 rfl (lv_at hl 0 rfl) ?_
    refine mg4 S hw dX5_takePart_9 ?_
    refine lv_aload_n S.1 S.2.1 dX5_takePart_12 rfl (lv_at hl 0 rfl) ?_
    refine mg7 S hw dX5_takePart_13 ?_
    refine ml4 S hw dX5_takePart_16 h (fun v2 h => ?_)
    refine lv_iconst (v := 2) S.1 S.2.1 dX5_takePart_17 rfl ?_
    refine lv_icmp_ne (tgt := 25) S.1 S.2.1 dX5_takePart_18 rfl (fun c3 => ?_) (fun c3 => ?_)
    · replace h := if_f c3 h
      refine lv_iconst (v := 0) S.1 S.2.1 dX5_takePart_25 rfl ?_
      exact wk_M_takePart_b_p26 S hr hlocks htp _ _ _ _ _ _ h hw (lv_sub hl [0, 1] rfl)
    · replace h := if_t c3 h
      refine lv_iconst (v := 1) S.1 S.2.1 dX5_takePart_21 rfl ?_
      refine lv_goto (tgt := 26) S.1 S.2.1 dX5_takePart_22 rfl ?_
      exact wk_M_takePart_b_p26 S hr hlocks htp _ _ _ _ _ _ h hw (lv_sub hl [0, 1] rfl)
  · replace h := if_f c1 h
    exact m_vret S hr hlocks hw (so1 h) dX5_takePart_7
theorem met_takePart (l : Launch) (E : mE) (A : Nat → Prop) : ∀ (d : Nat) (x1 : Int32) (w res : MS), M_takePart d x1 w = some res → Met l yX5_takePart (ws_ yX5_takePart cX5_takePart 4 none) (rm_takePart d) (mPc E A [.ref (mM E), .int x1] w) (mQv E A res) 0 0 A := by
  intro d
  induction d with
  | zero => intro x1 w res h; cases (show (none : Option MS) = some res from h)
  | succ d ih => intro x1 w res h; exact met_takePart_b l E A ih x1 w res h
def M_readOnce_p192 (t0 : Int32) (w : MS) : Option MS :=
  bdp (wI w 21 0 t0) fun w15 =>
  bd1 (M_all (M_takePart 7) (0 : Int32) w15) fun w16 =>
  bd1 (M_emit (0 : Int32) (0 : Int32) w16) fun w17 =>
  some w17
def M_readOnce_p75 (x1 : Int32) (w : MS) : Option MS :=
  if (rI w 8 0) ≤ 0 then
    bdp (wI w 20 0 ((rI w 20 0) ||| ((1 : Int32) <<< (x1 &&& 31)))) fun w9 =>
    bdp (wI w9 7 0 ((rI w9 7 0) + (1 : Int32))) fun w10 =>
    if x1 = 0 then
      bd2 (M_takeNumber (0 : Int32) (60 : Int32) w10) fun r22 w21 =>
      bdp (wI w21 10 123 r22) fun w23 =>
      bd2 (M_takeAfter (15 : Int32) (1 : Int32) (120 : Int32) w23) fun r25 w24 =>
      bdp (wI w24 10 124 r25) fun w26 =>
      some w26
    else
      if x1 = (1 : Int32) then
        bd2 (M_takeNumber (1 : Int32) (30 : Int32) w10) fun r19 w18 =>
        bdp (wI w18 10 125 r19) fun w20 =>
        some w20
      else
        bd1 (wA w10 10 240 (((126 : Int32) + x1) - (2 : Int32)) (rI w10 13 0)) fun w13 =>
        if x1 = (2 : Int32) then
          M_readOnce_p192 (7 : Int32) w13
        else
          M_readOnce_p192 (30 : Int32) w13
  else
    some w
def M_readOnce_p58 (x1 : Int32) (w : MS) : Option MS :=
  if (((rI w 20 0) >>> (x1 &&& 31)) &&& (1 : Int32)) = (1 : Int32) then
    bd1 (M_wrong (3 : Int32) w) fun w27 =>
    M_readOnce_p75 x1 w27
  else
    M_readOnce_p75 x1 w
def M_readOnce_p35 (t0 : Int32) (w : MS) : Option MS :=
  if t0 = (1 : Int32) then
    bd1 (M_isWord (16 : Int32) w) fun r28 =>
    if r28 = 0 then
      bd1 (M_wrong (1 : Int32) w) fun w30 =>
      M_readOnce_p75 t0 w30
    else
      M_readOnce_p58 t0 w
  else
    M_readOnce_p58 t0 w
def M_readOnce (w : MS) : Option MS :=
  bd1 (M_isWord (14 : Int32) w) fun r1 =>
  if r1 = 0 then
    bd1 (M_isWord (16 : Int32) w) fun r3 =>
    if r3 = 0 then
      bd1 (M_wordHere (17 : Int32) (2 : Int32) w) fun r5 =>
      M_readOnce_p35 (r5 + (2 : Int32)) w
    else
      M_readOnce_p35 (1 : Int32) w
  else
    M_readOnce_p35 (0 : Int32) w
set_option maxRecDepth 100000 in
set_option maxHeartbeats 4000000 in
theorem wk_M_readOnce_p192 {p : Program} {l : Launch} {e : Env} {s : State} {m : MethodId} {args : Array Value} {below : List Frame} {meth : Method} {c : Code} {E : mE} {A : Nat → Prop} (S : CallFix p m c cX5_readOnce 2 s args lw_all RX5) (hr : meth.sig.returnType = none) (hlocks : meth.locks = false) {res : MS}  : ∀ (t0 : Int32) (w : MS) (H : Heap) (locs : List Loc) (ls : Array Slot), M_readOnce_p192 t0 w = some res → mH E A s w H locs → lv_has ls 2 [(0, .ref (mM E))] → W p l e rm_readOnce s m args below meth c H locs 0 0 (MQ below (mQv E A res) args s 0 0 A) (F0 m 192 ls [.int t0, .ref (mM E)]) := by
  intro t0 w H locs ls h hw hl
  unfold M_readOnce_p192 at h
  refine mp21 S hw dX5_readOnce_192 h (fun w15 H locs h hw => ?_)
  refine lv_aload_n S.1 S.2.1 dX5_readOnce_195 rfl (lv_at hl 0 rfl) ?_
  refine lv_iconst (v := 0) S.1 S.2.1 dX5_readOnce_196 rfl ?_
  refine mcVv (As := [.int (0 : Int32)]) (rest := []) S hw h (fun u h1 => met_all l E A (met_takePart l E A 7) (0 : Int32) w15 u h1) (cw_all S.2.2.2.2 rfl rfl ⟨Nat.le_of_ble_eq_true rfl, Nat.le_of_ble_eq_true rfl⟩) rfl hl.1 rfl (lv_room (Nat.le_of_ble_eq_true rfl)) dX5_readOnce_197 (fun w16 H locs h hw => ?_)
  refine lv_aload_n S.1 S.2.1 dX5_readOnce_200 rfl (lv_at hl 0 rfl) ?_
  refine lv_iconst (v := 0) S.1 S.2.1 dX5_readOnce_201 rfl ?_
  refine lv_iconst (v := 0) S.1 S.2.1 dX5_readOnce_202 rfl ?_
  refine mcVv (As := [.int (0 : Int32), .int (0 : Int32)]) (rest := []) S hw h (fun u h1 => met_emit l E A (0 : Int32) (0 : Int32) w16 u h1) (cw_emit S.2.2.2.2 rfl rfl ⟨Nat.le_of_ble_eq_true rfl, Nat.le_of_ble_eq_true rfl⟩) rfl hl.1 rfl (lv_room (Nat.le_of_ble_eq_true rfl)) dX5_readOnce_203 (fun w17 H locs h hw => ?_)
  exact m_vret S hr hlocks hw (so1 h) dX5_readOnce_206
set_option maxRecDepth 100000 in
set_option maxHeartbeats 4000000 in
theorem wk_M_readOnce_p75 {p : Program} {l : Launch} {e : Env} {s : State} {m : MethodId} {args : Array Value} {below : List Frame} {meth : Method} {c : Code} {E : mE} {A : Nat → Prop} (S : CallFix p m c cX5_readOnce 2 s args lw_all RX5) (hr : meth.sig.returnType = none) (hlocks : meth.locks = false) {res : MS}  : ∀ (x1 : Int32) (w : MS) (H : Heap) (locs : List Loc) (ls : Array Slot), M_readOnce_p75 x1 w = some res → mH E A s w H locs → lv_has ls 2 [(0, .ref (mM E)), (1, .int x1)] → W p l e rm_readOnce s m args below meth c H locs 0 0 (MQ below (mQv E A res) args s 0 0 A) (F0 m 75 ls []) := by
  intro x1 w H locs ls h hw hl
  unfold M_readOnce_p75 at h
  refine lv_aload_n S.1 S.2.1 dX5_readOnce_75 rfl (lv_at hl 0 rfl) ?_
  refine mg8 S hw dX5_readOnce_76 ?_
  refine lv_if_le (tgt := 83) S.1 S.2.1 dX5_readOnce_79 rfl (fun c8 => ?_) (fun c8 => ?_)
  · replace h := if_t c8 h
    refine lv_aload_n S.1 S.2.1 dX5_readOnce_83 rfl (lv_at hl 0 rfl) ?_
    refine lv_dup S.1 S.2.1 dX5_readOnce_84 rfl ?_
    refine mg20 S hw dX5_readOnce_85 ?_
    refine lv_iconst (v := 1) S.1 S.2.1 dX5_readOnce_88 rfl ?_
    refine lv_iload_n S.1 S.2.1 dX5_readOnce_89 rfl (lv_at hl 1 rfl) ?_
    refine lv_ishl S.1 S.2.1 dX5_readOnce_90 ?_
    refine lv_ior S.1 S.2.1 dX5_readOnce_91 ?_
    refine mp20 S hw dX5_readOnce_92 h (fun w9 H locs h hw => ?_)
    refine lv_aload_n S.1 S.2.1 dX5_readOnce_95 rfl (lv_at hl 0 rfl) ?_
    refine lv_dup S.1 S.2.1 dX5_readOnce_96 rfl ?_
    refine mg7 S hw dX5_readOnce_97 ?_
    refine lv_iconst (v := 1) S.1 S.2.1 dX5_readOnce_100 rfl ?_
    refine lv_iadd S.1 S.2.1 dX5_readOnce_101 ?_
    refine mp7 S hw dX5_readOnce_102 h (fun w10 H locs h hw => ?_)
    refine lv_iload_n S.1 S.2.1 dX5_readOnce_105 rfl (lv_at hl 1 rfl) ?_
    refine lv_if_ne (tgt := 142) S.1 S.2.1 dX5_readOnce_106 rfl (fun c11 => ?_) (fun c11 => ?_)
    · replace h := if_f c11 h
      refine lv_iload_n S.1 S.2.1 dX5_readOnce_142 rfl (lv_at hl 1 rfl) ?_
      refine lv_iconst (v := 1) S.1 S.2.1 dX5_readOnce_143 rfl ?_
      refine lv_icmp_ne (tgt := 164) S.1 S.2.1 dX5_readOnce_144 rfl (fun c12 => ?_) (fun c12 => ?_)
      · replace h := if_f c12 h
        refine lv_aload_n S.1 S.2.1 dX5_readOnce_164 rfl (lv_at hl 0 rfl) ?_
        refine mg10 S hw dX5_readOnce_165 ?_
        refine lv_bipush (v := 126) S.1 S.2.1 dX5_readOnce_168 rfl ?_
        refine lv_iload_n S.1 S.2.1 dX5_readOnce_170 rfl (lv_at hl 1 rfl) ?_
        refine lv_iadd S.1 S.2.1 dX5_readOnce_171 ?_
        refine lv_iconst (v := 2) S.1 S.2.1 dX5_readOnce_172 rfl ?_
        refine lv_isub S.1 S.2.1 dX5_readOnce_173 ?_
        refine lv_aload_n S.1 S.2.1 dX5_readOnce_174 rfl (lv_at hl 0 rfl) ?_
        refine mg13 S hw dX5_readOnce_175 ?_
        refine ms10 S hw dX5_readOnce_178 h (fun w13 H locs h hw => ?_)
        refine lv_aload_n S.1 S.2.1 dX5_readOnce_179 rfl (lv_at hl 0 rfl) ?_
        refine lv_iload_n S.1 S.2.1 dX5_readOnce_180 rfl (lv_at hl 1 rfl) ?_
        refine lv_iconst (v := 2) S.1 S.2.1 dX5_readOnce_181 rfl ?_
        refine lv_icmp_ne (tgt := 190) S.1 S.2.1 dX5_readOnce_182 rfl (fun c14 => ?_) (fun c14 => ?_)
        · replace h := if_f c14 h
          refine lv_bipush (v := 30) S.1 S.2.1 dX5_readOnce_190 rfl ?_
          exact wk_M_readOnce_p192 S hr hlocks _ _ _ _ _ h hw (lv_sub hl [0] rfl)
        · replace h := if_t c14 h
          refine lv_bipush (v := 7) S.1 S.2.1 dX5_readOnce_185 rfl ?_
          refine lv_goto (tgt := 192) S.1 S.2.1 dX5_readOnce_187 rfl ?_
          exact wk_M_readOnce_p192 S hr hlocks _ _ _ _ _ h hw (lv_sub hl [0] rfl)
      · replace h := if_t c12 h
        refine lv_aload_n S.1 S.2.1 dX5_readOnce_147 rfl (lv_at hl 0 rfl) ?_
        refine mg10 S hw dX5_readOnce_148 ?_
        refine lv_bipush (v := 125) S.1 S.2.1 dX5_readOnce_151 rfl ?_
        refine lv_aload_n S.1 S.2.1 dX5_readOnce_153 rfl (lv_at hl 0 rfl) ?_
        refine lv_iconst (v := 1) S.1 S.2.1 dX5_readOnce_154 rfl ?_
        refine lv_bipush (v := 30) S.1 S.2.1 dX5_readOnce_155 rfl ?_
        refine mcVwi (As := [.int (1 : Int32), .int (30 : Int32)]) (rest := [.int (125 : Int32), .ref (mAr E 10)]) S hw h (fun u h1 => met_takeNumber l E A (1 : Int32) (30 : Int32) w10 u h1) (cw_takeNumber S.2.2.2.2 rfl rfl ⟨Nat.le_of_ble_eq_true rfl, Nat.le_of_ble_eq_true rfl⟩) rfl hl.1 rfl (lv_room (Nat.le_of_ble_eq_true rfl)) dX5_readOnce_157 (fun r19 w18 H locs h hw => ?_)
        refine msc10 (j := 125) S hw dX5_readOnce_160 (by decide) h (fun w20 H locs h hw => ?_)
        refine lv_goto (tgt := 206) S.1 S.2.1 dX5_readOnce_161 rfl ?_
        exact m_vret S hr hlocks hw (so1 h) dX5_readOnce_206
    · replace h := if_t c11 h
      refine lv_aload_n S.1 S.2.1 dX5_readOnce_109 rfl (lv_at hl 0 rfl) ?_
      refine mg10 S hw dX5_readOnce_110 ?_
      refine lv_bipush (v := 123) S.1 S.2.1 dX5_readOnce_113 rfl ?_
      refine lv_aload_n S.1 S.2.1 dX5_readOnce_115 rfl (lv_at hl 0 rfl) ?_
      refine lv_iconst (v := 0) S.1 S.2.1 dX5_readOnce_116 rfl ?_
      refine lv_bipush (v := 60) S.1 S.2.1 dX5_readOnce_117 rfl ?_
      refine mcVwi (As := [.int (0 : Int32), .int (60 : Int32)]) (rest := [.int (123 : Int32), .ref (mAr E 10)]) S hw h (fun u h1 => met_takeNumber l E A (0 : Int32) (60 : Int32) w10 u h1) (cw_takeNumber S.2.2.2.2 rfl rfl ⟨Nat.le_of_ble_eq_true rfl, Nat.le_of_ble_eq_true rfl⟩) rfl hl.1 rfl (lv_room (Nat.le_of_ble_eq_true rfl)) dX5_readOnce_119 (fun r22 w21 H locs h hw => ?_)
      refine msc10 (j := 123) S hw dX5_readOnce_122 (by decide) h (fun w23 H locs h hw => ?_)
      refine lv_aload_n S.1 S.2.1 dX5_readOnce_123 rfl (lv_at hl 0 rfl) ?_
      refine mg10 S hw dX5_readOnce_124 ?_
      refine lv_bipush (v := 124) S.1 S.2.1 dX5_readOnce_127 rfl ?_
      refine lv_aload_n S.1 S.2.1 dX5_readOnce_129 rfl (lv_at hl 0 rfl) ?_
      refine lv_bipush (v := 15) S.1 S.2.1 dX5_readOnce_130 rfl ?_
      refine lv_iconst (v := 1) S.1 S.2.1 dX5_readOnce_132 rfl ?_
      refine lv_bipush (v := 120) S.1 S.2.1 dX5_readOnce_133 rfl ?_
      refine mcVwi (As := [.int (15 : Int32), .int (1 : Int32), .int (120 : Int32)]) (rest := [.int (124 : Int32), .ref (mAr E 10)]) S hw h (fun u h1 => met_takeAfter l E A (15 : Int32) (1 : Int32) (120 : Int32) w23 u h1) (cw_takeAfter S.2.2.2.2 rfl rfl ⟨Nat.le_of_ble_eq_true rfl, Nat.le_of_ble_eq_true rfl⟩) rfl hl.1 rfl (lv_room (Nat.le_of_ble_eq_true rfl)) dX5_readOnce_135 (fun r25 w24 H locs h hw => ?_)
      refine msc10 (j := 124) S hw dX5_readOnce_138 (by decide) h (fun w26 H locs h hw => ?_)
      refine lv_goto (tgt := 206) S.1 S.2.1 dX5_readOnce_139 rfl ?_
      exact m_vret S hr hlocks hw (so1 h) dX5_readOnce_206
  · replace h := if_f c8 h
    exact m_vret S hr hlocks hw (so1 h) dX5_readOnce_82
set_option maxRecDepth 100000 in
set_option maxHeartbeats 4000000 in
theorem wk_M_readOnce_p58 {p : Program} {l : Launch} {e : Env} {s : State} {m : MethodId} {args : Array Value} {below : List Frame} {meth : Method} {c : Code} {E : mE} {A : Nat → Prop} (S : CallFix p m c cX5_readOnce 2 s args lw_all RX5) (hr : meth.sig.returnType = none) (hlocks : meth.locks = false) {res : MS}  : ∀ (x1 : Int32) (w : MS) (H : Heap) (locs : List Loc) (ls : Array Slot), M_readOnce_p58 x1 w = some res → mH E A s w H locs → lv_has ls 2 [(0, .ref (mM E)), (1, .int x1)] → W p l e rm_readOnce s m args below meth c H locs 0 0 (MQ below (mQv E A res) args s 0 0 A) (F0 m 58 ls []) := by
  intro x1 w H locs ls h hw hl
  unfold M_readOnce_p58 at h
  refine lv_aload_n S.1 S.2.1 dX5_readOnce_58 rfl (lv_at hl 0 rfl) ?_
  refine mg20 S hw dX5_readOnce_59 ?_
  refine lv_iload_n S.1 S.2.1 dX5_readOnce_62 rfl (lv_at hl 1 rfl) ?_
  refine lv_ishr S.1 S.2.1 dX5_readOnce_63 ?_
  refine lv_iconst (v := 1) S.1 S.2.1 dX5_readOnce_64 rfl ?_
  refine lv_iand S.1 S.2.1 dX5_readOnce_65 ?_
  refine lv_iconst (v := 1) S.1 S.2.1 dX5_readOnce_66 rfl ?_
  refine lv_icmp_ne (tgt := 75) S.1 S.2.1 dX5_readOnce_67 rfl (fun c7 => ?_) (fun c7 => ?_)
  · replace h := if_f c7 h
    exact wk_M_readOnce_p75 S hr hlocks _ _ _ _ _ h hw (lv_sub hl [0, 1] rfl)
  · replace h := if_t c7 h
    refine lv_aload_n S.1 S.2.1 dX5_readOnce_70 rfl (lv_at hl 0 rfl) ?_
    refine lv_iconst (v := 3) S.1 S.2.1 dX5_readOnce_71 rfl ?_
    refine mcVv (As := [.int (3 : Int32)]) (rest := []) S hw h (fun u h1 => met_wrong l E A (3 : Int32) w u h1) (cw_wrong S.2.2.2.2 rfl rfl ⟨Nat.le_of_ble_eq_true rfl, Nat.le_of_ble_eq_true rfl⟩) rfl hl.1 rfl (lv_room (Nat.le_of_ble_eq_true rfl)) dX5_readOnce_72 (fun w27 H locs h hw => ?_)
    exact wk_M_readOnce_p75 S hr hlocks _ _ _ _ _ h hw (lv_sub hl [0, 1] rfl)
set_option maxRecDepth 100000 in
set_option maxHeartbeats 4000000 in
theorem wk_M_readOnce_p35 {p : Program} {l : Launch} {e : Env} {s : State} {m : MethodId} {args : Array Value} {below : List Frame} {meth : Method} {c : Code} {E : mE} {A : Nat → Prop} (S : CallFix p m c cX5_readOnce 2 s args lw_all RX5) (hr : meth.sig.returnType = none) (hlocks : meth.locks = false) {res : MS}  : ∀ (t0 : Int32) (w : MS) (H : Heap) (locs : List Loc) (ls : Array Slot), M_readOnce_p35 t0 w = some res → mH E A s w H locs → lv_has ls 2 [(0, .ref (mM E))] → W p l e rm_readOnce s m args below meth c H locs 0 0 (MQ below (mQv E A res) args s 0 0 A) (F0 m 35 ls [.int t0]) := by
  intro t0 w H locs ls h hw hl
  unfold M_readOnce_p35 at h
  refine lv_istore_n (lv' := [(1, .int t0), (0, .ref (mM E))]) S.1 S.2.1 dX5_readOnce_35 rfl hl (by decide) rfl (fun ls hl => ?_)
  refine lv_iload_n S.1 S.2.1 dX5_readOnce_36 rfl (lv_at hl 0 rfl) ?_
  refine lv_iconst (v := 1) S.1 S.2.1 dX5_readOnce_37 rfl ?_
  refine lv_icmp_ne (tgt := 58) S.1 S.2.1 dX5_readOnce_38 rfl (fun c6 => ?_) (fun c6 => ?_)
  · replace h := if_f c6 h
    exact wk_M_readOnce_p58 S hr hlocks _ _ _ _ _ h hw (lv_sub hl [1, 0] rfl)
  · replace h := if_t c6 h
    refine lv_aload_n S.1 S.2.1 dX5_readOnce_41 rfl (lv_at hl 1 rfl) ?_
    refine lv_bipush (v := 16) S.1 S.2.1 dX5_readOnce_42 rfl ?_
    refine mcVri (As := [.int (16 : Int32)]) (rest := []) S hw h (fun u h1 => met_isWord l E A (16 : Int32) w u h1) (cw_isWord S.2.2.2.2 rfl rfl ⟨Nat.le_of_ble_eq_true rfl, Nat.le_of_ble_eq_true rfl⟩) rfl hl.1 rfl (lv_room (Nat.le_of_ble_eq_true rfl)) dX5_readOnce_44 (fun r28 H locs h hw => ?_)
    refine lv_if_ne (tgt := 58) S.1 S.2.1 dX5_readOnce_47 rfl (fun c29 => ?_) (fun c29 => ?_)
    · replace h := if_f c29 h
      exact wk_M_readOnce_p58 S hr hlocks _ _ _ _ _ h hw (lv_sub hl [1, 0] rfl)
    · replace h := if_t c29 h
      refine lv_aload_n S.1 S.2.1 dX5_readOnce_50 rfl (lv_at hl 1 rfl) ?_
      refine lv_iconst (v := 1) S.1 S.2.1 dX5_readOnce_51 rfl ?_
      refine mcVv (As := [.int (1 : Int32)]) (rest := []) S hw h (fun u h1 => met_wrong l E A (1 : Int32) w u h1) (cw_wrong S.2.2.2.2 rfl rfl ⟨Nat.le_of_ble_eq_true rfl, Nat.le_of_ble_eq_true rfl⟩) rfl hl.1 rfl (lv_room (Nat.le_of_ble_eq_true rfl)) dX5_readOnce_52 (fun w30 H locs h hw => ?_)
      refine lv_goto (tgt := 75) S.1 S.2.1 dX5_readOnce_55 rfl ?_
      exact wk_M_readOnce_p75 S hr hlocks _ _ _ _ _ h hw (lv_sub hl [1, 0] rfl)
set_option maxRecDepth 100000 in
set_option maxHeartbeats 4000000 in
theorem met_readOnce (l : Launch) (E : mE) (A : Nat → Prop)  (w : MS) (res : MS) (h : M_readOnce w = some res) : Met l yX5_readOnce (ws_ yX5_readOnce cX5_readOnce 2 none) rm_readOnce (mPc E A [.ref (mM E)] w) (mQv E A res) 0 0 A := by
  refine mMet (by decide) rfl (Nat.le_of_ble_eq_true rfl) ?_
  intro p e s m below meth c S hr hlocks H ls hw hl
  replace hl : lv_has ls 2 [(0, .ref (mM E))] := hl
  unfold M_readOnce at h
  refine lv_aload_n S.1 S.2.1 dX5_readOnce_0 rfl (lv_at hl 0 rfl) ?_
  refine lv_bipush (v := 14) S.1 S.2.1 dX5_readOnce_1 rfl ?_
  refine mcVri (As := [.int (14 : Int32)]) (rest := []) S hw h (fun u h1 => met_isWord l E A (14 : Int32) w u h1) (cw_isWord S.2.2.2.2 rfl rfl ⟨Nat.le_of_ble_eq_true rfl, Nat.le_of_ble_eq_true rfl⟩) rfl hl.1 rfl (lv_room (Nat.le_of_ble_eq_true rfl)) dX5_readOnce_3 (fun r1 H locs h hw => ?_)
  refine lv_if_eq (tgt := 13) S.1 S.2.1 dX5_readOnce_6 rfl (fun c2 => ?_) (fun c2 => ?_)
  · replace h := if_t c2 h
    refine lv_aload_n S.1 S.2.1 dX5_readOnce_13 rfl (lv_at hl 0 rfl) ?_
    refine lv_bipush (v := 16) S.1 S.2.1 dX5_readOnce_14 rfl ?_
    refine mcVri (As := [.int (16 : Int32)]) (rest := []) S hw h (fun u h1 => met_isWord l E A (16 : Int32) w u h1) (cw_isWord S.2.2.2.2 rfl rfl ⟨Nat.le_of_ble_eq_true rfl, Nat.le_of_ble_eq_true rfl⟩) rfl hl.1 rfl (lv_room (Nat.le_of_ble_eq_true rfl)) dX5_readOnce_16 (fun r3 H locs h hw => ?_)
    refine lv_if_eq (tgt := 26) S.1 S.2.1 dX5_readOnce_19 rfl (fun c4 => ?_) (fun c4 => ?_)
    · replace h := if_t c4 h
      refine lv_aload_n S.1 S.2.1 dX5_readOnce_26 rfl (lv_at hl 0 rfl) ?_
      refine lv_bipush (v := 17) S.1 S.2.1 dX5_readOnce_27 rfl ?_
      refine lv_iconst (v := 2) S.1 S.2.1 dX5_readOnce_29 rfl ?_
      refine mcVri (As := [.int (17 : Int32), .int (2 : Int32)]) (rest := []) S hw h (fun u h1 => met_wordHere l E A (17 : Int32) (2 : Int32) w u h1) (cw_wordHere S.2.2.2.2 rfl rfl ⟨Nat.le_of_ble_eq_true rfl, Nat.le_of_ble_eq_true rfl⟩) rfl hl.1 rfl (lv_room (Nat.le_of_ble_eq_true rfl)) dX5_readOnce_30 (fun r5 H locs h hw => ?_)
      refine lv_iconst (v := 2) S.1 S.2.1 dX5_readOnce_33 rfl ?_
      refine lv_iadd S.1 S.2.1 dX5_readOnce_34 ?_
      exact wk_M_readOnce_p35 S hr hlocks _ _ _ _ _ h hw (lv_sub hl [0] rfl)
    · replace h := if_f c4 h
      refine lv_iconst (v := 1) S.1 S.2.1 dX5_readOnce_22 rfl ?_
      refine lv_goto (tgt := 35) S.1 S.2.1 dX5_readOnce_23 rfl ?_
      exact wk_M_readOnce_p35 S hr hlocks _ _ _ _ _ h hw (lv_sub hl [0] rfl)
  · replace h := if_f c2 h
    refine lv_iconst (v := 0) S.1 S.2.1 dX5_readOnce_9 rfl ?_
    refine lv_goto (tgt := 35) S.1 S.2.1 dX5_readOnce_10 rfl ?_
    exact wk_M_readOnce_p35 S hr hlocks _ _ _ _ _ h hw (lv_sub hl [0] rfl)
def M_readLine (w : MS) : Option MS :=
  bd1 (M_isWord (0 : Int32) w) fun r1 =>
  if r1 = 0 then
    bd1 (M_isWord (4 : Int32) w) fun r3 =>
    if r3 = 0 then
      bd1 (M_isWord (9 : Int32) w) fun r5 =>
      if r5 = 0 then
        bd1 (M_isWord (10 : Int32) w) fun r7 =>
        if r7 = 0 then
          bd1 (M_readOnce w) fun w9 =>
          some w9
        else
          bd1 (M_readErrand w) fun w10 =>
          some w10
      else
        bd1 (M_readLove w) fun w11 =>
        some w11
    else
      bd1 (M_readTenant w) fun w12 =>
      some w12
  else
    bd1 (M_readRoom w) fun w13 =>
    some w13
set_option maxRecDepth 100000 in
set_option maxHeartbeats 4000000 in
theorem met_readLine (l : Launch) (E : mE) (A : Nat → Prop)  (w : MS) (res : MS) (h : M_readLine w = some res) : Met l yX5_readLine (ws_ yX5_readLine cX5_readLine 1 none) rm_readLine (mPc E A [.ref (mM E)] w) (mQv E A res) 0 0 A := by
  refine mMet (by decide) rfl (Nat.le_of_ble_eq_true rfl) ?_
  intro p e s m below meth c S hr hlocks H ls hw hl
  replace hl : lv_has ls 1 [(0, .ref (mM E))] := hl
  unfold M_readLine at h
  refine lv_aload_n S.1 S.2.1 dX5_readLine_0 rfl (lv_at hl 0 rfl) ?_
  refine lv_iconst (v := 0) S.1 S.2.1 dX5_readLine_1 rfl ?_
  refine mcVri (As := [.int (0 : Int32)]) (rest := []) S hw h (fun u h1 => met_isWord l E A (0 : Int32) w u h1) (cw_isWord S.2.2.2.2 rfl rfl ⟨Nat.le_of_ble_eq_true rfl, Nat.le_of_ble_eq_true rfl⟩) rfl hl.1 rfl (lv_room (Nat.le_of_ble_eq_true rfl)) dX5_readLine_2 (fun r1 H locs h hw => ?_)
  refine lv_if_eq (tgt := 15) S.1 S.2.1 dX5_readLine_5 rfl (fun c2 => ?_) (fun c2 => ?_)
  · replace h := if_t c2 h
    refine lv_aload_n S.1 S.2.1 dX5_readLine_15 rfl (lv_at hl 0 rfl) ?_
    refine lv_iconst (v := 4) S.1 S.2.1 dX5_readLine_16 rfl ?_
    refine mcVri (As := [.int (4 : Int32)]) (rest := []) S hw h (fun u h1 => met_isWord l E A (4 : Int32) w u h1) (cw_isWord S.2.2.2.2 rfl rfl ⟨Nat.le_of_ble_eq_true rfl, Nat.le_of_ble_eq_true rfl⟩) rfl hl.1 rfl (lv_room (Nat.le_of_ble_eq_true rfl)) dX5_readLine_17 (fun r3 H locs h hw => ?_)
    refine lv_if_eq (tgt := 30) S.1 S.2.1 dX5_readLine_20 rfl (fun c4 => ?_) (fun c4 => ?_)
    · replace h := if_t c4 h
      refine lv_aload_n S.1 S.2.1 dX5_readLine_30 rfl (lv_at hl 0 rfl) ?_
      refine lv_bipush (v := 9) S.1 S.2.1 dX5_readLine_31 rfl ?_
      refine mcVri (As := [.int (9 : Int32)]) (rest := []) S hw h (fun u h1 => met_isWord l E A (9 : Int32) w u h1) (cw_isWord S.2.2.2.2 rfl rfl ⟨Nat.le_of_ble_eq_true rfl, Nat.le_of_ble_eq_true rfl⟩) rfl hl.1 rfl (lv_room (Nat.le_of_ble_eq_true rfl)) dX5_readLine_33 (fun r5 H locs h hw => ?_)
      refine lv_if_eq (tgt := 46) S.1 S.2.1 dX5_readLine_36 rfl (fun c6 => ?_) (fun c6 => ?_)
      · replace h := if_t c6 h
        refine lv_aload_n S.1 S.2.1 dX5_readLine_46 rfl (lv_at hl 0 rfl) ?_
        refine lv_bipush (v := 10) S.1 S.2.1 dX5_readLine_47 rfl ?_
        refine mcVri (As := [.int (10 : Int32)]) (rest := []) S hw h (fun u h1 => met_isWord l E A (10 : Int32) w u h1) (cw_isWord S.2.2.2.2 rfl rfl ⟨Nat.le_of_ble_eq_true rfl, Nat.le_of_ble_eq_true rfl⟩) rfl hl.1 rfl (lv_room (Nat.le_of_ble_eq_true rfl)) dX5_readLine_49 (fun r7 H locs h hw => ?_)
        refine lv_if_eq (tgt := 62) S.1 S.2.1 dX5_readLine_52 rfl (fun c8 => ?_) (fun c8 => ?_)
        · replace h := if_t c8 h
          refine lv_aload_n S.1 S.2.1 dX5_readLine_62 rfl (lv_at hl 0 rfl) ?_
          refine mcVv (As := []) (rest := []) S hw h (fun u h1 => met_readOnce l E A  w u h1) (cw_readOnce S.2.2.2.2 rfl rfl ⟨Nat.le_of_ble_eq_true rfl, Nat.le_of_ble_eq_true rfl⟩) rfl hl.1 rfl (lv_room (Nat.le_of_ble_eq_true rfl)) dX5_readLine_63 (fun w9 H locs h hw => ?_)
          exact m_vret S hr hlocks hw (so1 h) dX5_readLine_66
        · replace h := if_f c8 h
          refine lv_aload_n S.1 S.2.1 dX5_readLine_55 rfl (lv_at hl 0 rfl) ?_
          refine mcVv (As := []) (rest := []) S hw h (fun u h1 => met_readErrand l E A  w u h1) (cw_readErrand S.2.2.2.2 rfl rfl ⟨Nat.le_of_ble_eq_true rfl, Nat.le_of_ble_eq_true rfl⟩) rfl hl.1 rfl (lv_room (Nat.le_of_ble_eq_true rfl)) dX5_readLine_56 (fun w10 H locs h hw => ?_)
          refine lv_goto (tgt := 66) S.1 S.2.1 dX5_readLine_59 rfl ?_
          exact m_vret S hr hlocks hw (so1 h) dX5_readLine_66
      · replace h := if_f c6 h
        refine lv_aload_n S.1 S.2.1 dX5_readLine_39 rfl (lv_at hl 0 rfl) ?_
        refine mcVv (As := []) (rest := []) S hw h (fun u h1 => met_readLove l E A  w u h1) (cw_readLove S.2.2.2.2 rfl rfl ⟨Nat.le_of_ble_eq_true rfl, Nat.le_of_ble_eq_true rfl⟩) rfl hl.1 rfl (lv_room (Nat.le_of_ble_eq_true rfl)) dX5_readLine_40 (fun w11 H locs h hw => ?_)
        refine lv_goto (tgt := 66) S.1 S.2.1 dX5_readLine_43 rfl ?_
        exact m_vret S hr hlocks hw (so1 h) dX5_readLine_66
    · replace h := if_f c4 h
      refine lv_aload_n S.1 S.2.1 dX5_readLine_23 rfl (lv_at hl 0 rfl) ?_
      refine mcVv (As := []) (rest := []) S hw h (fun u h1 => met_readTenant l E A  w u h1) (cw_readTenant S.2.2.2.2 rfl rfl ⟨Nat.le_of_ble_eq_true rfl, Nat.le_of_ble_eq_true rfl⟩) rfl hl.1 rfl (lv_room (Nat.le_of_ble_eq_true rfl)) dX5_readLine_24 (fun w12 H locs h hw => ?_)
      refine lv_goto (tgt := 66) S.1 S.2.1 dX5_readLine_27 rfl ?_
      exact m_vret S hr hlocks hw (so1 h) dX5_readLine_66
  · replace h := if_f c2 h
    refine lv_aload_n S.1 S.2.1 dX5_readLine_8 rfl (lv_at hl 0 rfl) ?_
    refine mcVv (As := []) (rest := []) S hw h (fun u h1 => met_readRoom l E A  w u h1) (cw_readRoom S.2.2.2.2 rfl rfl ⟨Nat.le_of_ble_eq_true rfl, Nat.le_of_ble_eq_true rfl⟩) rfl hl.1 rfl (lv_room (Nat.le_of_ble_eq_true rfl)) dX5_readLine_9 (fun w13 H locs h hw => ?_)
    refine lv_goto (tgt := 66) S.1 S.2.1 dX5_readLine_12 rfl ?_
    exact m_vret S hr hlocks hw (so1 h) dX5_readLine_66
def M_house_p153 : Nat → Int32 → MS → Option (Int32 × MS)
  | 0, _, _ => none
  | n + 1, x1, w =>
    if (rI w 19 0) ≤ x1 then
      bdp (wI w 18 0 (rI w 19 0)) fun w12 =>
      bd1 (M_begins w12) fun w13 =>
      some ((0 : Int32), w13)
    else
      bd1 (rAL w 15 18 x1) fun v14 =>
      bd1 (wAL w 14 18 x1 v14) fun w15 =>
      bd1 (rA w15 17 18 x1) fun v16 =>
      bd1 (wA w15 16 18 x1 v16) fun w17 =>
      (M_house_p153 n) (x1 + (1 : Int32)) w17
def M_house_p105 : Nat → Int32 → MS → Option (Int32 × MS)
  | 0, _, _ => none
  | n + 1, x1, w =>
    if (rI w 13 0) ≤ x1 then
      M_house_p153 FU (0 : Int32) w
    else
      bd1 (rA w 11 2200 ((1100 : Int32) + x1)) fun v18 =>
      bd1 (wA w 11 2200 x1 v18) fun w19 =>
      bd1 (rA w19 12 2200 ((1100 : Int32) + x1)) fun v20 =>
      bd1 (wA w19 12 2200 x1 v20) fun w21 =>
      (M_house_p105 n) (x1 + (1 : Int32)) w21
def M_house_p76 : Nat → Int32 → MS → Option (Int32 × MS)
  | 0, _, _ => none
  | n + 1, x1, w =>
    if (120 : Int32) ≤ x1 then
      M_house_p105 FU (0 : Int32) w
    else
      bd1 (rA w 10 240 ((120 : Int32) + x1)) fun v22 =>
      bd1 (wA w 10 240 x1 v22) fun w23 =>
      (M_house_p76 n) (x1 + (1 : Int32)) w23
def M_house_p62 (w : MS) : Option (Int32 × MS) :=
  if (rI w 8 0) ≤ 0 then
    M_house_p76 FU (0 : Int32) w
  else
    some (rI w 8 0, w)
def M_house_p30 : Nat → MS → Option (Int32 × MS)
  | 0, _ => none
  | n + 1, w =>
    if (rI w 8 0) = 0 then
      bd1 (rA w 4 1002 (rI w 7 0)) fun v24 =>
      if v24 = 0 then
        M_house_p62 w
      else
        bd1 (M_readLine w) fun w26 =>
        bd1 (M_takeSign (59 : Int32) w26) fun w27 =>
        (M_house_p30 n) w27
    else
      M_house_p62 w
def M_house (w : MS) : Option (Int32 × MS) :=
  bdp (wI w 0 0 (0 : Int32)) fun w1 =>
  bd1 (M_cutAll w1) fun w2 =>
  bdp (wI w2 13 0 (0 : Int32)) fun w3 =>
  bdp (wI w3 19 0 (0 : Int32)) fun w4 =>
  bdp (wI w4 20 0 (0 : Int32)) fun w5 =>
  bd1 (M_standsAsAlways (120 : Int32) w5) fun w6 =>
  M_house_p30 FU w6
set_option maxRecDepth 100000 in
set_option maxHeartbeats 4000000 in
theorem wk_M_house_p153 {p : Program} {l : Launch} {e : Env} {s : State} {m : MethodId} {args : Array Value} {below : List Frame} {meth : Method} {c : Code} {E : mE} {A : Nat → Prop} (S : CallFix p m c cX5_house 2 s args lw_all RX5) (hr : meth.sig.returnType = (some .int)) (hlocks : meth.locks = false) {res : Int32 × MS}  : ∀ n : Nat, ∀ (x1 : Int32) (w : MS) (H : Heap) (locs : List Loc) (ls : Array Slot), M_house_p153 n x1 w = some res → mH E A s w H locs → lv_has ls 2 [(0, .ref (mM E)), (1, .int x1)] → W p l e rm_house s m args below meth c H locs 0 0 (MQ below (mQi E A res.1 res.2) args s 0 0 A) (F0 m 153 ls []) := by
  intro n
  induction n with
  | zero => intro x1 w H locs ls h; cases (show (none : Option (Int32 × MS)) = some res from h)
  | succ n ih =>
    intro x1 w H locs ls h hw hl
    rw [M_house_p153] at h
    refine lv_iload_n S.1 S.2.1 dX5_house_153 rfl (lv_at hl 1 rfl) ?_
    refine lv_aload_n S.1 S.2.1 dX5_house_154 rfl (lv_at hl 0 rfl) ?_
    refine mg19 S hw dX5_house_155 ?_
    refine lv_icmp_ge (tgt := 191) S.1 S.2.1 dX5_house_158 rfl (fun c11 => ?_) (fun c11 => ?_)
    · replace h := if_t c11 h
      refine lv_aload_n S.1 S.2.1 dX5_house_191 rfl (lv_at hl 0 rfl) ?_
      refine lv_aload_n S.1 S.2.1 dX5_house_192 rfl (lv_at hl 0 rfl) ?_
      refine mg19 S hw dX5_house_193 ?_
      refine mp18 S hw dX5_house_196 h (fun w12 H locs h hw => ?_)
      refine lv_aload_n S.1 S.2.1 dX5_house_199 rfl (lv_at hl 0 rfl) ?_
      refine mcVv (As := []) (rest := []) S hw h (fun u h1 => met_begins l E A  w12 u h1) (cw_begins S.2.2.2.2 rfl rfl ⟨Nat.le_of_ble_eq_true rfl, Nat.le_of_ble_eq_true rfl⟩) rfl hl.1 rfl (lv_room (Nat.le_of_ble_eq_true rfl)) dX5_house_200 (fun w13 H locs h hw => ?_)
      refine lv_iconst (v := 0) S.1 S.2.1 dX5_house_203 rfl ?_
      exact m_iret S hr hlocks hw (so2 h) dX5_house_204
    · replace h := if_f c11 h
      refine lv_aload_n S.1 S.2.1 dX5_house_161 rfl (lv_at hl 0 rfl) ?_
      refine mg14 S hw dX5_house_162 ?_
      refine lv_iload_n S.1 S.2.1 dX5_house_165 rfl (lv_at hl 1 rfl) ?_
      refine lv_aload_n S.1 S.2.1 dX5_house_166 rfl (lv_at hl 0 rfl) ?_
      refine mg15 S hw dX5_house_167 ?_
      refine lv_iload_n S.1 S.2.1 dX5_house_170 rfl (lv_at hl 1 rfl) ?_
      refine ml15 S hw dX5_house_171 h (fun v14 h => ?_)
      refine ms14 S hw dX5_house_172 h (fun w15 H locs h hw => ?_)
      refine lv_aload_n S.1 S.2.1 dX5_house_173 rfl (lv_at hl 0 rfl) ?_
      refine mg16 S hw dX5_house_174 ?_
      refine lv_iload_n S.1 S.2.1 dX5_house_177 rfl (lv_at hl 1 rfl) ?_
      refine lv_aload_n S.1 S.2.1 dX5_house_178 rfl (lv_at hl 0 rfl) ?_
      refine mg17 S hw dX5_house_179 ?_
      refine lv_iload_n S.1 S.2.1 dX5_house_182 rfl (lv_at hl 1 rfl) ?_
      refine ml17 S hw dX5_house_183 h (fun v16 h => ?_)
      refine ms16 S hw dX5_house_184 h (fun w17 H locs h hw => ?_)
      refine lv_iinc (v := x1 + (1 : Int32)) (lv' := [(1, .int (x1 + (1 : Int32))), (0, .ref (mM E))]) S.1 S.2.1 dX5_house_185 hl (k := 1) rfl rfl (by decide) rfl (fun ls hl => ?_)
      refine lv_goto (tgt := 153) S.1 S.2.1 dX5_house_188 rfl ?_
      exact ih _ _ _ _ _ h hw (lv_sub hl [1, 0] rfl)
set_option maxRecDepth 100000 in
set_option maxHeartbeats 4000000 in
theorem wk_M_house_p105 {p : Program} {l : Launch} {e : Env} {s : State} {m : MethodId} {args : Array Value} {below : List Frame} {meth : Method} {c : Code} {E : mE} {A : Nat → Prop} (S : CallFix p m c cX5_house 2 s args lw_all RX5) (hr : meth.sig.returnType = (some .int)) (hlocks : meth.locks = false) {res : Int32 × MS}  : ∀ n : Nat, ∀ (x1 : Int32) (w : MS) (H : Heap) (locs : List Loc) (ls : Array Slot), M_house_p105 n x1 w = some res → mH E A s w H locs → lv_has ls 2 [(0, .ref (mM E)), (1, .int x1)] → W p l e rm_house s m args below meth c H locs 0 0 (MQ below (mQi E A res.1 res.2) args s 0 0 A) (F0 m 105 ls []) := by
  intro n
  induction n with
  | zero => intro x1 w H locs ls h; cases (show (none : Option (Int32 × MS)) = some res from h)
  | succ n ih =>
    intro x1 w H locs ls h hw hl
    rw [M_house_p105] at h
    refine lv_iload_n S.1 S.2.1 dX5_house_105 rfl (lv_at hl 1 rfl) ?_
    refine lv_aload_n S.1 S.2.1 dX5_house_106 rfl (lv_at hl 0 rfl) ?_
    refine mg13 S hw dX5_house_107 ?_
    refine lv_icmp_ge (tgt := 151) S.1 S.2.1 dX5_house_110 rfl (fun c10 => ?_) (fun c10 => ?_)
    · replace h := if_t c10 h
      refine lv_iconst (v := 0) S.1 S.2.1 dX5_house_151 rfl ?_
      refine lv_istore_n (lv' := [(1, .int (0 : Int32)), (0, .ref (mM E))]) S.1 S.2.1 dX5_house_152 rfl hl (by decide) rfl (fun ls hl => ?_)
      exact wk_M_house_p153 S hr hlocks FU _ _ _ _ _ h hw (lv_sub hl [1, 0] rfl)
    · replace h := if_f c10 h
      refine lv_aload_n S.1 S.2.1 dX5_house_113 rfl (lv_at hl 0 rfl) ?_
      refine mg11 S hw dX5_house_114 ?_
      refine lv_iload_n S.1 S.2.1 dX5_house_117 rfl (lv_at hl 1 rfl) ?_
      refine lv_aload_n S.1 S.2.1 dX5_house_118 rfl (lv_at hl 0 rfl) ?_
      refine mg11 S hw dX5_house_119 ?_
      refine lv_sipush (v := 1100) S.1 S.2.1 dX5_house_122 rfl ?_
      refine lv_iload_n S.1 S.2.1 dX5_house_125 rfl (lv_at hl 1 rfl) ?_
      refine lv_iadd S.1 S.2.1 dX5_house_126 ?_
      refine ml11 S hw dX5_house_127 h (fun v18 h => ?_)
      refine ms11 S hw dX5_house_128 h (fun w19 H locs h hw => ?_)
      refine lv_aload_n S.1 S.2.1 dX5_house_129 rfl (lv_at hl 0 rfl) ?_
      refine mg12 S hw dX5_house_130 ?_
      refine lv_iload_n S.1 S.2.1 dX5_house_133 rfl (lv_at hl 1 rfl) ?_
      refine lv_aload_n S.1 S.2.1 dX5_house_134 rfl (lv_at hl 0 rfl) ?_
      refine mg12 S hw dX5_house_135 ?_
      refine lv_sipush (v := 1100) S.1 S.2.1 dX5_house_138 rfl ?_
      refine lv_iload_n S.1 S.2.1 dX5_house_141 rfl (lv_at hl 1 rfl) ?_
      refine lv_iadd S.1 S.2.1 dX5_house_142 ?_
      refine ml12 S hw dX5_house_143 h (fun v20 h => ?_)
      refine ms12 S hw dX5_house_144 h (fun w21 H locs h hw => ?_)
      refine lv_iinc (v := x1 + (1 : Int32)) (lv' := [(1, .int (x1 + (1 : Int32))), (0, .ref (mM E))]) S.1 S.2.1 dX5_house_145 hl (k := 1) rfl rfl (by decide) rfl (fun ls hl => ?_)
      refine lv_goto (tgt := 105) S.1 S.2.1 dX5_house_148 rfl ?_
      exact ih _ _ _ _ _ h hw (lv_sub hl [1, 0] rfl)
set_option maxRecDepth 100000 in
set_option maxHeartbeats 4000000 in
theorem wk_M_house_p76 {p : Program} {l : Launch} {e : Env} {s : State} {m : MethodId} {args : Array Value} {below : List Frame} {meth : Method} {c : Code} {E : mE} {A : Nat → Prop} (S : CallFix p m c cX5_house 2 s args lw_all RX5) (hr : meth.sig.returnType = (some .int)) (hlocks : meth.locks = false) {res : Int32 × MS}  : ∀ n : Nat, ∀ (x1 : Int32) (w : MS) (H : Heap) (locs : List Loc) (ls : Array Slot), M_house_p76 n x1 w = some res → mH E A s w H locs → lv_has ls 2 [(0, .ref (mM E)), (1, .int x1)] → W p l e rm_house s m args below meth c H locs 0 0 (MQ below (mQi E A res.1 res.2) args s 0 0 A) (F0 m 76 ls []) := by
  intro n
  induction n with
  | zero => intro x1 w H locs ls h; cases (show (none : Option (Int32 × MS)) = some res from h)
  | succ n ih =>
    intro x1 w H locs ls h hw hl
    rw [M_house_p76] at h
    refine lv_iload_n S.1 S.2.1 dX5_house_76 rfl (lv_at hl 1 rfl) ?_
    refine lv_bipush (v := 120) S.1 S.2.1 dX5_house_77 rfl ?_
    refine lv_icmp_ge (tgt := 103) S.1 S.2.1 dX5_house_79 rfl (fun c9 => ?_) (fun c9 => ?_)
    · replace h := if_t c9 h
      refine lv_iconst (v := 0) S.1 S.2.1 dX5_house_103 rfl ?_
      refine lv_istore_n (lv' := [(1, .int (0 : Int32)), (0, .ref (mM E))]) S.1 S.2.1 dX5_house_104 rfl hl (by decide) rfl (fun ls hl => ?_)
      exact wk_M_house_p105 S hr hlocks FU _ _ _ _ _ h hw (lv_sub hl [1, 0] rfl)
    · replace h := if_f c9 h
      refine lv_aload_n S.1 S.2.1 dX5_house_82 rfl (lv_at hl 0 rfl) ?_
      refine mg10 S hw dX5_house_83 ?_
      refine lv_iload_n S.1 S.2.1 dX5_house_86 rfl (lv_at hl 1 rfl) ?_
      refine lv_aload_n S.1 S.2.1 dX5_house_87 rfl (lv_at hl 0 rfl) ?_
      refine mg10 S hw dX5_house_88 ?_
      refine lv_bipush (v := 120) S.1 S.2.1 dX5_house_91 rfl ?_
      refine lv_iload_n S.1 S.2.1 dX5_house_93 rfl (lv_at hl 1 rfl) ?_
      refine lv_iadd S.1 S.2.1 dX5_house_94 ?_
      refine ml10 S hw dX5_house_95 h (fun v22 h => ?_)
      refine ms10 S hw dX5_house_96 h (fun w23 H locs h hw => ?_)
      refine lv_iinc (v := x1 + (1 : Int32)) (lv' := [(1, .int (x1 + (1 : Int32))), (0, .ref (mM E))]) S.1 S.2.1 dX5_house_97 hl (k := 1) rfl rfl (by decide) rfl (fun ls hl => ?_)
      refine lv_goto (tgt := 76) S.1 S.2.1 dX5_house_100 rfl ?_
      exact ih _ _ _ _ _ h hw (lv_sub hl [1, 0] rfl)
set_option maxRecDepth 100000 in
set_option maxHeartbeats 4000000 in
theorem wk_M_house_p62 {p : Program} {l : Launch} {e : Env} {s : State} {m : MethodId} {args : Array Value} {below : List Frame} {meth : Method} {c : Code} {E : mE} {A : Nat → Prop} (S : CallFix p m c cX5_house 2 s args lw_all RX5) (hr : meth.sig.returnType = (some .int)) (hlocks : meth.locks = false) {res : Int32 × MS}  : ∀ (w : MS) (H : Heap) (locs : List Loc) (ls : Array Slot), M_house_p62 w = some res → mH E A s w H locs → lv_has ls 2 [(0, .ref (mM E))] → W p l e rm_house s m args below meth c H locs 0 0 (MQ below (mQi E A res.1 res.2) args s 0 0 A) (F0 m 62 ls []) := by
  intro  w H locs ls h hw hl
  unfold M_house_p62 at h
  refine lv_aload_n S.1 S.2.1 dX5_house_62 rfl (lv_at hl 0 rfl) ?_
  refine mg8 S hw dX5_house_63 ?_
  refine lv_if_le (tgt := 74) S.1 S.2.1 dX5_house_66 rfl (fun c8 => ?_) (fun c8 => ?_)
  · replace h := if_t c8 h
    refine lv_iconst (v := 0) S.1 S.2.1 dX5_house_74 rfl ?_
    refine lv_istore_n (lv' := [(1, .int (0 : Int32)), (0, .ref (mM E))]) S.1 S.2.1 dX5_house_75 rfl hl (by decide) rfl (fun ls hl => ?_)
    exact wk_M_house_p76 S hr hlocks FU _ _ _ _ _ h hw (lv_sub hl [1, 0] rfl)
  · replace h := if_f c8 h
    refine lv_aload_n S.1 S.2.1 dX5_house_69 rfl (lv_at hl 0 rfl) ?_
    refine mg8 S hw dX5_house_70 ?_
    exact m_iret S hr hlocks hw (so2 h) dX5_house_73
set_option maxRecDepth 100000 in
set_option maxHeartbeats 4000000 in
theorem wk_M_house_p30 {p : Program} {l : Launch} {e : Env} {s : State} {m : MethodId} {args : Array Value} {below : List Frame} {meth : Method} {c : Code} {E : mE} {A : Nat → Prop} (S : CallFix p m c cX5_house 2 s args lw_all RX5) (hr : meth.sig.returnType = (some .int)) (hlocks : meth.locks = false) {res : Int32 × MS}  : ∀ n : Nat, ∀ (w : MS) (H : Heap) (locs : List Loc) (ls : Array Slot), M_house_p30 n w = some res → mH E A s w H locs → lv_has ls 2 [(0, .ref (mM E))] → W p l e rm_house s m args below meth c H locs 0 0 (MQ below (mQi E A res.1 res.2) args s 0 0 A) (F0 m 30 ls []) := by
  intro n
  induction n with
  | zero => intro  w H locs ls h; cases (show (none : Option (Int32 × MS)) = some res from h)
  | succ n ih =>
    intro  w H locs ls h hw hl
    rw [M_house_p30] at h
    refine lv_aload_n S.1 S.2.1 dX5_house_30 rfl (lv_at hl 0 rfl) ?_
    refine mg8 S hw dX5_house_31 ?_
    refine lv_if_ne (tgt := 62) S.1 S.2.1 dX5_house_34 rfl (fun c7 => ?_) (fun c7 => ?_)
    · replace h := if_f c7 h
      exact wk_M_house_p62 S hr hlocks _ _ _ _ h hw (lv_sub hl [0] rfl)
    · replace h := if_t c7 h
      refine lv_aload_n S.1 S.2.1 dX5_house_37 rfl (lv_at hl 0 rfl) ?_
      refine mg4 S hw dX5_house_38 ?_
      refine lv_aload_n S.1 S.2.1 dX5_house_41 rfl (lv_at hl 0 rfl) ?_
      refine mg7 S hw dX5_house_42 ?_
      refine ml4 S hw dX5_house_45 h (fun v24 h => ?_)
      refine lv_if_eq (tgt := 62) S.1 S.2.1 dX5_house_46 rfl (fun c25 => ?_) (fun c25 => ?_)
      · replace h := if_t c25 h
        exact wk_M_house_p62 S hr hlocks _ _ _ _ h hw (lv_sub hl [0] rfl)
      · replace h := if_f c25 h
        refine lv_aload_n S.1 S.2.1 dX5_house_49 rfl (lv_at hl 0 rfl) ?_
        refine mcVv (As := []) (rest := []) S hw h (fun u h1 => met_readLine l E A  w u h1) (cw_readLine S.2.2.2.2 rfl rfl ⟨Nat.le_of_ble_eq_true rfl, Nat.le_of_ble_eq_true rfl⟩) rfl hl.1 rfl (lv_room (Nat.le_of_ble_eq_true rfl)) dX5_house_50 (fun w26 H locs h hw => ?_)
        refine lv_aload_n S.1 S.2.1 dX5_house_53 rfl (lv_at hl 0 rfl) ?_
        refine lv_bipush (v := 59) S.1 S.2.1 dX5_house_54 rfl ?_
        refine mcVv (As := [.int (59 : Int32)]) (rest := []) S hw h (fun u h1 => met_takeSign l E A (59 : Int32) w26 u h1) (cw_takeSign S.2.2.2.2 rfl rfl ⟨Nat.le_of_ble_eq_true rfl, Nat.le_of_ble_eq_true rfl⟩) rfl hl.1 rfl (lv_room (Nat.le_of_ble_eq_true rfl)) dX5_house_56 (fun w27 H locs h hw => ?_)
        refine lv_goto (tgt := 30) S.1 S.2.1 dX5_house_59 rfl ?_
        exact ih _ _ _ _ h hw (lv_sub hl [0] rfl)
set_option maxRecDepth 100000 in
set_option maxHeartbeats 4000000 in
theorem met_house (l : Launch) (E : mE) (A : Nat → Prop)  (w : MS) (res : Int32 × MS) (h : M_house w = some res) : Met l yX5_house (ws_ yX5_house cX5_house 2 (some .int)) rm_house (mPc E A [.ref (mM E)] w) (mQi E A res.1 res.2) 0 0 A := by
  refine mMet (by decide) rfl (Nat.le_of_ble_eq_true rfl) ?_
  intro p e s m below meth c S hr hlocks H ls hw hl
  replace hl : lv_has ls 2 [(0, .ref (mM E))] := hl
  unfold M_house at h
  refine lv_aload_n S.1 S.2.1 dX5_house_0 rfl (lv_at hl 0 rfl) ?_
  refine lv_iconst (v := 0) S.1 S.2.1 dX5_house_1 rfl ?_
  refine mp0 S hw dX5_house_2 h (fun w1 H locs h hw => ?_)
  refine lv_aload_n S.1 S.2.1 dX5_house_5 rfl (lv_at hl 0 rfl) ?_
  refine mcVv (As := []) (rest := []) S hw h (fun u h1 => met_cutAll l E A  w1 u h1) (cw_cutAll S.2.2.2.2 rfl rfl ⟨Nat.le_of_ble_eq_true rfl, Nat.le_of_ble_eq_true rfl⟩) rfl hl.1 rfl (lv_room (Nat.le_of_ble_eq_true rfl)) dX5_house_6 (fun w2 H locs h hw => ?_)
  refine lv_aload_n S.1 S.2.1 dX5_house_9 rfl (lv_at hl 0 rfl) ?_
  refine lv_iconst (v := 0) S.1 S.2.1 dX5_house_10 rfl ?_
  refine mp13 S hw dX5_house_11 h (fun w3 H locs h hw => ?_)
  refine lv_aload_n S.1 S.2.1 dX5_house_14 rfl (lv_at hl 0 rfl) ?_
  refine lv_iconst (v := 0) S.1 S.2.1 dX5_house_15 rfl ?_
  refine mp19 S hw dX5_house_16 h (fun w4 H locs h hw => ?_)
  refine lv_aload_n S.1 S.2.1 dX5_house_19 rfl (lv_at hl 0 rfl) ?_
  refine lv_iconst (v := 0) S.1 S.2.1 dX5_house_20 rfl ?_
  refine mp20 S hw dX5_house_21 h (fun w5 H locs h hw => ?_)
  refine lv_aload_n S.1 S.2.1 dX5_house_24 rfl (lv_at hl 0 rfl) ?_
  refine lv_bipush (v := 120) S.1 S.2.1 dX5_house_25 rfl ?_
  refine mcVv (As := [.int (120 : Int32)]) (rest := []) S hw h (fun u h1 => met_standsAsAlways l E A (120 : Int32) w5 u h1) (cw_standsAsAlways S.2.2.2.2 rfl rfl ⟨Nat.le_of_ble_eq_true rfl, Nat.le_of_ble_eq_true rfl⟩) rfl hl.1 rfl (lv_room (Nat.le_of_ble_eq_true rfl)) dX5_house_27 (fun w6 H locs h hw => ?_)
  exact wk_M_house_p30 S hr hlocks FU _ _ _ _ h hw (lv_sub hl [0] rfl)
