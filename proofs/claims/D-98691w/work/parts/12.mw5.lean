/-! walks of the Model, printed by gen/model.py -/
set_option maxRecDepth 100000
def M_undo (w : MS) : Option (Int32 × MS) :=
  bdp (wI w 0 0 (0 : Int32)) fun w1 =>
  if (rI w1 26 0) = 0 then
    some ((0 : Int32), w1)
  else
    bdp (wI w1 26 0 ((rI w1 26 0) - (1 : Int32))) fun w3 =>
    bd1 (M_copies ((56 : Int32) * ((5 : Int32) + (rI w3 26 0))) (0 : Int32) (43 : Int32) w3) fun w4 =>
    some ((1 : Int32), w4)
set_option maxRecDepth 100000 in
set_option maxHeartbeats 4000000 in
theorem met_undo (l : Launch) (E : mE) (A : Nat → Prop)  (w : MS) (res : Int32 × MS) (h : M_undo w = some res) : Met l yX5_undo (ws_ yX5_undo cX5_undo 1 (some .boolean)) rm_undo (mPc E A [.ref (mM E)] w) (mQi E A res.1 res.2) 0 0 A := by
  refine mMet (by decide) rfl (Nat.le_of_ble_eq_true rfl) ?_
  intro p e s m below meth c S hr hlocks H ls hw hl
  replace hl : lv_has ls 1 [(0, .ref (mM E))] := hl
  unfold M_undo at h
  refine lv_aload_n S.1 S.2.1 dX5_undo_0 rfl (lv_at hl 0 rfl) ?_
  refine lv_iconst (v := 0) S.1 S.2.1 dX5_undo_1 rfl ?_
  refine mp0 S hw dX5_undo_2 h (fun w1 H locs h hw => ?_)
  refine lv_aload_n S.1 S.2.1 dX5_undo_5 rfl (lv_at hl 0 rfl) ?_
  refine mg26 S hw dX5_undo_6 ?_
  refine lv_if_ne (tgt := 14) S.1 S.2.1 dX5_undo_9 rfl (fun c2 => ?_) (fun c2 => ?_)
  · replace h := if_f c2 h
    refine lv_aload_n S.1 S.2.1 dX5_undo_14 rfl (lv_at hl 0 rfl) ?_
    refine lv_dup S.1 S.2.1 dX5_undo_15 rfl ?_
    refine mg26 S hw dX5_undo_16 ?_
    refine lv_iconst (v := 1) S.1 S.2.1 dX5_undo_19 rfl ?_
    refine lv_isub S.1 S.2.1 dX5_undo_20 ?_
    refine mp26 S hw dX5_undo_21 h (fun w3 H locs h hw => ?_)
    refine lv_aload_n S.1 S.2.1 dX5_undo_24 rfl (lv_at hl 0 rfl) ?_
    refine lv_bipush (v := 56) S.1 S.2.1 dX5_undo_25 rfl ?_
    refine lv_iconst (v := 5) S.1 S.2.1 dX5_undo_27 rfl ?_
    refine lv_aload_n S.1 S.2.1 dX5_undo_28 rfl (lv_at hl 0 rfl) ?_
    refine mg26 S hw dX5_undo_29 ?_
    refine lv_iadd S.1 S.2.1 dX5_undo_32 ?_
    refine lv_imul S.1 S.2.1 dX5_undo_33 ?_
    refine lv_iconst (v := 0) S.1 S.2.1 dX5_undo_34 rfl ?_
    refine lv_bipush (v := 43) S.1 S.2.1 dX5_undo_35 rfl ?_
    refine mcVv (As := [.int ((56 : Int32) * ((5 : Int32) + (rI w3 26 0))), .int (0 : Int32), .int (43 : Int32)]) (rest := []) S hw h (fun u h1 => met_copies l E A ((56 : Int32) * ((5 : Int32) + (rI w3 26 0))) (0 : Int32) (43 : Int32) w3 u h1) (cw_copies S.2.2.2.2 rfl rfl ⟨Nat.le_of_ble_eq_true rfl, Nat.le_of_ble_eq_true rfl⟩) rfl hl.1 rfl (lv_room (Nat.le_of_ble_eq_true rfl)) dX5_undo_37 (fun w4 H locs h hw => ?_)
    refine lv_iconst (v := 1) S.1 S.2.1 dX5_undo_40 rfl ?_
    exact m_zret S hr hlocks hw rfl (so2 h) dX5_undo_41
  · replace h := if_t c2 h
    refine lv_iconst (v := 0) S.1 S.2.1 dX5_undo_12 rfl ?_
    exact m_zret S hr hlocks hw rfl (so2 h) dX5_undo_13
def M_does_p198 (x3 : Int32) (x4 : Int32) (w : MS) : Option (Int32 × MS) :=
  if x4 = 0 then
    zb x4 (some (x4, w))
  else
    bd1 (wA w 25 1288 ((1195 : Int32) + x3) (rI w 10 4)) fun w10 =>
    zb x4 (some (x4, w10))
def M_does_p169 (x1 : Int32) (x2 : Int32) (x3 : Int32) (x4 : Int32) (w : MS) : Option (Int32 × MS) :=
  if x4 = 0 then
    M_does_p198 x3 x4 w
  else
    if x2 = (1 : Int32) then
      bd1 (rA w 22 200 (x1 + (2 : Int32))) fun v12 =>
      bd1 (M_frights (1176 : Int32) x3 v12 w) fun w13 =>
      zb x4 (some (x4, w13))
    else
      M_does_p198 x3 x4 w
def M_does_p149 (x1 : Int32) (x2 : Int32) (x3 : Int32) (x4 : Int32) (w : MS) : Option (Int32 × MS) :=
  if x4 = 0 then
    M_does_p169 x1 x2 x3 x4 w
  else
    if x2 = 0 then
      bd1 (M_climbs (1176 : Int32) x3 w) fun w15 =>
      zb x4 (some (x4, w15))
    else
      M_does_p169 x1 x2 x3 x4 w
def M_does_p79 : Nat → Int32 → Int32 → Int32 → MS → Option (Int32 × MS)
  | 0, _, _, _, _ => none
  | n + 1, x3, x4, x5, w =>
    if x3 ≤ x5 then
      zb x4 (some (x4, w))
    else
      bd2 (M_passes (1176 : Int32) w) fun r23 w22 =>
      (M_does_p79 n) x3 x4 (x5 + (1 : Int32)) w22
def M_does_p69 (x1 : Int32) (x2 : Int32) (x3 : Int32) (t0 : Int32) (w : MS) : Option (Int32 × MS) :=
  if x2 = (3 : Int32) then
    M_does_p79 FU x3 t0 (0 : Int32) w
  else
    if x2 = (4 : Int32) then
      bd2 (M_noons (1176 : Int32) w) fun r20 w19 =>
      zb t0 (some (t0, w19))
    else
      if t0 = 0 then
        M_does_p149 x1 x2 x3 t0 w
      else
        if x2 = (5 : Int32) then
          bd1 (rA w 22 200 (x1 + (2 : Int32))) fun v17 =>
          bd1 (wA w 25 1288 ((1177 : Int32) + x3) v17) fun w18 =>
          zb t0 (some (t0, w18))
        else
          M_does_p149 x1 x2 x3 t0 w
def M_does (x1 : Int32) (w : MS) : Option (Int32 × MS) :=
  bd1 (rA w 22 200 x1) fun v1 =>
  bd1 (rA w 22 200 (x1 + (1 : Int32))) fun v2 =>
  if v1 = (3 : Int32) then
    M_does_p69 x1 v1 v2 (1 : Int32) w
  else
    if v1 = (4 : Int32) then
      M_does_p69 x1 v1 v2 (1 : Int32) w
    else
      if v1 = (5 : Int32) then
        bd1 (rA w 22 200 (x1 + (2 : Int32))) fun v28 =>
        bd1 (M_mayMove (1176 : Int32) v2 v28 w) fun r29 =>
        if r29 = 0 then
          M_does_p69 x1 v1 v2 (0 : Int32) w
        else
          M_does_p69 x1 v1 v2 (1 : Int32) w
      else
        bd1 (M_isIn (1176 : Int32) v2 w) fun r26 =>
        if r26 = 0 then
          M_does_p69 x1 v1 v2 (0 : Int32) w
        else
          M_does_p69 x1 v1 v2 (1 : Int32) w
set_option maxRecDepth 100000 in
set_option maxHeartbeats 4000000 in
theorem wk_M_does_p198 {p : Program} {l : Launch} {e : Env} {s : State} {m : MethodId} {args : Array Value} {below : List Frame} {meth : Method} {c : Code} {E : mE} {A : Nat → Prop} (S : CallFix p m c cX5_does 6 s args lw_all RX5) (hr : meth.sig.returnType = (some .boolean)) (hlocks : meth.locks = false) {res : Int32 × MS}  : ∀ (x3 : Int32) (x4 : Int32) (w : MS) (H : Heap) (locs : List Loc) (ls : Array Slot), M_does_p198 x3 x4 w = some res → mH E A s w H locs → lv_has ls 6 [(0, .ref (mM E)), (3, .int x3), (4, .int x4)] → W p l e rm_does s m args below meth c H locs 0 0 (MQ below (mQi E A res.1 res.2) args s 0 0 A) (F0 m 198 ls []) := by
  intro x3 x4 w H locs ls h hw hl
  unfold M_does_p198 at h
  refine lv_iload S.1 S.2.1 dX5_does_198 (lv_at hl 2 rfl) ?_
  refine lv_if_eq (tgt := 219) S.1 S.2.1 dX5_does_200 rfl (fun c9 => ?_) (fun c9 => ?_)
  · replace h := if_t c9 h
    refine lv_iload S.1 S.2.1 dX5_does_219 (lv_at hl 2 rfl) ?_
    exact m_zretn S hr hlocks hw (zb_some h).1 (so2 (zb_some h).2) dX5_does_221
  · replace h := if_f c9 h
    refine lv_aload_n S.1 S.2.1 dX5_does_203 rfl (lv_at hl 0 rfl) ?_
    refine mg25 S hw dX5_does_204 ?_
    refine lv_sipush (v := 1195) S.1 S.2.1 dX5_does_207 rfl ?_
    refine lv_iload_n S.1 S.2.1 dX5_does_210 rfl (lv_at hl 1 rfl) ?_
    refine lv_iadd S.1 S.2.1 dX5_does_211 ?_
    refine lv_aload_n S.1 S.2.1 dX5_does_212 rfl (lv_at hl 0 rfl) ?_
    refine mg10 S hw dX5_does_213 ?_
    refine lv_iconst (v := 4) S.1 S.2.1 dX5_does_216 rfl ?_
    refine mlc10 (j := 4) S hw dX5_does_217 (by decide) ?_
    refine ms25 S hw dX5_does_218 h (fun w10 H locs h hw => ?_)
    refine lv_iload S.1 S.2.1 dX5_does_219 (lv_at hl 2 rfl) ?_
    exact m_zretn S hr hlocks hw (zb_some h).1 (so2 (zb_some h).2) dX5_does_221
set_option maxRecDepth 100000 in
set_option maxHeartbeats 4000000 in
theorem wk_M_does_p169 {p : Program} {l : Launch} {e : Env} {s : State} {m : MethodId} {args : Array Value} {below : List Frame} {meth : Method} {c : Code} {E : mE} {A : Nat → Prop} (S : CallFix p m c cX5_does 6 s args lw_all RX5) (hr : meth.sig.returnType = (some .boolean)) (hlocks : meth.locks = false) {res : Int32 × MS}  : ∀ (x1 : Int32) (x2 : Int32) (x3 : Int32) (x4 : Int32) (w : MS) (H : Heap) (locs : List Loc) (ls : Array Slot), M_does_p169 x1 x2 x3 x4 w = some res → mH E A s w H locs → lv_has ls 6 [(0, .ref (mM E)), (1, .int x1), (2, .int x2), (3, .int x3), (4, .int x4)] → W p l e rm_does s m args below meth c H locs 0 0 (MQ below (mQi E A res.1 res.2) args s 0 0 A) (F0 m 169 ls []) := by
  intro x1 x2 x3 x4 w H locs ls h hw hl
  unfold M_does_p169 at h
  refine lv_iload S.1 S.2.1 dX5_does_169 (lv_at hl 4 rfl) ?_
  refine lv_if_eq (tgt := 198) S.1 S.2.1 dX5_does_171 rfl (fun c8 => ?_) (fun c8 => ?_)
  · replace h := if_t c8 h
    exact wk_M_does_p198 S hr hlocks _ _ _ _ _ _ h hw (lv_sub hl [0, 3, 4] rfl)
  · replace h := if_f c8 h
    refine lv_iload_n S.1 S.2.1 dX5_does_174 rfl (lv_at hl 2 rfl) ?_
    refine lv_iconst (v := 1) S.1 S.2.1 dX5_does_175 rfl ?_
    refine lv_icmp_ne (tgt := 198) S.1 S.2.1 dX5_does_176 rfl (fun c11 => ?_) (fun c11 => ?_)
    · replace h := if_f c11 h
      exact wk_M_does_p198 S hr hlocks _ _ _ _ _ _ h hw (lv_sub hl [0, 3, 4] rfl)
    · replace h := if_t c11 h
      refine lv_aload_n S.1 S.2.1 dX5_does_179 rfl (lv_at hl 0 rfl) ?_
      refine lv_sipush (v := 1176) S.1 S.2.1 dX5_does_180 rfl ?_
      refine lv_iload_n S.1 S.2.1 dX5_does_183 rfl (lv_at hl 3 rfl) ?_
      refine lv_aload_n S.1 S.2.1 dX5_does_184 rfl (lv_at hl 0 rfl) ?_
      refine mg22 S hw dX5_does_185 ?_
      refine lv_iload_n S.1 S.2.1 dX5_does_188 rfl (lv_at hl 1 rfl) ?_
      refine lv_iconst (v := 2) S.1 S.2.1 dX5_does_189 rfl ?_
      refine lv_iadd S.1 S.2.1 dX5_does_190 ?_
      refine ml22 S hw dX5_does_191 h (fun v12 h => ?_)
      refine mcVv (As := [.int (1176 : Int32), .int x3, .int v12]) (rest := []) S hw h (fun u h1 => met_frights l E A (1176 : Int32) x3 v12 w u h1) (cw_frights S.2.2.2.2 rfl rfl ⟨Nat.le_of_ble_eq_true rfl, Nat.le_of_ble_eq_true rfl⟩) rfl hl.1 rfl (lv_room (Nat.le_of_ble_eq_true rfl)) dX5_does_192 (fun w13 H locs h hw => ?_)
      refine lv_goto (tgt := 219) S.1 S.2.1 dX5_does_195 rfl ?_
      refine lv_iload S.1 S.2.1 dX5_does_219 (lv_at hl 4 rfl) ?_
      exact m_zretn S hr hlocks hw (zb_some h).1 (so2 (zb_some h).2) dX5_does_221
set_option maxRecDepth 100000 in
set_option maxHeartbeats 4000000 in
theorem wk_M_does_p149 {p : Program} {l : Launch} {e : Env} {s : State} {m : MethodId} {args : Array Value} {below : List Frame} {meth : Method} {c : Code} {E : mE} {A : Nat → Prop} (S : CallFix p m c cX5_does 6 s args lw_all RX5) (hr : meth.sig.returnType = (some .boolean)) (hlocks : meth.locks = false) {res : Int32 × MS}  : ∀ (x1 : Int32) (x2 : Int32) (x3 : Int32) (x4 : Int32) (w : MS) (H : Heap) (locs : List Loc) (ls : Array Slot), M_does_p149 x1 x2 x3 x4 w = some res → mH E A s w H locs → lv_has ls 6 [(0, .ref (mM E)), (1, .int x1), (2, .int x2), (3, .int x3), (4, .int x4)] → W p l e rm_does s m args below meth c H locs 0 0 (MQ below (mQi E A res.1 res.2) args s 0 0 A) (F0 m 149 ls []) := by
  intro x1 x2 x3 x4 w H locs ls h hw hl
  unfold M_does_p149 at h
  refine lv_iload S.1 S.2.1 dX5_does_149 (lv_at hl 4 rfl) ?_
  refine lv_if_eq (tgt := 169) S.1 S.2.1 dX5_does_151 rfl (fun c7 => ?_) (fun c7 => ?_)
  · replace h := if_t c7 h
    exact wk_M_does_p169 S hr hlocks _ _ _ _ _ _ _ _ h hw (lv_sub hl [0, 1, 2, 3, 4] rfl)
  · replace h := if_f c7 h
    refine lv_iload_n S.1 S.2.1 dX5_does_154 rfl (lv_at hl 2 rfl) ?_
    refine lv_if_ne (tgt := 169) S.1 S.2.1 dX5_does_155 rfl (fun c14 => ?_) (fun c14 => ?_)
    · replace h := if_f c14 h
      exact wk_M_does_p169 S hr hlocks _ _ _ _ _ _ _ _ h hw (lv_sub hl [0, 1, 2, 3, 4] rfl)
    · replace h := if_t c14 h
      refine lv_aload_n S.1 S.2.1 dX5_does_158 rfl (lv_at hl 0 rfl) ?_
      refine lv_sipush (v := 1176) S.1 S.2.1 dX5_does_159 rfl ?_
      refine lv_iload_n S.1 S.2.1 dX5_does_162 rfl (lv_at hl 3 rfl) ?_
      refine mcVv (As := [.int (1176 : Int32), .int x3]) (rest := []) S hw h (fun u h1 => met_climbs l E A (1176 : Int32) x3 w u h1) (cw_climbs S.2.2.2.2 rfl rfl ⟨Nat.le_of_ble_eq_true rfl, Nat.le_of_ble_eq_true rfl⟩) rfl hl.1 rfl (lv_room (Nat.le_of_ble_eq_true rfl)) dX5_does_163 (fun w15 H locs h hw => ?_)
      refine lv_goto (tgt := 219) S.1 S.2.1 dX5_does_166 rfl ?_
      refine lv_iload S.1 S.2.1 dX5_does_219 (lv_at hl 4 rfl) ?_
      exact m_zretn S hr hlocks hw (zb_some h).1 (so2 (zb_some h).2) dX5_does_221
set_option maxRecDepth 100000 in
set_option maxHeartbeats 4000000 in
theorem wk_M_does_p79 {p : Program} {l : Launch} {e : Env} {s : State} {m : MethodId} {args : Array Value} {below : List Frame} {meth : Method} {c : Code} {E : mE} {A : Nat → Prop} (S : CallFix p m c cX5_does 6 s args lw_all RX5) (hr : meth.sig.returnType = (some .boolean)) (hlocks : meth.locks = false) {res : Int32 × MS}  : ∀ n : Nat, ∀ (x3 : Int32) (x4 : Int32) (x5 : Int32) (w : MS) (H : Heap) (locs : List Loc) (ls : Array Slot), M_does_p79 n x3 x4 x5 w = some res → mH E A s w H locs → lv_has ls 6 [(0, .ref (mM E)), (3, .int x3), (4, .int x4), (5, .int x5)] → W p l e rm_does s m args below meth c H locs 0 0 (MQ below (mQi E A res.1 res.2) args s 0 0 A) (F0 m 79 ls []) := by
  intro n
  induction n with
  | zero => intro x3 x4 x5 w H locs ls h; cases (show (none : Option (Int32 × MS)) = some res from h)
  | succ n ih =>
    intro x3 x4 x5 w H locs ls h hw hl
    rw [M_does_p79] at h
    refine lv_iload S.1 S.2.1 dX5_does_79 (lv_at hl 3 rfl) ?_
    refine lv_iload_n S.1 S.2.1 dX5_does_81 rfl (lv_at hl 1 rfl) ?_
    refine lv_icmp_ge (tgt := 99) S.1 S.2.1 dX5_does_82 rfl (fun c21 => ?_) (fun c21 => ?_)
    · replace h := if_t c21 h
      refine lv_goto (tgt := 219) S.1 S.2.1 dX5_does_99 rfl ?_
      refine lv_iload S.1 S.2.1 dX5_does_219 (lv_at hl 2 rfl) ?_
      exact m_zretn S hr hlocks hw (zb_some h).1 (so2 (zb_some h).2) dX5_does_221
    · replace h := if_f c21 h
      refine lv_aload_n S.1 S.2.1 dX5_does_85 rfl (lv_at hl 0 rfl) ?_
      refine lv_sipush (v := 1176) S.1 S.2.1 dX5_does_86 rfl ?_
      refine mcVwi (As := [.int (1176 : Int32)]) (rest := []) S hw h (fun u h1 => met_passes l E A (1176 : Int32) w u h1) (cw_passes S.2.2.2.2 rfl rfl ⟨Nat.le_of_ble_eq_true rfl, Nat.le_of_ble_eq_true rfl⟩) rfl hl.1 rfl (lv_room (Nat.le_of_ble_eq_true rfl)) dX5_does_89 (fun r23 w22 H locs h hw => ?_)
      refine lv_pop S.1 S.2.1 dX5_does_92 rfl ?_
      refine lv_iinc (v := x5 + (1 : Int32)) (lv' := [(5, .int (x5 + (1 : Int32))), (0, .ref (mM E)), (3, .int x3), (4, .int x4)]) S.1 S.2.1 dX5_does_93 hl (k := 3) rfl rfl (by decide) rfl (fun ls hl => ?_)
      refine lv_goto (tgt := 79) S.1 S.2.1 dX5_does_96 rfl ?_
      exact ih _ _ _ _ _ _ _ h hw (lv_sub hl [1, 2, 3, 0] rfl)
set_option maxRecDepth 100000 in
set_option maxHeartbeats 4000000 in
theorem wk_M_does_p69 {p : Program} {l : Launch} {e : Env} {s : State} {m : MethodId} {args : Array Value} {below : List Frame} {meth : Method} {c : Code} {E : mE} {A : Nat → Prop} (S : CallFix p m c cX5_does 6 s args lw_all RX5) (hr : meth.sig.returnType = (some .boolean)) (hlocks : meth.locks = false) {res : Int32 × MS}  : ∀ (x1 : Int32) (x2 : Int32) (x3 : Int32) (t0 : Int32) (w : MS) (H : Heap) (locs : List Loc) (ls : Array Slot), M_does_p69 x1 x2 x3 t0 w = some res → mH E A s w H locs → lv_has ls 6 [(0, .ref (mM E)), (1, .int x1), (2, .int x2), (3, .int x3)] → W p l e rm_does s m args below meth c H locs 0 0 (MQ below (mQi E A res.1 res.2) args s 0 0 A) (F0 m 69 ls [.int t0]) := by
  intro x1 x2 x3 t0 w H locs ls h hw hl
  unfold M_does_p69 at h
  refine lv_istore (lv' := [(4, .int t0), (0, .ref (mM E)), (1, .int x1), (2, .int x2), (3, .int x3)]) S.1 S.2.1 dX5_does_69 hl (by decide) rfl (fun ls hl => ?_)
  refine lv_iload_n S.1 S.2.1 dX5_does_71 rfl (lv_at hl 3 rfl) ?_
  refine lv_iconst (v := 3) S.1 S.2.1 dX5_does_72 rfl ?_
  refine lv_icmp_ne (tgt := 102) S.1 S.2.1 dX5_does_73 rfl (fun c4 => ?_) (fun c4 => ?_)
  · replace h := if_f c4 h
    refine lv_iload_n S.1 S.2.1 dX5_does_102 rfl (lv_at hl 3 rfl) ?_
    refine lv_iconst (v := 4) S.1 S.2.1 dX5_does_103 rfl ?_
    refine lv_icmp_ne (tgt := 118) S.1 S.2.1 dX5_does_104 rfl (fun c5 => ?_) (fun c5 => ?_)
    · replace h := if_f c5 h
      refine lv_iload S.1 S.2.1 dX5_does_118 (lv_at hl 0 rfl) ?_
      refine lv_if_eq (tgt := 149) S.1 S.2.1 dX5_does_120 rfl (fun c6 => ?_) (fun c6 => ?_)
      · replace h := if_t c6 h
        exact wk_M_does_p149 S hr hlocks _ _ _ _ _ _ _ _ h hw (lv_sub hl [1, 2, 3, 4, 0] rfl)
      · replace h := if_f c6 h
        refine lv_iload_n S.1 S.2.1 dX5_does_123 rfl (lv_at hl 3 rfl) ?_
        refine lv_iconst (v := 5) S.1 S.2.1 dX5_does_124 rfl ?_
        refine lv_icmp_ne (tgt := 149) S.1 S.2.1 dX5_does_125 rfl (fun c16 => ?_) (fun c16 => ?_)
        · replace h := if_f c16 h
          exact wk_M_does_p149 S hr hlocks _ _ _ _ _ _ _ _ h hw (lv_sub hl [1, 2, 3, 4, 0] rfl)
        · replace h := if_t c16 h
          refine lv_aload_n S.1 S.2.1 dX5_does_128 rfl (lv_at hl 1 rfl) ?_
          refine mg25 S hw dX5_does_129 ?_
          refine lv_sipush (v := 1177) S.1 S.2.1 dX5_does_132 rfl ?_
          refine lv_iload_n S.1 S.2.1 dX5_does_135 rfl (lv_at hl 4 rfl) ?_
          refine lv_iadd S.1 S.2.1 dX5_does_136 ?_
          refine lv_aload_n S.1 S.2.1 dX5_does_137 rfl (lv_at hl 1 rfl) ?_
          refine mg22 S hw dX5_does_138 ?_
          refine lv_iload_n S.1 S.2.1 dX5_does_141 rfl (lv_at hl 2 rfl) ?_
          refine lv_iconst (v := 2) S.1 S.2.1 dX5_does_142 rfl ?_
          refine lv_iadd S.1 S.2.1 dX5_does_143 ?_
          refine ml22 S hw dX5_does_144 h (fun v17 h => ?_)
          refine ms25 S hw dX5_does_145 h (fun w18 H locs h hw => ?_)
          refine lv_goto (tgt := 219) S.1 S.2.1 dX5_does_146 rfl ?_
          refine lv_iload S.1 S.2.1 dX5_does_219 (lv_at hl 0 rfl) ?_
          exact m_zretn S hr hlocks hw (zb_some h).1 (so2 (zb_some h).2) dX5_does_221
    · replace h := if_t c5 h
      refine lv_aload_n S.1 S.2.1 dX5_does_107 rfl (lv_at hl 1 rfl) ?_
      refine lv_sipush (v := 1176) S.1 S.2.1 dX5_does_108 rfl ?_
      refine mcVwi (As := [.int (1176 : Int32)]) (rest := []) S hw h (fun u h1 => met_noons l E A (1176 : Int32) w u h1) (cw_noons S.2.2.2.2 rfl rfl ⟨Nat.le_of_ble_eq_true rfl, Nat.le_of_ble_eq_true rfl⟩) rfl hl.1 rfl (lv_room (Nat.le_of_ble_eq_true rfl)) dX5_does_111 (fun r20 w19 H locs h hw => ?_)
      refine lv_pop S.1 S.2.1 dX5_does_114 rfl ?_
      refine lv_goto (tgt := 219) S.1 S.2.1 dX5_does_115 rfl ?_
      refine lv_iload S.1 S.2.1 dX5_does_219 (lv_at hl 0 rfl) ?_
      exact m_zretn S hr hlocks hw (zb_some h).1 (so2 (zb_some h).2) dX5_does_221
  · replace h := if_t c4 h
    refine lv_iconst (v := 0) S.1 S.2.1 dX5_does_76 rfl ?_
    refine lv_istore (lv' := [(5, .int (0 : Int32)), (4, .int t0), (0, .ref (mM E)), (1, .int x1), (2, .int x2), (3, .int x3)]) S.1 S.2.1 dX5_does_77 hl (by decide) rfl (fun ls hl => ?_)
    exact wk_M_does_p79 S hr hlocks FU _ _ _ _ _ _ _ h hw (lv_sub hl [2, 5, 1, 0] rfl)
set_option maxRecDepth 100000 in
set_option maxHeartbeats 4000000 in
theorem met_does (l : Launch) (E : mE) (A : Nat → Prop)  (x1 : Int32) (w : MS) (res : Int32 × MS) (h : M_does x1 w = some res) : Met l yX5_does (ws_ yX5_does cX5_does 6 (some .boolean)) rm_does (mPc E A [.ref (mM E), .int x1] w) (mQi E A res.1 res.2) 0 0 A := by
  refine mMet (by decide) rfl (Nat.le_of_ble_eq_true rfl) ?_
  intro p e s m below meth c S hr hlocks H ls hw hl
  replace hl : lv_has ls 6 [(0, .ref (mM E)), (1, .int x1)] := hl
  unfold M_does at h
  refine lv_aload_n S.1 S.2.1 dX5_does_0 rfl (lv_at hl 0 rfl) ?_
  refine mg22 S hw dX5_does_1 ?_
  refine lv_iload_n S.1 S.2.1 dX5_does_4 rfl (lv_at hl 1 rfl) ?_
  refine ml22 S hw dX5_does_5 h (fun v1 h => ?_)
  refine lv_istore_n (lv' := [(2, .int v1), (0, .ref (mM E)), (1, .int x1)]) S.1 S.2.1 dX5_does_6 rfl hl (by decide) rfl (fun ls hl => ?_)
  refine lv_aload_n S.1 S.2.1 dX5_does_7 rfl (lv_at hl 1 rfl) ?_
  refine mg22 S hw dX5_does_8 ?_
  refine lv_iload_n S.1 S.2.1 dX5_does_11 rfl (lv_at hl 2 rfl) ?_
  refine lv_iconst (v := 1) S.1 S.2.1 dX5_does_12 rfl ?_
  refine lv_iadd S.1 S.2.1 dX5_does_13 ?_
  refine ml22 S hw dX5_does_14 h (fun v2 h => ?_)
  refine lv_istore_n (lv' := [(3, .int v2), (2, .int v1), (0, .ref (mM E)), (1, .int x1)]) S.1 S.2.1 dX5_does_15 rfl hl (by decide) rfl (fun ls hl => ?_)
  refine lv_iload_n S.1 S.2.1 dX5_does_16 rfl (lv_at hl 1 rfl) ?_
  refine lv_iconst (v := 3) S.1 S.2.1 dX5_does_17 rfl ?_
  refine lv_icmp_eq (tgt := 64) S.1 S.2.1 dX5_does_18 rfl (fun c3 => ?_) (fun c3 => ?_)
  · replace h := if_t c3 h
    refine lv_iconst (v := 1) S.1 S.2.1 dX5_does_64 rfl ?_
    refine lv_goto (tgt := 69) S.1 S.2.1 dX5_does_65 rfl ?_
    exact wk_M_does_p69 S hr hlocks _ _ _ _ _ _ _ _ h hw (lv_sub hl [2, 3, 1, 0] rfl)
  · replace h := if_f c3 h
    refine lv_iload_n S.1 S.2.1 dX5_does_21 rfl (lv_at hl 1 rfl) ?_
    refine lv_iconst (v := 4) S.1 S.2.1 dX5_does_22 rfl ?_
    refine lv_icmp_eq (tgt := 64) S.1 S.2.1 dX5_does_23 rfl (fun c24 => ?_) (fun c24 => ?_)
    · replace h := if_t c24 h
      refine lv_iconst (v := 1) S.1 S.2.1 dX5_does_64 rfl ?_
      refine lv_goto (tgt := 69) S.1 S.2.1 dX5_does_65 rfl ?_
      exact wk_M_does_p69 S hr hlocks _ _ _ _ _ _ _ _ h hw (lv_sub hl [2, 3, 1, 0] rfl)
    · replace h := if_f c24 h
      refine lv_iload_n S.1 S.2.1 dX5_does_26 rfl (lv_at hl 1 rfl) ?_
      refine lv_iconst (v := 5) S.1 S.2.1 dX5_does_27 rfl ?_
      refine lv_icmp_ne (tgt := 53) S.1 S.2.1 dX5_does_28 rfl (fun c25 => ?_) (fun c25 => ?_)
      · replace h := if_f c25 h
        refine lv_aload_n S.1 S.2.1 dX5_does_53 rfl (lv_at hl 2 rfl) ?_
        refine lv_sipush (v := 1176) S.1 S.2.1 dX5_does_54 rfl ?_
        refine lv_iload_n S.1 S.2.1 dX5_does_57 rfl (lv_at hl 0 rfl) ?_
        refine mcVri (As := [.int (1176 : Int32), .int v2]) (rest := []) S hw h (fun u h1 => met_isIn l E A (1176 : Int32) v2 w u h1) (cw_isIn S.2.2.2.2 rfl rfl ⟨Nat.le_of_ble_eq_true rfl, Nat.le_of_ble_eq_true rfl⟩) rfl hl.1 rfl (lv_room (Nat.le_of_ble_eq_true rfl)) dX5_does_58 (fun r26 H locs h hw => ?_)
        refine lv_if_eq (tgt := 68) S.1 S.2.1 dX5_does_61 rfl (fun c27 => ?_) (fun c27 => ?_)
        · replace h := if_t c27 h
          refine lv_iconst (v := 0) S.1 S.2.1 dX5_does_68 rfl ?_
          exact wk_M_does_p69 S hr hlocks _ _ _ _ _ _ _ _ h hw (lv_sub hl [2, 3, 1, 0] rfl)
        · replace h := if_f c27 h
          refine lv_iconst (v := 1) S.1 S.2.1 dX5_does_64 rfl ?_
          refine lv_goto (tgt := 69) S.1 S.2.1 dX5_does_65 rfl ?_
          exact wk_M_does_p69 S hr hlocks _ _ _ _ _ _ _ _ h hw (lv_sub hl [2, 3, 1, 0] rfl)
      · replace h := if_t c25 h
        refine lv_aload_n S.1 S.2.1 dX5_does_31 rfl (lv_at hl 2 rfl) ?_
        refine lv_sipush (v := 1176) S.1 S.2.1 dX5_does_32 rfl ?_
        refine lv_iload_n S.1 S.2.1 dX5_does_35 rfl (lv_at hl 0 rfl) ?_
        refine lv_aload_n S.1 S.2.1 dX5_does_36 rfl (lv_at hl 2 rfl) ?_
        refine mg22 S hw dX5_does_37 ?_
        refine lv_iload_n S.1 S.2.1 dX5_does_40 rfl (lv_at hl 3 rfl) ?_
        refine lv_iconst (v := 2) S.1 S.2.1 dX5_does_41 rfl ?_
        refine lv_iadd S.1 S.2.1 dX5_does_42 ?_
        refine ml22 S hw dX5_does_43 h (fun v28 h => ?_)
        refine mcVri (As := [.int (1176 : Int32), .int v2, .int v28]) (rest := []) S hw h (fun u h1 => met_mayMove l E A (1176 : Int32) v2 v28 w u h1) (cw_mayMove S.2.2.2.2 rfl rfl ⟨Nat.le_of_ble_eq_true rfl, Nat.le_of_ble_eq_true rfl⟩) rfl hl.1 rfl (lv_room (Nat.le_of_ble_eq_true rfl)) dX5_does_44 (fun r29 H locs h hw => ?_)
        refine lv_if_eq (tgt := 68) S.1 S.2.1 dX5_does_47 rfl (fun c30 => ?_) (fun c30 => ?_)
        · replace h := if_t c30 h
          refine lv_iconst (v := 0) S.1 S.2.1 dX5_does_68 rfl ?_
          exact wk_M_does_p69 S hr hlocks _ _ _ _ _ _ _ _ h hw (lv_sub hl [2, 3, 1, 0] rfl)
        · replace h := if_f c30 h
          refine lv_goto (tgt := 64) S.1 S.2.1 dX5_does_50 rfl ?_
          refine lv_iconst (v := 1) S.1 S.2.1 dX5_does_64 rfl ?_
          refine lv_goto (tgt := 69) S.1 S.2.1 dX5_does_65 rfl ?_
          exact wk_M_does_p69 S hr hlocks _ _ _ _ _ _ _ _ h hw (lv_sub hl [2, 3, 1, 0] rfl)
def M_goneMany_p4 : Nat → Int32 → Int32 → Int32 → MS → Option Int32
  | 0, _, _, _, _ => none
  | n + 1, x1, x2, x3, w =>
    if (M_tenants w) ≤ x3 then
      some x2
    else
      bd1 (rA w 25 1288 ((x1 + (37 : Int32)) + x3)) fun v2 =>
      bdp (x2 + v2) fun y3 =>
      (M_goneMany_p4 n) x1 y3 (x3 + (1 : Int32)) w
def M_goneMany (x1 : Int32) (w : MS) : Option Int32 :=
  M_goneMany_p4 FU x1 (0 : Int32) (0 : Int32) w
set_option maxRecDepth 100000 in
set_option maxHeartbeats 4000000 in
theorem wk_M_goneMany_p4 {p : Program} {l : Launch} {e : Env} {s : State} {m : MethodId} {args : Array Value} {below : List Frame} {meth : Method} {c : Code} {E : mE} {A : Nat → Prop} (S : CallFix p m c cX5_goneMany 4 s args lw_all RX5) (hr : meth.sig.returnType = (some .int)) (hlocks : meth.locks = false) {res : Int32}  : ∀ n : Nat, ∀ (x1 : Int32) (x2 : Int32) (x3 : Int32) (w : MS) (H : Heap) (locs : List Loc) (ls : Array Slot), M_goneMany_p4 n x1 x2 x3 w = some res → mH E A s w H locs → lv_has ls 4 [(0, .ref (mM E)), (1, .int x1), (2, .int x2), (3, .int x3)] → W p l e rm_goneMany s m args below meth c H locs 0 0 (MQ below (mQi E A res w) args s 0 0 A) (F0 m 4 ls []) := by
  intro n
  induction n with
  | zero => intro x1 x2 x3 w H locs ls h; cases (show (none : Option Int32) = some res from h)
  | succ n ih =>
    intro x1 x2 x3 w H locs ls h hw hl
    rw [M_goneMany_p4] at h
    refine lv_iload_n S.1 S.2.1 dX5_goneMany_4 rfl (lv_at hl 3 rfl) ?_
    refine lv_aload_n S.1 S.2.1 dX5_goneMany_5 rfl (lv_at hl 0 rfl) ?_
    refine mcVti (As := []) (rest := [.int x3]) S hw (met_tenants l E A  w _ rfl) (cw_tenants S.2.2.2.2 rfl rfl ⟨Nat.le_of_ble_eq_true rfl, Nat.le_of_ble_eq_true rfl⟩) rfl hl.1 rfl (lv_room (Nat.le_of_ble_eq_true rfl)) dX5_goneMany_6 (fun H locs hw => ?_)
    refine lv_icmp_ge (tgt := 32) S.1 S.2.1 dX5_goneMany_9 rfl (fun c1 => ?_) (fun c1 => ?_)
    · replace h := if_t c1 h
      refine lv_iload_n S.1 S.2.1 dX5_goneMany_32 rfl (lv_at hl 2 rfl) ?_
      exact m_iret S hr hlocks hw ⟨so1 h, rfl⟩ dX5_goneMany_33
    · replace h := if_f c1 h
      refine lv_iload_n S.1 S.2.1 dX5_goneMany_12 rfl (lv_at hl 2 rfl) ?_
      refine lv_aload_n S.1 S.2.1 dX5_goneMany_13 rfl (lv_at hl 0 rfl) ?_
      refine mg25 S hw dX5_goneMany_14 ?_
      refine lv_iload_n S.1 S.2.1 dX5_goneMany_17 rfl (lv_at hl 1 rfl) ?_
      refine lv_bipush (v := 37) S.1 S.2.1 dX5_goneMany_18 rfl ?_
      refine lv_iadd S.1 S.2.1 dX5_goneMany_20 ?_
      refine lv_iload_n S.1 S.2.1 dX5_goneMany_21 rfl (lv_at hl 3 rfl) ?_
      refine lv_iadd S.1 S.2.1 dX5_goneMany_22 ?_
      refine ml25 S hw dX5_goneMany_23 h (fun v2 h => ?_)
      refine lv_iadd S.1 S.2.1 dX5_goneMany_24 ?_
      refine lv_topi (fun y3 ey => ?_)
      replace h := bdp_e ey h
      refine lv_istore_n (lv' := [(2, .int y3), (0, .ref (mM E)), (1, .int x1), (3, .int x3)]) S.1 S.2.1 dX5_goneMany_25 rfl hl (by decide) rfl (fun ls hl => ?_)
      refine lv_iinc (v := x3 + (1 : Int32)) (lv' := [(3, .int (x3 + (1 : Int32))), (2, .int y3), (0, .ref (mM E)), (1, .int x1)]) S.1 S.2.1 dX5_goneMany_26 hl (k := 3) rfl rfl (by decide) rfl (fun ls hl => ?_)
      refine lv_goto (tgt := 4) S.1 S.2.1 dX5_goneMany_29 rfl ?_
      exact ih _ _ _ _ _ _ _ h hw (lv_sub hl [2, 3, 1, 0] rfl)
set_option maxRecDepth 100000 in
set_option maxHeartbeats 4000000 in
theorem met_goneMany (l : Launch) (E : mE) (A : Nat → Prop)  (x1 : Int32) (w : MS) (res : Int32) (h : M_goneMany x1 w = some res) : Met l yX5_goneMany (ws_ yX5_goneMany cX5_goneMany 4 (some .int)) rm_goneMany (mPc E A [.ref (mM E), .int x1] w) (mQi E A res w) 0 0 A := by
  refine mMet (by decide) rfl (Nat.le_of_ble_eq_true rfl) ?_
  intro p e s m below meth c S hr hlocks H ls hw hl
  replace hl : lv_has ls 4 [(0, .ref (mM E)), (1, .int x1)] := hl
  unfold M_goneMany at h
  refine lv_iconst (v := 0) S.1 S.2.1 dX5_goneMany_0 rfl ?_
  refine lv_istore_n (lv' := [(2, .int (0 : Int32)), (0, .ref (mM E)), (1, .int x1)]) S.1 S.2.1 dX5_goneMany_1 rfl hl (by decide) rfl (fun ls hl => ?_)
  refine lv_iconst (v := 0) S.1 S.2.1 dX5_goneMany_2 rfl ?_
  refine lv_istore_n (lv' := [(3, .int (0 : Int32)), (2, .int (0 : Int32)), (0, .ref (mM E)), (1, .int x1)]) S.1 S.2.1 dX5_goneMany_3 rfl hl (by decide) rfl (fun ls hl => ?_)
  exact wk_M_goneMany_p4 S hr hlocks FU _ _ _ _ _ _ _ h hw (lv_sub hl [2, 3, 1, 0] rfl)
def M_judged_p69 (k31 : Int32 → Int32 → Int32 → Int32 → MS → Option (Int32 × MS)) (x1 : Int32) (x3 : Int32) (x4 : Int32) (t0 : Int32) (w : MS) : Option (Int32 × MS) :=
  if 0 ≤ x3 then
    k31 x1 t0 x3 (x4 + (1 : Int32)) w
  else
    bd1 (M_goneMany (1176 : Int32) w) fun r12 =>
    if r12 ≤ 0 then
      k31 x1 t0 x3 (x4 + (1 : Int32)) w
    else
      k31 x1 t0 x4 (x4 + (1 : Int32)) w
def M_judged_p31 : Nat → Int32 → Int32 → Int32 → Int32 → MS → Option (Int32 × MS)
  | 0, _, _, _, _, _ => none
  | n + 1, x1, x2, x3, x4, w =>
    if (rI w 22 0) ≤ x4 then
      if x1 = 0 then
        some (x2, w)
      else
        if x1 = (1 : Int32) then
          some (x3, w)
        else
          bd1 (M_goneMany (1176 : Int32) w) fun r7 =>
          some (r7, w)
    else
      bd2 (M_does ((1 : Int32) + ((3 : Int32) * x4)) w) fun r9 w8 =>
      if r9 = 0 then
        if 0 ≤ x2 then
          M_judged_p69 (M_judged_p31 n) x1 x3 x4 x2 w8
        else
          M_judged_p69 (M_judged_p31 n) x1 x3 x4 x4 w8
      else
        M_judged_p69 (M_judged_p31 n) x1 x3 x4 x2 w8
def M_judged (x1 : Int32) (w : MS) : Option (Int32 × MS) :=
  bdp (wI w 0 0 (0 : Int32)) fun w1 =>
  if (M_within x1 (0 : Int32) (2 : Int32)) = 0 then
    some ((-2 : Int32), w1)
  else
    bd1 (M_starts (1176 : Int32) w1) fun w3 =>
    M_judged_p31 FU x1 (-1 : Int32) (-1 : Int32) (0 : Int32) w3
set_option maxRecDepth 100000 in
set_option maxHeartbeats 4000000 in
theorem wk_M_judged_p69 {p : Program} {l : Launch} {e : Env} {s : State} {m : MethodId} {args : Array Value} {below : List Frame} {meth : Method} {c : Code} {E : mE} {A : Nat → Prop} (S : CallFix p m c cX5_judged 6 s args lw_all RX5) (hr : meth.sig.returnType = (some .int)) (hlocks : meth.locks = false) {res : Int32 × MS}  {k31 : Int32 → Int32 → Int32 → Int32 → MS → Option (Int32 × MS)} (hk31 : ∀ (x1 : Int32) (x2 : Int32) (x3 : Int32) (x4 : Int32) (w : MS) (H : Heap) (locs : List Loc) (ls : Array Slot), k31 x1 x2 x3 x4 w = some res → mH E A s w H locs → lv_has ls 6 [(0, .ref (mM E)), (1, .int x1), (2, .int x2), (3, .int x3), (4, .int x4)] → W p l e rm_judged s m args below meth c H locs 0 0 (MQ below (mQi E A res.1 res.2) args s 0 0 A) (F0 m 31 ls [])) : ∀ (x1 : Int32) (x3 : Int32) (x4 : Int32) (t0 : Int32) (w : MS) (H : Heap) (locs : List Loc) (ls : Array Slot), M_judged_p69 k31 x1 x3 x4 t0 w = some res → mH E A s w H locs → lv_has ls 6 [(0, .ref (mM E)), (1, .int x1), (3, .int x3), (4, .int x4)] → W p l e rm_judged s m args below meth c H locs 0 0 (MQ below (mQi E A res.1 res.2) args s 0 0 A) (F0 m 69 ls [.int t0]) := by
  intro x1 x3 x4 t0 w H locs ls h hw hl
  unfold M_judged_p69 at h
  refine lv_istore_n (lv' := [(2, .int t0), (0, .ref (mM E)), (1, .int x1), (3, .int x3), (4, .int x4)]) S.1 S.2.1 dX5_judged_69 rfl hl (by decide) rfl (fun ls hl => ?_)
  refine lv_iload_n S.1 S.2.1 dX5_judged_70 rfl (lv_at hl 3 rfl) ?_
  refine lv_if_ge (tgt := 89) S.1 S.2.1 dX5_judged_71 rfl (fun c11 => ?_) (fun c11 => ?_)
  · replace h := if_t c11 h
    refine lv_iload_n S.1 S.2.1 dX5_judged_89 rfl (lv_at hl 3 rfl) ?_
    refine lv_istore_n (lv' := [(3, .int x3), (2, .int t0), (0, .ref (mM E)), (1, .int x1), (4, .int x4)]) S.1 S.2.1 dX5_judged_90 rfl hl (by decide) rfl (fun ls hl => ?_)
    refine lv_iinc (v := x4 + (1 : Int32)) (lv' := [(4, .int (x4 + (1 : Int32))), (3, .int x3), (2, .int t0), (0, .ref (mM E)), (1, .int x1)]) S.1 S.2.1 dX5_judged_91 hl (k := 4) rfl rfl (by decide) rfl (fun ls hl => ?_)
    refine lv_goto (tgt := 31) S.1 S.2.1 dX5_judged_94 rfl ?_
    exact hk31 _ _ _ _ _ _ _ _ h hw (lv_sub hl [3, 4, 2, 1, 0] rfl)
  · replace h := if_f c11 h
    refine lv_aload_n S.1 S.2.1 dX5_judged_74 rfl (lv_at hl 1 rfl) ?_
    refine lv_sipush (v := 1176) S.1 S.2.1 dX5_judged_75 rfl ?_
    refine mcVri (As := [.int (1176 : Int32)]) (rest := []) S hw h (fun u h1 => met_goneMany l E A (1176 : Int32) w u h1) (cw_goneMany S.2.2.2.2 rfl rfl ⟨Nat.le_of_ble_eq_true rfl, Nat.le_of_ble_eq_true rfl⟩) rfl hl.1 rfl (lv_room (Nat.le_of_ble_eq_true rfl)) dX5_judged_78 (fun r12 H locs h hw => ?_)
    refine lv_if_le (tgt := 89) S.1 S.2.1 dX5_judged_81 rfl (fun c13 => ?_) (fun c13 => ?_)
    · replace h := if_t c13 h
      refine lv_iload_n S.1 S.2.1 dX5_judged_89 rfl (lv_at hl 3 rfl) ?_
      refine lv_istore_n (lv' := [(3, .int x3), (2, .int t0), (0, .ref (mM E)), (1, .int x1), (4, .int x4)]) S.1 S.2.1 dX5_judged_90 rfl hl (by decide) rfl (fun ls hl => ?_)
      refine lv_iinc (v := x4 + (1 : Int32)) (lv' := [(4, .int (x4 + (1 : Int32))), (3, .int x3), (2, .int t0), (0, .ref (mM E)), (1, .int x1)]) S.1 S.2.1 dX5_judged_91 hl (k := 4) rfl rfl (by decide) rfl (fun ls hl => ?_)
      refine lv_goto (tgt := 31) S.1 S.2.1 dX5_judged_94 rfl ?_
      exact hk31 _ _ _ _ _ _ _ _ h hw (lv_sub hl [3, 4, 2, 1, 0] rfl)
    · replace h := if_f c13 h
      refine lv_iload S.1 S.2.1 dX5_judged_84 (lv_at hl 4 rfl) ?_
      refine lv_goto (tgt := 90) S.1 S.2.1 dX5_judged_86 rfl ?_
      refine lv_istore_n (lv' := [(3, .int x4), (2, .int t0), (0, .ref (mM E)), (1, .int x1), (4, .int x4)]) S.1 S.2.1 dX5_judged_90 rfl hl (by decide) rfl (fun ls hl => ?_)
      refine lv_iinc (v := x4 + (1 : Int32)) (lv' := [(4, .int (x4 + (1 : Int32))), (3, .int x4), (2, .int t0), (0, .ref (mM E)), (1, .int x1)]) S.1 S.2.1 dX5_judged_91 hl (k := 4) rfl rfl (by decide) rfl (fun ls hl => ?_)
      refine lv_goto (tgt := 31) S.1 S.2.1 dX5_judged_94 rfl ?_
      exact hk31 _ _ _ _ _ _ _ _ h hw (lv_sub hl [3, 4, 2, 1, 0] rfl)
set_option maxRecDepth 100000 in
set_option maxHeartbeats 4000000 in
theorem wk_M_judged_p31 {p : Program} {l : Launch} {e : Env} {s : State} {m : MethodId} {args : Array Value} {below : List Frame} {meth : Method} {c : Code} {E : mE} {A : Nat → Prop} (S : CallFix p m c cX5_judged 6 s args lw_all RX5) (hr : meth.sig.returnType = (some .int)) (hlocks : meth.locks = false) {res : Int32 × MS}  : ∀ n : Nat, ∀ (x1 : Int32) (x2 : Int32) (x3 : Int32) (x4 : Int32) (w : MS) (H : Heap) (locs : List Loc) (ls : Array Slot), M_judged_p31 n x1 x2 x3 x4 w = some res → mH E A s w H locs → lv_has ls 6 [(0, .ref (mM E)), (1, .int x1), (2, .int x2), (3, .int x3), (4, .int x4)] → W p l e rm_judged s m args below meth c H locs 0 0 (MQ below (mQi E A res.1 res.2) args s 0 0 A) (F0 m 31 ls []) := by
  intro n
  induction n with
  | zero => intro x1 x2 x3 x4 w H locs ls h; cases (show (none : Option (Int32 × MS)) = some res from h)
  | succ n ih =>
    intro x1 x2 x3 x4 w H locs ls h hw hl
    rw [M_judged_p31] at h
    refine lv_iload S.1 S.2.1 dX5_judged_31 (lv_at hl 4 rfl) ?_
    refine lv_aload_n S.1 S.2.1 dX5_judged_33 rfl (lv_at hl 0 rfl) ?_
    refine mg22 S hw dX5_judged_34 ?_
    refine lv_iconst (v := 0) S.1 S.2.1 dX5_judged_37 rfl ?_
    refine mlc22 (j := 0) S hw dX5_judged_38 (by decide) ?_
    refine lv_icmp_ge (tgt := 97) S.1 S.2.1 dX5_judged_39 rfl (fun c4 => ?_) (fun c4 => ?_)
    · replace h := if_t c4 h
      refine lv_iload_n S.1 S.2.1 dX5_judged_97 rfl (lv_at hl 1 rfl) ?_
      refine lv_if_ne (tgt := 105) S.1 S.2.1 dX5_judged_98 rfl (fun c5 => ?_) (fun c5 => ?_)
      · replace h := if_f c5 h
        refine lv_iload_n S.1 S.2.1 dX5_judged_105 rfl (lv_at hl 1 rfl) ?_
        refine lv_iconst (v := 1) S.1 S.2.1 dX5_judged_106 rfl ?_
        refine lv_icmp_ne (tgt := 114) S.1 S.2.1 dX5_judged_107 rfl (fun c6 => ?_) (fun c6 => ?_)
        · replace h := if_f c6 h
          refine lv_aload_n S.1 S.2.1 dX5_judged_114 rfl (lv_at hl 0 rfl) ?_
          refine lv_sipush (v := 1176) S.1 S.2.1 dX5_judged_115 rfl ?_
          refine mcVri (As := [.int (1176 : Int32)]) (rest := []) S hw h (fun u h1 => met_goneMany l E A (1176 : Int32) w u h1) (cw_goneMany S.2.2.2.2 rfl rfl ⟨Nat.le_of_ble_eq_true rfl, Nat.le_of_ble_eq_true rfl⟩) rfl hl.1 rfl (lv_room (Nat.le_of_ble_eq_true rfl)) dX5_judged_118 (fun r7 H locs h hw => ?_)
          exact m_iret S hr hlocks hw (so2 h) dX5_judged_121
        · replace h := if_t c6 h
          refine lv_iload_n S.1 S.2.1 dX5_judged_110 rfl (lv_at hl 3 rfl) ?_
          refine lv_goto (tgt := 121) S.1 S.2.1 dX5_judged_111 rfl ?_
          exact m_iret S hr hlocks hw (so2 h) dX5_judged_121
      · replace h := if_t c5 h
        refine lv_iload_n S.1 S.2.1 dX5_judged_101 rfl (lv_at hl 2 rfl) ?_
        refine lv_goto (tgt := 121) S.1 S.2.1 dX5_judged_102 rfl ?_
        exact m_iret S hr hlocks hw (so2 h) dX5_judged_121
    · replace h := if_f c4 h
      refine lv_aload_n S.1 S.2.1 dX5_judged_42 rfl (lv_at hl 0 rfl) ?_
      refine lv_iconst (v := 1) S.1 S.2.1 dX5_judged_43 rfl ?_
      refine lv_iconst (v := 3) S.1 S.2.1 dX5_judged_44 rfl ?_
      refine lv_iload S.1 S.2.1 dX5_judged_45 (lv_at hl 4 rfl) ?_
      refine lv_imul S.1 S.2.1 dX5_judged_47 ?_
      refine lv_iadd S.1 S.2.1 dX5_judged_48 ?_
      refine mcVwi (As := [.int ((1 : Int32) + ((3 : Int32) * x4))]) (rest := []) S hw h (fun u h1 => met_does l E A ((1 : Int32) + ((3 : Int32) * x4)) w u h1) (cw_does S.2.2.2.2 rfl rfl ⟨Nat.le_of_ble_eq_true rfl, Nat.le_of_ble_eq_true rfl⟩) rfl hl.1 rfl (lv_room (Nat.le_of_ble_eq_true rfl)) dX5_judged_49 (fun r9 w8 H locs h hw => ?_)
      refine lv_istore (lv' := [(5, .int r9), (0, .ref (mM E)), (1, .int x1), (2, .int x2), (3, .int x3), (4, .int x4)]) S.1 S.2.1 dX5_judged_52 hl (by decide) rfl (fun ls hl => ?_)
      refine lv_iload S.1 S.2.1 dX5_judged_54 (lv_at hl 0 rfl) ?_
      refine lv_if_ne (tgt := 68) S.1 S.2.1 dX5_judged_56 rfl (fun c10 => ?_) (fun c10 => ?_)
      · replace h := if_f c10 h
        refine lv_iload_n S.1 S.2.1 dX5_judged_68 rfl (lv_at hl 3 rfl) ?_
        exact wk_M_judged_p69 S hr hlocks ih _ _ _ _ _ _ _ _ h hw (lv_sub hl [1, 2, 4, 5] rfl)
      · replace h := if_t c10 h
        refine lv_iload_n S.1 S.2.1 dX5_judged_59 rfl (lv_at hl 3 rfl) ?_
        refine lv_if_ge (tgt := 68) S.1 S.2.1 dX5_judged_60 rfl (fun c14 => ?_) (fun c14 => ?_)
        · replace h := if_t c14 h
          refine lv_iload_n S.1 S.2.1 dX5_judged_68 rfl (lv_at hl 3 rfl) ?_
          exact wk_M_judged_p69 S hr hlocks ih _ _ _ _ _ _ _ _ h hw (lv_sub hl [1, 2, 4, 5] rfl)
        · replace h := if_f c14 h
          refine lv_iload S.1 S.2.1 dX5_judged_63 (lv_at hl 5 rfl) ?_
          refine lv_goto (tgt := 69) S.1 S.2.1 dX5_judged_65 rfl ?_
          exact wk_M_judged_p69 S hr hlocks ih _ _ _ _ _ _ _ _ h hw (lv_sub hl [1, 2, 4, 5] rfl)
set_option maxRecDepth 100000 in
set_option maxHeartbeats 4000000 in
theorem met_judged (l : Launch) (E : mE) (A : Nat → Prop)  (x1 : Int32) (w : MS) (res : Int32 × MS) (h : M_judged x1 w = some res) : Met l yX5_judged (ws_ yX5_judged cX5_judged 6 (some .int)) rm_judged (mPc E A [.ref (mM E), .int x1] w) (mQi E A res.1 res.2) 0 0 A := by
  refine mMet (by decide) rfl (Nat.le_of_ble_eq_true rfl) ?_
  intro p e s m below meth c S hr hlocks H ls hw hl
  replace hl : lv_has ls 6 [(0, .ref (mM E)), (1, .int x1)] := hl
  unfold M_judged at h
  refine lv_aload_n S.1 S.2.1 dX5_judged_0 rfl (lv_at hl 0 rfl) ?_
  refine lv_iconst (v := 0) S.1 S.2.1 dX5_judged_1 rfl ?_
  refine mp0 S hw dX5_judged_2 h (fun w1 H locs h hw => ?_)
  refine lv_iload_n S.1 S.2.1 dX5_judged_5 rfl (lv_at hl 1 rfl) ?_
  refine lv_iconst (v := 0) S.1 S.2.1 dX5_judged_6 rfl ?_
  refine lv_iconst (v := 2) S.1 S.2.1 dX5_judged_7 rfl ?_
  refine mcSti (As := [.int x1, .int (0 : Int32), .int (2 : Int32)]) (rest := []) S hw (met_within l E A x1 (0 : Int32) (2 : Int32) w1 _ rfl) (cw_within S.2.2.2.2 rfl rfl ⟨Nat.le_of_ble_eq_true rfl, Nat.le_of_ble_eq_true rfl⟩) rfl hl.1 rfl (lv_room (Nat.le_of_ble_eq_true rfl)) dX5_judged_8 (fun H locs hw => ?_)
  refine lv_if_ne (tgt := 17) S.1 S.2.1 dX5_judged_11 rfl (fun c2 => ?_) (fun c2 => ?_)
  · replace h := if_f c2 h
    refine lv_aload_n S.1 S.2.1 dX5_judged_17 rfl (lv_at hl 0 rfl) ?_
    refine lv_sipush (v := 1176) S.1 S.2.1 dX5_judged_18 rfl ?_
    refine mcVv (As := [.int (1176 : Int32)]) (rest := []) S hw h (fun u h1 => met_starts l E A (1176 : Int32) w1 u h1) (cw_starts S.2.2.2.2 rfl rfl ⟨Nat.le_of_ble_eq_true rfl, Nat.le_of_ble_eq_true rfl⟩) rfl hl.1 rfl (lv_room (Nat.le_of_ble_eq_true rfl)) dX5_judged_21 (fun w3 H locs h hw => ?_)
    refine lv_iconst (v := -1) S.1 S.2.1 dX5_judged_24 rfl ?_
    refine lv_istore_n (lv' := [(2, .int (-1 : Int32)), (0, .ref (mM E)), (1, .int x1)]) S.1 S.2.1 dX5_judged_25 rfl hl (by decide) rfl (fun ls hl => ?_)
    refine lv_iconst (v := -1) S.1 S.2.1 dX5_judged_26 rfl ?_
    refine lv_istore_n (lv' := [(3, .int (-1 : Int32)), (2, .int (-1 : Int32)), (0, .ref (mM E)), (1, .int x1)]) S.1 S.2.1 dX5_judged_27 rfl hl (by decide) rfl (fun ls hl => ?_)
    refine lv_iconst (v := 0) S.1 S.2.1 dX5_judged_28 rfl ?_
    refine lv_istore (lv' := [(4, .int (0 : Int32)), (3, .int (-1 : Int32)), (2, .int (-1 : Int32)), (0, .ref (mM E)), (1, .int x1)]) S.1 S.2.1 dX5_judged_29 hl (by decide) rfl (fun ls hl => ?_)
    exact wk_M_judged_p31 S hr hlocks FU _ _ _ _ _ _ _ _ h hw (lv_sub hl [3, 4, 2, 1, 0] rfl)
  · replace h := if_t c2 h
    refine lv_bipush (v := -2) S.1 S.2.1 dX5_judged_14 rfl ?_
    exact m_iret S hr hlocks hw (so2 h) dX5_judged_16
def M_owed (x1 : Int32) (w : MS) : Option (Int32 × MS) :=
  bdp (wI w 0 0 (0 : Int32)) fun w1 =>
  bd1 (M_isIn (0 : Int32) x1 w1) fun r2 =>
  if r2 = 0 then
    some ((-1 : Int32), w1)
  else
    bd2 (M_dueOf (0 : Int32) x1 w1) fun r5 w4 =>
    some (r5, w4)
set_option maxRecDepth 100000 in
set_option maxHeartbeats 4000000 in
theorem met_owed (l : Launch) (E : mE) (A : Nat → Prop)  (x1 : Int32) (w : MS) (res : Int32 × MS) (h : M_owed x1 w = some res) : Met l yX5_owed (ws_ yX5_owed cX5_owed 2 (some .int)) rm_owed (mPc E A [.ref (mM E), .int x1] w) (mQi E A res.1 res.2) 0 0 A := by
  refine mMet (by decide) rfl (Nat.le_of_ble_eq_true rfl) ?_
  intro p e s m below meth c S hr hlocks H ls hw hl
  replace hl : lv_has ls 2 [(0, .ref (mM E)), (1, .int x1)] := hl
  unfold M_owed at h
  refine lv_aload_n S.1 S.2.1 dX5_owed_0 rfl (lv_at hl 0 rfl) ?_
  refine lv_iconst (v := 0) S.1 S.2.1 dX5_owed_1 rfl ?_
  refine mp0 S hw dX5_owed_2 h (fun w1 H locs h hw => ?_)
  refine lv_aload_n S.1 S.2.1 dX5_owed_5 rfl (lv_at hl 0 rfl) ?_
  refine lv_iconst (v := 0) S.1 S.2.1 dX5_owed_6 rfl ?_
  refine lv_iload_n S.1 S.2.1 dX5_owed_7 rfl (lv_at hl 1 rfl) ?_
  refine mcVri (As := [.int (0 : Int32), .int x1]) (rest := []) S hw h (fun u h1 => met_isIn l E A (0 : Int32) x1 w1 u h1) (cw_isIn S.2.2.2.2 rfl rfl ⟨Nat.le_of_ble_eq_true rfl, Nat.le_of_ble_eq_true rfl⟩) rfl hl.1 rfl (lv_room (Nat.le_of_ble_eq_true rfl)) dX5_owed_8 (fun r2 H locs h hw => ?_)
  refine lv_if_eq (tgt := 23) S.1 S.2.1 dX5_owed_11 rfl (fun c3 => ?_) (fun c3 => ?_)
  · replace h := if_t c3 h
    refine lv_iconst (v := -1) S.1 S.2.1 dX5_owed_23 rfl ?_
    exact m_iret S hr hlocks hw (so2 h) dX5_owed_24
  · replace h := if_f c3 h
    refine lv_aload_n S.1 S.2.1 dX5_owed_14 rfl (lv_at hl 0 rfl) ?_
    refine lv_iconst (v := 0) S.1 S.2.1 dX5_owed_15 rfl ?_
    refine lv_iload_n S.1 S.2.1 dX5_owed_16 rfl (lv_at hl 1 rfl) ?_
    refine mcVwi (As := [.int (0 : Int32), .int x1]) (rest := []) S hw h (fun u h1 => met_dueOf l E A (0 : Int32) x1 w1 u h1) (cw_dueOf S.2.2.2.2 rfl rfl ⟨Nat.le_of_ble_eq_true rfl, Nat.le_of_ble_eq_true rfl⟩) rfl hl.1 rfl (lv_room (Nat.le_of_ble_eq_true rfl)) dX5_owed_17 (fun r5 w4 H locs h hw => ?_)
    refine lv_goto (tgt := 24) S.1 S.2.1 dX5_owed_20 rfl ?_
    exact m_iret S hr hlocks hw (so2 h) dX5_owed_24
def M_will_p39 : Nat → Int32 → Int32 → Int32 → MS → Option (Int32 × MS)
  | 0, _, _, _, _ => none
  | n + 1, x1, x2, x3, w =>
    if x2 ≤ x3 then
      bd1 (rA w 25 1288 ((1183 : Int32) + x1)) fun v7 =>
      some (v7, w)
    else
      bd2 (M_passes (1176 : Int32) w) fun r9 w8 =>
      (M_will_p39 n) x1 x2 (x3 + (1 : Int32)) w8
def M_will (x1 : Int32) (x2 : Int32) (w : MS) : Option (Int32 × MS) :=
  bdp (wI w 0 0 (0 : Int32)) fun w1 =>
  bd1 (M_isIn (0 : Int32) x1 w1) fun r2 =>
  if r2 = 0 then
    some ((-1 : Int32), w1)
  else
    if (M_within x2 (0 : Int32) (240 : Int32)) = 0 then
      some ((-1 : Int32), w1)
    else
      bd1 (M_copies (0 : Int32) (1176 : Int32) (43 : Int32) w1) fun w5 =>
      M_will_p39 FU x1 x2 (0 : Int32) w5
set_option maxRecDepth 100000 in
set_option maxHeartbeats 4000000 in
theorem wk_M_will_p39 {p : Program} {l : Launch} {e : Env} {s : State} {m : MethodId} {args : Array Value} {below : List Frame} {meth : Method} {c : Code} {E : mE} {A : Nat → Prop} (S : CallFix p m c cX5_will 4 s args lw_all RX5) (hr : meth.sig.returnType = (some .int)) (hlocks : meth.locks = false) {res : Int32 × MS}  : ∀ n : Nat, ∀ (x1 : Int32) (x2 : Int32) (x3 : Int32) (w : MS) (H : Heap) (locs : List Loc) (ls : Array Slot), M_will_p39 n x1 x2 x3 w = some res → mH E A s w H locs → lv_has ls 4 [(0, .ref (mM E)), (1, .int x1), (2, .int x2), (3, .int x3)] → W p l e rm_will s m args below meth c H locs 0 0 (MQ below (mQi E A res.1 res.2) args s 0 0 A) (F0 m 39 ls []) := by
  intro n
  induction n with
  | zero => intro x1 x2 x3 w H locs ls h; cases (show (none : Option (Int32 × MS)) = some res from h)
  | succ n ih =>
    intro x1 x2 x3 w H locs ls h hw hl
    rw [M_will_p39] at h
    refine lv_iload_n S.1 S.2.1 dX5_will_39 rfl (lv_at hl 3 rfl) ?_
    refine lv_iload_n S.1 S.2.1 dX5_will_40 rfl (lv_at hl 2 rfl) ?_
    refine lv_icmp_ge (tgt := 58) S.1 S.2.1 dX5_will_41 rfl (fun c6 => ?_) (fun c6 => ?_)
    · replace h := if_t c6 h
      refine lv_aload_n S.1 S.2.1 dX5_will_58 rfl (lv_at hl 0 rfl) ?_
      refine mg25 S hw dX5_will_59 ?_
      refine lv_sipush (v := 1183) S.1 S.2.1 dX5_will_62 rfl ?_
      refine lv_iload_n S.1 S.2.1 dX5_will_65 rfl (lv_at hl 1 rfl) ?_
      refine lv_iadd S.1 S.2.1 dX5_will_66 ?_
      refine ml25 S hw dX5_will_67 h (fun v7 h => ?_)
      exact m_iret S hr hlocks hw (so2 h) dX5_will_68
    · replace h := if_f c6 h
      refine lv_aload_n S.1 S.2.1 dX5_will_44 rfl (lv_at hl 0 rfl) ?_
      refine lv_sipush (v := 1176) S.1 S.2.1 dX5_will_45 rfl ?_
      refine mcVwi (As := [.int (1176 : Int32)]) (rest := []) S hw h (fun u h1 => met_passes l E A (1176 : Int32) w u h1) (cw_passes S.2.2.2.2 rfl rfl ⟨Nat.le_of_ble_eq_true rfl, Nat.le_of_ble_eq_true rfl⟩) rfl hl.1 rfl (lv_room (Nat.le_of_ble_eq_true rfl)) dX5_will_48 (fun r9 w8 H locs h hw => ?_)
      refine lv_pop S.1 S.2.1 dX5_will_51 rfl ?_
      refine lv_iinc (v := x3 + (1 : Int32)) (lv' := [(3, .int (x3 + (1 : Int32))), (0, .ref (mM E)), (1, .int x1), (2, .int x2)]) S.1 S.2.1 dX5_will_52 hl (k := 3) rfl rfl (by decide) rfl (fun ls hl => ?_)
      refine lv_goto (tgt := 39) S.1 S.2.1 dX5_will_55 rfl ?_
      exact ih _ _ _ _ _ _ _ h hw (lv_sub hl [1, 2, 3, 0] rfl)
set_option maxRecDepth 100000 in
set_option maxHeartbeats 4000000 in
theorem met_will (l : Launch) (E : mE) (A : Nat → Prop)  (x1 : Int32) (x2 : Int32) (w : MS) (res : Int32 × MS) (h : M_will x1 x2 w = some res) : Met l yX5_will (ws_ yX5_will cX5_will 4 (some .int)) rm_will (mPc E A [.ref (mM E), .int x1, .int x2] w) (mQi E A res.1 res.2) 0 0 A := by
  refine mMet (by decide) rfl (Nat.le_of_ble_eq_true rfl) ?_
  intro p e s m below meth c S hr hlocks H ls hw hl
  replace hl : lv_has ls 4 [(0, .ref (mM E)), (1, .int x1), (2, .int x2)] := hl
  unfold M_will at h
  refine lv_aload_n S.1 S.2.1 dX5_will_0 rfl (lv_at hl 0 rfl) ?_
  refine lv_iconst (v := 0) S.1 S.2.1 dX5_will_1 rfl ?_
  refine mp0 S hw dX5_will_2 h (fun w1 H locs h hw => ?_)
  refine lv_aload_n S.1 S.2.1 dX5_will_5 rfl (lv_at hl 0 rfl) ?_
  refine lv_iconst (v := 0) S.1 S.2.1 dX5_will_6 rfl ?_
  refine lv_iload_n S.1 S.2.1 dX5_will_7 rfl (lv_at hl 1 rfl) ?_
  refine mcVri (As := [.int (0 : Int32), .int x1]) (rest := []) S hw h (fun u h1 => met_isIn l E A (0 : Int32) x1 w1 u h1) (cw_isIn S.2.2.2.2 rfl rfl ⟨Nat.le_of_ble_eq_true rfl, Nat.le_of_ble_eq_true rfl⟩) rfl hl.1 rfl (lv_room (Nat.le_of_ble_eq_true rfl)) dX5_will_8 (fun r2 H locs h hw => ?_)
  refine lv_if_eq (tgt := 25) S.1 S.2.1 dX5_will_11 rfl (fun c3 => ?_) (fun c3 => ?_)
  · replace h := if_t c3 h
    refine lv_iconst (v := -1) S.1 S.2.1 dX5_will_25 rfl ?_
    exact m_iret S hr hlocks hw (so2 h) dX5_will_26
  · replace h := if_f c3 h
    refine lv_iload_n S.1 S.2.1 dX5_will_14 rfl (lv_at hl 2 rfl) ?_
    refine lv_iconst (v := 0) S.1 S.2.1 dX5_will_15 rfl ?_
    refine lv_sipush (v := 240) S.1 S.2.1 dX5_will_16 rfl ?_
    refine mcSti (As := [.int x2, .int (0 : Int32), .int (240 : Int32)]) (rest := []) S hw (met_within l E A x2 (0 : Int32) (240 : Int32) w1 _ rfl) (cw_within S.2.2.2.2 rfl rfl ⟨Nat.le_of_ble_eq_true rfl, Nat.le_of_ble_eq_true rfl⟩) rfl hl.1 rfl (lv_room (Nat.le_of_ble_eq_true rfl)) dX5_will_19 (fun H locs hw => ?_)
    refine lv_if_ne (tgt := 27) S.1 S.2.1 dX5_will_22 rfl (fun c4 => ?_) (fun c4 => ?_)
    · replace h := if_f c4 h
      refine lv_aload_n S.1 S.2.1 dX5_will_27 rfl (lv_at hl 0 rfl) ?_
      refine lv_iconst (v := 0) S.1 S.2.1 dX5_will_28 rfl ?_
      refine lv_sipush (v := 1176) S.1 S.2.1 dX5_will_29 rfl ?_
      refine lv_bipush (v := 43) S.1 S.2.1 dX5_will_32 rfl ?_
      refine mcVv (As := [.int (0 : Int32), .int (1176 : Int32), .int (43 : Int32)]) (rest := []) S hw h (fun u h1 => met_copies l E A (0 : Int32) (1176 : Int32) (43 : Int32) w1 u h1) (cw_copies S.2.2.2.2 rfl rfl ⟨Nat.le_of_ble_eq_true rfl, Nat.le_of_ble_eq_true rfl⟩) rfl hl.1 rfl (lv_room (Nat.le_of_ble_eq_true rfl)) dX5_will_34 (fun w5 H locs h hw => ?_)
      refine lv_iconst (v := 0) S.1 S.2.1 dX5_will_37 rfl ?_
      refine lv_istore_n (lv' := [(3, .int (0 : Int32)), (0, .ref (mM E)), (1, .int x1), (2, .int x2)]) S.1 S.2.1 dX5_will_38 rfl hl (by decide) rfl (fun ls hl => ?_)
      exact wk_M_will_p39 S hr hlocks FU _ _ _ _ _ _ _ h hw (lv_sub hl [1, 2, 3, 0] rfl)
    · replace h := if_t c4 h
      refine lv_iconst (v := -1) S.1 S.2.1 dX5_will_25 rfl ?_
      exact m_iret S hr hlocks hw (so2 h) dX5_will_26
def M_last_p48 (k39 : Int32 → Int32 → Int32 → MS → Option (Int32 × MS)) : Nat → Int32 → Int32 → Int32 → Int32 → MS → Option (Int32 × MS)
  | 0, _, _, _, _, _ => none
  | n + 1, x1, x2, x3, x4, w =>
    if x2 ≤ x4 then
      bd2 (M_noons (1176 : Int32) w) fun r9 w8 =>
      bd1 (M_isIn (1176 : Int32) x1 w8) fun r10 =>
      if r10 = 0 then
        some (x3, w8)
      else
        k39 x1 x2 (x3 + (1 : Int32)) w8
    else
      bd2 (M_passes (1176 : Int32) w) fun r13 w12 =>
      (M_last_p48 k39 n) x1 x2 x3 (x4 + (1 : Int32)) w12
def M_last_p39 : Nat → Int32 → Int32 → Int32 → MS → Option (Int32 × MS)
  | 0, _, _, _, _ => none
  | n + 1, x1, x2, x3, w =>
    if (20 : Int32) ≤ x3 then
      some ((20 : Int32), w)
    else
      M_last_p48 (M_last_p39 n) FU x1 x2 x3 (0 : Int32) w
def M_last (x1 : Int32) (x2 : Int32) (w : MS) : Option (Int32 × MS) :=
  bdp (wI w 0 0 (0 : Int32)) fun w1 =>
  bd1 (M_isIn (0 : Int32) x1 w1) fun r2 =>
  if r2 = 0 then
    some ((-1 : Int32), w1)
  else
    if (M_within x2 (1 : Int32) (240 : Int32)) = 0 then
      some ((-1 : Int32), w1)
    else
      bd1 (M_copies (0 : Int32) (1176 : Int32) (43 : Int32) w1) fun w5 =>
      M_last_p39 FU x1 x2 (0 : Int32) w5
set_option maxRecDepth 100000 in
set_option maxHeartbeats 4000000 in
theorem wk_M_last_p48 {p : Program} {l : Launch} {e : Env} {s : State} {m : MethodId} {args : Array Value} {below : List Frame} {meth : Method} {c : Code} {E : mE} {A : Nat → Prop} (S : CallFix p m c cX5_last 5 s args lw_all RX5) (hr : meth.sig.returnType = (some .int)) (hlocks : meth.locks = false) {res : Int32 × MS}  {k39 : Int32 → Int32 → Int32 → MS → Option (Int32 × MS)} (hk39 : ∀ (x1 : Int32) (x2 : Int32) (x3 : Int32) (w : MS) (H : Heap) (locs : List Loc) (ls : Array Slot), k39 x1 x2 x3 w = some res → mH E A s w H locs → lv_has ls 5 [(0, .ref (mM E)), (1, .int x1), (2, .int x2), (3, .int x3)] → W p l e rm_last s m args below meth c H locs 0 0 (MQ below (mQi E A res.1 res.2) args s 0 0 A) (F0 m 39 ls [])) : ∀ n : Nat, ∀ (x1 : Int32) (x2 : Int32) (x3 : Int32) (x4 : Int32) (w : MS) (H : Heap) (locs : List Loc) (ls : Array Slot), M_last_p48 k39 n x1 x2 x3 x4 w = some res → mH E A s w H locs → lv_has ls 5 [(0, .ref (mM E)), (1, .int x1), (2, .int x2), (3, .int x3), (4, .int x4)] → W p l e rm_last s m args below meth c H locs 0 0 (MQ below (mQi E A res.1 res.2) args s 0 0 A) (F0 m 48 ls []) := by
  intro n
  induction n with
  | zero => intro x1 x2 x3 x4 w H locs ls h; cases (show (none : Option (Int32 × MS)) = some res from h)
  | succ n ih =>
    intro x1 x2 x3 x4 w H locs ls h hw hl
    rw [M_last_p48] at h
    refine lv_iload S.1 S.2.1 dX5_last_48 (lv_at hl 4 rfl) ?_
    refine lv_iload_n S.1 S.2.1 dX5_last_50 rfl (lv_at hl 2 rfl) ?_
    refine lv_icmp_ge (tgt := 68) S.1 S.2.1 dX5_last_51 rfl (fun c7 => ?_) (fun c7 => ?_)
    · replace h := if_t c7 h
      refine lv_aload_n S.1 S.2.1 dX5_last_68 rfl (lv_at hl 0 rfl) ?_
      refine lv_sipush (v := 1176) S.1 S.2.1 dX5_last_69 rfl ?_
      refine mcVwi (As := [.int (1176 : Int32)]) (rest := []) S hw h (fun u h1 => met_noons l E A (1176 : Int32) w u h1) (cw_noons S.2.2.2.2 rfl rfl ⟨Nat.le_of_ble_eq_true rfl, Nat.le_of_ble_eq_true rfl⟩) rfl hl.1 rfl (lv_room (Nat.le_of_ble_eq_true rfl)) dX5_last_72 (fun r9 w8 H locs h hw => ?_)
      refine lv_pop S.1 S.2.1 dX5_last_75 rfl ?_
      refine lv_aload_n S.1 S.2.1 dX5_last_76 rfl (lv_at hl 0 rfl) ?_
      refine lv_sipush (v := 1176) S.1 S.2.1 dX5_last_77 rfl ?_
      refine lv_iload_n S.1 S.2.1 dX5_last_80 rfl (lv_at hl 1 rfl) ?_
      refine mcVri (As := [.int (1176 : Int32), .int x1]) (rest := []) S hw h (fun u h1 => met_isIn l E A (1176 : Int32) x1 w8 u h1) (cw_isIn S.2.2.2.2 rfl rfl ⟨Nat.le_of_ble_eq_true rfl, Nat.le_of_ble_eq_true rfl⟩) rfl hl.1 rfl (lv_room (Nat.le_of_ble_eq_true rfl)) dX5_last_81 (fun r10 H locs h hw => ?_)
      refine lv_if_ne (tgt := 89) S.1 S.2.1 dX5_last_84 rfl (fun c11 => ?_) (fun c11 => ?_)
      · replace h := if_f c11 h
        refine lv_iinc (v := x3 + (1 : Int32)) (lv' := [(3, .int (x3 + (1 : Int32))), (0, .ref (mM E)), (1, .int x1), (2, .int x2), (4, .int x4)]) S.1 S.2.1 dX5_last_89 hl (k := 3) rfl rfl (by decide) rfl (fun ls hl => ?_)
        refine lv_goto (tgt := 39) S.1 S.2.1 dX5_last_92 rfl ?_
        exact hk39 _ _ _ _ _ _ _ h hw (lv_sub hl [1, 2, 3, 0] rfl)
      · replace h := if_t c11 h
        refine lv_iload_n S.1 S.2.1 dX5_last_87 rfl (lv_at hl 3 rfl) ?_
        exact m_iret S hr hlocks hw (so2 h) dX5_last_88
    · replace h := if_f c7 h
      refine lv_aload_n S.1 S.2.1 dX5_last_54 rfl (lv_at hl 0 rfl) ?_
      refine lv_sipush (v := 1176) S.1 S.2.1 dX5_last_55 rfl ?_
      refine mcVwi (As := [.int (1176 : Int32)]) (rest := []) S hw h (fun u h1 => met_passes l E A (1176 : Int32) w u h1) (cw_passes S.2.2.2.2 rfl rfl ⟨Nat.le_of_ble_eq_true rfl, Nat.le_of_ble_eq_true rfl⟩) rfl hl.1 rfl (lv_room (Nat.le_of_ble_eq_true rfl)) dX5_last_58 (fun r13 w12 H locs h hw => ?_)
      refine lv_pop S.1 S.2.1 dX5_last_61 rfl ?_
      refine lv_iinc (v := x4 + (1 : Int32)) (lv' := [(4, .int (x4 + (1 : Int32))), (0, .ref (mM E)), (1, .int x1), (2, .int x2), (3, .int x3)]) S.1 S.2.1 dX5_last_62 hl (k := 4) rfl rfl (by decide) rfl (fun ls hl => ?_)
      refine lv_goto (tgt := 48) S.1 S.2.1 dX5_last_65 rfl ?_
      exact ih _ _ _ _ _ _ _ _ h hw (lv_sub hl [1, 2, 3, 4, 0] rfl)
set_option maxRecDepth 100000 in
set_option maxHeartbeats 4000000 in
theorem wk_M_last_p39 {p : Program} {l : Launch} {e : Env} {s : State} {m : MethodId} {args : Array Value} {below : List Frame} {meth : Method} {c : Code} {E : mE} {A : Nat → Prop} (S : CallFix p m c cX5_last 5 s args lw_all RX5) (hr : meth.sig.returnType = (some .int)) (hlocks : meth.locks = false) {res : Int32 × MS}  : ∀ n : Nat, ∀ (x1 : Int32) (x2 : Int32) (x3 : Int32) (w : MS) (H : Heap) (locs : List Loc) (ls : Array Slot), M_last_p39 n x1 x2 x3 w = some res → mH E A s w H locs → lv_has ls 5 [(0, .ref (mM E)), (1, .int x1), (2, .int x2), (3, .int x3)] → W p l e rm_last s m args below meth c H locs 0 0 (MQ below (mQi E A res.1 res.2) args s 0 0 A) (F0 m 39 ls []) := by
  intro n
  induction n with
  | zero => intro x1 x2 x3 w H locs ls h; cases (show (none : Option (Int32 × MS)) = some res from h)
  | succ n ih =>
    intro x1 x2 x3 w H locs ls h hw hl
    rw [M_last_p39] at h
    refine lv_iload_n S.1 S.2.1 dX5_last_39 rfl (lv_at hl 3 rfl) ?_
    refine lv_bipush (v := 20) S.1 S.2.1 dX5_last_40 rfl ?_
    refine lv_icmp_ge (tgt := 95) S.1 S.2.1 dX5_last_42 rfl (fun c6 => ?_) (fun c6 => ?_)
    · replace h := if_t c6 h
      refine lv_bipush (v := 20) S.1 S.2.1 dX5_last_95 rfl ?_
      exact m_iret S hr hlocks hw (so2 h) dX5_last_97
    · replace h := if_f c6 h
      refine lv_iconst (v := 0) S.1 S.2.1 dX5_last_45 rfl ?_
      refine lv_istore (lv' := [(4, .int (0 : Int32)), (0, .ref (mM E)), (1, .int x1), (2, .int x2), (3, .int x3)]) S.1 S.2.1 dX5_last_46 hl (by decide) rfl (fun ls hl => ?_)
      exact wk_M_last_p48 S hr hlocks ih FU _ _ _ _ _ _ _ _ h hw (lv_sub hl [1, 2, 3, 4, 0] rfl)
set_option maxRecDepth 100000 in
set_option maxHeartbeats 4000000 in
theorem met_last (l : Launch) (E : mE) (A : Nat → Prop)  (x1 : Int32) (x2 : Int32) (w : MS) (res : Int32 × MS) (h : M_last x1 x2 w = some res) : Met l yX5_last (ws_ yX5_last cX5_last 5 (some .int)) rm_last (mPc E A [.ref (mM E), .int x1, .int x2] w) (mQi E A res.1 res.2) 0 0 A := by
  refine mMet (by decide) rfl (Nat.le_of_ble_eq_true rfl) ?_
  intro p e s m below meth c S hr hlocks H ls hw hl
  replace hl : lv_has ls 5 [(0, .ref (mM E)), (1, .int x1), (2, .int x2)] := hl
  unfold M_last at h
  refine lv_aload_n S.1 S.2.1 dX5_last_0 rfl (lv_at hl 0 rfl) ?_
  refine lv_iconst (v := 0) S.1 S.2.1 dX5_last_1 rfl ?_
  refine mp0 S hw dX5_last_2 h (fun w1 H locs h hw => ?_)
  refine lv_aload_n S.1 S.2.1 dX5_last_5 rfl (lv_at hl 0 rfl) ?_
  refine lv_iconst (v := 0) S.1 S.2.1 dX5_last_6 rfl ?_
  refine lv_iload_n S.1 S.2.1 dX5_last_7 rfl (lv_at hl 1 rfl) ?_
  refine mcVri (As := [.int (0 : Int32), .int x1]) (rest := []) S hw h (fun u h1 => met_isIn l E A (0 : Int32) x1 w1 u h1) (cw_isIn S.2.2.2.2 rfl rfl ⟨Nat.le_of_ble_eq_true rfl, Nat.le_of_ble_eq_true rfl⟩) rfl hl.1 rfl (lv_room (Nat.le_of_ble_eq_true rfl)) dX5_last_8 (fun r2 H locs h hw => ?_)
  refine lv_if_eq (tgt := 25) S.1 S.2.1 dX5_last_11 rfl (fun c3 => ?_) (fun c3 => ?_)
  · replace h := if_t c3 h
    refine lv_iconst (v := -1) S.1 S.2.1 dX5_last_25 rfl ?_
    exact m_iret S hr hlocks hw (so2 h) dX5_last_26
  · replace h := if_f c3 h
    refine lv_iload_n S.1 S.2.1 dX5_last_14 rfl (lv_at hl 2 rfl) ?_
    refine lv_iconst (v := 1) S.1 S.2.1 dX5_last_15 rfl ?_
    refine lv_sipush (v := 240) S.1 S.2.1 dX5_last_16 rfl ?_
    refine mcSti (As := [.int x2, .int (1 : Int32), .int (240 : Int32)]) (rest := []) S hw (met_within l E A x2 (1 : Int32) (240 : Int32) w1 _ rfl) (cw_within S.2.2.2.2 rfl rfl ⟨Nat.le_of_ble_eq_true rfl, Nat.le_of_ble_eq_true rfl⟩) rfl hl.1 rfl (lv_room (Nat.le_of_ble_eq_true rfl)) dX5_last_19 (fun H locs hw => ?_)
    refine lv_if_ne (tgt := 27) S.1 S.2.1 dX5_last_22 rfl (fun c4 => ?_) (fun c4 => ?_)
    · replace h := if_f c4 h
      refine lv_aload_n S.1 S.2.1 dX5_last_27 rfl (lv_at hl 0 rfl) ?_
      refine lv_iconst (v := 0) S.1 S.2.1 dX5_last_28 rfl ?_
      refine lv_sipush (v := 1176) S.1 S.2.1 dX5_last_29 rfl ?_
      refine lv_bipush (v := 43) S.1 S.2.1 dX5_last_32 rfl ?_
      refine mcVv (As := [.int (0 : Int32), .int (1176 : Int32), .int (43 : Int32)]) (rest := []) S hw h (fun u h1 => met_copies l E A (0 : Int32) (1176 : Int32) (43 : Int32) w1 u h1) (cw_copies S.2.2.2.2 rfl rfl ⟨Nat.le_of_ble_eq_true rfl, Nat.le_of_ble_eq_true rfl⟩) rfl hl.1 rfl (lv_room (Nat.le_of_ble_eq_true rfl)) dX5_last_34 (fun w5 H locs h hw => ?_)
      refine lv_iconst (v := 0) S.1 S.2.1 dX5_last_37 rfl ?_
      refine lv_istore_n (lv' := [(3, .int (0 : Int32)), (0, .ref (mM E)), (1, .int x1), (2, .int x2)]) S.1 S.2.1 dX5_last_38 rfl hl (by decide) rfl (fun ls hl => ?_)
      exact wk_M_last_p39 S hr hlocks FU _ _ _ _ _ _ _ h hw (lv_sub hl [1, 2, 3, 0] rfl)
    · replace h := if_t c4 h
      refine lv_iconst (v := -1) S.1 S.2.1 dX5_last_25 rfl ?_
      exact m_iret S hr hlocks hw (so2 h) dX5_last_26
def M_errandsMany (w : MS) : Int32 :=
  rI w 10 2
set_option maxRecDepth 100000 in
set_option maxHeartbeats 4000000 in
theorem met_errandsMany (l : Launch) (E : mE) (A : Nat → Prop)  (w : MS) (res : Int32) (h : M_errandsMany w = res) : Met l yX5_errandsMany (ws_ yX5_errandsMany cX5_errandsMany 1 (some .int)) rm_errandsMany (mPc E A [.ref (mM E)] w) (mQi E A res w) 0 0 A := by
  refine mMet (by decide) rfl (Nat.le_of_ble_eq_true rfl) ?_
  intro p e s m below meth c S hr hlocks H ls hw hl
  replace hl : lv_has ls 1 [(0, .ref (mM E))] := hl
  unfold M_errandsMany at h
  refine lv_aload_n S.1 S.2.1 dX5_errandsMany_0 rfl (lv_at hl 0 rfl) ?_
  refine mg10 S hw dX5_errandsMany_1 ?_
  refine lv_iconst (v := 2) S.1 S.2.1 dX5_errandsMany_4 rfl ?_
  refine mlc10 (j := 2) S hw dX5_errandsMany_5 (by decide) ?_
  exact m_iret S hr hlocks hw ⟨h, rfl⟩ dX5_errandsMany_6
def M_errandOf (x1 : Int32) (x2 : Int32) (w : MS) : Option Int32 :=
  bd1 (rA w 10 240 (((92 : Int32) + ((3 : Int32) * x1)) + x2)) fun v1 =>
  some v1
set_option maxRecDepth 100000 in
set_option maxHeartbeats 4000000 in
theorem met_errandOf (l : Launch) (E : mE) (A : Nat → Prop)  (x1 : Int32) (x2 : Int32) (w : MS) (res : Int32) (h : M_errandOf x1 x2 w = some res) : Met l yX5_errandOf (ws_ yX5_errandOf cX5_errandOf 3 (some .int)) rm_errandOf (mPc E A [.ref (mM E), .int x1, .int x2] w) (mQi E A res w) 0 0 A := by
  refine mMet (by decide) rfl (Nat.le_of_ble_eq_true rfl) ?_
  intro p e s m below meth c S hr hlocks H ls hw hl
  replace hl : lv_has ls 3 [(0, .ref (mM E)), (1, .int x1), (2, .int x2)] := hl
  unfold M_errandOf at h
  refine lv_aload_n S.1 S.2.1 dX5_errandOf_0 rfl (lv_at hl 0 rfl) ?_
  refine mg10 S hw dX5_errandOf_1 ?_
  refine lv_bipush (v := 92) S.1 S.2.1 dX5_errandOf_4 rfl ?_
  refine lv_iconst (v := 3) S.1 S.2.1 dX5_errandOf_6 rfl ?_
  refine lv_iload_n S.1 S.2.1 dX5_errandOf_7 rfl (lv_at hl 1 rfl) ?_
  refine lv_imul S.1 S.2.1 dX5_errandOf_8 ?_
  refine lv_iadd S.1 S.2.1 dX5_errandOf_9 ?_
  refine lv_iload_n S.1 S.2.1 dX5_errandOf_10 rfl (lv_at hl 2 rfl) ?_
  refine lv_iadd S.1 S.2.1 dX5_errandOf_11 ?_
  refine ml10 S hw dX5_errandOf_12 h (fun v1 h => ?_)
  exact m_iret S hr hlocks hw ⟨so1 h, rfl⟩ dX5_errandOf_13
def M_beatsBy_p68 (k10 : Int32 → Int32 → Int32 → Int32 → Int32 → MS → Option Int32) : Nat → Int32 → Int32 → Int32 → Int32 → Int32 → Int32 → Int32 → MS → Option Int32
  | 0, _, _, _, _, _, _, _, _ => none
  | n + 1, x1, x2, x3, x4, x5, x6, x7, w =>
    bd1 (M_errandOf x6 (1 : Int32) w) fun r5 =>
    if r5 ≤ x7 then
      bd1 (M_errandOf x6 (2 : Int32) w) fun r7 =>
      if r7 ≤ x4 then
        k10 x1 x2 x3 x4 (x5 + (1 : Int32)) w
      else
        bd1 (M_errandOf x6 (2 : Int32) w) fun r9 =>
        k10 x1 x2 x3 r9 (x5 + (1 : Int32)) w
    else
      bd1 (M_restOf x1 w) fun r10 =>
      bd1 (M_errandOf x6 (2 : Int32) w) fun r11 =>
      bdp (x2 + ((r10 + x4) + r11)) fun y12 =>
      bd1 (M_calmed x1 x4 w) fun r13 =>
      (M_beatsBy_p68 k10 n) x1 y12 (x3 + (1 : Int32)) r13 x5 x6 (x7 + (1 : Int32)) w
def M_beatsBy_p28 (k10 : Int32 → Int32 → Int32 → Int32 → Int32 → MS → Option Int32) : Nat → Int32 → Int32 → Int32 → Int32 → Int32 → Int32 → MS → Option Int32
  | 0, _, _, _, _, _, _, _ => none
  | n + 1, x1, x2, x3, x4, x5, x6, w =>
    bd1 (M_errandOf x6 (0 : Int32) w) fun r3 =>
    if r3 ≤ x3 then
      M_beatsBy_p68 k10 FU x1 x2 x3 x4 x5 x6 (0 : Int32) w
    else
      bd1 (M_restOf x1 w) fun r14 =>
      bdp (x2 + (r14 + x4)) fun y15 =>
      bd1 (M_calmed x1 x4 w) fun r16 =>
      (M_beatsBy_p28 k10 n) x1 y15 (x3 + (1 : Int32)) r16 x5 x6 w
def M_beatsBy_p10 : Nat → Int32 → Int32 → Int32 → Int32 → Int32 → MS → Option Int32
  | 0, _, _, _, _, _, _ => none
  | n + 1, x1, x2, x3, x4, x5, w =>
    if (M_errandsMany w) ≤ x5 then
      some x2
    else
      bd1 (rA w 29 6 x5) fun v2 =>
      M_beatsBy_p28 (M_beatsBy_p10 n) FU x1 x2 x3 x4 x5 v2 w
def M_beatsBy (x1 : Int32) (w : MS) : Option Int32 :=
  M_beatsBy_p10 FU x1 (0 : Int32) (0 : Int32) (0 : Int32) (0 : Int32) w
set_option maxRecDepth 100000 in
set_option maxHeartbeats 4000000 in
theorem wk_M_beatsBy_p68 {p : Program} {l : Launch} {e : Env} {s : State} {m : MethodId} {args : Array Value} {below : List Frame} {meth : Method} {c : Code} {E : mE} {A : Nat → Prop} (S : CallFix p m c cX5_beatsBy 8 s args lw_all RX5) (hr : meth.sig.returnType = (some .int)) (hlocks : meth.locks = false) {res : Int32}  {k10 : Int32 → Int32 → Int32 → Int32 → Int32 → MS → Option Int32} (hk10 : ∀ (x1 : Int32) (x2 : Int32) (x3 : Int32) (x4 : Int32) (x5 : Int32) (w : MS) (H : Heap) (locs : List Loc) (ls : Array Slot), k10 x1 x2 x3 x4 x5 w = some res → mH E A s w H locs → lv_has ls 8 [(0, .ref (mM E)), (1, .int x1), (2, .int x2), (3, .int x3), (4, .int x4), (5, .int x5)] → W p l e rm_beatsBy s m args below meth c H locs 0 0 (MQ below (mQi E A res w) args s 0 0 A) (F0 m 10 ls [])) : ∀ n : Nat, ∀ (x1 : Int32) (x2 : Int32) (x3 : Int32) (x4 : Int32) (x5 : Int32) (x6 : Int32) (x7 : Int32) (w : MS) (H : Heap) (locs : List Loc) (ls : Array Slot), M_beatsBy_p68 k10 n x1 x2 x3 x4 x5 x6 x7 w = some res → mH E A s w H locs → lv_has ls 8 [(0, .ref (mM E)), (1, .int x1), (2, .int x2), (3, .int x3), (4, .int x4), (5, .int x5), (6, .int x6), (7, .int x7)] → W p l e rm_beatsBy s m args below meth c H locs 0 0 (MQ below (mQi E A res w) args s 0 0 A) (F0 m 68 ls []) := by
  intro n
  induction n with
  | zero => intro x1 x2 x3 x4 x5 x6 x7 w H locs ls h; cases (show (none : Option Int32) = some res from h)
  | succ n ih =>
    intro x1 x2 x3 x4 x5 x6 x7 w H locs ls h hw hl
    rw [M_beatsBy_p68] at h
    refine lv_iload S.1 S.2.1 dX5_beatsBy_68 (lv_at hl 7 rfl) ?_
    refine lv_aload_n S.1 S.2.1 dX5_beatsBy_70 rfl (lv_at hl 0 rfl) ?_
    refine lv_iload S.1 S.2.1 dX5_beatsBy_71 (lv_at hl 6 rfl) ?_
    refine lv_iconst (v := 1) S.1 S.2.1 dX5_beatsBy_73 rfl ?_
    refine mcVri (As := [.int x6, .int (1 : Int32)]) (rest := [.int x7]) S hw h (fun u h1 => met_errandOf l E A x6 (1 : Int32) w u h1) (cw_errandOf S.2.2.2.2 rfl rfl ⟨Nat.le_of_ble_eq_true rfl, Nat.le_of_ble_eq_true rfl⟩) rfl hl.1 rfl (lv_room (Nat.le_of_ble_eq_true rfl)) dX5_beatsBy_74 (fun r5 H locs h hw => ?_)
    refine lv_icmp_ge (tgt := 117) S.1 S.2.1 dX5_beatsBy_77 rfl (fun c6 => ?_) (fun c6 => ?_)
    · replace h := if_t c6 h
      refine lv_iload S.1 S.2.1 dX5_beatsBy_117 (lv_at hl 4 rfl) ?_
      refine lv_aload_n S.1 S.2.1 dX5_beatsBy_119 rfl (lv_at hl 0 rfl) ?_
      refine lv_iload S.1 S.2.1 dX5_beatsBy_120 (lv_at hl 6 rfl) ?_
      refine lv_iconst (v := 2) S.1 S.2.1 dX5_beatsBy_122 rfl ?_
      refine mcVri (As := [.int x6, .int (2 : Int32)]) (rest := [.int x4]) S hw h (fun u h1 => met_errandOf l E A x6 (2 : Int32) w u h1) (cw_errandOf S.2.2.2.2 rfl rfl ⟨Nat.le_of_ble_eq_true rfl, Nat.le_of_ble_eq_true rfl⟩) rfl hl.1 rfl (lv_room (Nat.le_of_ble_eq_true rfl)) dX5_beatsBy_123 (fun r7 H locs h hw => ?_)
      refine lv_icmp_ge (tgt := 139) S.1 S.2.1 dX5_beatsBy_126 rfl (fun c8 => ?_) (fun c8 => ?_)
      · replace h := if_t c8 h
        refine lv_iload S.1 S.2.1 dX5_beatsBy_139 (lv_at hl 4 rfl) ?_
        refine lv_istore (lv' := [(4, .int x4), (0, .ref (mM E)), (1, .int x1), (2, .int x2), (3, .int x3), (5, .int x5), (6, .int x6), (7, .int x7)]) S.1 S.2.1 dX5_beatsBy_141 hl (by decide) rfl (fun ls hl => ?_)
        refine lv_iinc (v := x5 + (1 : Int32)) (lv' := [(5, .int (x5 + (1 : Int32))), (4, .int x4), (0, .ref (mM E)), (1, .int x1), (2, .int x2), (3, .int x3), (6, .int x6), (7, .int x7)]) S.1 S.2.1 dX5_beatsBy_143 hl (k := 5) rfl rfl (by decide) rfl (fun ls hl => ?_)
        refine lv_goto (tgt := 10) S.1 S.2.1 dX5_beatsBy_146 rfl ?_
        exact hk10 _ _ _ _ _ _ _ _ _ h hw (lv_sub hl [2, 3, 4, 5, 1, 0] rfl)
      · replace h := if_f c8 h
        refine lv_aload_n S.1 S.2.1 dX5_beatsBy_129 rfl (lv_at hl 0 rfl) ?_
        refine lv_iload S.1 S.2.1 dX5_beatsBy_130 (lv_at hl 6 rfl) ?_
        refine lv_iconst (v := 2) S.1 S.2.1 dX5_beatsBy_132 rfl ?_
        refine mcVri (As := [.int x6, .int (2 : Int32)]) (rest := []) S hw h (fun u h1 => met_errandOf l E A x6 (2 : Int32) w u h1) (cw_errandOf S.2.2.2.2 rfl rfl ⟨Nat.le_of_ble_eq_true rfl, Nat.le_of_ble_eq_true rfl⟩) rfl hl.1 rfl (lv_room (Nat.le_of_ble_eq_true rfl)) dX5_beatsBy_133 (fun r9 H locs h hw => ?_)
        refine lv_goto (tgt := 141) S.1 S.2.1 dX5_beatsBy_136 rfl ?_
        refine lv_istore (lv' := [(4, .int r9), (0, .ref (mM E)), (1, .int x1), (2, .int x2), (3, .int x3), (5, .int x5), (6, .int x6), (7, .int x7)]) S.1 S.2.1 dX5_beatsBy_141 hl (by decide) rfl (fun ls hl => ?_)
        refine lv_iinc (v := x5 + (1 : Int32)) (lv' := [(5, .int (x5 + (1 : Int32))), (4, .int r9), (0, .ref (mM E)), (1, .int x1), (2, .int x2), (3, .int x3), (6, .int x6), (7, .int x7)]) S.1 S.2.1 dX5_beatsBy_143 hl (k := 5) rfl rfl (by decide) rfl (fun ls hl => ?_)
        refine lv_goto (tgt := 10) S.1 S.2.1 dX5_beatsBy_146 rfl ?_
        exact hk10 _ _ _ _ _ _ _ _ _ h hw (lv_sub hl [2, 3, 4, 5, 1, 0] rfl)
    · replace h := if_f c6 h
      refine lv_iload_n S.1 S.2.1 dX5_beatsBy_80 rfl (lv_at hl 2 rfl) ?_
      refine lv_aload_n S.1 S.2.1 dX5_beatsBy_81 rfl (lv_at hl 0 rfl) ?_
      refine lv_iload_n S.1 S.2.1 dX5_beatsBy_82 rfl (lv_at hl 1 rfl) ?_
      refine mcVri (As := [.int x1]) (rest := [.int x2]) S hw h (fun u h1 => met_restOf l E A x1 w u h1) (cw_restOf S.2.2.2.2 rfl rfl ⟨Nat.le_of_ble_eq_true rfl, Nat.le_of_ble_eq_true rfl⟩) rfl hl.1 rfl (lv_room (Nat.le_of_ble_eq_true rfl)) dX5_beatsBy_83 (fun r10 H locs h hw => ?_)
      refine lv_iload S.1 S.2.1 dX5_beatsBy_86 (lv_at hl 4 rfl) ?_
      refine lv_iadd S.1 S.2.1 dX5_beatsBy_88 ?_
      refine lv_aload_n S.1 S.2.1 dX5_beatsBy_89 rfl (lv_at hl 0 rfl) ?_
      refine lv_iload S.1 S.2.1 dX5_beatsBy_90 (lv_at hl 6 rfl) ?_
      refine lv_iconst (v := 2) S.1 S.2.1 dX5_beatsBy_92 rfl ?_
      refine mcVri (As := [.int x6, .int (2 : Int32)]) (rest := [.int (r10 + x4), .int x2]) S hw h (fun u h1 => met_errandOf l E A x6 (2 : Int32) w u h1) (cw_errandOf S.2.2.2.2 rfl rfl ⟨Nat.le_of_ble_eq_true rfl, Nat.le_of_ble_eq_true rfl⟩) rfl hl.1 rfl (lv_room (Nat.le_of_ble_eq_true rfl)) dX5_beatsBy_93 (fun r11 H locs h hw => ?_)
      refine lv_iadd S.1 S.2.1 dX5_beatsBy_96 ?_
      refine lv_iadd S.1 S.2.1 dX5_beatsBy_97 ?_
      refine lv_topi (fun y12 ey => ?_)
      replace h := bdp_e ey h
      refine lv_istore_n (lv' := [(2, .int y12), (0, .ref (mM E)), (1, .int x1), (3, .int x3), (4, .int x4), (5, .int x5), (6, .int x6), (7, .int x7)]) S.1 S.2.1 dX5_beatsBy_98 rfl hl (by decide) rfl (fun ls hl => ?_)
      refine lv_aload_n S.1 S.2.1 dX5_beatsBy_99 rfl (lv_at hl 1 rfl) ?_
      refine lv_iload_n S.1 S.2.1 dX5_beatsBy_100 rfl (lv_at hl 2 rfl) ?_
      refine lv_iload S.1 S.2.1 dX5_beatsBy_101 (lv_at hl 4 rfl) ?_
      refine mcVri (As := [.int x1, .int x4]) (rest := []) S hw h (fun u h1 => met_calmed l E A x1 x4 w u h1) (cw_calmed S.2.2.2.2 rfl rfl ⟨Nat.le_of_ble_eq_true rfl, Nat.le_of_ble_eq_true rfl⟩) rfl hl.1 rfl (lv_room (Nat.le_of_ble_eq_true rfl)) dX5_beatsBy_103 (fun r13 H locs h hw => ?_)
      refine lv_istore (lv' := [(4, .int r13), (2, .int y12), (0, .ref (mM E)), (1, .int x1), (3, .int x3), (5, .int x5), (6, .int x6), (7, .int x7)]) S.1 S.2.1 dX5_beatsBy_106 hl (by decide) rfl (fun ls hl => ?_)
      refine lv_iinc (v := x3 + (1 : Int32)) (lv' := [(3, .int (x3 + (1 : Int32))), (4, .int r13), (2, .int y12), (0, .ref (mM E)), (1, .int x1), (5, .int x5), (6, .int x6), (7, .int x7)]) S.1 S.2.1 dX5_beatsBy_108 hl (k := 4) rfl rfl (by decide) rfl (fun ls hl => ?_)
      refine lv_iinc (v := x7 + (1 : Int32)) (lv' := [(7, .int (x7 + (1 : Int32))), (3, .int (x3 + (1 : Int32))), (4, .int r13), (2, .int y12), (0, .ref (mM E)), (1, .int x1), (5, .int x5), (6, .int x6)]) S.1 S.2.1 dX5_beatsBy_111 hl (k := 7) rfl rfl (by decide) rfl (fun ls hl => ?_)
      refine lv_goto (tgt := 68) S.1 S.2.1 dX5_beatsBy_114 rfl ?_
      exact ih _ _ _ _ _ _ _ _ _ _ _ h hw (lv_sub hl [4, 5, 3, 1, 2, 6, 7, 0] rfl)
set_option maxRecDepth 100000 in
set_option maxHeartbeats 4000000 in
theorem wk_M_beatsBy_p28 {p : Program} {l : Launch} {e : Env} {s : State} {m : MethodId} {args : Array Value} {below : List Frame} {meth : Method} {c : Code} {E : mE} {A : Nat → Prop} (S : CallFix p m c cX5_beatsBy 8 s args lw_all RX5) (hr : meth.sig.returnType = (some .int)) (hlocks : meth.locks = false) {res : Int32}  {k10 : Int32 → Int32 → Int32 → Int32 → Int32 → MS → Option Int32} (hk10 : ∀ (x1 : Int32) (x2 : Int32) (x3 : Int32) (x4 : Int32) (x5 : Int32) (w : MS) (H : Heap) (locs : List Loc) (ls : Array Slot), k10 x1 x2 x3 x4 x5 w = some res → mH E A s w H locs → lv_has ls 8 [(0, .ref (mM E)), (1, .int x1), (2, .int x2), (3, .int x3), (4, .int x4), (5, .int x5)] → W p l e rm_beatsBy s m args below meth c H locs 0 0 (MQ below (mQi E A res w) args s 0 0 A) (F0 m 10 ls [])) : ∀ n : Nat, ∀ (x1 : Int32) (x2 : Int32) (x3 : Int32) (x4 : Int32) (x5 : Int32) (x6 : Int32) (w : MS) (H : Heap) (locs : List Loc) (ls : Array Slot), M_beatsBy_p28 k10 n x1 x2 x3 x4 x5 x6 w = some res → mH E A s w H locs → lv_has ls 8 [(0, .ref (mM E)), (1, .int x1), (2, .int x2), (3, .int x3), (4, .int x4), (5, .int x5), (6, .int x6)] → W p l e rm_beatsBy s m args below meth c H locs 0 0 (MQ below (mQi E A res w) args s 0 0 A) (F0 m 28 ls []) := by
  intro n
  induction n with
  | zero => intro x1 x2 x3 x4 x5 x6 w H locs ls h; cases (show (none : Option Int32) = some res from h)
  | succ n ih =>
    intro x1 x2 x3 x4 x5 x6 w H locs ls h hw hl
    rw [M_beatsBy_p28] at h
    refine lv_iload_n S.1 S.2.1 dX5_beatsBy_28 rfl (lv_at hl 3 rfl) ?_
    refine lv_aload_n S.1 S.2.1 dX5_beatsBy_29 rfl (lv_at hl 0 rfl) ?_
    refine lv_iload S.1 S.2.1 dX5_beatsBy_30 (lv_at hl 6 rfl) ?_
    refine lv_iconst (v := 0) S.1 S.2.1 dX5_beatsBy_32 rfl ?_
    refine mcVri (As := [.int x6, .int (0 : Int32)]) (rest := [.int x3]) S hw h (fun u h1 => met_errandOf l E A x6 (0 : Int32) w u h1) (cw_errandOf S.2.2.2.2 rfl rfl ⟨Nat.le_of_ble_eq_true rfl, Nat.le_of_ble_eq_true rfl⟩) rfl hl.1 rfl (lv_room (Nat.le_of_ble_eq_true rfl)) dX5_beatsBy_33 (fun r3 H locs h hw => ?_)
    refine lv_icmp_ge (tgt := 65) S.1 S.2.1 dX5_beatsBy_36 rfl (fun c4 => ?_) (fun c4 => ?_)
    · replace h := if_t c4 h
      refine lv_iconst (v := 0) S.1 S.2.1 dX5_beatsBy_65 rfl ?_
      refine lv_istore (lv' := [(7, .int (0 : Int32)), (0, .ref (mM E)), (1, .int x1), (2, .int x2), (3, .int x3), (4, .int x4), (5, .int x5), (6, .int x6)]) S.1 S.2.1 dX5_beatsBy_66 hl (by decide) rfl (fun ls hl => ?_)
      exact wk_M_beatsBy_p68 S hr hlocks hk10 FU _ _ _ _ _ _ _ _ _ _ _ h hw (lv_sub hl [1, 2, 3, 4, 5, 6, 7, 0] rfl)
    · replace h := if_f c4 h
      refine lv_iload_n S.1 S.2.1 dX5_beatsBy_39 rfl (lv_at hl 2 rfl) ?_
      refine lv_aload_n S.1 S.2.1 dX5_beatsBy_40 rfl (lv_at hl 0 rfl) ?_
      refine lv_iload_n S.1 S.2.1 dX5_beatsBy_41 rfl (lv_at hl 1 rfl) ?_
      refine mcVri (As := [.int x1]) (rest := [.int x2]) S hw h (fun u h1 => met_restOf l E A x1 w u h1) (cw_restOf S.2.2.2.2 rfl rfl ⟨Nat.le_of_ble_eq_true rfl, Nat.le_of_ble_eq_true rfl⟩) rfl hl.1 rfl (lv_room (Nat.le_of_ble_eq_true rfl)) dX5_beatsBy_42 (fun r14 H locs h hw => ?_)
      refine lv_iload S.1 S.2.1 dX5_beatsBy_45 (lv_at hl 4 rfl) ?_
      refine lv_iadd S.1 S.2.1 dX5_beatsBy_47 ?_
      refine lv_iadd S.1 S.2.1 dX5_beatsBy_48 ?_
      refine lv_topi (fun y15 ey => ?_)
      replace h := bdp_e ey h
      refine lv_istore_n (lv' := [(2, .int y15), (0, .ref (mM E)), (1, .int x1), (3, .int x3), (4, .int x4), (5, .int x5), (6, .int x6)]) S.1 S.2.1 dX5_beatsBy_49 rfl hl (by decide) rfl (fun ls hl => ?_)
      refine lv_aload_n S.1 S.2.1 dX5_beatsBy_50 rfl (lv_at hl 1 rfl) ?_
      refine lv_iload_n S.1 S.2.1 dX5_beatsBy_51 rfl (lv_at hl 2 rfl) ?_
      refine lv_iload S.1 S.2.1 dX5_beatsBy_52 (lv_at hl 4 rfl) ?_
      refine mcVri (As := [.int x1, .int x4]) (rest := []) S hw h (fun u h1 => met_calmed l E A x1 x4 w u h1) (cw_calmed S.2.2.2.2 rfl rfl ⟨Nat.le_of_ble_eq_true rfl, Nat.le_of_ble_eq_true rfl⟩) rfl hl.1 rfl (lv_room (Nat.le_of_ble_eq_true rfl)) dX5_beatsBy_54 (fun r16 H locs h hw => ?_)
      refine lv_istore (lv' := [(4, .int r16), (2, .int y15), (0, .ref (mM E)), (1, .int x1), (3, .int x3), (5, .int x5), (6, .int x6)]) S.1 S.2.1 dX5_beatsBy_57 hl (by decide) rfl (fun ls hl => ?_)
      refine lv_iinc (v := x3 + (1 : Int32)) (lv' := [(3, .int (x3 + (1 : Int32))), (4, .int r16), (2, .int y15), (0, .ref (mM E)), (1, .int x1), (5, .int x5), (6, .int x6)]) S.1 S.2.1 dX5_beatsBy_59 hl (k := 4) rfl rfl (by decide) rfl (fun ls hl => ?_)
      refine lv_goto (tgt := 28) S.1 S.2.1 dX5_beatsBy_62 rfl ?_
      exact ih _ _ _ _ _ _ _ _ _ _ h hw (lv_sub hl [3, 4, 2, 0, 1, 5, 6] rfl)
set_option maxRecDepth 100000 in
set_option maxHeartbeats 4000000 in
theorem wk_M_beatsBy_p10 {p : Program} {l : Launch} {e : Env} {s : State} {m : MethodId} {args : Array Value} {below : List Frame} {meth : Method} {c : Code} {E : mE} {A : Nat → Prop} (S : CallFix p m c cX5_beatsBy 8 s args lw_all RX5) (hr : meth.sig.returnType = (some .int)) (hlocks : meth.locks = false) {res : Int32}  : ∀ n : Nat, ∀ (x1 : Int32) (x2 : Int32) (x3 : Int32) (x4 : Int32) (x5 : Int32) (w : MS) (H : Heap) (locs : List Loc) (ls : Array Slot), M_beatsBy_p10 n x1 x2 x3 x4 x5 w = some res → mH E A s w H locs → lv_has ls 8 [(0, .ref (mM E)), (1, .int x1), (2, .int x2), (3, .int x3), (4, .int x4), (5, .int x5)] → W p l e rm_beatsBy s m args below meth c H locs 0 0 (MQ below (mQi E A res w) args s 0 0 A) (F0 m 10 ls []) := by
  intro n
  induction n with
  | zero => intro x1 x2 x3 x4 x5 w H locs ls h; cases (show (none : Option Int32) = some res from h)
  | succ n ih =>
    intro x1 x2 x3 x4 x5 w H locs ls h hw hl
    rw [M_beatsBy_p10] at h
    refine lv_iload S.1 S.2.1 dX5_beatsBy_10 (lv_at hl 5 rfl) ?_
    refine lv_aload_n S.1 S.2.1 dX5_beatsBy_12 rfl (lv_at hl 0 rfl) ?_
    refine mcVti (As := []) (rest := [.int x5]) S hw (met_errandsMany l E A  w _ rfl) (cw_errandsMany S.2.2.2.2 rfl rfl ⟨Nat.le_of_ble_eq_true rfl, Nat.le_of_ble_eq_true rfl⟩) rfl hl.1 rfl (lv_room (Nat.le_of_ble_eq_true rfl)) dX5_beatsBy_13 (fun H locs hw => ?_)
    refine lv_icmp_ge (tgt := 149) S.1 S.2.1 dX5_beatsBy_16 rfl (fun c1 => ?_) (fun c1 => ?_)
    · replace h := if_t c1 h
      refine lv_iload_n S.1 S.2.1 dX5_beatsBy_149 rfl (lv_at hl 2 rfl) ?_
      exact m_iret S hr hlocks hw ⟨so1 h, rfl⟩ dX5_beatsBy_150
    · replace h := if_f c1 h
      refine lv_aload_n S.1 S.2.1 dX5_beatsBy_19 rfl (lv_at hl 0 rfl) ?_
      refine mg29 S hw dX5_beatsBy_20 ?_
      refine lv_iload S.1 S.2.1 dX5_beatsBy_23 (lv_at hl 5 rfl) ?_
      refine ml29 S hw dX5_beatsBy_25 h (fun v2 h => ?_)
      refine lv_istore (lv' := [(6, .int v2), (0, .ref (mM E)), (1, .int x1), (2, .int x2), (3, .int x3), (4, .int x4), (5, .int x5)]) S.1 S.2.1 dX5_beatsBy_26 hl (by decide) rfl (fun ls hl => ?_)
      exact wk_M_beatsBy_p28 S hr hlocks ih FU _ _ _ _ _ _ _ _ _ _ h hw (lv_sub hl [1, 2, 3, 4, 5, 6, 0] rfl)
set_option maxRecDepth 100000 in
set_option maxHeartbeats 4000000 in
theorem met_beatsBy (l : Launch) (E : mE) (A : Nat → Prop)  (x1 : Int32) (w : MS) (res : Int32) (h : M_beatsBy x1 w = some res) : Met l yX5_beatsBy (ws_ yX5_beatsBy cX5_beatsBy 8 (some .int)) rm_beatsBy (mPc E A [.ref (mM E), .int x1] w) (mQi E A res w) 0 0 A := by
  refine mMet (by decide) rfl (Nat.le_of_ble_eq_true rfl) ?_
  intro p e s m below meth c S hr hlocks H ls hw hl
  replace hl : lv_has ls 8 [(0, .ref (mM E)), (1, .int x1)] := hl
  unfold M_beatsBy at h
  refine lv_iconst (v := 0) S.1 S.2.1 dX5_beatsBy_0 rfl ?_
  refine lv_istore_n (lv' := [(2, .int (0 : Int32)), (0, .ref (mM E)), (1, .int x1)]) S.1 S.2.1 dX5_beatsBy_1 rfl hl (by decide) rfl (fun ls hl => ?_)
  refine lv_iconst (v := 0) S.1 S.2.1 dX5_beatsBy_2 rfl ?_
  refine lv_istore_n (lv' := [(3, .int (0 : Int32)), (2, .int (0 : Int32)), (0, .ref (mM E)), (1, .int x1)]) S.1 S.2.1 dX5_beatsBy_3 rfl hl (by decide) rfl (fun ls hl => ?_)
  refine lv_iconst (v := 0) S.1 S.2.1 dX5_beatsBy_4 rfl ?_
  refine lv_istore (lv' := [(4, .int (0 : Int32)), (3, .int (0 : Int32)), (2, .int (0 : Int32)), (0, .ref (mM E)), (1, .int x1)]) S.1 S.2.1 dX5_beatsBy_5 hl (by decide) rfl (fun ls hl => ?_)
  refine lv_iconst (v := 0) S.1 S.2.1 dX5_beatsBy_7 rfl ?_
  refine lv_istore (lv' := [(5, .int (0 : Int32)), (4, .int (0 : Int32)), (3, .int (0 : Int32)), (2, .int (0 : Int32)), (0, .ref (mM E)), (1, .int x1)]) S.1 S.2.1 dX5_beatsBy_8 hl (by decide) rfl (fun ls hl => ?_)
  exact wk_M_beatsBy_p10 S hr hlocks FU _ _ _ _ _ _ _ _ _ h hw (lv_sub hl [4, 5, 3, 2, 1, 0] rfl)
def M_orders_b_p70 (od : Int32 → Int32 → Int32 → MS → Option MS) : Nat → Int32 → Int32 → Int32 → Int32 → MS → Option MS
  | 0, _, _, _, _, _ => none
  | n + 1, x1, x2, x3, x4, w =>
    if (M_errandsMany w) ≤ x4 then
      some w
    else
      if ((x3 >>> (x4 &&& 31)) &&& (1 : Int32)) = 0 then
        bd1 (wA w 29 6 x2 x4) fun w4 =>
        bd1 (od x1 (x2 + (1 : Int32)) (x3 ||| ((1 : Int32) <<< (x4 &&& 31))) w4) fun w5 =>
        (M_orders_b_p70 od n) x1 x2 x3 (x4 + (1 : Int32)) w5
      else
        (M_orders_b_p70 od n) x1 x2 x3 (x4 + (1 : Int32)) w
def M_orders_b_p40 (od : Int32 → Int32 → Int32 → MS → Option MS) : Nat → Int32 → Int32 → MS → Option MS
  | 0, _, _, _ => none
  | n + 1, x2, x5, w =>
    if x2 ≤ x5 then
      some w
    else
      bd1 (rA w 29 6 x5) fun v10 =>
      bd1 (wA w 30 6 x5 v10) fun w11 =>
      (M_orders_b_p40 od n) x2 (x5 + (1 : Int32)) w11
def M_orders_b (od : Int32 → Int32 → Int32 → MS → Option MS) (x1 : Int32) (x2 : Int32) (x3 : Int32) (w : MS) : Option MS :=
  if x2 = (M_errandsMany w) then
    bd1 (M_beatsBy x1 w) fun r6 =>
    if (rI w 31 0) < 0 then
      bdp (wI w 31 0 r6) fun w8 =>
      M_orders_b_p40 od FU x2 (0 : Int32) w8
    else
      if (rI w 31 0) ≤ r6 then
        some w
      else
        bdp (wI w 31 0 r6) fun w13 =>
        M_orders_b_p40 od FU x2 (0 : Int32) w13
  else
    M_orders_b_p70 od FU x1 x2 x3 (0 : Int32) w
def M_orders : Nat → Int32 → Int32 → Int32 → MS → Option MS
  | 0 => fun _ _ _ _ => none
  | d + 1 => M_orders_b (M_orders d)
set_option maxRecDepth 100000 in
set_option maxHeartbeats 4000000 in
theorem wk_M_orders_b_p70 {p : Program} {l : Launch} {e : Env} {s : State} {m : MethodId} {args : Array Value} {below : List Frame} {meth : Method} {c : Code} {E : mE} {A : Nat → Prop} (S : CallFix p m c cX5_orders 6 s args lw_all RX5) (hr : meth.sig.returnType = none) (hlocks : meth.locks = false) {res : MS} {d : Nat} {od : Int32 → Int32 → Int32 → MS → Option MS} (hod : ∀ (x1 x2 x3 : Int32) (w res : MS), od x1 x2 x3 w = some res → Met l yX5_orders (ws_ yX5_orders cX5_orders 6 none) (rm_orders d) (mPc E A [.ref (mM E), .int x1, .int x2, .int x3] w) (mQv E A res) 0 0 A) : ∀ n : Nat, ∀ (x1 : Int32) (x2 : Int32) (x3 : Int32) (x4 : Int32) (w : MS) (H : Heap) (locs : List Loc) (ls : Array Slot), M_orders_b_p70 od n x1 x2 x3 x4 w = some res → mH E A s w H locs → lv_has ls 6 [(0, .ref (mM E)), (1, .int x1), (2, .int x2), (3, .int x3), (4, .int x4)] → W p l e (rm_orders (d + 1)) s m args below meth c H locs 0 0 (MQ below (mQv E A res) args s 0 0 A) (F0 m 70 ls []) := by
  intro n
  induction n with
  | zero => intro x1 x2 x3 x4 w H locs ls h; cases (show (none : Option MS) = some res from h)
  | succ n ih =>
    intro x1 x2 x3 x4 w H locs ls h hw hl
    rw [M_orders_b_p70] at h
    refine lv_iload S.1 S.2.1 dX5_orders_70 (lv_at hl 4 rfl) ?_
    refine lv_aload_n S.1 S.2.1 dX5_orders_72 rfl (lv_at hl 0 rfl) ?_
    refine mcVti (As := []) (rest := [.int x4]) S hw (met_errandsMany l E A  w _ rfl) (cw_errandsMany S.2.2.2.2 rfl rfl ⟨(show 0 + 1 ≤ 1 * (d + 1) + 3 by omega), (show 8 + (1 + 11) + (0) ≤ 40 * (d + 1) + 200 by omega)⟩) rfl hl.1 rfl (lv_room (Nat.le_of_ble_eq_true rfl)) dX5_orders_73 (fun H locs hw => ?_)
    refine lv_icmp_ge (tgt := 116) S.1 S.2.1 dX5_orders_76 rfl (fun c2 => ?_) (fun c2 => ?_)
    · replace h := if_t c2 h
      exact m_vret S hr hlocks hw (so1 h) dX5_orders_116
    · replace h := if_f c2 h
      refine lv_iload_n S.1 S.2.1 dX5_orders_79 rfl (lv_at hl 3 rfl) ?_
      refine lv_iload S.1 S.2.1 dX5_orders_80 (lv_at hl 4 rfl) ?_
      refine lv_ishr S.1 S.2.1 dX5_orders_82 ?_
      refine lv_iconst (v := 1) S.1 S.2.1 dX5_orders_83 rfl ?_
      refine lv_iand S.1 S.2.1 dX5_orders_84 ?_
      refine lv_if_ne (tgt := 110) S.1 S.2.1 dX5_orders_85 rfl (fun c3 => ?_) (fun c3 => ?_)
      · replace h := if_f c3 h
        refine lv_iinc (v := x4 + (1 : Int32)) (lv' := [(4, .int (x4 + (1 : Int32))), (0, .ref (mM E)), (1, .int x1), (2, .int x2), (3, .int x3)]) S.1 S.2.1 dX5_orders_110 hl (k := 4) rfl rfl (by decide) rfl (fun ls hl => ?_)
        refine lv_goto (tgt := 70) S.1 S.2.1 dX5_orders_113 rfl ?_
        exact ih _ _ _ _ _ _ _ _ h hw (lv_sub hl [1, 2, 3, 4, 0] rfl)
      · replace h := if_t c3 h
        refine lv_aload_n S.1 S.2.1 dX5_orders_88 rfl (lv_at hl 0 rfl) ?_
        refine mg29 S hw dX5_orders_89 ?_
        refine lv_iload_n S.1 S.2.1 dX5_orders_92 rfl (lv_at hl 2 rfl) ?_
        refine lv_iload S.1 S.2.1 dX5_orders_93 (lv_at hl 4 rfl) ?_
        refine ms29 S hw dX5_orders_95 h (fun w4 H locs h hw => ?_)
        refine lv_aload_n S.1 S.2.1 dX5_orders_96 rfl (lv_at hl 0 rfl) ?_
        refine lv_iload_n S.1 S.2.1 dX5_orders_97 rfl (lv_at hl 1 rfl) ?_
        refine lv_iload_n S.1 S.2.1 dX5_orders_98 rfl (lv_at hl 2 rfl) ?_
        refine lv_iconst (v := 1) S.1 S.2.1 dX5_orders_99 rfl ?_
        refine lv_iadd S.1 S.2.1 dX5_orders_100 ?_
        refine lv_iload_n S.1 S.2.1 dX5_orders_101 rfl (lv_at hl 3 rfl) ?_
        refine lv_iconst (v := 1) S.1 S.2.1 dX5_orders_102 rfl ?_
        refine lv_iload S.1 S.2.1 dX5_orders_103 (lv_at hl 4 rfl) ?_
        refine lv_ishl S.1 S.2.1 dX5_orders_105 ?_
        refine lv_ior S.1 S.2.1 dX5_orders_106 ?_
        refine mcVv (As := [.int x1, .int (x2 + (1 : Int32)), .int (x3 ||| ((1 : Int32) <<< (x4 &&& 31)))]) (rest := []) S hw h (fun u h1 => hod x1 (x2 + (1 : Int32)) (x3 ||| ((1 : Int32) <<< (x4 &&& 31))) w4 u h1) (cw_orders S.2.2.2.2 rfl rfl ⟨(show 1 * d + 3 + 1 ≤ 1 * (d + 1) + 3 by omega), (show 8 + (6 + 11) + (40 * d + 200) ≤ 40 * (d + 1) + 200 by omega)⟩) rfl hl.1 rfl (lv_room (Nat.le_of_ble_eq_true rfl)) dX5_orders_107 (fun w5 H locs h hw => ?_)
        refine lv_iinc (v := x4 + (1 : Int32)) (lv' := [(4, .int (x4 + (1 : Int32))), (0, .ref (mM E)), (1, .int x1), (2, .int x2), (3, .int x3)]) S.1 S.2.1 dX5_orders_110 hl (k := 4) rfl rfl (by decide) rfl (fun ls hl => ?_)
        refine lv_goto (tgt := 70) S.1 S.2.1 dX5_orders_113 rfl ?_
        exact ih _ _ _ _ _ _ _ _ h hw (lv_sub hl [1, 2, 3, 4, 0] rfl)
set_option maxRecDepth 100000 in
set_option maxHeartbeats 4000000 in
theorem wk_M_orders_b_p40 {p : Program} {l : Launch} {e : Env} {s : State} {m : MethodId} {args : Array Value} {below : List Frame} {meth : Method} {c : Code} {E : mE} {A : Nat → Prop} (S : CallFix p m c cX5_orders 6 s args lw_all RX5) (hr : meth.sig.returnType = none) (hlocks : meth.locks = false) {res : MS} {d : Nat} {od : Int32 → Int32 → Int32 → MS → Option MS} (hod : ∀ (x1 x2 x3 : Int32) (w res : MS), od x1 x2 x3 w = some res → Met l yX5_orders (ws_ yX5_orders cX5_orders 6 none) (rm_orders d) (mPc E A [.ref (mM E), .int x1, .int x2, .int x3] w) (mQv E A res) 0 0 A) : ∀ n : Nat, ∀ (x2 : Int32) (x5 : Int32) (w : MS) (H : Heap) (locs : List Loc) (ls : Array Slot), M_orders_b_p40 od n x2 x5 w = some res → mH E A s w H locs → lv_has ls 6 [(0, .ref (mM E)), (2, .int x2), (5, .int x5)] → W p l e (rm_orders (d + 1)) s m args below meth c H locs 0 0 (MQ below (mQv E A res) args s 0 0 A) (F0 m 40 ls []) := by
  intro n
  induction n with
  | zero => intro x2 x5 w H locs ls h; cases (show (none : Option MS) = some res from h)
  | succ n ih =>
    intro x2 x5 w H locs ls h hw hl
    rw [M_orders_b_p40] at h
    refine lv_iload S.1 S.2.1 dX5_orders_40 (lv_at hl 2 rfl) ?_
    refine lv_iload_n S.1 S.2.1 dX5_orders_42 rfl (lv_at hl 1 rfl) ?_
    refine lv_icmp_ge (tgt := 66) S.1 S.2.1 dX5_orders_43 rfl (fun c9 => ?_) (fun c9 => ?_)
    · replace h := if_t c9 h
      exact m_vret S hr hlocks hw (so1 h) dX5_orders_66
    · replace h := if_f c9 h
      refine lv_aload_n S.1 S.2.1 dX5_orders_46 rfl (lv_at hl 0 rfl) ?_
      refine mg30 S hw dX5_orders_47 ?_
      refine lv_iload S.1 S.2.1 dX5_orders_50 (lv_at hl 2 rfl) ?_
      refine lv_aload_n S.1 S.2.1 dX5_orders_52 rfl (lv_at hl 0 rfl) ?_
      refine mg29 S hw dX5_orders_53 ?_
      refine lv_iload S.1 S.2.1 dX5_orders_56 (lv_at hl 2 rfl) ?_
      refine ml29 S hw dX5_orders_58 h (fun v10 h => ?_)
      refine ms30 S hw dX5_orders_59 h (fun w11 H locs h hw => ?_)
      refine lv_iinc (v := x5 + (1 : Int32)) (lv' := [(5, .int (x5 + (1 : Int32))), (0, .ref (mM E)), (2, .int x2)]) S.1 S.2.1 dX5_orders_60 hl (k := 2) rfl rfl (by decide) rfl (fun ls hl => ?_)
      refine lv_goto (tgt := 40) S.1 S.2.1 dX5_orders_63 rfl ?_
      exact ih _ _ _ _ _ _ h hw (lv_sub hl [1, 2, 0] rfl)
set_option maxRecDepth 100000 in
set_option maxHeartbeats 4000000 in
theorem met_orders_b (l : Launch) (E : mE) (A : Nat → Prop) {d : Nat} {od : Int32 → Int32 → Int32 → MS → Option MS} (hod : ∀ (x1 x2 x3 : Int32) (w res : MS), od x1 x2 x3 w = some res → Met l yX5_orders (ws_ yX5_orders cX5_orders 6 none) (rm_orders d) (mPc E A [.ref (mM E), .int x1, .int x2, .int x3] w) (mQv E A res) 0 0 A)  (x1 : Int32) (x2 : Int32) (x3 : Int32) (w : MS) (res : MS) (h : M_orders_b od x1 x2 x3 w = some res) : Met l yX5_orders (ws_ yX5_orders cX5_orders 6 none) (rm_orders (d + 1)) (mPc E A [.ref (mM E), .int x1, .int x2, .int x3] w) (mQv E A res) 0 0 A := by
  refine mMet (by decide) rfl (Nat.le_of_ble_eq_true rfl) ?_
  intro p e s m below meth c S hr hlocks H ls hw hl
  replace hl : lv_has ls 6 [(0, .ref (mM E)), (1, .int x1), (2, .int x2), (3, .int x3)] := hl
  unfold M_orders_b at h
  refine lv_iload_n S.1 S.2.1 dX5_orders_0 rfl (lv_at hl 2 rfl) ?_
  refine lv_aload_n S.1 S.2.1 dX5_orders_1 rfl (lv_at hl 0 rfl) ?_
  refine mcVti (As := []) (rest := [.int x2]) S hw (met_errandsMany l E A  w _ rfl) (cw_errandsMany S.2.2.2.2 rfl rfl ⟨(show 0 + 1 ≤ 1 * (d + 1) + 3 by omega), (show 8 + (1 + 11) + (0) ≤ 40 * (d + 1) + 200 by omega)⟩) rfl hl.1 rfl (lv_room (Nat.le_of_ble_eq_true rfl)) dX5_orders_2 (fun H locs hw => ?_)
  refine lv_icmp_ne (tgt := 67) S.1 S.2.1 dX5_orders_5 rfl (fun c1 => ?_) (fun c1 => ?_)
  · replace h := if_f c1 h
    refine lv_iconst (v := 0) S.1 S.2.1 dX5_orders_67 rfl ?_
    refine lv_istore (lv' := [(4, .int (0 : Int32)), (0, .ref (mM E)), (1, .int x1), (2, .int x2), (3, .int x3)]) S.1 S.2.1 dX5_orders_68 hl (by decide) rfl (fun ls hl => ?_)
    exact wk_M_orders_b_p70 S hr hlocks hod FU _ _ _ _ _ _ _ _ h hw (lv_sub hl [1, 2, 3, 4, 0] rfl)
  · replace h := if_t c1 h
    refine lv_aload_n S.1 S.2.1 dX5_orders_8 rfl (lv_at hl 0 rfl) ?_
    refine lv_iload_n S.1 S.2.1 dX5_orders_9 rfl (lv_at hl 1 rfl) ?_
    refine mcVri (As := [.int x1]) (rest := []) S hw h (fun u h1 => met_beatsBy l E A x1 w u h1) (cw_beatsBy S.2.2.2.2 rfl rfl ⟨(show 2 + 1 ≤ 1 * (d + 1) + 3 by omega), (show 8 + (8 + 11) + (44) ≤ 40 * (d + 1) + 200 by omega)⟩) rfl hl.1 rfl (lv_room (Nat.le_of_ble_eq_true rfl)) dX5_orders_10 (fun r6 H locs h hw => ?_)
    refine lv_istore (lv' := [(4, .int r6), (0, .ref (mM E)), (1, .int x1), (2, .int x2), (3, .int x3)]) S.1 S.2.1 dX5_orders_13 hl (by decide) rfl (fun ls hl => ?_)
    refine lv_aload_n S.1 S.2.1 dX5_orders_15 rfl (lv_at hl 1 rfl) ?_
    refine mg31 S hw dX5_orders_16 ?_
    refine lv_if_lt (tgt := 31) S.1 S.2.1 dX5_orders_19 rfl (fun c7 => ?_) (fun c7 => ?_)
    · replace h := if_t c7 h
      refine lv_aload_n S.1 S.2.1 dX5_orders_31 rfl (lv_at hl 1 rfl) ?_
      refine lv_iload S.1 S.2.1 dX5_orders_32 (lv_at hl 0 rfl) ?_
      refine mp31 S hw dX5_orders_34 h (fun w8 H locs h hw => ?_)
      refine lv_iconst (v := 0) S.1 S.2.1 dX5_orders_37 rfl ?_
      refine lv_istore (lv' := [(5, .int (0 : Int32)), (4, .int r6), (0, .ref (mM E)), (1, .int x1), (2, .int x2), (3, .int x3)]) S.1 S.2.1 dX5_orders_38 hl (by decide) rfl (fun ls hl => ?_)
      exact wk_M_orders_b_p40 S hr hlocks hod FU _ _ _ _ _ _ h hw (lv_sub hl [2, 4, 0] rfl)
    · replace h := if_f c7 h
      refine lv_iload S.1 S.2.1 dX5_orders_22 (lv_at hl 0 rfl) ?_
      refine lv_aload_n S.1 S.2.1 dX5_orders_24 rfl (lv_at hl 1 rfl) ?_
      refine mg31 S hw dX5_orders_25 ?_
      refine lv_icmp_ge (tgt := 66) S.1 S.2.1 dX5_orders_28 rfl (fun c12 => ?_) (fun c12 => ?_)
      · replace h := if_t c12 h
        exact m_vret S hr hlocks hw (so1 h) dX5_orders_66
      · replace h := if_f c12 h
        refine lv_aload_n S.1 S.2.1 dX5_orders_31 rfl (lv_at hl 1 rfl) ?_
        refine lv_iload S.1 S.2.1 dX5_orders_32 (lv_at hl 0 rfl) ?_
        refine mp31 S hw dX5_orders_34 h (fun w13 H locs h hw => ?_)
        refine lv_iconst (v := 0) S.1 S.2.1 dX5_orders_37 rfl ?_
        refine lv_istore (lv' := [(5, .int (0 : Int32)), (4, .int r6), (0, .ref (mM E)), (1, .int x1), (2, .int x2), (3, .int x3)]) S.1 S.2.1 dX5_orders_38 hl (by decide) rfl (fun ls hl => ?_)
        exact wk_M_orders_b_p40 S hr hlocks hod FU _ _ _ _ _ _ h hw (lv_sub hl [2, 4, 0] rfl)
theorem met_orders (l : Launch) (E : mE) (A : Nat → Prop) : ∀ (d : Nat) (x1 x2 x3 : Int32) (w res : MS), M_orders d x1 x2 x3 w = some res → Met l yX5_orders (ws_ yX5_orders cX5_orders 6 none) (rm_orders d) (mPc E A [.ref (mM E), .int x1, .int x2, .int x3] w) (mQv E A res) 0 0 A := by
  intro d
  induction d with
  | zero => intro x1 x2 x3 w res h; cases (show (none : Option MS) = some res from h)
  | succ d ih => intro x1 x2 x3 w res h; exact met_orders_b l E A ih x1 x2 x3 w res h
