/-! walks of the Model, printed by gen/model.py -/
set_option maxRecDepth 100000
def M_frights (x1 : Int32) (x2 : Int32) (x3 : Int32) (w : MS) : Option MS :=
  bd1 (rA w 25 1288 ((x1 + (13 : Int32)) + x2)) fun v1 =>
  bd1 (rA w 25 1288 ((x1 + (25 : Int32)) + x2)) fun v2 =>
  bd1 (M_frightened x2 x3 v2 w) fun r3 =>
  bd1 (wA w 25 1288 ((x1 + (13 : Int32)) + x2) (v1 + r3)) fun w4 =>
  bd1 (rA w4 25 1288 ((x1 + (25 : Int32)) + x2)) fun v5 =>
  bd1 (wA w4 25 1288 ((x1 + (25 : Int32)) + x2) (v5 + (1 : Int32))) fun w6 =>
  some w6
set_option maxRecDepth 100000 in
set_option maxHeartbeats 4000000 in
theorem met_frights (l : Launch) (E : mE) (A : Nat → Prop)  (x1 : Int32) (x2 : Int32) (x3 : Int32) (w : MS) (res : MS) (h : M_frights x1 x2 x3 w = some res) : Met l yX5_frights (ws_ yX5_frights cX5_frights 4 none) rm_frights (mPc E A [.ref (mM E), .int x1, .int x2, .int x3] w) (mQv E A res) 0 0 A := by
  refine mMet (by decide) rfl (Nat.le_of_ble_eq_true rfl) ?_
  intro p e s m below meth c S hr hlocks H ls hw hl
  replace hl : lv_has ls 4 [(0, .ref (mM E)), (1, .int x1), (2, .int x2), (3, .int x3)] := hl
  unfold M_frights at h
  refine lv_aload_n S.1 S.2.1 dX5_frights_0 rfl (lv_at hl 0 rfl) ?_
  refine mg25 S hw dX5_frights_1 ?_
  refine lv_iload_n S.1 S.2.1 dX5_frights_4 rfl (lv_at hl 1 rfl) ?_
  refine lv_bipush (v := 13) S.1 S.2.1 dX5_frights_5 rfl ?_
  refine lv_iadd S.1 S.2.1 dX5_frights_7 ?_
  refine lv_iload_n S.1 S.2.1 dX5_frights_8 rfl (lv_at hl 2 rfl) ?_
  refine lv_iadd S.1 S.2.1 dX5_frights_9 ?_
  refine lv_dup2_11 S.1 S.2.1 dX5_frights_10 rfl rfl ?_
  refine ml25 S hw dX5_frights_11 h (fun v1 h => ?_)
  refine lv_aload_n S.1 S.2.1 dX5_frights_12 rfl (lv_at hl 0 rfl) ?_
  refine lv_iload_n S.1 S.2.1 dX5_frights_13 rfl (lv_at hl 2 rfl) ?_
  refine lv_iload_n S.1 S.2.1 dX5_frights_14 rfl (lv_at hl 3 rfl) ?_
  refine lv_aload_n S.1 S.2.1 dX5_frights_15 rfl (lv_at hl 0 rfl) ?_
  refine mg25 S hw dX5_frights_16 ?_
  refine lv_iload_n S.1 S.2.1 dX5_frights_19 rfl (lv_at hl 1 rfl) ?_
  refine lv_bipush (v := 25) S.1 S.2.1 dX5_frights_20 rfl ?_
  refine lv_iadd S.1 S.2.1 dX5_frights_22 ?_
  refine lv_iload_n S.1 S.2.1 dX5_frights_23 rfl (lv_at hl 2 rfl) ?_
  refine lv_iadd S.1 S.2.1 dX5_frights_24 ?_
  refine ml25 S hw dX5_frights_25 h (fun v2 h => ?_)
  refine mcVri (As := [.int x2, .int x3, .int v2]) (rest := [.int v1, .int ((x1 + (13 : Int32)) + x2), .ref (mAr E 25)]) S hw h (fun u h1 => met_frightened l E A x2 x3 v2 w u h1) (cw_frightened S.2.2.2.2 rfl rfl ⟨Nat.le_of_ble_eq_true rfl, Nat.le_of_ble_eq_true rfl⟩) rfl hl.1 rfl (lv_room (Nat.le_of_ble_eq_true rfl)) dX5_frights_26 (fun r3 H locs h hw => ?_)
  refine lv_iadd S.1 S.2.1 dX5_frights_29 ?_
  refine ms25 S hw dX5_frights_30 h (fun w4 H locs h hw => ?_)
  refine lv_aload_n S.1 S.2.1 dX5_frights_31 rfl (lv_at hl 0 rfl) ?_
  refine mg25 S hw dX5_frights_32 ?_
  refine lv_iload_n S.1 S.2.1 dX5_frights_35 rfl (lv_at hl 1 rfl) ?_
  refine lv_bipush (v := 25) S.1 S.2.1 dX5_frights_36 rfl ?_
  refine lv_iadd S.1 S.2.1 dX5_frights_38 ?_
  refine lv_iload_n S.1 S.2.1 dX5_frights_39 rfl (lv_at hl 2 rfl) ?_
  refine lv_iadd S.1 S.2.1 dX5_frights_40 ?_
  refine lv_dup2_11 S.1 S.2.1 dX5_frights_41 rfl rfl ?_
  refine ml25 S hw dX5_frights_42 h (fun v5 h => ?_)
  refine lv_iconst (v := 1) S.1 S.2.1 dX5_frights_43 rfl ?_
  refine lv_iadd S.1 S.2.1 dX5_frights_44 ?_
  refine ms25 S hw dX5_frights_45 h (fun w6 H locs h hw => ?_)
  exact m_vret S hr hlocks hw (so1 h) dX5_frights_46
def M_fright (x1 : Int32) (x2 : Int32) (w : MS) : Option (Int32 × MS) :=
  bdp (wI w 0 0 (0 : Int32)) fun w1 =>
  bd1 (M_isIn (0 : Int32) x1 w1) fun r2 =>
  if r2 = 0 then
    some ((-1 : Int32), w1)
  else
    if (M_within x2 (1 : Int32) (99 : Int32)) = 0 then
      some ((-1 : Int32), w1)
    else
      bd1 (M_keeps w1) fun w5 =>
      bd1 (M_frights (0 : Int32) x1 x2 w5) fun w6 =>
      bd1 (rA w6 25 1288 ((13 : Int32) + x1)) fun v7 =>
      some (v7, w6)
set_option maxRecDepth 100000 in
set_option maxHeartbeats 4000000 in
theorem met_fright (l : Launch) (E : mE) (A : Nat → Prop)  (x1 : Int32) (x2 : Int32) (w : MS) (res : Int32 × MS) (h : M_fright x1 x2 w = some res) : Met l yX5_fright (ws_ yX5_fright cX5_fright 3 (some .int)) rm_fright (mPc E A [.ref (mM E), .int x1, .int x2] w) (mQi E A res.1 res.2) 0 0 A := by
  refine mMet (by decide) rfl (Nat.le_of_ble_eq_true rfl) ?_
  intro p e s m below meth c S hr hlocks H ls hw hl
  replace hl : lv_has ls 3 [(0, .ref (mM E)), (1, .int x1), (2, .int x2)] := hl
  unfold M_fright at h
  refine lv_aload_n S.1 S.2.1 dX5_fright_0 rfl (lv_at hl 0 rfl) ?_
  refine lv_iconst (v := 0) S.1 S.2.1 dX5_fright_1 rfl ?_
  refine mp0 S hw dX5_fright_2 h (fun w1 H locs h hw => ?_)
  refine lv_aload_n S.1 S.2.1 dX5_fright_5 rfl (lv_at hl 0 rfl) ?_
  refine lv_iconst (v := 0) S.1 S.2.1 dX5_fright_6 rfl ?_
  refine lv_iload_n S.1 S.2.1 dX5_fright_7 rfl (lv_at hl 1 rfl) ?_
  refine mcVri (As := [.int (0 : Int32), .int x1]) (rest := []) S hw h (fun u h1 => met_isIn l E A (0 : Int32) x1 w1 u h1) (cw_isIn S.2.2.2.2 rfl rfl ⟨Nat.le_of_ble_eq_true rfl, Nat.le_of_ble_eq_true rfl⟩) rfl hl.1 rfl (lv_room (Nat.le_of_ble_eq_true rfl)) dX5_fright_8 (fun r2 H locs h hw => ?_)
  refine lv_if_eq (tgt := 24) S.1 S.2.1 dX5_fright_11 rfl (fun c3 => ?_) (fun c3 => ?_)
  · replace h := if_t c3 h
    refine lv_iconst (v := -1) S.1 S.2.1 dX5_fright_24 rfl ?_
    exact m_iret S hr hlocks hw (so2 h) dX5_fright_25
  · replace h := if_f c3 h
    refine lv_iload_n S.1 S.2.1 dX5_fright_14 rfl (lv_at hl 2 rfl) ?_
    refine lv_iconst (v := 1) S.1 S.2.1 dX5_fright_15 rfl ?_
    refine lv_bipush (v := 99) S.1 S.2.1 dX5_fright_16 rfl ?_
    refine mcSti (As := [.int x2, .int (1 : Int32), .int (99 : Int32)]) (rest := []) S hw (met_within l E A x2 (1 : Int32) (99 : Int32) w1 _ rfl) (cw_within S.2.2.2.2 rfl rfl ⟨Nat.le_of_ble_eq_true rfl, Nat.le_of_ble_eq_true rfl⟩) rfl hl.1 rfl (lv_room (Nat.le_of_ble_eq_true rfl)) dX5_fright_18 (fun H locs hw => ?_)
    refine lv_if_ne (tgt := 26) S.1 S.2.1 dX5_fright_21 rfl (fun c4 => ?_) (fun c4 => ?_)
    · replace h := if_f c4 h
      refine lv_aload_n S.1 S.2.1 dX5_fright_26 rfl (lv_at hl 0 rfl) ?_
      refine mcVv (As := []) (rest := []) S hw h (fun u h1 => met_keeps l E A  w1 u h1) (cw_keeps S.2.2.2.2 rfl rfl ⟨Nat.le_of_ble_eq_true rfl, Nat.le_of_ble_eq_true rfl⟩) rfl hl.1 rfl (lv_room (Nat.le_of_ble_eq_true rfl)) dX5_fright_27 (fun w5 H locs h hw => ?_)
      refine lv_aload_n S.1 S.2.1 dX5_fright_30 rfl (lv_at hl 0 rfl) ?_
      refine lv_iconst (v := 0) S.1 S.2.1 dX5_fright_31 rfl ?_
      refine lv_iload_n S.1 S.2.1 dX5_fright_32 rfl (lv_at hl 1 rfl) ?_
      refine lv_iload_n S.1 S.2.1 dX5_fright_33 rfl (lv_at hl 2 rfl) ?_
      refine mcVv (As := [.int (0 : Int32), .int x1, .int x2]) (rest := []) S hw h (fun u h1 => met_frights l E A (0 : Int32) x1 x2 w5 u h1) (cw_frights S.2.2.2.2 rfl rfl ⟨Nat.le_of_ble_eq_true rfl, Nat.le_of_ble_eq_true rfl⟩) rfl hl.1 rfl (lv_room (Nat.le_of_ble_eq_true rfl)) dX5_fright_34 (fun w6 H locs h hw => ?_)
      refine lv_aload_n S.1 S.2.1 dX5_fright_37 rfl (lv_at hl 0 rfl) ?_
      refine mg25 S hw dX5_fright_38 ?_
      refine lv_bipush (v := 13) S.1 S.2.1 dX5_fright_41 rfl ?_
      refine lv_iload_n S.1 S.2.1 dX5_fright_43 rfl (lv_at hl 1 rfl) ?_
      refine lv_iadd S.1 S.2.1 dX5_fright_44 ?_
      refine ml25 S hw dX5_fright_45 h (fun v7 h => ?_)
      exact m_iret S hr hlocks hw (so2 h) dX5_fright_46
    · replace h := if_t c4 h
      refine lv_iconst (v := -1) S.1 S.2.1 dX5_fright_24 rfl ?_
      exact m_iret S hr hlocks hw (so2 h) dX5_fright_25
def M_drink (x1 : Int32) (w : MS) : Option (Int32 × MS) :=
  bdp (wI w 0 0 (0 : Int32)) fun w1 =>
  bd1 (M_isIn (0 : Int32) x1 w1) fun r2 =>
  if r2 = 0 then
    some ((0 : Int32), w1)
  else
    bd1 (M_keeps w1) fun w4 =>
    bd1 (wA w4 25 1288 ((19 : Int32) + x1) (rI w4 10 4)) fun w5 =>
    some ((1 : Int32), w5)
set_option maxRecDepth 100000 in
set_option maxHeartbeats 4000000 in
theorem met_drink (l : Launch) (E : mE) (A : Nat → Prop)  (x1 : Int32) (w : MS) (res : Int32 × MS) (h : M_drink x1 w = some res) : Met l yX5_drink (ws_ yX5_drink cX5_drink 2 (some .boolean)) rm_drink (mPc E A [.ref (mM E), .int x1] w) (mQi E A res.1 res.2) 0 0 A := by
  refine mMet (by decide) rfl (Nat.le_of_ble_eq_true rfl) ?_
  intro p e s m below meth c S hr hlocks H ls hw hl
  replace hl : lv_has ls 2 [(0, .ref (mM E)), (1, .int x1)] := hl
  unfold M_drink at h
  refine lv_aload_n S.1 S.2.1 dX5_drink_0 rfl (lv_at hl 0 rfl) ?_
  refine lv_iconst (v := 0) S.1 S.2.1 dX5_drink_1 rfl ?_
  refine mp0 S hw dX5_drink_2 h (fun w1 H locs h hw => ?_)
  refine lv_aload_n S.1 S.2.1 dX5_drink_5 rfl (lv_at hl 0 rfl) ?_
  refine lv_iconst (v := 0) S.1 S.2.1 dX5_drink_6 rfl ?_
  refine lv_iload_n S.1 S.2.1 dX5_drink_7 rfl (lv_at hl 1 rfl) ?_
  refine mcVri (As := [.int (0 : Int32), .int x1]) (rest := []) S hw h (fun u h1 => met_isIn l E A (0 : Int32) x1 w1 u h1) (cw_isIn S.2.2.2.2 rfl rfl ⟨Nat.le_of_ble_eq_true rfl, Nat.le_of_ble_eq_true rfl⟩) rfl hl.1 rfl (lv_room (Nat.le_of_ble_eq_true rfl)) dX5_drink_8 (fun r2 H locs h hw => ?_)
  refine lv_if_ne (tgt := 16) S.1 S.2.1 dX5_drink_11 rfl (fun c3 => ?_) (fun c3 => ?_)
  · replace h := if_f c3 h
    refine lv_aload_n S.1 S.2.1 dX5_drink_16 rfl (lv_at hl 0 rfl) ?_
    refine mcVv (As := []) (rest := []) S hw h (fun u h1 => met_keeps l E A  w1 u h1) (cw_keeps S.2.2.2.2 rfl rfl ⟨Nat.le_of_ble_eq_true rfl, Nat.le_of_ble_eq_true rfl⟩) rfl hl.1 rfl (lv_room (Nat.le_of_ble_eq_true rfl)) dX5_drink_17 (fun w4 H locs h hw => ?_)
    refine lv_aload_n S.1 S.2.1 dX5_drink_20 rfl (lv_at hl 0 rfl) ?_
    refine mg25 S hw dX5_drink_21 ?_
    refine lv_bipush (v := 19) S.1 S.2.1 dX5_drink_24 rfl ?_
    refine lv_iload_n S.1 S.2.1 dX5_drink_26 rfl (lv_at hl 1 rfl) ?_
    refine lv_iadd S.1 S.2.1 dX5_drink_27 ?_
    refine lv_aload_n S.1 S.2.1 dX5_drink_28 rfl (lv_at hl 0 rfl) ?_
    refine mg10 S hw dX5_drink_29 ?_
    refine lv_iconst (v := 4) S.1 S.2.1 dX5_drink_32 rfl ?_
    refine mlc10 (j := 4) S hw dX5_drink_33 (by decide) ?_
    refine ms25 S hw dX5_drink_34 h (fun w5 H locs h hw => ?_)
    refine lv_iconst (v := 1) S.1 S.2.1 dX5_drink_35 rfl ?_
    exact m_zret S hr hlocks hw rfl (so2 h) dX5_drink_36
  · replace h := if_t c3 h
    refine lv_iconst (v := 0) S.1 S.2.1 dX5_drink_14 rfl ?_
    exact m_zret S hr hlocks hw rfl (so2 h) dX5_drink_15
def M_calmed (x1 : Int32) (x2 : Int32) (w : MS) : Option Int32 :=
  bd1 (M_tenantOf x1 (0 : Int32) w) fun r1 =>
  if r1 = (1 : Int32) then
    some (x2 / (4 : Int32))
  else
    some (x2 / (2 : Int32))
set_option maxRecDepth 100000 in
set_option maxHeartbeats 4000000 in
theorem met_calmed (l : Launch) (E : mE) (A : Nat → Prop)  (x1 : Int32) (x2 : Int32) (w : MS) (res : Int32) (h : M_calmed x1 x2 w = some res) : Met l yX5_calmed (ws_ yX5_calmed cX5_calmed 3 (some .int)) rm_calmed (mPc E A [.ref (mM E), .int x1, .int x2] w) (mQi E A res w) 0 0 A := by
  refine mMet (by decide) rfl (Nat.le_of_ble_eq_true rfl) ?_
  intro p e s m below meth c S hr hlocks H ls hw hl
  replace hl : lv_has ls 3 [(0, .ref (mM E)), (1, .int x1), (2, .int x2)] := hl
  unfold M_calmed at h
  refine lv_aload_n S.1 S.2.1 dX5_calmed_0 rfl (lv_at hl 0 rfl) ?_
  refine lv_iload_n S.1 S.2.1 dX5_calmed_1 rfl (lv_at hl 1 rfl) ?_
  refine lv_iconst (v := 0) S.1 S.2.1 dX5_calmed_2 rfl ?_
  refine mcVri (As := [.int x1, .int (0 : Int32)]) (rest := []) S hw h (fun u h1 => met_tenantOf l E A x1 (0 : Int32) w u h1) (cw_tenantOf S.2.2.2.2 rfl rfl ⟨Nat.le_of_ble_eq_true rfl, Nat.le_of_ble_eq_true rfl⟩) rfl hl.1 rfl (lv_room (Nat.le_of_ble_eq_true rfl)) dX5_calmed_3 (fun r1 H locs h hw => ?_)
  refine lv_iconst (v := 1) S.1 S.2.1 dX5_calmed_6 rfl ?_
  refine lv_icmp_ne (tgt := 16) S.1 S.2.1 dX5_calmed_7 rfl (fun c2 => ?_) (fun c2 => ?_)
  · replace h := if_f c2 h
    refine lv_iload_n S.1 S.2.1 dX5_calmed_16 rfl (lv_at hl 2 rfl) ?_
    refine lv_iconst (v := 2) S.1 S.2.1 dX5_calmed_17 rfl ?_
    refine lv_idiv S.1 S.2.1 dX5_calmed_18 (by decide) ?_
    exact m_iret S hr hlocks hw ⟨so1 h, rfl⟩ dX5_calmed_19
  · replace h := if_t c2 h
    refine lv_iload_n S.1 S.2.1 dX5_calmed_10 rfl (lv_at hl 2 rfl) ?_
    refine lv_iconst (v := 4) S.1 S.2.1 dX5_calmed_11 rfl ?_
    refine lv_idiv S.1 S.2.1 dX5_calmed_12 (by decide) ?_
    refine lv_goto (tgt := 19) S.1 S.2.1 dX5_calmed_13 rfl ?_
    exact m_iret S hr hlocks hw ⟨so1 h, rfl⟩ dX5_calmed_19
def M_passes_p90 : Nat → Int32 → Int32 → Int32 → MS → Option (Int32 × MS)
  | 0, _, _, _, _ => none
  | n + 1, x1, x2, x4, w =>
    if (M_tenants w) ≤ x4 then
      bd1 (rA w 25 1288 (x1 + (0 : Int32))) fun v4 =>
      bd1 (wA w 25 1288 (x1 + (0 : Int32)) (v4 + (1 : Int32))) fun w5 =>
      some (x2, w5)
    else
      bd1 (rA w 25 1288 ((x1 + (13 : Int32)) + x4)) fun v6 =>
      bd1 (M_calmed x4 v6 w) fun r7 =>
      bd1 (wA w 25 1288 ((x1 + (13 : Int32)) + x4) r7) fun w8 =>
      bd1 (rA w8 25 1288 ((x1 + (19 : Int32)) + x4)) fun v9 =>
      bd1 (rA w8 25 1288 ((x1 + (19 : Int32)) + x4)) fun v10 =>
      if v10 ≤ 0 then
        bd1 (wA w8 25 1288 ((x1 + (19 : Int32)) + x4) (v9 - (0 : Int32))) fun w12 =>
        (M_passes_p90 n) x1 x2 (x4 + (1 : Int32)) w12
      else
        bd1 (wA w8 25 1288 ((x1 + (19 : Int32)) + x4) (v9 - (1 : Int32))) fun w13 =>
        (M_passes_p90 n) x1 x2 (x4 + (1 : Int32)) w13
def M_passes_p57 (k12 : Int32 → Int32 → Int32 → Int32 → MS → Option (Int32 × MS)) (x1 : Int32) (x2 : Int32) (x3 : Int32) (x4 : Int32) (t0 : Int32) (w : MS) : Option (Int32 × MS) :=
  bd1 (rA w 25 1288 ((x1 + (7 : Int32)) + x4)) fun v19 =>
  bd1 (wA w 25 1288 ((x1 + (7 : Int32)) + x4) (v19 + t0)) fun w20 =>
  bdp (x2 + t0) fun y21 =>
  k12 x1 y21 x3 (x4 + (1 : Int32)) w20
def M_passes_p12 : Nat → Int32 → Int32 → Int32 → Int32 → MS → Option (Int32 × MS)
  | 0, _, _, _, _, _ => none
  | n + 1, x1, x2, x3, x4, w =>
    if (M_tenants w) ≤ x4 then
      M_passes_p90 FU x1 x2 (0 : Int32) w
    else
      bd1 (rA w 25 1288 (x1 + (0 : Int32))) fun v14 =>
      bd1 (o_irem v14 x3) fun d15 =>
      if d15 = 0 then
        bd1 (M_isIn x1 x4 w) fun r17 =>
        if r17 = 0 then
          M_passes_p57 (M_passes_p12 n) x1 x2 x3 x4 (0 : Int32) w
        else
          bd1 (M_pulseOf x1 x4 w) fun r22 =>
          M_passes_p57 (M_passes_p12 n) x1 x2 x3 x4 (r22 * x3) w
      else
        M_passes_p90 FU x1 x2 (0 : Int32) w
def M_passes (x1 : Int32) (w : MS) : Option (Int32 × MS) :=
  bdp (rI w 10 5) fun y1 =>
  M_passes_p12 FU x1 (0 : Int32) y1 (0 : Int32) w
set_option maxRecDepth 100000 in
set_option maxHeartbeats 4000000 in
theorem wk_M_passes_p90 {p : Program} {l : Launch} {e : Env} {s : State} {m : MethodId} {args : Array Value} {below : List Frame} {meth : Method} {c : Code} {E : mE} {A : Nat → Prop} (S : CallFix p m c cX5_passes 6 s args lw_all RX5) (hr : meth.sig.returnType = (some .int)) (hlocks : meth.locks = false) {res : Int32 × MS}  : ∀ n : Nat, ∀ (x1 : Int32) (x2 : Int32) (x4 : Int32) (w : MS) (H : Heap) (locs : List Loc) (ls : Array Slot), M_passes_p90 n x1 x2 x4 w = some res → mH E A s w H locs → lv_has ls 6 [(0, .ref (mM E)), (1, .int x1), (2, .int x2), (4, .int x4)] → W p l e rm_passes s m args below meth c H locs 0 0 (MQ below (mQi E A res.1 res.2) args s 0 0 A) (F0 m 90 ls []) := by
  intro n
  induction n with
  | zero => intro x1 x2 x4 w H locs ls h; cases (show (none : Option (Int32 × MS)) = some res from h)
  | succ n ih =>
    intro x1 x2 x4 w H locs ls h hw hl
    rw [M_passes_p90] at h
    refine lv_iload S.1 S.2.1 dX5_passes_90 (lv_at hl 3 rfl) ?_
    refine lv_aload_n S.1 S.2.1 dX5_passes_92 rfl (lv_at hl 0 rfl) ?_
    refine mcVti (As := []) (rest := [.int x4]) S hw (met_tenants l E A  w _ rfl) (cw_tenants S.2.2.2.2 rfl rfl ⟨Nat.le_of_ble_eq_true rfl, Nat.le_of_ble_eq_true rfl⟩) rfl hl.1 rfl (lv_room (Nat.le_of_ble_eq_true rfl)) dX5_passes_93 (fun H locs hw => ?_)
    refine lv_icmp_ge (tgt := 170) S.1 S.2.1 dX5_passes_96 rfl (fun c3 => ?_) (fun c3 => ?_)
    · replace h := if_t c3 h
      refine lv_aload_n S.1 S.2.1 dX5_passes_170 rfl (lv_at hl 0 rfl) ?_
      refine mg25 S hw dX5_passes_171 ?_
      refine lv_iload_n S.1 S.2.1 dX5_passes_174 rfl (lv_at hl 1 rfl) ?_
      refine lv_iconst (v := 0) S.1 S.2.1 dX5_passes_175 rfl ?_
      refine lv_iadd S.1 S.2.1 dX5_passes_176 ?_
      refine lv_dup2_11 S.1 S.2.1 dX5_passes_177 rfl rfl ?_
      refine ml25 S hw dX5_passes_178 h (fun v4 h => ?_)
      refine lv_iconst (v := 1) S.1 S.2.1 dX5_passes_179 rfl ?_
      refine lv_iadd S.1 S.2.1 dX5_passes_180 ?_
      refine ms25 S hw dX5_passes_181 h (fun w5 H locs h hw => ?_)
      refine lv_iload_n S.1 S.2.1 dX5_passes_182 rfl (lv_at hl 2 rfl) ?_
      exact m_iret S hr hlocks hw (so2 h) dX5_passes_183
    · replace h := if_f c3 h
      refine lv_aload_n S.1 S.2.1 dX5_passes_99 rfl (lv_at hl 0 rfl) ?_
      refine mg25 S hw dX5_passes_100 ?_
      refine lv_iload_n S.1 S.2.1 dX5_passes_103 rfl (lv_at hl 1 rfl) ?_
      refine lv_bipush (v := 13) S.1 S.2.1 dX5_passes_104 rfl ?_
      refine lv_iadd S.1 S.2.1 dX5_passes_106 ?_
      refine lv_iload S.1 S.2.1 dX5_passes_107 (lv_at hl 3 rfl) ?_
      refine lv_iadd S.1 S.2.1 dX5_passes_109 ?_
      refine lv_aload_n S.1 S.2.1 dX5_passes_110 rfl (lv_at hl 0 rfl) ?_
      refine lv_iload S.1 S.2.1 dX5_passes_111 (lv_at hl 3 rfl) ?_
      refine lv_aload_n S.1 S.2.1 dX5_passes_113 rfl (lv_at hl 0 rfl) ?_
      refine mg25 S hw dX5_passes_114 ?_
      refine lv_iload_n S.1 S.2.1 dX5_passes_117 rfl (lv_at hl 1 rfl) ?_
      refine lv_bipush (v := 13) S.1 S.2.1 dX5_passes_118 rfl ?_
      refine lv_iadd S.1 S.2.1 dX5_passes_120 ?_
      refine lv_iload S.1 S.2.1 dX5_passes_121 (lv_at hl 3 rfl) ?_
      refine lv_iadd S.1 S.2.1 dX5_passes_123 ?_
      refine ml25 S hw dX5_passes_124 h (fun v6 h => ?_)
      refine mcVri (As := [.int x4, .int v6]) (rest := [.int ((x1 + (13 : Int32)) + x4), .ref (mAr E 25)]) S hw h (fun u h1 => met_calmed l E A x4 v6 w u h1) (cw_calmed S.2.2.2.2 rfl rfl ⟨Nat.le_of_ble_eq_true rfl, Nat.le_of_ble_eq_true rfl⟩) rfl hl.1 rfl (lv_room (Nat.le_of_ble_eq_true rfl)) dX5_passes_125 (fun r7 H locs h hw => ?_)
      refine ms25 S hw dX5_passes_128 h (fun w8 H locs h hw => ?_)
      refine lv_aload_n S.1 S.2.1 dX5_passes_129 rfl (lv_at hl 0 rfl) ?_
      refine mg25 S hw dX5_passes_130 ?_
      refine lv_iload_n S.1 S.2.1 dX5_passes_133 rfl (lv_at hl 1 rfl) ?_
      refine lv_bipush (v := 19) S.1 S.2.1 dX5_passes_134 rfl ?_
      refine lv_iadd S.1 S.2.1 dX5_passes_136 ?_
      refine lv_iload S.1 S.2.1 dX5_passes_137 (lv_at hl 3 rfl) ?_
      refine lv_iadd S.1 S.2.1 dX5_passes_139 ?_
      refine lv_dup2_11 S.1 S.2.1 dX5_passes_140 rfl rfl ?_
      refine ml25 S hw dX5_passes_141 h (fun v9 h => ?_)
      refine lv_aload_n S.1 S.2.1 dX5_passes_142 rfl (lv_at hl 0 rfl) ?_
      refine mg25 S hw dX5_passes_143 ?_
      refine lv_iload_n S.1 S.2.1 dX5_passes_146 rfl (lv_at hl 1 rfl) ?_
      refine lv_bipush (v := 19) S.1 S.2.1 dX5_passes_147 rfl ?_
      refine lv_iadd S.1 S.2.1 dX5_passes_149 ?_
      refine lv_iload S.1 S.2.1 dX5_passes_150 (lv_at hl 3 rfl) ?_
      refine lv_iadd S.1 S.2.1 dX5_passes_152 ?_
      refine ml25 S hw dX5_passes_153 h (fun v10 h => ?_)
      refine lv_if_le (tgt := 161) S.1 S.2.1 dX5_passes_154 rfl (fun c11 => ?_) (fun c11 => ?_)
      · replace h := if_t c11 h
        refine lv_iconst (v := 0) S.1 S.2.1 dX5_passes_161 rfl ?_
        refine lv_isub S.1 S.2.1 dX5_passes_162 ?_
        refine ms25 S hw dX5_passes_163 h (fun w12 H locs h hw => ?_)
        refine lv_iinc (v := x4 + (1 : Int32)) (lv' := [(4, .int (x4 + (1 : Int32))), (0, .ref (mM E)), (1, .int x1), (2, .int x2)]) S.1 S.2.1 dX5_passes_164 hl (k := 3) rfl rfl (by decide) rfl (fun ls hl => ?_)
        refine lv_goto (tgt := 90) S.1 S.2.1 dX5_passes_167 rfl ?_
        exact ih _ _ _ _ _ _ _ h hw (lv_sub hl [1, 2, 3, 0] rfl)
      · replace h := if_f c11 h
        refine lv_iconst (v := 1) S.1 S.2.1 dX5_passes_157 rfl ?_
        refine lv_goto (tgt := 162) S.1 S.2.1 dX5_passes_158 rfl ?_
        refine lv_isub S.1 S.2.1 dX5_passes_162 ?_
        refine ms25 S hw dX5_passes_163 h (fun w13 H locs h hw => ?_)
        refine lv_iinc (v := x4 + (1 : Int32)) (lv' := [(4, .int (x4 + (1 : Int32))), (0, .ref (mM E)), (1, .int x1), (2, .int x2)]) S.1 S.2.1 dX5_passes_164 hl (k := 3) rfl rfl (by decide) rfl (fun ls hl => ?_)
        refine lv_goto (tgt := 90) S.1 S.2.1 dX5_passes_167 rfl ?_
        exact ih _ _ _ _ _ _ _ h hw (lv_sub hl [1, 2, 3, 0] rfl)
set_option maxRecDepth 100000 in
set_option maxHeartbeats 4000000 in
theorem wk_M_passes_p57 {p : Program} {l : Launch} {e : Env} {s : State} {m : MethodId} {args : Array Value} {below : List Frame} {meth : Method} {c : Code} {E : mE} {A : Nat → Prop} (S : CallFix p m c cX5_passes 6 s args lw_all RX5) (hr : meth.sig.returnType = (some .int)) (hlocks : meth.locks = false) {res : Int32 × MS}  {k12 : Int32 → Int32 → Int32 → Int32 → MS → Option (Int32 × MS)} (hk12 : ∀ (x1 : Int32) (x2 : Int32) (x3 : Int32) (x4 : Int32) (w : MS) (H : Heap) (locs : List Loc) (ls : Array Slot), k12 x1 x2 x3 x4 w = some res → mH E A s w H locs → lv_has ls 6 [(0, .ref (mM E)), (1, .int x1), (2, .int x2), (3, .int x3), (4, .int x4)] → W p l e rm_passes s m args below meth c H locs 0 0 (MQ below (mQi E A res.1 res.2) args s 0 0 A) (F0 m 12 ls [])) : ∀ (x1 : Int32) (x2 : Int32) (x3 : Int32) (x4 : Int32) (t0 : Int32) (w : MS) (H : Heap) (locs : List Loc) (ls : Array Slot), M_passes_p57 k12 x1 x2 x3 x4 t0 w = some res → mH E A s w H locs → lv_has ls 6 [(0, .ref (mM E)), (1, .int x1), (2, .int x2), (3, .int x3), (4, .int x4)] → W p l e rm_passes s m args below meth c H locs 0 0 (MQ below (mQi E A res.1 res.2) args s 0 0 A) (F0 m 57 ls [.int t0]) := by
  intro x1 x2 x3 x4 t0 w H locs ls h hw hl
  unfold M_passes_p57 at h
  refine lv_istore (lv' := [(5, .int t0), (0, .ref (mM E)), (1, .int x1), (2, .int x2), (3, .int x3), (4, .int x4)]) S.1 S.2.1 dX5_passes_57 hl (by decide) rfl (fun ls hl => ?_)
  refine lv_aload_n S.1 S.2.1 dX5_passes_59 rfl (lv_at hl 1 rfl) ?_
  refine mg25 S hw dX5_passes_60 ?_
  refine lv_iload_n S.1 S.2.1 dX5_passes_63 rfl (lv_at hl 2 rfl) ?_
  refine lv_bipush (v := 7) S.1 S.2.1 dX5_passes_64 rfl ?_
  refine lv_iadd S.1 S.2.1 dX5_passes_66 ?_
  refine lv_iload S.1 S.2.1 dX5_passes_67 (lv_at hl 5 rfl) ?_
  refine lv_iadd S.1 S.2.1 dX5_passes_69 ?_
  refine lv_dup2_11 S.1 S.2.1 dX5_passes_70 rfl rfl ?_
  refine ml25 S hw dX5_passes_71 h (fun v19 h => ?_)
  refine lv_iload S.1 S.2.1 dX5_passes_72 (lv_at hl 0 rfl) ?_
  refine lv_iadd S.1 S.2.1 dX5_passes_74 ?_
  refine ms25 S hw dX5_passes_75 h (fun w20 H locs h hw => ?_)
  refine lv_iload_n S.1 S.2.1 dX5_passes_76 rfl (lv_at hl 3 rfl) ?_
  refine lv_iload S.1 S.2.1 dX5_passes_77 (lv_at hl 0 rfl) ?_
  refine lv_iadd S.1 S.2.1 dX5_passes_79 ?_
  refine lv_topi (fun y21 ey => ?_)
  replace h := bdp_e ey h
  refine lv_istore_n (lv' := [(2, .int y21), (5, .int t0), (0, .ref (mM E)), (1, .int x1), (3, .int x3), (4, .int x4)]) S.1 S.2.1 dX5_passes_80 rfl hl (by decide) rfl (fun ls hl => ?_)
  refine lv_iinc (v := x4 + (1 : Int32)) (lv' := [(4, .int (x4 + (1 : Int32))), (2, .int y21), (5, .int t0), (0, .ref (mM E)), (1, .int x1), (3, .int x3)]) S.1 S.2.1 dX5_passes_81 hl (k := 5) rfl rfl (by decide) rfl (fun ls hl => ?_)
  refine lv_goto (tgt := 12) S.1 S.2.1 dX5_passes_84 rfl ?_
  exact hk12 _ _ _ _ _ _ _ _ h hw (lv_sub hl [3, 4, 1, 5, 0] rfl)
set_option maxRecDepth 100000 in
set_option maxHeartbeats 4000000 in
theorem wk_M_passes_p12 {p : Program} {l : Launch} {e : Env} {s : State} {m : MethodId} {args : Array Value} {below : List Frame} {meth : Method} {c : Code} {E : mE} {A : Nat → Prop} (S : CallFix p m c cX5_passes 6 s args lw_all RX5) (hr : meth.sig.returnType = (some .int)) (hlocks : meth.locks = false) {res : Int32 × MS}  : ∀ n : Nat, ∀ (x1 : Int32) (x2 : Int32) (x3 : Int32) (x4 : Int32) (w : MS) (H : Heap) (locs : List Loc) (ls : Array Slot), M_passes_p12 n x1 x2 x3 x4 w = some res → mH E A s w H locs → lv_has ls 6 [(0, .ref (mM E)), (1, .int x1), (2, .int x2), (3, .int x3), (4, .int x4)] → W p l e rm_passes s m args below meth c H locs 0 0 (MQ below (mQi E A res.1 res.2) args s 0 0 A) (F0 m 12 ls []) := by
  intro n
  induction n with
  | zero => intro x1 x2 x3 x4 w H locs ls h; cases (show (none : Option (Int32 × MS)) = some res from h)
  | succ n ih =>
    intro x1 x2 x3 x4 w H locs ls h hw hl
    rw [M_passes_p12] at h
    refine lv_iload S.1 S.2.1 dX5_passes_12 (lv_at hl 4 rfl) ?_
    refine lv_aload_n S.1 S.2.1 dX5_passes_14 rfl (lv_at hl 0 rfl) ?_
    refine mcVti (As := []) (rest := [.int x4]) S hw (met_tenants l E A  w _ rfl) (cw_tenants S.2.2.2.2 rfl rfl ⟨Nat.le_of_ble_eq_true rfl, Nat.le_of_ble_eq_true rfl⟩) rfl hl.1 rfl (lv_room (Nat.le_of_ble_eq_true rfl)) dX5_passes_15 (fun H locs hw => ?_)
    refine lv_icmp_ge (tgt := 87) S.1 S.2.1 dX5_passes_18 rfl (fun c2 => ?_) (fun c2 => ?_)
    · replace h := if_t c2 h
      refine lv_iconst (v := 0) S.1 S.2.1 dX5_passes_87 rfl ?_
      refine lv_istore (lv' := [(4, .int (0 : Int32)), (0, .ref (mM E)), (1, .int x1), (2, .int x2), (3, .int x3)]) S.1 S.2.1 dX5_passes_88 hl (by decide) rfl (fun ls hl => ?_)
      exact wk_M_passes_p90 S hr hlocks FU _ _ _ _ _ _ _ h hw (lv_sub hl [1, 2, 3, 0] rfl)
    · replace h := if_f c2 h
      refine lv_aload_n S.1 S.2.1 dX5_passes_21 rfl (lv_at hl 0 rfl) ?_
      refine mg25 S hw dX5_passes_22 ?_
      refine lv_iload_n S.1 S.2.1 dX5_passes_25 rfl (lv_at hl 1 rfl) ?_
      refine lv_iconst (v := 0) S.1 S.2.1 dX5_passes_26 rfl ?_
      refine lv_iadd S.1 S.2.1 dX5_passes_27 ?_
      refine ml25 S hw dX5_passes_28 h (fun v14 h => ?_)
      refine lv_iload_n S.1 S.2.1 dX5_passes_29 rfl (lv_at hl 3 rfl) ?_
      refine r_irem S.1 S.2.1 dX5_passes_30 h (fun d15 h => ?_)
      refine lv_if_ne (tgt := 87) S.1 S.2.1 dX5_passes_31 rfl (fun c16 => ?_) (fun c16 => ?_)
      · replace h := if_f c16 h
        refine lv_iconst (v := 0) S.1 S.2.1 dX5_passes_87 rfl ?_
        refine lv_istore (lv' := [(4, .int (0 : Int32)), (0, .ref (mM E)), (1, .int x1), (2, .int x2), (3, .int x3)]) S.1 S.2.1 dX5_passes_88 hl (by decide) rfl (fun ls hl => ?_)
        exact wk_M_passes_p90 S hr hlocks FU _ _ _ _ _ _ _ h hw (lv_sub hl [1, 2, 3, 0] rfl)
      · replace h := if_t c16 h
        refine lv_aload_n S.1 S.2.1 dX5_passes_34 rfl (lv_at hl 0 rfl) ?_
        refine lv_iload_n S.1 S.2.1 dX5_passes_35 rfl (lv_at hl 1 rfl) ?_
        refine lv_iload S.1 S.2.1 dX5_passes_36 (lv_at hl 4 rfl) ?_
        refine mcVri (As := [.int x1, .int x4]) (rest := []) S hw h (fun u h1 => met_isIn l E A x1 x4 w u h1) (cw_isIn S.2.2.2.2 rfl rfl ⟨Nat.le_of_ble_eq_true rfl, Nat.le_of_ble_eq_true rfl⟩) rfl hl.1 rfl (lv_room (Nat.le_of_ble_eq_true rfl)) dX5_passes_38 (fun r17 H locs h hw => ?_)
        refine lv_if_eq (tgt := 56) S.1 S.2.1 dX5_passes_41 rfl (fun c18 => ?_) (fun c18 => ?_)
        · replace h := if_t c18 h
          refine lv_iconst (v := 0) S.1 S.2.1 dX5_passes_56 rfl ?_
          exact wk_M_passes_p57 S hr hlocks ih _ _ _ _ _ _ _ _ _ h hw (lv_sub hl [0, 1, 2, 3, 4] rfl)
        · replace h := if_f c18 h
          refine lv_aload_n S.1 S.2.1 dX5_passes_44 rfl (lv_at hl 0 rfl) ?_
          refine lv_iload_n S.1 S.2.1 dX5_passes_45 rfl (lv_at hl 1 rfl) ?_
          refine lv_iload S.1 S.2.1 dX5_passes_46 (lv_at hl 4 rfl) ?_
          refine mcVri (As := [.int x1, .int x4]) (rest := []) S hw h (fun u h1 => met_pulseOf l E A x1 x4 w u h1) (cw_pulseOf S.2.2.2.2 rfl rfl ⟨Nat.le_of_ble_eq_true rfl, Nat.le_of_ble_eq_true rfl⟩) rfl hl.1 rfl (lv_room (Nat.le_of_ble_eq_true rfl)) dX5_passes_48 (fun r22 H locs h hw => ?_)
          refine lv_iload_n S.1 S.2.1 dX5_passes_51 rfl (lv_at hl 3 rfl) ?_
          refine lv_imul S.1 S.2.1 dX5_passes_52 ?_
          refine lv_goto (tgt := 57) S.1 S.2.1 dX5_passes_53 rfl ?_
          exact wk_M_passes_p57 S hr hlocks ih _ _ _ _ _ _ _ _ _ h hw (lv_sub hl [0, 1, 2, 3, 4] rfl)
set_option maxRecDepth 100000 in
set_option maxHeartbeats 4000000 in
theorem met_passes (l : Launch) (E : mE) (A : Nat → Prop)  (x1 : Int32) (w : MS) (res : Int32 × MS) (h : M_passes x1 w = some res) : Met l yX5_passes (ws_ yX5_passes cX5_passes 6 (some .int)) rm_passes (mPc E A [.ref (mM E), .int x1] w) (mQi E A res.1 res.2) 0 0 A := by
  refine mMet (by decide) rfl (Nat.le_of_ble_eq_true rfl) ?_
  intro p e s m below meth c S hr hlocks H ls hw hl
  replace hl : lv_has ls 6 [(0, .ref (mM E)), (1, .int x1)] := hl
  unfold M_passes at h
  refine lv_iconst (v := 0) S.1 S.2.1 dX5_passes_0 rfl ?_
  refine lv_istore_n (lv' := [(2, .int (0 : Int32)), (0, .ref (mM E)), (1, .int x1)]) S.1 S.2.1 dX5_passes_1 rfl hl (by decide) rfl (fun ls hl => ?_)
  refine lv_aload_n S.1 S.2.1 dX5_passes_2 rfl (lv_at hl 1 rfl) ?_
  refine mg10 S hw dX5_passes_3 ?_
  refine lv_iconst (v := 5) S.1 S.2.1 dX5_passes_6 rfl ?_
  refine mlc10 (j := 5) S hw dX5_passes_7 (by decide) ?_
  refine lv_topi (fun y1 ey => ?_)
  replace h := bdp_e ey h
  refine lv_istore_n (lv' := [(3, .int y1), (2, .int (0 : Int32)), (0, .ref (mM E)), (1, .int x1)]) S.1 S.2.1 dX5_passes_8 rfl hl (by decide) rfl (fun ls hl => ?_)
  refine lv_iconst (v := 0) S.1 S.2.1 dX5_passes_9 rfl ?_
  refine lv_istore (lv' := [(4, .int (0 : Int32)), (3, .int y1), (2, .int (0 : Int32)), (0, .ref (mM E)), (1, .int x1)]) S.1 S.2.1 dX5_passes_10 hl (by decide) rfl (fun ls hl => ?_)
  exact wk_M_passes_p12 S hr hlocks FU _ _ _ _ _ _ _ _ h hw (lv_sub hl [3, 4, 2, 1, 0] rfl)
def M_minutes_p23 : Nat → Int32 → Int32 → MS → Option (Int32 × MS)
  | 0, _, _, _ => none
  | n + 1, x1, x2, w =>
    if x1 ≤ x2 then
      some (rI w 25 0, w)
    else
      bd2 (M_passes (0 : Int32) w) fun r6 w5 =>
      (M_minutes_p23 n) x1 (x2 + (1 : Int32)) w5
def M_minutes (x1 : Int32) (w : MS) : Option (Int32 × MS) :=
  bdp (wI w 0 0 (0 : Int32)) fun w1 =>
  if (M_within x1 (1 : Int32) (120 : Int32)) = 0 then
    some ((-1 : Int32), w1)
  else
    bd1 (M_keeps w1) fun w3 =>
    M_minutes_p23 FU x1 (0 : Int32) w3
set_option maxRecDepth 100000 in
set_option maxHeartbeats 4000000 in
theorem wk_M_minutes_p23 {p : Program} {l : Launch} {e : Env} {s : State} {m : MethodId} {args : Array Value} {below : List Frame} {meth : Method} {c : Code} {E : mE} {A : Nat → Prop} (S : CallFix p m c cX5_minutes 3 s args lw_all RX5) (hr : meth.sig.returnType = (some .int)) (hlocks : meth.locks = false) {res : Int32 × MS}  : ∀ n : Nat, ∀ (x1 : Int32) (x2 : Int32) (w : MS) (H : Heap) (locs : List Loc) (ls : Array Slot), M_minutes_p23 n x1 x2 w = some res → mH E A s w H locs → lv_has ls 3 [(0, .ref (mM E)), (1, .int x1), (2, .int x2)] → W p l e rm_minutes s m args below meth c H locs 0 0 (MQ below (mQi E A res.1 res.2) args s 0 0 A) (F0 m 23 ls []) := by
  intro n
  induction n with
  | zero => intro x1 x2 w H locs ls h; cases (show (none : Option (Int32 × MS)) = some res from h)
  | succ n ih =>
    intro x1 x2 w H locs ls h hw hl
    rw [M_minutes_p23] at h
    refine lv_iload_n S.1 S.2.1 dX5_minutes_23 rfl (lv_at hl 2 rfl) ?_
    refine lv_iload_n S.1 S.2.1 dX5_minutes_24 rfl (lv_at hl 1 rfl) ?_
    refine lv_icmp_ge (tgt := 40) S.1 S.2.1 dX5_minutes_25 rfl (fun c4 => ?_) (fun c4 => ?_)
    · replace h := if_t c4 h
      refine lv_aload_n S.1 S.2.1 dX5_minutes_40 rfl (lv_at hl 0 rfl) ?_
      refine mg25 S hw dX5_minutes_41 ?_
      refine lv_iconst (v := 0) S.1 S.2.1 dX5_minutes_44 rfl ?_
      refine mlc25 (j := 0) S hw dX5_minutes_45 (by decide) ?_
      exact m_iret S hr hlocks hw (so2 h) dX5_minutes_46
    · replace h := if_f c4 h
      refine lv_aload_n S.1 S.2.1 dX5_minutes_28 rfl (lv_at hl 0 rfl) ?_
      refine lv_iconst (v := 0) S.1 S.2.1 dX5_minutes_29 rfl ?_
      refine mcVwi (As := [.int (0 : Int32)]) (rest := []) S hw h (fun u h1 => met_passes l E A (0 : Int32) w u h1) (cw_passes S.2.2.2.2 rfl rfl ⟨Nat.le_of_ble_eq_true rfl, Nat.le_of_ble_eq_true rfl⟩) rfl hl.1 rfl (lv_room (Nat.le_of_ble_eq_true rfl)) dX5_minutes_30 (fun r6 w5 H locs h hw => ?_)
      refine lv_pop S.1 S.2.1 dX5_minutes_33 rfl ?_
      refine lv_iinc (v := x2 + (1 : Int32)) (lv' := [(2, .int (x2 + (1 : Int32))), (0, .ref (mM E)), (1, .int x1)]) S.1 S.2.1 dX5_minutes_34 hl (k := 2) rfl rfl (by decide) rfl (fun ls hl => ?_)
      refine lv_goto (tgt := 23) S.1 S.2.1 dX5_minutes_37 rfl ?_
      exact ih _ _ _ _ _ _ h hw (lv_sub hl [1, 2, 0] rfl)
set_option maxRecDepth 100000 in
set_option maxHeartbeats 4000000 in
theorem met_minutes (l : Launch) (E : mE) (A : Nat → Prop)  (x1 : Int32) (w : MS) (res : Int32 × MS) (h : M_minutes x1 w = some res) : Met l yX5_minutes (ws_ yX5_minutes cX5_minutes 3 (some .int)) rm_minutes (mPc E A [.ref (mM E), .int x1] w) (mQi E A res.1 res.2) 0 0 A := by
  refine mMet (by decide) rfl (Nat.le_of_ble_eq_true rfl) ?_
  intro p e s m below meth c S hr hlocks H ls hw hl
  replace hl : lv_has ls 3 [(0, .ref (mM E)), (1, .int x1)] := hl
  unfold M_minutes at h
  refine lv_aload_n S.1 S.2.1 dX5_minutes_0 rfl (lv_at hl 0 rfl) ?_
  refine lv_iconst (v := 0) S.1 S.2.1 dX5_minutes_1 rfl ?_
  refine mp0 S hw dX5_minutes_2 h (fun w1 H locs h hw => ?_)
  refine lv_iload_n S.1 S.2.1 dX5_minutes_5 rfl (lv_at hl 1 rfl) ?_
  refine lv_iconst (v := 1) S.1 S.2.1 dX5_minutes_6 rfl ?_
  refine lv_bipush (v := 120) S.1 S.2.1 dX5_minutes_7 rfl ?_
  refine mcSti (As := [.int x1, .int (1 : Int32), .int (120 : Int32)]) (rest := []) S hw (met_within l E A x1 (1 : Int32) (120 : Int32) w1 _ rfl) (cw_within S.2.2.2.2 rfl rfl ⟨Nat.le_of_ble_eq_true rfl, Nat.le_of_ble_eq_true rfl⟩) rfl hl.1 rfl (lv_room (Nat.le_of_ble_eq_true rfl)) dX5_minutes_9 (fun H locs hw => ?_)
  refine lv_if_ne (tgt := 17) S.1 S.2.1 dX5_minutes_12 rfl (fun c2 => ?_) (fun c2 => ?_)
  · replace h := if_f c2 h
    refine lv_aload_n S.1 S.2.1 dX5_minutes_17 rfl (lv_at hl 0 rfl) ?_
    refine mcVv (As := []) (rest := []) S hw h (fun u h1 => met_keeps l E A  w1 u h1) (cw_keeps S.2.2.2.2 rfl rfl ⟨Nat.le_of_ble_eq_true rfl, Nat.le_of_ble_eq_true rfl⟩) rfl hl.1 rfl (lv_room (Nat.le_of_ble_eq_true rfl)) dX5_minutes_18 (fun w3 H locs h hw => ?_)
    refine lv_iconst (v := 0) S.1 S.2.1 dX5_minutes_21 rfl ?_
    refine lv_istore_n (lv' := [(2, .int (0 : Int32)), (0, .ref (mM E)), (1, .int x1)]) S.1 S.2.1 dX5_minutes_22 rfl hl (by decide) rfl (fun ls hl => ?_)
    exact wk_M_minutes_p23 S hr hlocks FU _ _ _ _ _ _ h hw (lv_sub hl [1, 2, 0] rfl)
  · replace h := if_t c2 h
    refine lv_iconst (v := -1) S.1 S.2.1 dX5_minutes_15 rfl ?_
    exact m_iret S hr hlocks hw (so2 h) dX5_minutes_16
def M_both (x0 : Int32) (x1 : Int32) (x2 : Int32) : Int32 :=
  if x0 = (4 : Int32) then
    x1 + x2
  else
    if x0 = (5 : Int32) then
      x1 - x2
    else
      if x0 = (6 : Int32) then
        x1 * x2
      else
        if x0 = (7 : Int32) then
          if x2 ≤ x1 then
            (0 : Int32)
          else
            (1 : Int32)
        else
          if x0 = (8 : Int32) then
            if x1 = x2 then
              (1 : Int32)
            else
              (0 : Int32)
          else
            if x0 = (9 : Int32) then
              if x1 = 0 then
                (0 : Int32)
              else
                if x2 = 0 then
                  (0 : Int32)
                else
                  (1 : Int32)
            else
              if x1 = 0 then
                if x2 = 0 then
                  (0 : Int32)
                else
                  (1 : Int32)
              else
                (1 : Int32)
set_option maxRecDepth 100000 in
set_option maxHeartbeats 4000000 in
theorem met_both (l : Launch) (E : mE) (A : Nat → Prop)  (x0 : Int32) (x1 : Int32) (x2 : Int32) (w : MS) (res : Int32) (h : M_both x0 x1 x2 = res) : Met l yX5_both (ws_ yX5_both cX5_both 3 (some .int)) rm_both (mPc E A [.int x0, .int x1, .int x2] w) (mQi E A res w) 0 0 A := by
  refine mMet (by decide) rfl (Nat.le_of_ble_eq_true rfl) ?_
  intro p e s m below meth c S hr hlocks H ls hw hl
  replace hl : lv_has ls 3 [(0, .int x0), (1, .int x1), (2, .int x2)] := hl
  unfold M_both at h
  refine lv_iload_n S.1 S.2.1 dX5_both_0 rfl (lv_at hl 0 rfl) ?_
  by_cases e4 : x0 = (4 : Int32)
  · replace h := if_t e4 h
    refine lv_tableIn (tgt := 40) S.1 S.2.1 dX5_both_1 (by rw [e4]; decide) (by rw [e4]; decide) (by rw [e4]; rfl) rfl ?_
    refine lv_iload_n S.1 S.2.1 dX5_both_40 rfl (lv_at hl 1 rfl) ?_
    refine lv_iload_n S.1 S.2.1 dX5_both_41 rfl (lv_at hl 2 rfl) ?_
    refine lv_iadd S.1 S.2.1 dX5_both_42 ?_
    exact m_iret S hr hlocks hw ⟨h, rfl⟩ dX5_both_43
  · replace h := if_f e4 h
    by_cases e5 : x0 = (5 : Int32)
    · replace h := if_t e5 h
      refine lv_tableIn (tgt := 44) S.1 S.2.1 dX5_both_1 (by rw [e5]; decide) (by rw [e5]; decide) (by rw [e5]; rfl) rfl ?_
      refine lv_iload_n S.1 S.2.1 dX5_both_44 rfl (lv_at hl 1 rfl) ?_
      refine lv_iload_n S.1 S.2.1 dX5_both_45 rfl (lv_at hl 2 rfl) ?_
      refine lv_isub S.1 S.2.1 dX5_both_46 ?_
      exact m_iret S hr hlocks hw ⟨h, rfl⟩ dX5_both_47
    · replace h := if_f e5 h
      by_cases e6 : x0 = (6 : Int32)
      · replace h := if_t e6 h
        refine lv_tableIn (tgt := 48) S.1 S.2.1 dX5_both_1 (by rw [e6]; decide) (by rw [e6]; decide) (by rw [e6]; rfl) rfl ?_
        refine lv_iload_n S.1 S.2.1 dX5_both_48 rfl (lv_at hl 1 rfl) ?_
        refine lv_iload_n S.1 S.2.1 dX5_both_49 rfl (lv_at hl 2 rfl) ?_
        refine lv_imul S.1 S.2.1 dX5_both_50 ?_
        exact m_iret S hr hlocks hw ⟨h, rfl⟩ dX5_both_51
      · replace h := if_f e6 h
        by_cases e7 : x0 = (7 : Int32)
        · replace h := if_t e7 h
          refine lv_tableIn (tgt := 52) S.1 S.2.1 dX5_both_1 (by rw [e7]; decide) (by rw [e7]; decide) (by rw [e7]; rfl) rfl ?_
          refine lv_iload_n S.1 S.2.1 dX5_both_52 rfl (lv_at hl 1 rfl) ?_
          refine lv_iload_n S.1 S.2.1 dX5_both_53 rfl (lv_at hl 2 rfl) ?_
          refine lv_icmp_ge (tgt := 61) S.1 S.2.1 dX5_both_54 rfl (fun c3 => ?_) (fun c3 => ?_)
          · replace h := if_t c3 h
            refine lv_iconst (v := 0) S.1 S.2.1 dX5_both_61 rfl ?_
            exact m_iret S hr hlocks hw ⟨h, rfl⟩ dX5_both_62
          · replace h := if_f c3 h
            refine lv_iconst (v := 1) S.1 S.2.1 dX5_both_57 rfl ?_
            refine lv_goto (tgt := 62) S.1 S.2.1 dX5_both_58 rfl ?_
            exact m_iret S hr hlocks hw ⟨h, rfl⟩ dX5_both_62
        · replace h := if_f e7 h
          by_cases e8 : x0 = (8 : Int32)
          · replace h := if_t e8 h
            refine lv_tableIn (tgt := 63) S.1 S.2.1 dX5_both_1 (by rw [e8]; decide) (by rw [e8]; decide) (by rw [e8]; rfl) rfl ?_
            refine lv_iload_n S.1 S.2.1 dX5_both_63 rfl (lv_at hl 1 rfl) ?_
            refine lv_iload_n S.1 S.2.1 dX5_both_64 rfl (lv_at hl 2 rfl) ?_
            refine lv_icmp_ne (tgt := 72) S.1 S.2.1 dX5_both_65 rfl (fun c4 => ?_) (fun c4 => ?_)
            · replace h := if_f c4 h
              refine lv_iconst (v := 0) S.1 S.2.1 dX5_both_72 rfl ?_
              exact m_iret S hr hlocks hw ⟨h, rfl⟩ dX5_both_73
            · replace h := if_t c4 h
              refine lv_iconst (v := 1) S.1 S.2.1 dX5_both_68 rfl ?_
              refine lv_goto (tgt := 73) S.1 S.2.1 dX5_both_69 rfl ?_
              exact m_iret S hr hlocks hw ⟨h, rfl⟩ dX5_both_73
          · replace h := if_f e8 h
            by_cases e9 : x0 = (9 : Int32)
            · replace h := if_t e9 h
              refine lv_tableIn (tgt := 74) S.1 S.2.1 dX5_both_1 (by rw [e9]; decide) (by rw [e9]; decide) (by rw [e9]; rfl) rfl ?_
              refine lv_iload_n S.1 S.2.1 dX5_both_74 rfl (lv_at hl 1 rfl) ?_
              refine lv_if_eq (tgt := 86) S.1 S.2.1 dX5_both_75 rfl (fun c5 => ?_) (fun c5 => ?_)
              · replace h := if_t c5 h
                refine lv_iconst (v := 0) S.1 S.2.1 dX5_both_86 rfl ?_
                exact m_iret S hr hlocks hw ⟨h, rfl⟩ dX5_both_87
              · replace h := if_f c5 h
                refine lv_iload_n S.1 S.2.1 dX5_both_78 rfl (lv_at hl 2 rfl) ?_
                refine lv_if_eq (tgt := 86) S.1 S.2.1 dX5_both_79 rfl (fun c6 => ?_) (fun c6 => ?_)
                · replace h := if_t c6 h
                  refine lv_iconst (v := 0) S.1 S.2.1 dX5_both_86 rfl ?_
                  exact m_iret S hr hlocks hw ⟨h, rfl⟩ dX5_both_87
                · replace h := if_f c6 h
                  refine lv_iconst (v := 1) S.1 S.2.1 dX5_both_82 rfl ?_
                  refine lv_goto (tgt := 87) S.1 S.2.1 dX5_both_83 rfl ?_
                  exact m_iret S hr hlocks hw ⟨h, rfl⟩ dX5_both_87
            · replace h := if_f e9 h
              refine lv_tableOut (tgt := 88) S.1 S.2.1 dX5_both_1 (by have z4 := ne_toInt e4 (j := 4) rfl; have z5 := ne_toInt e5 (j := 5) rfl; have z6 := ne_toInt e6 (j := 6) rfl; have z7 := ne_toInt e7 (j := 7) rfl; have z8 := ne_toInt e8 (j := 8) rfl; have z9 := ne_toInt e9 (j := 9) rfl; omega) rfl ?_
              refine lv_iload_n S.1 S.2.1 dX5_both_88 rfl (lv_at hl 1 rfl) ?_
              refine lv_if_ne (tgt := 96) S.1 S.2.1 dX5_both_89 rfl (fun c1 => ?_) (fun c1 => ?_)
              · replace h := if_f c1 h
                refine lv_iconst (v := 1) S.1 S.2.1 dX5_both_96 rfl ?_
                refine lv_goto (tgt := 101) S.1 S.2.1 dX5_both_97 rfl ?_
                exact m_iret S hr hlocks hw ⟨h, rfl⟩ dX5_both_101
              · replace h := if_t c1 h
                refine lv_iload_n S.1 S.2.1 dX5_both_92 rfl (lv_at hl 2 rfl) ?_
                refine lv_if_eq (tgt := 100) S.1 S.2.1 dX5_both_93 rfl (fun c2 => ?_) (fun c2 => ?_)
                · replace h := if_t c2 h
                  refine lv_iconst (v := 0) S.1 S.2.1 dX5_both_100 rfl ?_
                  exact m_iret S hr hlocks hw ⟨h, rfl⟩ dX5_both_101
                · replace h := if_f c2 h
                  refine lv_iconst (v := 1) S.1 S.2.1 dX5_both_96 rfl ?_
                  refine lv_goto (tgt := 101) S.1 S.2.1 dX5_both_97 rfl ?_
                  exact m_iret S hr hlocks hw ⟨h, rfl⟩ dX5_both_101
def M_worthAt_p33 (k4 : Int32 → Int32 → MS → Option (Int32 × MS)) (x2 : Int32) (x3 : Int32) (x4 : Int32) (w : MS) : Option (Int32 × MS) :=
  if x4 = (1 : Int32) then
    bd1 (rA w 12 2200 x3) fun v9 =>
    bd1 (wA w 24 1100 x2 v9) fun w10 =>
    k4 (x2 + (1 : Int32)) (x3 + (1 : Int32)) w10
  else
    bd1 (rA w 12 2200 x3) fun v6 =>
    bd1 (rA w 23 5 v6) fun v7 =>
    bd1 (wA w 24 1100 x2 v7) fun w8 =>
    k4 (x2 + (1 : Int32)) (x3 + (1 : Int32)) w8
def M_worthAt_p4 : Nat → Int32 → Int32 → MS → Option (Int32 × MS)
  | 0, _, _, _ => none
  | n + 1, x2, x3, w =>
    bd1 (rA w 11 2200 x3) fun v1 =>
    if v1 = 0 then
      some (rI w 24 0, w)
    else
      bd1 (rA w 11 2200 x3) fun v3 =>
      if v3 = (1 : Int32) then
        M_worthAt_p33 (M_worthAt_p4 n) x2 x3 v3 w
      else
        if v3 = (2 : Int32) then
          M_worthAt_p33 (M_worthAt_p4 n) x2 x3 v3 w
        else
          if v3 = (3 : Int32) then
            bd1 (rA w 24 1100 (x2 - (1 : Int32))) fun v16 =>
            if v16 = 0 then
              bd1 (wA w 24 1100 (x2 - (1 : Int32)) (1 : Int32)) fun w19 =>
              (M_worthAt_p4 n) x2 (x3 + (1 : Int32)) w19
            else
              bd1 (wA w 24 1100 (x2 - (1 : Int32)) (0 : Int32)) fun w18 =>
              (M_worthAt_p4 n) x2 (x3 + (1 : Int32)) w18
          else
            bd1 (rA w 24 1100 ((x2 + (-1 : Int32)) - (1 : Int32))) fun v13 =>
            bd1 (rA w 24 1100 (x2 + (-1 : Int32))) fun v14 =>
            bd1 (wA w 24 1100 ((x2 + (-1 : Int32)) - (1 : Int32)) (M_both v3 v13 v14)) fun w15 =>
            (M_worthAt_p4 n) (x2 + (-1 : Int32)) (x3 + (1 : Int32)) w15
def M_worthAt (x1 : Int32) (w : MS) : Option (Int32 × MS) :=
  M_worthAt_p4 FU (0 : Int32) x1 w
set_option maxRecDepth 100000 in
set_option maxHeartbeats 4000000 in
theorem wk_M_worthAt_p33 {p : Program} {l : Launch} {e : Env} {s : State} {m : MethodId} {args : Array Value} {below : List Frame} {meth : Method} {c : Code} {E : mE} {A : Nat → Prop} (S : CallFix p m c cX5_worthAt 5 s args lw_all RX5) (hr : meth.sig.returnType = (some .int)) (hlocks : meth.locks = false) {res : Int32 × MS}  {k4 : Int32 → Int32 → MS → Option (Int32 × MS)} (hk4 : ∀ (x2 : Int32) (x3 : Int32) (w : MS) (H : Heap) (locs : List Loc) (ls : Array Slot), k4 x2 x3 w = some res → mH E A s w H locs → lv_has ls 5 [(0, .ref (mM E)), (2, .int x2), (3, .int x3)] → W p l e rm_worthAt s m args below meth c H locs 0 0 (MQ below (mQi E A res.1 res.2) args s 0 0 A) (F0 m 4 ls [])) : ∀ (x2 : Int32) (x3 : Int32) (x4 : Int32) (w : MS) (H : Heap) (locs : List Loc) (ls : Array Slot), M_worthAt_p33 k4 x2 x3 x4 w = some res → mH E A s w H locs → lv_has ls 5 [(0, .ref (mM E)), (2, .int x2), (3, .int x3), (4, .int x4)] → W p l e rm_worthAt s m args below meth c H locs 0 0 (MQ below (mQi E A res.1 res.2) args s 0 0 A) (F0 m 33 ls []) := by
  intro x2 x3 x4 w H locs ls h hw hl
  unfold M_worthAt_p33 at h
  refine lv_aload_n S.1 S.2.1 dX5_worthAt_33 rfl (lv_at hl 0 rfl) ?_
  refine mg24 S hw dX5_worthAt_34 ?_
  refine lv_iload_n S.1 S.2.1 dX5_worthAt_37 rfl (lv_at hl 1 rfl) ?_
  refine lv_iload S.1 S.2.1 dX5_worthAt_38 (lv_at hl 3 rfl) ?_
  refine lv_iconst (v := 1) S.1 S.2.1 dX5_worthAt_40 rfl ?_
  refine lv_icmp_ne (tgt := 53) S.1 S.2.1 dX5_worthAt_41 rfl (fun c5 => ?_) (fun c5 => ?_)
  · replace h := if_f c5 h
    refine lv_aload_n S.1 S.2.1 dX5_worthAt_53 rfl (lv_at hl 0 rfl) ?_
    refine mg23 S hw dX5_worthAt_54 ?_
    refine lv_aload_n S.1 S.2.1 dX5_worthAt_57 rfl (lv_at hl 0 rfl) ?_
    refine mg12 S hw dX5_worthAt_58 ?_
    refine lv_iload_n S.1 S.2.1 dX5_worthAt_61 rfl (lv_at hl 2 rfl) ?_
    refine ml12 S hw dX5_worthAt_62 h (fun v6 h => ?_)
    refine ml23 S hw dX5_worthAt_63 h (fun v7 h => ?_)
    refine ms24 S hw dX5_worthAt_64 h (fun w8 H locs h hw => ?_)
    refine lv_iinc (v := x2 + (1 : Int32)) (lv' := [(2, .int (x2 + (1 : Int32))), (0, .ref (mM E)), (3, .int x3), (4, .int x4)]) S.1 S.2.1 dX5_worthAt_65 hl (k := 1) rfl rfl (by decide) rfl (fun ls hl => ?_)
    refine lv_goto (tgt := 134) S.1 S.2.1 dX5_worthAt_68 rfl ?_
    refine lv_iinc (v := x3 + (1 : Int32)) (lv' := [(3, .int (x3 + (1 : Int32))), (2, .int (x2 + (1 : Int32))), (0, .ref (mM E)), (4, .int x4)]) S.1 S.2.1 dX5_worthAt_134 hl (k := 2) rfl rfl (by decide) rfl (fun ls hl => ?_)
    refine lv_goto (tgt := 4) S.1 S.2.1 dX5_worthAt_137 rfl ?_
    exact hk4 _ _ _ _ _ _ h hw (lv_sub hl [2, 1, 0] rfl)
  · replace h := if_t c5 h
    refine lv_aload_n S.1 S.2.1 dX5_worthAt_44 rfl (lv_at hl 0 rfl) ?_
    refine mg12 S hw dX5_worthAt_45 ?_
    refine lv_iload_n S.1 S.2.1 dX5_worthAt_48 rfl (lv_at hl 2 rfl) ?_
    refine ml12 S hw dX5_worthAt_49 h (fun v9 h => ?_)
    refine lv_goto (tgt := 64) S.1 S.2.1 dX5_worthAt_50 rfl ?_
    refine ms24 S hw dX5_worthAt_64 h (fun w10 H locs h hw => ?_)
    refine lv_iinc (v := x2 + (1 : Int32)) (lv' := [(2, .int (x2 + (1 : Int32))), (0, .ref (mM E)), (3, .int x3), (4, .int x4)]) S.1 S.2.1 dX5_worthAt_65 hl (k := 1) rfl rfl (by decide) rfl (fun ls hl => ?_)
    refine lv_goto (tgt := 134) S.1 S.2.1 dX5_worthAt_68 rfl ?_
    refine lv_iinc (v := x3 + (1 : Int32)) (lv' := [(3, .int (x3 + (1 : Int32))), (2, .int (x2 + (1 : Int32))), (0, .ref (mM E)), (4, .int x4)]) S.1 S.2.1 dX5_worthAt_134 hl (k := 2) rfl rfl (by decide) rfl (fun ls hl => ?_)
    refine lv_goto (tgt := 4) S.1 S.2.1 dX5_worthAt_137 rfl ?_
    exact hk4 _ _ _ _ _ _ h hw (lv_sub hl [2, 1, 0] rfl)
set_option maxRecDepth 100000 in
set_option maxHeartbeats 4000000 in
theorem wk_M_worthAt_p4 {p : Program} {l : Launch} {e : Env} {s : State} {m : MethodId} {args : Array Value} {below : List Frame} {meth : Method} {c : Code} {E : mE} {A : Nat → Prop} (S : CallFix p m c cX5_worthAt 5 s args lw_all RX5) (hr : meth.sig.returnType = (some .int)) (hlocks : meth.locks = false) {res : Int32 × MS}  : ∀ n : Nat, ∀ (x2 : Int32) (x3 : Int32) (w : MS) (H : Heap) (locs : List Loc) (ls : Array Slot), M_worthAt_p4 n x2 x3 w = some res → mH E A s w H locs → lv_has ls 5 [(0, .ref (mM E)), (2, .int x2), (3, .int x3)] → W p l e rm_worthAt s m args below meth c H locs 0 0 (MQ below (mQi E A res.1 res.2) args s 0 0 A) (F0 m 4 ls []) := by
  intro n
  induction n with
  | zero => intro x2 x3 w H locs ls h; cases (show (none : Option (Int32 × MS)) = some res from h)
  | succ n ih =>
    intro x2 x3 w H locs ls h hw hl
    rw [M_worthAt_p4] at h
    refine lv_aload_n S.1 S.2.1 dX5_worthAt_4 rfl (lv_at hl 0 rfl) ?_
    refine mg11 S hw dX5_worthAt_5 ?_
    refine lv_iload_n S.1 S.2.1 dX5_worthAt_8 rfl (lv_at hl 2 rfl) ?_
    refine ml11 S hw dX5_worthAt_9 h (fun v1 h => ?_)
    refine lv_if_eq (tgt := 140) S.1 S.2.1 dX5_worthAt_10 rfl (fun c2 => ?_) (fun c2 => ?_)
    · replace h := if_t c2 h
      refine lv_aload_n S.1 S.2.1 dX5_worthAt_140 rfl (lv_at hl 0 rfl) ?_
      refine mg24 S hw dX5_worthAt_141 ?_
      refine lv_iconst (v := 0) S.1 S.2.1 dX5_worthAt_144 rfl ?_
      refine mlc24 (j := 0) S hw dX5_worthAt_145 (by decide) ?_
      exact m_iret S hr hlocks hw (so2 h) dX5_worthAt_146
    · replace h := if_f c2 h
      refine lv_aload_n S.1 S.2.1 dX5_worthAt_13 rfl (lv_at hl 0 rfl) ?_
      refine mg11 S hw dX5_worthAt_14 ?_
      refine lv_iload_n S.1 S.2.1 dX5_worthAt_17 rfl (lv_at hl 2 rfl) ?_
      refine ml11 S hw dX5_worthAt_18 h (fun v3 h => ?_)
      refine lv_istore (lv' := [(4, .int v3), (0, .ref (mM E)), (2, .int x2), (3, .int x3)]) S.1 S.2.1 dX5_worthAt_19 hl (by decide) rfl (fun ls hl => ?_)
      refine lv_iload S.1 S.2.1 dX5_worthAt_21 (lv_at hl 0 rfl) ?_
      refine lv_iconst (v := 1) S.1 S.2.1 dX5_worthAt_23 rfl ?_
      refine lv_icmp_eq (tgt := 33) S.1 S.2.1 dX5_worthAt_24 rfl (fun c4 => ?_) (fun c4 => ?_)
      · replace h := if_t c4 h
        exact wk_M_worthAt_p33 S hr hlocks ih _ _ _ _ _ _ _ h hw (lv_sub hl [1, 2, 3, 0] rfl)
      · replace h := if_f c4 h
        refine lv_iload S.1 S.2.1 dX5_worthAt_27 (lv_at hl 0 rfl) ?_
        refine lv_iconst (v := 2) S.1 S.2.1 dX5_worthAt_29 rfl ?_
        refine lv_icmp_ne (tgt := 71) S.1 S.2.1 dX5_worthAt_30 rfl (fun c11 => ?_) (fun c11 => ?_)
        · replace h := if_f c11 h
          refine lv_iload S.1 S.2.1 dX5_worthAt_71 (lv_at hl 0 rfl) ?_
          refine lv_iconst (v := 3) S.1 S.2.1 dX5_worthAt_73 rfl ?_
          refine lv_icmp_ne (tgt := 104) S.1 S.2.1 dX5_worthAt_74 rfl (fun c12 => ?_) (fun c12 => ?_)
          · replace h := if_f c12 h
            refine lv_iinc (v := x2 + (-1 : Int32)) (lv' := [(2, .int (x2 + (-1 : Int32))), (4, .int v3), (0, .ref (mM E)), (3, .int x3)]) S.1 S.2.1 dX5_worthAt_104 hl (k := 2) rfl rfl (by decide) rfl (fun ls hl => ?_)
            refine lv_aload_n S.1 S.2.1 dX5_worthAt_107 rfl (lv_at hl 2 rfl) ?_
            refine mg24 S hw dX5_worthAt_108 ?_
            refine lv_iload_n S.1 S.2.1 dX5_worthAt_111 rfl (lv_at hl 0 rfl) ?_
            refine lv_iconst (v := 1) S.1 S.2.1 dX5_worthAt_112 rfl ?_
            refine lv_isub S.1 S.2.1 dX5_worthAt_113 ?_
            refine lv_iload S.1 S.2.1 dX5_worthAt_114 (lv_at hl 1 rfl) ?_
            refine lv_aload_n S.1 S.2.1 dX5_worthAt_116 rfl (lv_at hl 2 rfl) ?_
            refine mg24 S hw dX5_worthAt_117 ?_
            refine lv_iload_n S.1 S.2.1 dX5_worthAt_120 rfl (lv_at hl 0 rfl) ?_
            refine lv_iconst (v := 1) S.1 S.2.1 dX5_worthAt_121 rfl ?_
            refine lv_isub S.1 S.2.1 dX5_worthAt_122 ?_
            refine ml24 S hw dX5_worthAt_123 h (fun v13 h => ?_)
            refine lv_aload_n S.1 S.2.1 dX5_worthAt_124 rfl (lv_at hl 2 rfl) ?_
            refine mg24 S hw dX5_worthAt_125 ?_
            refine lv_iload_n S.1 S.2.1 dX5_worthAt_128 rfl (lv_at hl 0 rfl) ?_
            refine ml24 S hw dX5_worthAt_129 h (fun v14 h => ?_)
            refine mcSti (As := [.int v3, .int v13, .int v14]) (rest := [.int ((x2 + (-1 : Int32)) - (1 : Int32)), .ref (mAr E 24)]) S hw (met_both l E A v3 v13 v14 w _ rfl) (cw_both S.2.2.2.2 rfl rfl ⟨Nat.le_of_ble_eq_true rfl, Nat.le_of_ble_eq_true rfl⟩) rfl hl.1 rfl (lv_room (Nat.le_of_ble_eq_true rfl)) dX5_worthAt_130 (fun H locs hw => ?_)
            refine ms24 S hw dX5_worthAt_133 h (fun w15 H locs h hw => ?_)
            refine lv_iinc (v := x3 + (1 : Int32)) (lv' := [(3, .int (x3 + (1 : Int32))), (2, .int (x2 + (-1 : Int32))), (4, .int v3), (0, .ref (mM E))]) S.1 S.2.1 dX5_worthAt_134 hl (k := 3) rfl rfl (by decide) rfl (fun ls hl => ?_)
            refine lv_goto (tgt := 4) S.1 S.2.1 dX5_worthAt_137 rfl ?_
            exact ih _ _ _ _ _ _ h hw (lv_sub hl [3, 1, 0] rfl)
          · replace h := if_t c12 h
            refine lv_aload_n S.1 S.2.1 dX5_worthAt_77 rfl (lv_at hl 1 rfl) ?_
            refine mg24 S hw dX5_worthAt_78 ?_
            refine lv_iload_n S.1 S.2.1 dX5_worthAt_81 rfl (lv_at hl 2 rfl) ?_
            refine lv_iconst (v := 1) S.1 S.2.1 dX5_worthAt_82 rfl ?_
            refine lv_isub S.1 S.2.1 dX5_worthAt_83 ?_
            refine lv_aload_n S.1 S.2.1 dX5_worthAt_84 rfl (lv_at hl 1 rfl) ?_
            refine mg24 S hw dX5_worthAt_85 ?_
            refine lv_iload_n S.1 S.2.1 dX5_worthAt_88 rfl (lv_at hl 2 rfl) ?_
            refine lv_iconst (v := 1) S.1 S.2.1 dX5_worthAt_89 rfl ?_
            refine lv_isub S.1 S.2.1 dX5_worthAt_90 ?_
            refine ml24 S hw dX5_worthAt_91 h (fun v16 h => ?_)
            refine lv_if_ne (tgt := 99) S.1 S.2.1 dX5_worthAt_92 rfl (fun c17 => ?_) (fun c17 => ?_)
            · replace h := if_f c17 h
              refine lv_iconst (v := 0) S.1 S.2.1 dX5_worthAt_99 rfl ?_
              refine ms24 S hw dX5_worthAt_100 h (fun w18 H locs h hw => ?_)
              refine lv_goto (tgt := 134) S.1 S.2.1 dX5_worthAt_101 rfl ?_
              refine lv_iinc (v := x3 + (1 : Int32)) (lv' := [(3, .int (x3 + (1 : Int32))), (4, .int v3), (0, .ref (mM E)), (2, .int x2)]) S.1 S.2.1 dX5_worthAt_134 hl (k := 3) rfl rfl (by decide) rfl (fun ls hl => ?_)
              refine lv_goto (tgt := 4) S.1 S.2.1 dX5_worthAt_137 rfl ?_
              exact ih _ _ _ _ _ _ h hw (lv_sub hl [2, 3, 0] rfl)
            · replace h := if_t c17 h
              refine lv_iconst (v := 1) S.1 S.2.1 dX5_worthAt_95 rfl ?_
              refine lv_goto (tgt := 100) S.1 S.2.1 dX5_worthAt_96 rfl ?_
              refine ms24 S hw dX5_worthAt_100 h (fun w19 H locs h hw => ?_)
              refine lv_goto (tgt := 134) S.1 S.2.1 dX5_worthAt_101 rfl ?_
              refine lv_iinc (v := x3 + (1 : Int32)) (lv' := [(3, .int (x3 + (1 : Int32))), (4, .int v3), (0, .ref (mM E)), (2, .int x2)]) S.1 S.2.1 dX5_worthAt_134 hl (k := 3) rfl rfl (by decide) rfl (fun ls hl => ?_)
              refine lv_goto (tgt := 4) S.1 S.2.1 dX5_worthAt_137 rfl ?_
              exact ih _ _ _ _ _ _ h hw (lv_sub hl [2, 3, 0] rfl)
        · replace h := if_t c11 h
          exact wk_M_worthAt_p33 S hr hlocks ih _ _ _ _ _ _ _ h hw (lv_sub hl [1, 2, 3, 0] rfl)
set_option maxRecDepth 100000 in
set_option maxHeartbeats 4000000 in
theorem met_worthAt (l : Launch) (E : mE) (A : Nat → Prop)  (x1 : Int32) (w : MS) (res : Int32 × MS) (h : M_worthAt x1 w = some res) : Met l yX5_worthAt (ws_ yX5_worthAt cX5_worthAt 5 (some .int)) rm_worthAt (mPc E A [.ref (mM E), .int x1] w) (mQi E A res.1 res.2) 0 0 A := by
  refine mMet (by decide) rfl (Nat.le_of_ble_eq_true rfl) ?_
  intro p e s m below meth c S hr hlocks H ls hw hl
  replace hl : lv_has ls 5 [(0, .ref (mM E)), (1, .int x1)] := hl
  unfold M_worthAt at h
  refine lv_iconst (v := 0) S.1 S.2.1 dX5_worthAt_0 rfl ?_
  refine lv_istore_n (lv' := [(2, .int (0 : Int32)), (0, .ref (mM E)), (1, .int x1)]) S.1 S.2.1 dX5_worthAt_1 rfl hl (by decide) rfl (fun ls hl => ?_)
  refine lv_iload_n S.1 S.2.1 dX5_worthAt_2 rfl (lv_at hl 2 rfl) ?_
  refine lv_istore_n (lv' := [(3, .int x1), (2, .int (0 : Int32)), (0, .ref (mM E)), (1, .int x1)]) S.1 S.2.1 dX5_worthAt_3 rfl hl (by decide) rfl (fun ls hl => ?_)
  exact wk_M_worthAt_p4 S hr hlocks FU _ _ _ _ _ _ h hw (lv_sub hl [2, 1, 0] rfl)
def M_dueBy_p48 (t0 : Int32) (w : MS) : Option (Int32 × MS) :=
  if 0 ≤ t0 then
    if t0 ≤ (9999 : Int32) then
      some (t0, w)
    else
      some ((9999 : Int32), w)
  else
    some ((0 : Int32), w)
def M_dueBy (x1 : Int32) (x2 : Int32) (x3 : Int32) (w : MS) : Option (Int32 × MS) :=
  bdp (wI w 23 0 x1) fun w1 =>
  bdp (wI w1 23 1 x2) fun w2 =>
  bdp (wI w2 23 2 x3) fun w3 =>
  if 0 ≤ (rI w3 10 6) then
    bd2 (M_worthAt (rI w3 10 6) w3) fun r6 w5 =>
    M_dueBy_p48 r6 w5
  else
    M_dueBy_p48 (x1 + x2) w3
set_option maxRecDepth 100000 in
set_option maxHeartbeats 4000000 in
theorem wk_M_dueBy_p48 {p : Program} {l : Launch} {e : Env} {s : State} {m : MethodId} {args : Array Value} {below : List Frame} {meth : Method} {c : Code} {E : mE} {A : Nat → Prop} (S : CallFix p m c cX5_dueBy 5 s args lw_all RX5) (hr : meth.sig.returnType = (some .int)) (hlocks : meth.locks = false) {res : Int32 × MS}  : ∀ (t0 : Int32) (w : MS) (H : Heap) (locs : List Loc) (ls : Array Slot), M_dueBy_p48 t0 w = some res → mH E A s w H locs → lv_has ls 5 [(0, .ref (mM E))] → W p l e rm_dueBy s m args below meth c H locs 0 0 (MQ below (mQi E A res.1 res.2) args s 0 0 A) (F0 m 48 ls [.int t0]) := by
  intro t0 w H locs ls h hw hl
  unfold M_dueBy_p48 at h
  refine lv_istore (lv' := [(4, .int t0), (0, .ref (mM E))]) S.1 S.2.1 dX5_dueBy_48 hl (by decide) rfl (fun ls hl => ?_)
  refine lv_iload S.1 S.2.1 dX5_dueBy_50 (lv_at hl 0 rfl) ?_
  refine lv_if_ge (tgt := 59) S.1 S.2.1 dX5_dueBy_52 rfl (fun c7 => ?_) (fun c7 => ?_)
  · replace h := if_t c7 h
    refine lv_iload S.1 S.2.1 dX5_dueBy_59 (lv_at hl 0 rfl) ?_
    refine lv_sipush (v := 9999) S.1 S.2.1 dX5_dueBy_61 rfl ?_
    refine lv_icmp_le (tgt := 73) S.1 S.2.1 dX5_dueBy_64 rfl (fun c8 => ?_) (fun c8 => ?_)
    · replace h := if_t c8 h
      refine lv_iload S.1 S.2.1 dX5_dueBy_73 (lv_at hl 0 rfl) ?_
      exact m_iret S hr hlocks hw (so2 h) dX5_dueBy_75
    · replace h := if_f c8 h
      refine lv_sipush (v := 9999) S.1 S.2.1 dX5_dueBy_67 rfl ?_
      refine lv_goto (tgt := 75) S.1 S.2.1 dX5_dueBy_70 rfl ?_
      exact m_iret S hr hlocks hw (so2 h) dX5_dueBy_75
  · replace h := if_f c7 h
    refine lv_iconst (v := 0) S.1 S.2.1 dX5_dueBy_55 rfl ?_
    refine lv_goto (tgt := 75) S.1 S.2.1 dX5_dueBy_56 rfl ?_
    exact m_iret S hr hlocks hw (so2 h) dX5_dueBy_75
set_option maxRecDepth 100000 in
set_option maxHeartbeats 4000000 in
theorem met_dueBy (l : Launch) (E : mE) (A : Nat → Prop)  (x1 : Int32) (x2 : Int32) (x3 : Int32) (w : MS) (res : Int32 × MS) (h : M_dueBy x1 x2 x3 w = some res) : Met l yX5_dueBy (ws_ yX5_dueBy cX5_dueBy 5 (some .int)) rm_dueBy (mPc E A [.ref (mM E), .int x1, .int x2, .int x3] w) (mQi E A res.1 res.2) 0 0 A := by
  refine mMet (by decide) rfl (Nat.le_of_ble_eq_true rfl) ?_
  intro p e s m below meth c S hr hlocks H ls hw hl
  replace hl : lv_has ls 5 [(0, .ref (mM E)), (1, .int x1), (2, .int x2), (3, .int x3)] := hl
  unfold M_dueBy at h
  refine lv_aload_n S.1 S.2.1 dX5_dueBy_0 rfl (lv_at hl 0 rfl) ?_
  refine mg23 S hw dX5_dueBy_1 ?_
  refine lv_iconst (v := 0) S.1 S.2.1 dX5_dueBy_4 rfl ?_
  refine lv_iload_n S.1 S.2.1 dX5_dueBy_5 rfl (lv_at hl 1 rfl) ?_
  refine msc23 (j := 0) S hw dX5_dueBy_6 (by decide) h (fun w1 H locs h hw => ?_)
  refine lv_aload_n S.1 S.2.1 dX5_dueBy_7 rfl (lv_at hl 0 rfl) ?_
  refine mg23 S hw dX5_dueBy_8 ?_
  refine lv_iconst (v := 1) S.1 S.2.1 dX5_dueBy_11 rfl ?_
  refine lv_iload_n S.1 S.2.1 dX5_dueBy_12 rfl (lv_at hl 2 rfl) ?_
  refine msc23 (j := 1) S hw dX5_dueBy_13 (by decide) h (fun w2 H locs h hw => ?_)
  refine lv_aload_n S.1 S.2.1 dX5_dueBy_14 rfl (lv_at hl 0 rfl) ?_
  refine mg23 S hw dX5_dueBy_15 ?_
  refine lv_iconst (v := 2) S.1 S.2.1 dX5_dueBy_18 rfl ?_
  refine lv_iload_n S.1 S.2.1 dX5_dueBy_19 rfl (lv_at hl 3 rfl) ?_
  refine msc23 (j := 2) S hw dX5_dueBy_20 (by decide) h (fun w3 H locs h hw => ?_)
  refine lv_aload_n S.1 S.2.1 dX5_dueBy_21 rfl (lv_at hl 0 rfl) ?_
  refine mg10 S hw dX5_dueBy_22 ?_
  refine lv_bipush (v := 6) S.1 S.2.1 dX5_dueBy_25 rfl ?_
  refine mlc10 (j := 6) S hw dX5_dueBy_27 (by decide) ?_
  refine lv_if_ge (tgt := 37) S.1 S.2.1 dX5_dueBy_28 rfl (fun c4 => ?_) (fun c4 => ?_)
  · replace h := if_t c4 h
    refine lv_aload_n S.1 S.2.1 dX5_dueBy_37 rfl (lv_at hl 0 rfl) ?_
    refine lv_aload_n S.1 S.2.1 dX5_dueBy_38 rfl (lv_at hl 0 rfl) ?_
    refine mg10 S hw dX5_dueBy_39 ?_
    refine lv_bipush (v := 6) S.1 S.2.1 dX5_dueBy_42 rfl ?_
    refine mlc10 (j := 6) S hw dX5_dueBy_44 (by decide) ?_
    refine mcVwi (As := [.int (rI w3 10 6)]) (rest := []) S hw h (fun u h1 => met_worthAt l E A (rI w3 10 6) w3 u h1) (cw_worthAt S.2.2.2.2 rfl rfl ⟨Nat.le_of_ble_eq_true rfl, Nat.le_of_ble_eq_true rfl⟩) rfl hl.1 rfl (lv_room (Nat.le_of_ble_eq_true rfl)) dX5_dueBy_45 (fun r6 w5 H locs h hw => ?_)
    exact wk_M_dueBy_p48 S hr hlocks _ _ _ _ _ h hw (lv_sub hl [0] rfl)
  · replace h := if_f c4 h
    refine lv_iload_n S.1 S.2.1 dX5_dueBy_31 rfl (lv_at hl 1 rfl) ?_
    refine lv_iload_n S.1 S.2.1 dX5_dueBy_32 rfl (lv_at hl 2 rfl) ?_
    refine lv_iadd S.1 S.2.1 dX5_dueBy_33 ?_
    refine lv_goto (tgt := 48) S.1 S.2.1 dX5_dueBy_34 rfl ?_
    exact wk_M_dueBy_p48 S hr hlocks _ _ _ _ _ h hw (lv_sub hl [0] rfl)
def M_dueOf (x1 : Int32) (x2 : Int32) (w : MS) : Option (Int32 × MS) :=
  bd1 (rA w 25 1288 ((x1 + (7 : Int32)) + x2)) fun v1 =>
  bd1 (rA w 25 1288 ((x1 + (1 : Int32)) + x2)) fun v2 =>
  bd1 (M_roomOf v2 (2 : Int32) w) fun r3 =>
  bd1 (M_tenantOf x2 (0 : Int32) w) fun r4 =>
  bd2 (M_dueBy v1 r3 r4 w) fun r6 w5 =>
  some (r6, w5)
set_option maxRecDepth 100000 in
set_option maxHeartbeats 4000000 in
theorem met_dueOf (l : Launch) (E : mE) (A : Nat → Prop)  (x1 : Int32) (x2 : Int32) (w : MS) (res : Int32 × MS) (h : M_dueOf x1 x2 w = some res) : Met l yX5_dueOf (ws_ yX5_dueOf cX5_dueOf 3 (some .int)) rm_dueOf (mPc E A [.ref (mM E), .int x1, .int x2] w) (mQi E A res.1 res.2) 0 0 A := by
  refine mMet (by decide) rfl (Nat.le_of_ble_eq_true rfl) ?_
  intro p e s m below meth c S hr hlocks H ls hw hl
  replace hl : lv_has ls 3 [(0, .ref (mM E)), (1, .int x1), (2, .int x2)] := hl
  unfold M_dueOf at h
  refine lv_aload_n S.1 S.2.1 dX5_dueOf_0 rfl (lv_at hl 0 rfl) ?_
  refine lv_aload_n S.1 S.2.1 dX5_dueOf_1 rfl (lv_at hl 0 rfl) ?_
  refine mg25 S hw dX5_dueOf_2 ?_
  refine lv_iload_n S.1 S.2.1 dX5_dueOf_5 rfl (lv_at hl 1 rfl) ?_
  refine lv_bipush (v := 7) S.1 S.2.1 dX5_dueOf_6 rfl ?_
  refine lv_iadd S.1 S.2.1 dX5_dueOf_8 ?_
  refine lv_iload_n S.1 S.2.1 dX5_dueOf_9 rfl (lv_at hl 2 rfl) ?_
  refine lv_iadd S.1 S.2.1 dX5_dueOf_10 ?_
  refine ml25 S hw dX5_dueOf_11 h (fun v1 h => ?_)
  refine lv_aload_n S.1 S.2.1 dX5_dueOf_12 rfl (lv_at hl 0 rfl) ?_
  refine lv_aload_n S.1 S.2.1 dX5_dueOf_13 rfl (lv_at hl 0 rfl) ?_
  refine mg25 S hw dX5_dueOf_14 ?_
  refine lv_iload_n S.1 S.2.1 dX5_dueOf_17 rfl (lv_at hl 1 rfl) ?_
  refine lv_iconst (v := 1) S.1 S.2.1 dX5_dueOf_18 rfl ?_
  refine lv_iadd S.1 S.2.1 dX5_dueOf_19 ?_
  refine lv_iload_n S.1 S.2.1 dX5_dueOf_20 rfl (lv_at hl 2 rfl) ?_
  refine lv_iadd S.1 S.2.1 dX5_dueOf_21 ?_
  refine ml25 S hw dX5_dueOf_22 h (fun v2 h => ?_)
  refine lv_iconst (v := 2) S.1 S.2.1 dX5_dueOf_23 rfl ?_
  refine mcVri (As := [.int v2, .int (2 : Int32)]) (rest := [.int v1, .ref (mM E)]) S hw h (fun u h1 => met_roomOf l E A v2 (2 : Int32) w u h1) (cw_roomOf S.2.2.2.2 rfl rfl ⟨Nat.le_of_ble_eq_true rfl, Nat.le_of_ble_eq_true rfl⟩) rfl hl.1 rfl (lv_room (Nat.le_of_ble_eq_true rfl)) dX5_dueOf_24 (fun r3 H locs h hw => ?_)
  refine lv_aload_n S.1 S.2.1 dX5_dueOf_27 rfl (lv_at hl 0 rfl) ?_
  refine lv_iload_n S.1 S.2.1 dX5_dueOf_28 rfl (lv_at hl 2 rfl) ?_
  refine lv_iconst (v := 0) S.1 S.2.1 dX5_dueOf_29 rfl ?_
  refine mcVri (As := [.int x2, .int (0 : Int32)]) (rest := [.int r3, .int v1, .ref (mM E)]) S hw h (fun u h1 => met_tenantOf l E A x2 (0 : Int32) w u h1) (cw_tenantOf S.2.2.2.2 rfl rfl ⟨Nat.le_of_ble_eq_true rfl, Nat.le_of_ble_eq_true rfl⟩) rfl hl.1 rfl (lv_room (Nat.le_of_ble_eq_true rfl)) dX5_dueOf_30 (fun r4 H locs h hw => ?_)
  refine mcVwi (As := [.int v1, .int r3, .int r4]) (rest := []) S hw h (fun u h1 => met_dueBy l E A v1 r3 r4 w u h1) (cw_dueBy S.2.2.2.2 rfl rfl ⟨Nat.le_of_ble_eq_true rfl, Nat.le_of_ble_eq_true rfl⟩) rfl hl.1 rfl (lv_room (Nat.le_of_ble_eq_true rfl)) dX5_dueOf_33 (fun r6 w5 H locs h hw => ?_)
  exact m_iret S hr hlocks hw (so2 h) dX5_dueOf_36
def M_noons_p152 : Nat → Int32 → Int32 → Int32 → MS → Option (Int32 × MS)
  | 0, _, _, _, _ => none
  | n + 1, x1, x2, x3, w =>
    if (M_tenants w) ≤ x3 then
      some (x2, w)
    else
      bd1 (wA w 25 1288 ((x1 + (7 : Int32)) + x3) (0 : Int32)) fun w3 =>
      (M_noons_p152 n) x1 x2 (x3 + (1 : Int32)) w3
def M_noons_p95 (k4 : Int32 → Int32 → Int32 → MS → Option (Int32 × MS)) (x1 : Int32) (x2 : Int32) (x3 : Int32) (t0 : Int32) (w : MS) : Option (Int32 × MS) :=
  bd1 (rA w 25 1288 ((x1 + (31 : Int32)) + x3)) fun v13 =>
  bd1 (wA w 25 1288 ((x1 + (31 : Int32)) + x3) (v13 - t0)) fun w14 =>
  bdp (x2 + t0) fun y15 =>
  k4 x1 y15 (x3 + (1 : Int32)) w14
def M_noons_p81 (k4 : Int32 → Int32 → Int32 → MS → Option (Int32 × MS)) (x1 : Int32) (x2 : Int32) (x3 : Int32) (x4 : Int32) (x5 : Int32) (w : MS) : Option (Int32 × MS) :=
  if x5 ≤ x4 then
    M_noons_p95 k4 x1 x2 x3 x5 w
  else
    M_noons_p95 k4 x1 x2 x3 x4 w
def M_noons_p67 (k4 : Int32 → Int32 → Int32 → MS → Option (Int32 × MS)) (x1 : Int32) (x2 : Int32) (x3 : Int32) (x4 : Int32) (x5 : Int32) (t0 : Int32) (w : MS) : Option (Int32 × MS) :=
  if x4 ≤ x5 then
    M_noons_p81 k4 x1 x2 x3 x4 x5 w
  else
    if t0 = 0 then
      bd1 (wA w 25 1288 ((x1 + (1 : Int32)) + x3) (-1 : Int32)) fun w17 =>
      bd1 (wA w17 25 1288 ((x1 + (37 : Int32)) + x3) (1 : Int32)) fun w18 =>
      k4 x1 x2 (x3 + (1 : Int32)) w18
    else
      M_noons_p81 k4 x1 x2 x3 x4 x5 w
def M_noons_p4 : Nat → Int32 → Int32 → Int32 → MS → Option (Int32 × MS)
  | 0, _, _, _, _ => none
  | n + 1, x1, x2, x3, w =>
    if (M_tenants w) ≤ x3 then
      M_noons_p152 FU x1 x2 (0 : Int32) w
    else
      bd1 (M_isIn x1 x3 w) fun r4 =>
      if r4 = 0 then
        (M_noons_p4 n) x1 x2 (x3 + (1 : Int32)) w
      else
        bd2 (M_dueOf x1 x3 w) fun r7 w6 =>
        bd1 (rA w6 25 1288 ((x1 + (31 : Int32)) + x3)) fun v8 =>
        bd1 (M_tenantOf x3 (0 : Int32) w6) fun r9 =>
        if r9 = (3 : Int32) then
          if (99 : Int32) < (r7 - v8) then
            M_noons_p67 (M_noons_p4 n) x1 x2 x3 r7 v8 (0 : Int32) w6
          else
            M_noons_p67 (M_noons_p4 n) x1 x2 x3 r7 v8 (1 : Int32) w6
        else
          M_noons_p67 (M_noons_p4 n) x1 x2 x3 r7 v8 (0 : Int32) w6
def M_noons (x1 : Int32) (w : MS) : Option (Int32 × MS) :=
  M_noons_p4 FU x1 (0 : Int32) (0 : Int32) w
set_option maxRecDepth 100000 in
set_option maxHeartbeats 4000000 in
theorem wk_M_noons_p152 {p : Program} {l : Launch} {e : Env} {s : State} {m : MethodId} {args : Array Value} {below : List Frame} {meth : Method} {c : Code} {E : mE} {A : Nat → Prop} (S : CallFix p m c cX5_noons 8 s args lw_all RX5) (hr : meth.sig.returnType = (some .int)) (hlocks : meth.locks = false) {res : Int32 × MS}  : ∀ n : Nat, ∀ (x1 : Int32) (x2 : Int32) (x3 : Int32) (w : MS) (H : Heap) (locs : List Loc) (ls : Array Slot), M_noons_p152 n x1 x2 x3 w = some res → mH E A s w H locs → lv_has ls 8 [(0, .ref (mM E)), (1, .int x1), (2, .int x2), (3, .int x3)] → W p l e rm_noons s m args below meth c H locs 0 0 (MQ below (mQi E A res.1 res.2) args s 0 0 A) (F0 m 152 ls []) := by
  intro n
  induction n with
  | zero => intro x1 x2 x3 w H locs ls h; cases (show (none : Option (Int32 × MS)) = some res from h)
  | succ n ih =>
    intro x1 x2 x3 w H locs ls h hw hl
    rw [M_noons_p152] at h
    refine lv_iload_n S.1 S.2.1 dX5_noons_152 rfl (lv_at hl 3 rfl) ?_
    refine lv_aload_n S.1 S.2.1 dX5_noons_153 rfl (lv_at hl 0 rfl) ?_
    refine mcVti (As := []) (rest := [.int x3]) S hw (met_tenants l E A  w _ rfl) (cw_tenants S.2.2.2.2 rfl rfl ⟨Nat.le_of_ble_eq_true rfl, Nat.le_of_ble_eq_true rfl⟩) rfl hl.1 rfl (lv_room (Nat.le_of_ble_eq_true rfl)) dX5_noons_154 (fun H locs hw => ?_)
    refine lv_icmp_ge (tgt := 178) S.1 S.2.1 dX5_noons_157 rfl (fun c2 => ?_) (fun c2 => ?_)
    · replace h := if_t c2 h
      refine lv_iload_n S.1 S.2.1 dX5_noons_178 rfl (lv_at hl 2 rfl) ?_
      exact m_iret S hr hlocks hw (so2 h) dX5_noons_179
    · replace h := if_f c2 h
      refine lv_aload_n S.1 S.2.1 dX5_noons_160 rfl (lv_at hl 0 rfl) ?_
      refine mg25 S hw dX5_noons_161 ?_
      refine lv_iload_n S.1 S.2.1 dX5_noons_164 rfl (lv_at hl 1 rfl) ?_
      refine lv_bipush (v := 7) S.1 S.2.1 dX5_noons_165 rfl ?_
      refine lv_iadd S.1 S.2.1 dX5_noons_167 ?_
      refine lv_iload_n S.1 S.2.1 dX5_noons_168 rfl (lv_at hl 3 rfl) ?_
      refine lv_iadd S.1 S.2.1 dX5_noons_169 ?_
      refine lv_iconst (v := 0) S.1 S.2.1 dX5_noons_170 rfl ?_
      refine ms25 S hw dX5_noons_171 h (fun w3 H locs h hw => ?_)
      refine lv_iinc (v := x3 + (1 : Int32)) (lv' := [(3, .int (x3 + (1 : Int32))), (0, .ref (mM E)), (1, .int x1), (2, .int x2)]) S.1 S.2.1 dX5_noons_172 hl (k := 3) rfl rfl (by decide) rfl (fun ls hl => ?_)
      refine lv_goto (tgt := 152) S.1 S.2.1 dX5_noons_175 rfl ?_
      exact ih _ _ _ _ _ _ _ h hw (lv_sub hl [1, 2, 3, 0] rfl)
set_option maxRecDepth 100000 in
set_option maxHeartbeats 4000000 in
theorem wk_M_noons_p95 {p : Program} {l : Launch} {e : Env} {s : State} {m : MethodId} {args : Array Value} {below : List Frame} {meth : Method} {c : Code} {E : mE} {A : Nat → Prop} (S : CallFix p m c cX5_noons 8 s args lw_all RX5) (hr : meth.sig.returnType = (some .int)) (hlocks : meth.locks = false) {res : Int32 × MS}  {k4 : Int32 → Int32 → Int32 → MS → Option (Int32 × MS)} (hk4 : ∀ (x1 : Int32) (x2 : Int32) (x3 : Int32) (w : MS) (H : Heap) (locs : List Loc) (ls : Array Slot), k4 x1 x2 x3 w = some res → mH E A s w H locs → lv_has ls 8 [(0, .ref (mM E)), (1, .int x1), (2, .int x2), (3, .int x3)] → W p l e rm_noons s m args below meth c H locs 0 0 (MQ below (mQi E A res.1 res.2) args s 0 0 A) (F0 m 4 ls [])) : ∀ (x1 : Int32) (x2 : Int32) (x3 : Int32) (t0 : Int32) (w : MS) (H : Heap) (locs : List Loc) (ls : Array Slot), M_noons_p95 k4 x1 x2 x3 t0 w = some res → mH E A s w H locs → lv_has ls 8 [(0, .ref (mM E)), (1, .int x1), (2, .int x2), (3, .int x3)] → W p l e rm_noons s m args below meth c H locs 0 0 (MQ below (mQi E A res.1 res.2) args s 0 0 A) (F0 m 95 ls [.int t0]) := by
  intro x1 x2 x3 t0 w H locs ls h hw hl
  unfold M_noons_p95 at h
  refine lv_istore (lv' := [(7, .int t0), (0, .ref (mM E)), (1, .int x1), (2, .int x2), (3, .int x3)]) S.1 S.2.1 dX5_noons_95 hl (by decide) rfl (fun ls hl => ?_)
  refine lv_aload_n S.1 S.2.1 dX5_noons_97 rfl (lv_at hl 1 rfl) ?_
  refine mg25 S hw dX5_noons_98 ?_
  refine lv_iload_n S.1 S.2.1 dX5_noons_101 rfl (lv_at hl 2 rfl) ?_
  refine lv_bipush (v := 31) S.1 S.2.1 dX5_noons_102 rfl ?_
  refine lv_iadd S.1 S.2.1 dX5_noons_104 ?_
  refine lv_iload_n S.1 S.2.1 dX5_noons_105 rfl (lv_at hl 4 rfl) ?_
  refine lv_iadd S.1 S.2.1 dX5_noons_106 ?_
  refine lv_dup2_11 S.1 S.2.1 dX5_noons_107 rfl rfl ?_
  refine ml25 S hw dX5_noons_108 h (fun v13 h => ?_)
  refine lv_iload S.1 S.2.1 dX5_noons_109 (lv_at hl 0 rfl) ?_
  refine lv_isub S.1 S.2.1 dX5_noons_111 ?_
  refine ms25 S hw dX5_noons_112 h (fun w14 H locs h hw => ?_)
  refine lv_iload_n S.1 S.2.1 dX5_noons_113 rfl (lv_at hl 3 rfl) ?_
  refine lv_iload S.1 S.2.1 dX5_noons_114 (lv_at hl 0 rfl) ?_
  refine lv_iadd S.1 S.2.1 dX5_noons_116 ?_
  refine lv_topi (fun y15 ey => ?_)
  replace h := bdp_e ey h
  refine lv_istore_n (lv' := [(2, .int y15), (7, .int t0), (0, .ref (mM E)), (1, .int x1), (3, .int x3)]) S.1 S.2.1 dX5_noons_117 rfl hl (by decide) rfl (fun ls hl => ?_)
  refine lv_goto (tgt := 144) S.1 S.2.1 dX5_noons_118 rfl ?_
  refine lv_iinc (v := x3 + (1 : Int32)) (lv' := [(3, .int (x3 + (1 : Int32))), (2, .int y15), (7, .int t0), (0, .ref (mM E)), (1, .int x1)]) S.1 S.2.1 dX5_noons_144 hl (k := 4) rfl rfl (by decide) rfl (fun ls hl => ?_)
  refine lv_goto (tgt := 4) S.1 S.2.1 dX5_noons_147 rfl ?_
  exact hk4 _ _ _ _ _ _ _ h hw (lv_sub hl [3, 4, 1, 0] rfl)
set_option maxRecDepth 100000 in
set_option maxHeartbeats 4000000 in
theorem wk_M_noons_p81 {p : Program} {l : Launch} {e : Env} {s : State} {m : MethodId} {args : Array Value} {below : List Frame} {meth : Method} {c : Code} {E : mE} {A : Nat → Prop} (S : CallFix p m c cX5_noons 8 s args lw_all RX5) (hr : meth.sig.returnType = (some .int)) (hlocks : meth.locks = false) {res : Int32 × MS}  {k4 : Int32 → Int32 → Int32 → MS → Option (Int32 × MS)} (hk4 : ∀ (x1 : Int32) (x2 : Int32) (x3 : Int32) (w : MS) (H : Heap) (locs : List Loc) (ls : Array Slot), k4 x1 x2 x3 w = some res → mH E A s w H locs → lv_has ls 8 [(0, .ref (mM E)), (1, .int x1), (2, .int x2), (3, .int x3)] → W p l e rm_noons s m args below meth c H locs 0 0 (MQ below (mQi E A res.1 res.2) args s 0 0 A) (F0 m 4 ls [])) : ∀ (x1 : Int32) (x2 : Int32) (x3 : Int32) (x4 : Int32) (x5 : Int32) (w : MS) (H : Heap) (locs : List Loc) (ls : Array Slot), M_noons_p81 k4 x1 x2 x3 x4 x5 w = some res → mH E A s w H locs → lv_has ls 8 [(0, .ref (mM E)), (1, .int x1), (2, .int x2), (3, .int x3), (4, .int x4), (5, .int x5)] → W p l e rm_noons s m args below meth c H locs 0 0 (MQ below (mQi E A res.1 res.2) args s 0 0 A) (F0 m 81 ls []) := by
  intro x1 x2 x3 x4 x5 w H locs ls h hw hl
  unfold M_noons_p81 at h
  refine lv_iload S.1 S.2.1 dX5_noons_81 (lv_at hl 4 rfl) ?_
  refine lv_iload S.1 S.2.1 dX5_noons_83 (lv_at hl 5 rfl) ?_
  refine lv_icmp_ge (tgt := 93) S.1 S.2.1 dX5_noons_85 rfl (fun c12 => ?_) (fun c12 => ?_)
  · replace h := if_t c12 h
    refine lv_iload S.1 S.2.1 dX5_noons_93 (lv_at hl 5 rfl) ?_
    exact wk_M_noons_p95 S hr hlocks hk4 _ _ _ _ _ _ _ _ h hw (lv_sub hl [0, 1, 2, 3] rfl)
  · replace h := if_f c12 h
    refine lv_iload S.1 S.2.1 dX5_noons_88 (lv_at hl 4 rfl) ?_
    refine lv_goto (tgt := 95) S.1 S.2.1 dX5_noons_90 rfl ?_
    exact wk_M_noons_p95 S hr hlocks hk4 _ _ _ _ _ _ _ _ h hw (lv_sub hl [0, 1, 2, 3] rfl)
set_option maxRecDepth 100000 in
set_option maxHeartbeats 4000000 in
theorem wk_M_noons_p67 {p : Program} {l : Launch} {e : Env} {s : State} {m : MethodId} {args : Array Value} {below : List Frame} {meth : Method} {c : Code} {E : mE} {A : Nat → Prop} (S : CallFix p m c cX5_noons 8 s args lw_all RX5) (hr : meth.sig.returnType = (some .int)) (hlocks : meth.locks = false) {res : Int32 × MS}  {k4 : Int32 → Int32 → Int32 → MS → Option (Int32 × MS)} (hk4 : ∀ (x1 : Int32) (x2 : Int32) (x3 : Int32) (w : MS) (H : Heap) (locs : List Loc) (ls : Array Slot), k4 x1 x2 x3 w = some res → mH E A s w H locs → lv_has ls 8 [(0, .ref (mM E)), (1, .int x1), (2, .int x2), (3, .int x3)] → W p l e rm_noons s m args below meth c H locs 0 0 (MQ below (mQi E A res.1 res.2) args s 0 0 A) (F0 m 4 ls [])) : ∀ (x1 : Int32) (x2 : Int32) (x3 : Int32) (x4 : Int32) (x5 : Int32) (t0 : Int32) (w : MS) (H : Heap) (locs : List Loc) (ls : Array Slot), M_noons_p67 k4 x1 x2 x3 x4 x5 t0 w = some res → mH E A s w H locs → lv_has ls 8 [(0, .ref (mM E)), (1, .int x1), (2, .int x2), (3, .int x3), (4, .int x4), (5, .int x5)] → W p l e rm_noons s m args below meth c H locs 0 0 (MQ below (mQi E A res.1 res.2) args s 0 0 A) (F0 m 67 ls [.int t0]) := by
  intro x1 x2 x3 x4 x5 t0 w H locs ls h hw hl
  unfold M_noons_p67 at h
  refine lv_istore (lv' := [(6, .int t0), (0, .ref (mM E)), (1, .int x1), (2, .int x2), (3, .int x3), (4, .int x4), (5, .int x5)]) S.1 S.2.1 dX5_noons_67 hl (by decide) rfl (fun ls hl => ?_)
  refine lv_iload S.1 S.2.1 dX5_noons_69 (lv_at hl 5 rfl) ?_
  refine lv_iload S.1 S.2.1 dX5_noons_71 (lv_at hl 6 rfl) ?_
  refine lv_icmp_le (tgt := 81) S.1 S.2.1 dX5_noons_73 rfl (fun c11 => ?_) (fun c11 => ?_)
  · replace h := if_t c11 h
    exact wk_M_noons_p81 S hr hlocks hk4 _ _ _ _ _ _ _ _ _ h hw (lv_sub hl [1, 2, 3, 4, 5, 6] rfl)
  · replace h := if_f c11 h
    refine lv_iload S.1 S.2.1 dX5_noons_76 (lv_at hl 0 rfl) ?_
    refine lv_if_eq (tgt := 121) S.1 S.2.1 dX5_noons_78 rfl (fun c16 => ?_) (fun c16 => ?_)
    · replace h := if_t c16 h
      refine lv_aload_n S.1 S.2.1 dX5_noons_121 rfl (lv_at hl 1 rfl) ?_
      refine mg25 S hw dX5_noons_122 ?_
      refine lv_iload_n S.1 S.2.1 dX5_noons_125 rfl (lv_at hl 2 rfl) ?_
      refine lv_iconst (v := 1) S.1 S.2.1 dX5_noons_126 rfl ?_
      refine lv_iadd S.1 S.2.1 dX5_noons_127 ?_
      refine lv_iload_n S.1 S.2.1 dX5_noons_128 rfl (lv_at hl 4 rfl) ?_
      refine lv_iadd S.1 S.2.1 dX5_noons_129 ?_
      refine lv_iconst (v := -1) S.1 S.2.1 dX5_noons_130 rfl ?_
      refine ms25 S hw dX5_noons_131 h (fun w17 H locs h hw => ?_)
      refine lv_aload_n S.1 S.2.1 dX5_noons_132 rfl (lv_at hl 1 rfl) ?_
      refine mg25 S hw dX5_noons_133 ?_
      refine lv_iload_n S.1 S.2.1 dX5_noons_136 rfl (lv_at hl 2 rfl) ?_
      refine lv_bipush (v := 37) S.1 S.2.1 dX5_noons_137 rfl ?_
      refine lv_iadd S.1 S.2.1 dX5_noons_139 ?_
      refine lv_iload_n S.1 S.2.1 dX5_noons_140 rfl (lv_at hl 4 rfl) ?_
      refine lv_iadd S.1 S.2.1 dX5_noons_141 ?_
      refine lv_iconst (v := 1) S.1 S.2.1 dX5_noons_142 rfl ?_
      refine ms25 S hw dX5_noons_143 h (fun w18 H locs h hw => ?_)
      refine lv_iinc (v := x3 + (1 : Int32)) (lv' := [(3, .int (x3 + (1 : Int32))), (6, .int t0), (0, .ref (mM E)), (1, .int x1), (2, .int x2), (4, .int x4), (5, .int x5)]) S.1 S.2.1 dX5_noons_144 hl (k := 4) rfl rfl (by decide) rfl (fun ls hl => ?_)
      refine lv_goto (tgt := 4) S.1 S.2.1 dX5_noons_147 rfl ?_
      exact hk4 _ _ _ _ _ _ _ h hw (lv_sub hl [2, 3, 4, 0] rfl)
    · replace h := if_f c16 h
      exact wk_M_noons_p81 S hr hlocks hk4 _ _ _ _ _ _ _ _ _ h hw (lv_sub hl [1, 2, 3, 4, 5, 6] rfl)
set_option maxRecDepth 100000 in
set_option maxHeartbeats 4000000 in
theorem wk_M_noons_p4 {p : Program} {l : Launch} {e : Env} {s : State} {m : MethodId} {args : Array Value} {below : List Frame} {meth : Method} {c : Code} {E : mE} {A : Nat → Prop} (S : CallFix p m c cX5_noons 8 s args lw_all RX5) (hr : meth.sig.returnType = (some .int)) (hlocks : meth.locks = false) {res : Int32 × MS}  : ∀ n : Nat, ∀ (x1 : Int32) (x2 : Int32) (x3 : Int32) (w : MS) (H : Heap) (locs : List Loc) (ls : Array Slot), M_noons_p4 n x1 x2 x3 w = some res → mH E A s w H locs → lv_has ls 8 [(0, .ref (mM E)), (1, .int x1), (2, .int x2), (3, .int x3)] → W p l e rm_noons s m args below meth c H locs 0 0 (MQ below (mQi E A res.1 res.2) args s 0 0 A) (F0 m 4 ls []) := by
  intro n
  induction n with
  | zero => intro x1 x2 x3 w H locs ls h; cases (show (none : Option (Int32 × MS)) = some res from h)
  | succ n ih =>
    intro x1 x2 x3 w H locs ls h hw hl
    rw [M_noons_p4] at h
    refine lv_iload_n S.1 S.2.1 dX5_noons_4 rfl (lv_at hl 3 rfl) ?_
    refine lv_aload_n S.1 S.2.1 dX5_noons_5 rfl (lv_at hl 0 rfl) ?_
    refine mcVti (As := []) (rest := [.int x3]) S hw (met_tenants l E A  w _ rfl) (cw_tenants S.2.2.2.2 rfl rfl ⟨Nat.le_of_ble_eq_true rfl, Nat.le_of_ble_eq_true rfl⟩) rfl hl.1 rfl (lv_room (Nat.le_of_ble_eq_true rfl)) dX5_noons_6 (fun H locs hw => ?_)
    refine lv_icmp_ge (tgt := 150) S.1 S.2.1 dX5_noons_9 rfl (fun c1 => ?_) (fun c1 => ?_)
    · replace h := if_t c1 h
      refine lv_iconst (v := 0) S.1 S.2.1 dX5_noons_150 rfl ?_
      refine lv_istore_n (lv' := [(3, .int (0 : Int32)), (0, .ref (mM E)), (1, .int x1), (2, .int x2)]) S.1 S.2.1 dX5_noons_151 rfl hl (by decide) rfl (fun ls hl => ?_)
      exact wk_M_noons_p152 S hr hlocks FU _ _ _ _ _ _ _ h hw (lv_sub hl [1, 2, 3, 0] rfl)
    · replace h := if_f c1 h
      refine lv_aload_n S.1 S.2.1 dX5_noons_12 rfl (lv_at hl 0 rfl) ?_
      refine lv_iload_n S.1 S.2.1 dX5_noons_13 rfl (lv_at hl 1 rfl) ?_
      refine lv_iload_n S.1 S.2.1 dX5_noons_14 rfl (lv_at hl 3 rfl) ?_
      refine mcVri (As := [.int x1, .int x3]) (rest := []) S hw h (fun u h1 => met_isIn l E A x1 x3 w u h1) (cw_isIn S.2.2.2.2 rfl rfl ⟨Nat.le_of_ble_eq_true rfl, Nat.le_of_ble_eq_true rfl⟩) rfl hl.1 rfl (lv_room (Nat.le_of_ble_eq_true rfl)) dX5_noons_15 (fun r4 H locs h hw => ?_)
      refine lv_if_eq (tgt := 144) S.1 S.2.1 dX5_noons_18 rfl (fun c5 => ?_) (fun c5 => ?_)
      · replace h := if_t c5 h
        refine lv_iinc (v := x3 + (1 : Int32)) (lv' := [(3, .int (x3 + (1 : Int32))), (0, .ref (mM E)), (1, .int x1), (2, .int x2)]) S.1 S.2.1 dX5_noons_144 hl (k := 3) rfl rfl (by decide) rfl (fun ls hl => ?_)
        refine lv_goto (tgt := 4) S.1 S.2.1 dX5_noons_147 rfl ?_
        exact ih _ _ _ _ _ _ _ h hw (lv_sub hl [1, 2, 3, 0] rfl)
      · replace h := if_f c5 h
        refine lv_aload_n S.1 S.2.1 dX5_noons_21 rfl (lv_at hl 0 rfl) ?_
        refine lv_iload_n S.1 S.2.1 dX5_noons_22 rfl (lv_at hl 1 rfl) ?_
        refine lv_iload_n S.1 S.2.1 dX5_noons_23 rfl (lv_at hl 3 rfl) ?_
        refine mcVwi (As := [.int x1, .int x3]) (rest := []) S hw h (fun u h1 => met_dueOf l E A x1 x3 w u h1) (cw_dueOf S.2.2.2.2 rfl rfl ⟨Nat.le_of_ble_eq_true rfl, Nat.le_of_ble_eq_true rfl⟩) rfl hl.1 rfl (lv_room (Nat.le_of_ble_eq_true rfl)) dX5_noons_24 (fun r7 w6 H locs h hw => ?_)
        refine lv_istore (lv' := [(4, .int r7), (0, .ref (mM E)), (1, .int x1), (2, .int x2), (3, .int x3)]) S.1 S.2.1 dX5_noons_27 hl (by decide) rfl (fun ls hl => ?_)
        refine lv_aload_n S.1 S.2.1 dX5_noons_29 rfl (lv_at hl 1 rfl) ?_
        refine mg25 S hw dX5_noons_30 ?_
        refine lv_iload_n S.1 S.2.1 dX5_noons_33 rfl (lv_at hl 2 rfl) ?_
        refine lv_bipush (v := 31) S.1 S.2.1 dX5_noons_34 rfl ?_
        refine lv_iadd S.1 S.2.1 dX5_noons_36 ?_
        refine lv_iload_n S.1 S.2.1 dX5_noons_37 rfl (lv_at hl 4 rfl) ?_
        refine lv_iadd S.1 S.2.1 dX5_noons_38 ?_
        refine ml25 S hw dX5_noons_39 h (fun v8 h => ?_)
        refine lv_istore (lv' := [(5, .int v8), (4, .int r7), (0, .ref (mM E)), (1, .int x1), (2, .int x2), (3, .int x3)]) S.1 S.2.1 dX5_noons_40 hl (by decide) rfl (fun ls hl => ?_)
        refine lv_aload_n S.1 S.2.1 dX5_noons_42 rfl (lv_at hl 2 rfl) ?_
        refine lv_iload_n S.1 S.2.1 dX5_noons_43 rfl (lv_at hl 5 rfl) ?_
        refine lv_iconst (v := 0) S.1 S.2.1 dX5_noons_44 rfl ?_
        refine mcVri (As := [.int x3, .int (0 : Int32)]) (rest := []) S hw h (fun u h1 => met_tenantOf l E A x3 (0 : Int32) w6 u h1) (cw_tenantOf S.2.2.2.2 rfl rfl ⟨Nat.le_of_ble_eq_true rfl, Nat.le_of_ble_eq_true rfl⟩) rfl hl.1 rfl (lv_room (Nat.le_of_ble_eq_true rfl)) dX5_noons_45 (fun r9 H locs h hw => ?_)
        refine lv_iconst (v := 3) S.1 S.2.1 dX5_noons_48 rfl ?_
        refine lv_icmp_ne (tgt := 66) S.1 S.2.1 dX5_noons_49 rfl (fun c10 => ?_) (fun c10 => ?_)
        · replace h := if_f c10 h
          refine lv_iconst (v := 0) S.1 S.2.1 dX5_noons_66 rfl ?_
          exact wk_M_noons_p67 S hr hlocks ih _ _ _ _ _ _ _ _ _ _ h hw (lv_sub hl [2, 3, 4, 5, 1, 0] rfl)
        · replace h := if_t c10 h
          refine lv_iload S.1 S.2.1 dX5_noons_52 (lv_at hl 1 rfl) ?_
          refine lv_iload S.1 S.2.1 dX5_noons_54 (lv_at hl 0 rfl) ?_
          refine lv_isub S.1 S.2.1 dX5_noons_56 ?_
          refine lv_bipush (v := 99) S.1 S.2.1 dX5_noons_57 rfl ?_
          refine lv_icmp_gt (tgt := 66) S.1 S.2.1 dX5_noons_59 rfl (fun c19 => ?_) (fun c19 => ?_)
          · replace h := if_t c19 h
            refine lv_iconst (v := 0) S.1 S.2.1 dX5_noons_66 rfl ?_
            exact wk_M_noons_p67 S hr hlocks ih _ _ _ _ _ _ _ _ _ _ h hw (lv_sub hl [2, 3, 4, 5, 1, 0] rfl)
          · replace h := if_f c19 h
            refine lv_iconst (v := 1) S.1 S.2.1 dX5_noons_62 rfl ?_
            refine lv_goto (tgt := 67) S.1 S.2.1 dX5_noons_63 rfl ?_
            exact wk_M_noons_p67 S hr hlocks ih _ _ _ _ _ _ _ _ _ _ h hw (lv_sub hl [2, 3, 4, 5, 1, 0] rfl)
set_option maxRecDepth 100000 in
set_option maxHeartbeats 4000000 in
theorem met_noons (l : Launch) (E : mE) (A : Nat → Prop)  (x1 : Int32) (w : MS) (res : Int32 × MS) (h : M_noons x1 w = some res) : Met l yX5_noons (ws_ yX5_noons cX5_noons 8 (some .int)) rm_noons (mPc E A [.ref (mM E), .int x1] w) (mQi E A res.1 res.2) 0 0 A := by
  refine mMet (by decide) rfl (Nat.le_of_ble_eq_true rfl) ?_
  intro p e s m below meth c S hr hlocks H ls hw hl
  replace hl : lv_has ls 8 [(0, .ref (mM E)), (1, .int x1)] := hl
  unfold M_noons at h
  refine lv_iconst (v := 0) S.1 S.2.1 dX5_noons_0 rfl ?_
  refine lv_istore_n (lv' := [(2, .int (0 : Int32)), (0, .ref (mM E)), (1, .int x1)]) S.1 S.2.1 dX5_noons_1 rfl hl (by decide) rfl (fun ls hl => ?_)
  refine lv_iconst (v := 0) S.1 S.2.1 dX5_noons_2 rfl ?_
  refine lv_istore_n (lv' := [(3, .int (0 : Int32)), (2, .int (0 : Int32)), (0, .ref (mM E)), (1, .int x1)]) S.1 S.2.1 dX5_noons_3 rfl hl (by decide) rfl (fun ls hl => ?_)
  exact wk_M_noons_p4 S hr hlocks FU _ _ _ _ _ _ _ h hw (lv_sub hl [2, 3, 1, 0] rfl)
def M_noon (w : MS) : Option (Int32 × MS) :=
  bdp (wI w 0 0 (0 : Int32)) fun w1 =>
  bd1 (M_keeps w1) fun w2 =>
  bd2 (M_noons (0 : Int32) w2) fun r4 w3 =>
  some (r4, w3)
set_option maxRecDepth 100000 in
set_option maxHeartbeats 4000000 in
theorem met_noon (l : Launch) (E : mE) (A : Nat → Prop)  (w : MS) (res : Int32 × MS) (h : M_noon w = some res) : Met l yX5_noon (ws_ yX5_noon cX5_noon 1 (some .int)) rm_noon (mPc E A [.ref (mM E)] w) (mQi E A res.1 res.2) 0 0 A := by
  refine mMet (by decide) rfl (Nat.le_of_ble_eq_true rfl) ?_
  intro p e s m below meth c S hr hlocks H ls hw hl
  replace hl : lv_has ls 1 [(0, .ref (mM E))] := hl
  unfold M_noon at h
  refine lv_aload_n S.1 S.2.1 dX5_noon_0 rfl (lv_at hl 0 rfl) ?_
  refine lv_iconst (v := 0) S.1 S.2.1 dX5_noon_1 rfl ?_
  refine mp0 S hw dX5_noon_2 h (fun w1 H locs h hw => ?_)
  refine lv_aload_n S.1 S.2.1 dX5_noon_5 rfl (lv_at hl 0 rfl) ?_
  refine mcVv (As := []) (rest := []) S hw h (fun u h1 => met_keeps l E A  w1 u h1) (cw_keeps S.2.2.2.2 rfl rfl ⟨Nat.le_of_ble_eq_true rfl, Nat.le_of_ble_eq_true rfl⟩) rfl hl.1 rfl (lv_room (Nat.le_of_ble_eq_true rfl)) dX5_noon_6 (fun w2 H locs h hw => ?_)
  refine lv_aload_n S.1 S.2.1 dX5_noon_9 rfl (lv_at hl 0 rfl) ?_
  refine lv_iconst (v := 0) S.1 S.2.1 dX5_noon_10 rfl ?_
  refine mcVwi (As := [.int (0 : Int32)]) (rest := []) S hw h (fun u h1 => met_noons l E A (0 : Int32) w2 u h1) (cw_noons S.2.2.2.2 rfl rfl ⟨Nat.le_of_ble_eq_true rfl, Nat.le_of_ble_eq_true rfl⟩) rfl hl.1 rfl (lv_room (Nat.le_of_ble_eq_true rfl)) dX5_noon_11 (fun r4 w3 H locs h hw => ?_)
  exact m_iret S hr hlocks hw (so2 h) dX5_noon_14
def M_mayMove (x1 : Int32) (x2 : Int32) (x3 : Int32) (w : MS) : Option Int32 :=
  bd1 (rA w 25 1288 ((x1 + (37 : Int32)) + x2)) fun v1 =>
  if v1 = 0 then
    bd1 (M_whoIn x1 x3 w) fun r3 =>
    if 0 ≤ r3 then
      some (0 : Int32)
    else
      some (1 : Int32)
  else
    some (0 : Int32)
set_option maxRecDepth 100000 in
set_option maxHeartbeats 4000000 in
theorem met_mayMove (l : Launch) (E : mE) (A : Nat → Prop)  (x1 : Int32) (x2 : Int32) (x3 : Int32) (w : MS) (res : Int32) (h : M_mayMove x1 x2 x3 w = some res) : Met l yX5_mayMove (ws_ yX5_mayMove cX5_mayMove 4 (some .boolean)) rm_mayMove (mPc E A [.ref (mM E), .int x1, .int x2, .int x3] w) (mQi E A res w) 0 0 A := by
  refine mMet (by decide) rfl (Nat.le_of_ble_eq_true rfl) ?_
  intro p e s m below meth c S hr hlocks H ls hw hl
  replace hl : lv_has ls 4 [(0, .ref (mM E)), (1, .int x1), (2, .int x2), (3, .int x3)] := hl
  unfold M_mayMove at h
  refine lv_aload_n S.1 S.2.1 dX5_mayMove_0 rfl (lv_at hl 0 rfl) ?_
  refine mg25 S hw dX5_mayMove_1 ?_
  refine lv_iload_n S.1 S.2.1 dX5_mayMove_4 rfl (lv_at hl 1 rfl) ?_
  refine lv_bipush (v := 37) S.1 S.2.1 dX5_mayMove_5 rfl ?_
  refine lv_iadd S.1 S.2.1 dX5_mayMove_7 ?_
  refine lv_iload_n S.1 S.2.1 dX5_mayMove_8 rfl (lv_at hl 2 rfl) ?_
  refine lv_iadd S.1 S.2.1 dX5_mayMove_9 ?_
  refine ml25 S hw dX5_mayMove_10 h (fun v1 h => ?_)
  refine lv_if_ne (tgt := 27) S.1 S.2.1 dX5_mayMove_11 rfl (fun c2 => ?_) (fun c2 => ?_)
  · replace h := if_f c2 h
    refine lv_iconst (v := 0) S.1 S.2.1 dX5_mayMove_27 rfl ?_
    exact m_zret S hr hlocks hw rfl ⟨so1 h, rfl⟩ dX5_mayMove_28
  · replace h := if_t c2 h
    refine lv_aload_n S.1 S.2.1 dX5_mayMove_14 rfl (lv_at hl 0 rfl) ?_
    refine lv_iload_n S.1 S.2.1 dX5_mayMove_15 rfl (lv_at hl 1 rfl) ?_
    refine lv_iload_n S.1 S.2.1 dX5_mayMove_16 rfl (lv_at hl 3 rfl) ?_
    refine mcVri (As := [.int x1, .int x3]) (rest := []) S hw h (fun u h1 => met_whoIn l E A x1 x3 w u h1) (cw_whoIn S.2.2.2.2 rfl rfl ⟨Nat.le_of_ble_eq_true rfl, Nat.le_of_ble_eq_true rfl⟩) rfl hl.1 rfl (lv_room (Nat.le_of_ble_eq_true rfl)) dX5_mayMove_17 (fun r3 H locs h hw => ?_)
    refine lv_if_ge (tgt := 27) S.1 S.2.1 dX5_mayMove_20 rfl (fun c4 => ?_) (fun c4 => ?_)
    · replace h := if_t c4 h
      refine lv_iconst (v := 0) S.1 S.2.1 dX5_mayMove_27 rfl ?_
      exact m_zret S hr hlocks hw rfl ⟨so1 h, rfl⟩ dX5_mayMove_28
    · replace h := if_f c4 h
      refine lv_iconst (v := 1) S.1 S.2.1 dX5_mayMove_23 rfl ?_
      refine lv_goto (tgt := 28) S.1 S.2.1 dX5_mayMove_24 rfl ?_
      exact m_zret S hr hlocks hw rfl ⟨so1 h, rfl⟩ dX5_mayMove_28
def M_move (x1 : Int32) (x2 : Int32) (w : MS) : Option (Int32 × MS) :=
  bdp (wI w 0 0 (0 : Int32)) fun w1 =>
  if (M_isTenant x1 w1) = 0 then
    some ((0 : Int32), w1)
  else
    if (M_isRoom x2 w1) = 0 then
      some ((0 : Int32), w1)
    else
      bd1 (M_mayMove (0 : Int32) x1 x2 w1) fun r4 =>
      if r4 = 0 then
        some ((0 : Int32), w1)
      else
        bd1 (M_keeps w1) fun w6 =>
        bd1 (wA w6 25 1288 ((1 : Int32) + x1) x2) fun w7 =>
        some ((1 : Int32), w7)
set_option maxRecDepth 100000 in
set_option maxHeartbeats 4000000 in
theorem met_move (l : Launch) (E : mE) (A : Nat → Prop)  (x1 : Int32) (x2 : Int32) (w : MS) (res : Int32 × MS) (h : M_move x1 x2 w = some res) : Met l yX5_move (ws_ yX5_move cX5_move 3 (some .boolean)) rm_move (mPc E A [.ref (mM E), .int x1, .int x2] w) (mQi E A res.1 res.2) 0 0 A := by
  refine mMet (by decide) rfl (Nat.le_of_ble_eq_true rfl) ?_
  intro p e s m below meth c S hr hlocks H ls hw hl
  replace hl : lv_has ls 3 [(0, .ref (mM E)), (1, .int x1), (2, .int x2)] := hl
  unfold M_move at h
  refine lv_aload_n S.1 S.2.1 dX5_move_0 rfl (lv_at hl 0 rfl) ?_
  refine lv_iconst (v := 0) S.1 S.2.1 dX5_move_1 rfl ?_
  refine mp0 S hw dX5_move_2 h (fun w1 H locs h hw => ?_)
  refine lv_aload_n S.1 S.2.1 dX5_move_5 rfl (lv_at hl 0 rfl) ?_
  refine lv_iload_n S.1 S.2.1 dX5_move_6 rfl (lv_at hl 1 rfl) ?_
  refine mcVti (As := [.int x1]) (rest := []) S hw (met_isTenant l E A x1 w1 _ rfl) (cw_isTenant S.2.2.2.2 rfl rfl ⟨Nat.le_of_ble_eq_true rfl, Nat.le_of_ble_eq_true rfl⟩) rfl hl.1 rfl (lv_room (Nat.le_of_ble_eq_true rfl)) dX5_move_7 (fun H locs hw => ?_)
  refine lv_if_eq (tgt := 31) S.1 S.2.1 dX5_move_10 rfl (fun c2 => ?_) (fun c2 => ?_)
  · replace h := if_t c2 h
    refine lv_iconst (v := 0) S.1 S.2.1 dX5_move_31 rfl ?_
    exact m_zret S hr hlocks hw rfl (so2 h) dX5_move_32
  · replace h := if_f c2 h
    refine lv_aload_n S.1 S.2.1 dX5_move_13 rfl (lv_at hl 0 rfl) ?_
    refine lv_iload_n S.1 S.2.1 dX5_move_14 rfl (lv_at hl 2 rfl) ?_
    refine mcVti (As := [.int x2]) (rest := []) S hw (met_isRoom l E A x2 w1 _ rfl) (cw_isRoom S.2.2.2.2 rfl rfl ⟨Nat.le_of_ble_eq_true rfl, Nat.le_of_ble_eq_true rfl⟩) rfl hl.1 rfl (lv_room (Nat.le_of_ble_eq_true rfl)) dX5_move_15 (fun H locs hw => ?_)
    refine lv_if_eq (tgt := 31) S.1 S.2.1 dX5_move_18 rfl (fun c3 => ?_) (fun c3 => ?_)
    · replace h := if_t c3 h
      refine lv_iconst (v := 0) S.1 S.2.1 dX5_move_31 rfl ?_
      exact m_zret S hr hlocks hw rfl (so2 h) dX5_move_32
    · replace h := if_f c3 h
      refine lv_aload_n S.1 S.2.1 dX5_move_21 rfl (lv_at hl 0 rfl) ?_
      refine lv_iconst (v := 0) S.1 S.2.1 dX5_move_22 rfl ?_
      refine lv_iload_n S.1 S.2.1 dX5_move_23 rfl (lv_at hl 1 rfl) ?_
      refine lv_iload_n S.1 S.2.1 dX5_move_24 rfl (lv_at hl 2 rfl) ?_
      refine mcVri (As := [.int (0 : Int32), .int x1, .int x2]) (rest := []) S hw h (fun u h1 => met_mayMove l E A (0 : Int32) x1 x2 w1 u h1) (cw_mayMove S.2.2.2.2 rfl rfl ⟨Nat.le_of_ble_eq_true rfl, Nat.le_of_ble_eq_true rfl⟩) rfl hl.1 rfl (lv_room (Nat.le_of_ble_eq_true rfl)) dX5_move_25 (fun r4 H locs h hw => ?_)
      refine lv_if_ne (tgt := 33) S.1 S.2.1 dX5_move_28 rfl (fun c5 => ?_) (fun c5 => ?_)
      · replace h := if_f c5 h
        refine lv_aload_n S.1 S.2.1 dX5_move_33 rfl (lv_at hl 0 rfl) ?_
        refine mcVv (As := []) (rest := []) S hw h (fun u h1 => met_keeps l E A  w1 u h1) (cw_keeps S.2.2.2.2 rfl rfl ⟨Nat.le_of_ble_eq_true rfl, Nat.le_of_ble_eq_true rfl⟩) rfl hl.1 rfl (lv_room (Nat.le_of_ble_eq_true rfl)) dX5_move_34 (fun w6 H locs h hw => ?_)
        refine lv_aload_n S.1 S.2.1 dX5_move_37 rfl (lv_at hl 0 rfl) ?_
        refine mg25 S hw dX5_move_38 ?_
        refine lv_iconst (v := 1) S.1 S.2.1 dX5_move_41 rfl ?_
        refine lv_iload_n S.1 S.2.1 dX5_move_42 rfl (lv_at hl 1 rfl) ?_
        refine lv_iadd S.1 S.2.1 dX5_move_43 ?_
        refine lv_iload_n S.1 S.2.1 dX5_move_44 rfl (lv_at hl 2 rfl) ?_
        refine ms25 S hw dX5_move_45 h (fun w7 H locs h hw => ?_)
        refine lv_iconst (v := 1) S.1 S.2.1 dX5_move_46 rfl ?_
        exact m_zret S hr hlocks hw rfl (so2 h) dX5_move_47
      · replace h := if_t c5 h
        refine lv_iconst (v := 0) S.1 S.2.1 dX5_move_31 rfl ?_
        exact m_zret S hr hlocks hw rfl (so2 h) dX5_move_32
