/-! walks of the Model, printed by gen/model.py -/
set_option maxRecDepth 100000
def M_errands (x1 : Int32) (x2 : Int32) (w : MS) : Option (Int32 × MS) :=
  bdp (wI w 0 0 (0 : Int32)) fun w1 =>
  if (M_isTenant x1 w1) = 0 then
    some ((-1 : Int32), w1)
  else
    if (M_within x2 (0 : Int32) (M_errandsMany w1)) = 0 then
      some ((-1 : Int32), w1)
    else
      bdp (wI w1 31 0 (-1 : Int32)) fun w4 =>
      bd1 (M_orders 8 x1 (0 : Int32) (0 : Int32) w4) fun w5 =>
      if x2 = 0 then
        some (rI w5 31 0, w5)
      else
        bd1 (rA w5 30 6 (x2 - (1 : Int32))) fun v7 =>
        some (v7, w5)
set_option maxRecDepth 100000 in
set_option maxHeartbeats 4000000 in
theorem met_errands (l : Launch) (E : mE) (A : Nat → Prop)  (x1 : Int32) (x2 : Int32) (w : MS) (res : Int32 × MS) (h : M_errands x1 x2 w = some res) : Met l yX5_errands (ws_ yX5_errands cX5_errands 3 (some .int)) rm_errands (mPc E A [.ref (mM E), .int x1, .int x2] w) (mQi E A res.1 res.2) 0 0 A := by
  refine mMet (by decide) rfl (Nat.le_of_ble_eq_true rfl) ?_
  intro p e s m below meth c S hr hlocks H ls hw hl
  replace hl : lv_has ls 3 [(0, .ref (mM E)), (1, .int x1), (2, .int x2)] := hl
  unfold M_errands at h
  refine lv_aload_n S.1 S.2.1 dX5_errands_0 rfl (lv_at hl 0 rfl) ?_
  refine lv_iconst (v := 0) S.1 S.2.1 dX5_errands_1 rfl ?_
  refine mp0 S hw dX5_errands_2 h (fun w1 H locs h hw => ?_)
  refine lv_aload_n S.1 S.2.1 dX5_errands_5 rfl (lv_at hl 0 rfl) ?_
  refine lv_iload_n S.1 S.2.1 dX5_errands_6 rfl (lv_at hl 1 rfl) ?_
  refine mcVti (As := [.int x1]) (rest := []) S hw (met_isTenant l E A x1 w1 _ rfl) (cw_isTenant S.2.2.2.2 rfl rfl ⟨Nat.le_of_ble_eq_true rfl, Nat.le_of_ble_eq_true rfl⟩) rfl hl.1 rfl (lv_room (Nat.le_of_ble_eq_true rfl)) dX5_errands_7 (fun H locs hw => ?_)
  refine lv_if_eq (tgt := 25) S.1 S.2.1 dX5_errands_10 rfl (fun c2 => ?_) (fun c2 => ?_)
  · replace h := if_t c2 h
    refine lv_iconst (v := -1) S.1 S.2.1 dX5_errands_25 rfl ?_
    exact m_iret S hr hlocks hw (so2 h) dX5_errands_26
  · replace h := if_f c2 h
    refine lv_iload_n S.1 S.2.1 dX5_errands_13 rfl (lv_at hl 2 rfl) ?_
    refine lv_iconst (v := 0) S.1 S.2.1 dX5_errands_14 rfl ?_
    refine lv_aload_n S.1 S.2.1 dX5_errands_15 rfl (lv_at hl 0 rfl) ?_
    refine mcVti (As := []) (rest := [.int (0 : Int32), .int x2]) S hw (met_errandsMany l E A  w1 _ rfl) (cw_errandsMany S.2.2.2.2 rfl rfl ⟨Nat.le_of_ble_eq_true rfl, Nat.le_of_ble_eq_true rfl⟩) rfl hl.1 rfl (lv_room (Nat.le_of_ble_eq_true rfl)) dX5_errands_16 (fun H locs hw => ?_)
    refine mcSti (As := [.int x2, .int (0 : Int32), .int (M_errandsMany w1)]) (rest := []) S hw (met_within l E A x2 (0 : Int32) (M_errandsMany w1) w1 _ rfl) (cw_within S.2.2.2.2 rfl rfl ⟨Nat.le_of_ble_eq_true rfl, Nat.le_of_ble_eq_true rfl⟩) rfl hl.1 rfl (lv_room (Nat.le_of_ble_eq_true rfl)) dX5_errands_19 (fun H locs hw => ?_)
    refine lv_if_ne (tgt := 27) S.1 S.2.1 dX5_errands_22 rfl (fun c3 => ?_) (fun c3 => ?_)
    · replace h := if_f c3 h
      refine lv_aload_n S.1 S.2.1 dX5_errands_27 rfl (lv_at hl 0 rfl) ?_
      refine lv_iconst (v := -1) S.1 S.2.1 dX5_errands_28 rfl ?_
      refine mp31 S hw dX5_errands_29 h (fun w4 H locs h hw => ?_)
      refine lv_aload_n S.1 S.2.1 dX5_errands_32 rfl (lv_at hl 0 rfl) ?_
      refine lv_iload_n S.1 S.2.1 dX5_errands_33 rfl (lv_at hl 1 rfl) ?_
      refine lv_iconst (v := 0) S.1 S.2.1 dX5_errands_34 rfl ?_
      refine lv_iconst (v := 0) S.1 S.2.1 dX5_errands_35 rfl ?_
      refine mcVv (As := [.int x1, .int (0 : Int32), .int (0 : Int32)]) (rest := []) S hw h (fun u h1 => met_orders l E A 8 x1 (0 : Int32) (0 : Int32) w4 u h1) (cw_orders S.2.2.2.2 rfl rfl ⟨Nat.le_of_ble_eq_true rfl, Nat.le_of_ble_eq_true rfl⟩) rfl hl.1 rfl (lv_room (Nat.le_of_ble_eq_true rfl)) dX5_errands_36 (fun w5 H locs h hw => ?_)
      refine lv_iload_n S.1 S.2.1 dX5_errands_39 rfl (lv_at hl 2 rfl) ?_
      refine lv_if_ne (tgt := 50) S.1 S.2.1 dX5_errands_40 rfl (fun c6 => ?_) (fun c6 => ?_)
      · replace h := if_f c6 h
        refine lv_aload_n S.1 S.2.1 dX5_errands_50 rfl (lv_at hl 0 rfl) ?_
        refine mg30 S hw dX5_errands_51 ?_
        refine lv_iload_n S.1 S.2.1 dX5_errands_54 rfl (lv_at hl 2 rfl) ?_
        refine lv_iconst (v := 1) S.1 S.2.1 dX5_errands_55 rfl ?_
        refine lv_isub S.1 S.2.1 dX5_errands_56 ?_
        refine ml30 S hw dX5_errands_57 h (fun v7 h => ?_)
        exact m_iret S hr hlocks hw (so2 h) dX5_errands_58
      · replace h := if_t c6 h
        refine lv_aload_n S.1 S.2.1 dX5_errands_43 rfl (lv_at hl 0 rfl) ?_
        refine mg31 S hw dX5_errands_44 ?_
        refine lv_goto (tgt := 58) S.1 S.2.1 dX5_errands_47 rfl ?_
        exact m_iret S hr hlocks hw (so2 h) dX5_errands_58
    · replace h := if_t c3 h
      refine lv_iconst (v := -1) S.1 S.2.1 dX5_errands_25 rfl ?_
      exact m_iret S hr hlocks hw (so2 h) dX5_errands_26
def M_wishOf_p85 (t0 : Int32) (t1 : Int32) (w : MS) : Option (Int32 × MS) :=
  bdp (t1 - t0) fun y10 =>
  if 0 ≤ (rI w 10 7) then
    bd2 (M_worthAt (rI w 10 7) w) fun r13 w12 =>
    some (r13, w12)
  else
    some (y10, w)
def M_wishOf (x1 : Int32) (x2 : Int32) (w : MS) : Option (Int32 × MS) :=
  bd1 (M_roomOf x2 (2 : Int32) w) fun r1 =>
  bdp (wI w 23 1 r1) fun w2 =>
  bd1 (M_tenantOf x1 (0 : Int32) w2) fun r3 =>
  bdp (wI w2 23 2 r3) fun w4 =>
  bd1 (M_roomOf x2 (0 : Int32) w4) fun r5 =>
  bdp (wI w4 23 3 r5) fun w6 =>
  bd1 (M_roomOf x2 (1 : Int32) w6) fun r7 =>
  bdp (wI w6 23 4 r7) fun w8 =>
  if (rI w8 23 2) = (2 : Int32) then
    M_wishOf_p85 (0 : Int32) (((0 : Int32) - ((rI w8 23 4) * (3 : Int32))) - (rI w8 23 1)) w8
  else
    M_wishOf_p85 (rI w8 23 3) (((0 : Int32) - ((rI w8 23 4) * (3 : Int32))) - (rI w8 23 1)) w8
set_option maxRecDepth 100000 in
set_option maxHeartbeats 4000000 in
theorem wk_M_wishOf_p85 {p : Program} {l : Launch} {e : Env} {s : State} {m : MethodId} {args : Array Value} {below : List Frame} {meth : Method} {c : Code} {E : mE} {A : Nat → Prop} (S : CallFix p m c cX5_wishOf 4 s args lw_all RX5) (hr : meth.sig.returnType = (some .int)) (hlocks : meth.locks = false) {res : Int32 × MS}  : ∀ (t0 : Int32) (t1 : Int32) (w : MS) (H : Heap) (locs : List Loc) (ls : Array Slot), M_wishOf_p85 t0 t1 w = some res → mH E A s w H locs → lv_has ls 4 [(0, .ref (mM E))] → W p l e rm_wishOf s m args below meth c H locs 0 0 (MQ below (mQi E A res.1 res.2) args s 0 0 A) (F0 m 85 ls [.int t0, .int t1]) := by
  intro t0 t1 w H locs ls h hw hl
  unfold M_wishOf_p85 at h
  refine lv_isub S.1 S.2.1 dX5_wishOf_85 ?_
  refine lv_topi (fun y10 ey => ?_)
  replace h := bdp_e ey h
  refine lv_istore_n (lv' := [(3, .int y10), (0, .ref (mM E))]) S.1 S.2.1 dX5_wishOf_86 rfl hl (by decide) rfl (fun ls hl => ?_)
  refine lv_aload_n S.1 S.2.1 dX5_wishOf_87 rfl (lv_at hl 1 rfl) ?_
  refine mg10 S hw dX5_wishOf_88 ?_
  refine lv_bipush (v := 7) S.1 S.2.1 dX5_wishOf_91 rfl ?_
  refine mlc10 (j := 7) S hw dX5_wishOf_93 (by decide) ?_
  refine lv_if_ge (tgt := 101) S.1 S.2.1 dX5_wishOf_94 rfl (fun c11 => ?_) (fun c11 => ?_)
  · replace h := if_t c11 h
    refine lv_aload_n S.1 S.2.1 dX5_wishOf_101 rfl (lv_at hl 1 rfl) ?_
    refine lv_aload_n S.1 S.2.1 dX5_wishOf_102 rfl (lv_at hl 1 rfl) ?_
    refine mg10 S hw dX5_wishOf_103 ?_
    refine lv_bipush (v := 7) S.1 S.2.1 dX5_wishOf_106 rfl ?_
    refine mlc10 (j := 7) S hw dX5_wishOf_108 (by decide) ?_
    refine mcVwi (As := [.int (rI w 10 7)]) (rest := []) S hw h (fun u h1 => met_worthAt l E A (rI w 10 7) w u h1) (cw_worthAt S.2.2.2.2 rfl rfl ⟨Nat.le_of_ble_eq_true rfl, Nat.le_of_ble_eq_true rfl⟩) rfl hl.1 rfl (lv_room (Nat.le_of_ble_eq_true rfl)) dX5_wishOf_109 (fun r13 w12 H locs h hw => ?_)
    exact m_iret S hr hlocks hw (so2 h) dX5_wishOf_112
  · replace h := if_f c11 h
    refine lv_iload_n S.1 S.2.1 dX5_wishOf_97 rfl (lv_at hl 0 rfl) ?_
    refine lv_goto (tgt := 112) S.1 S.2.1 dX5_wishOf_98 rfl ?_
    exact m_iret S hr hlocks hw (so2 h) dX5_wishOf_112
set_option maxRecDepth 100000 in
set_option maxHeartbeats 4000000 in
theorem met_wishOf (l : Launch) (E : mE) (A : Nat → Prop)  (x1 : Int32) (x2 : Int32) (w : MS) (res : Int32 × MS) (h : M_wishOf x1 x2 w = some res) : Met l yX5_wishOf (ws_ yX5_wishOf cX5_wishOf 4 (some .int)) rm_wishOf (mPc E A [.ref (mM E), .int x1, .int x2] w) (mQi E A res.1 res.2) 0 0 A := by
  refine mMet (by decide) rfl (Nat.le_of_ble_eq_true rfl) ?_
  intro p e s m below meth c S hr hlocks H ls hw hl
  replace hl : lv_has ls 4 [(0, .ref (mM E)), (1, .int x1), (2, .int x2)] := hl
  unfold M_wishOf at h
  refine lv_aload_n S.1 S.2.1 dX5_wishOf_0 rfl (lv_at hl 0 rfl) ?_
  refine mg23 S hw dX5_wishOf_1 ?_
  refine lv_iconst (v := 1) S.1 S.2.1 dX5_wishOf_4 rfl ?_
  refine lv_aload_n S.1 S.2.1 dX5_wishOf_5 rfl (lv_at hl 0 rfl) ?_
  refine lv_iload_n S.1 S.2.1 dX5_wishOf_6 rfl (lv_at hl 2 rfl) ?_
  refine lv_iconst (v := 2) S.1 S.2.1 dX5_wishOf_7 rfl ?_
  refine mcVri (As := [.int x2, .int (2 : Int32)]) (rest := [.int (1 : Int32), .ref (mAr E 23)]) S hw h (fun u h1 => met_roomOf l E A x2 (2 : Int32) w u h1) (cw_roomOf S.2.2.2.2 rfl rfl ⟨Nat.le_of_ble_eq_true rfl, Nat.le_of_ble_eq_true rfl⟩) rfl hl.1 rfl (lv_room (Nat.le_of_ble_eq_true rfl)) dX5_wishOf_8 (fun r1 H locs h hw => ?_)
  refine msc23 (j := 1) S hw dX5_wishOf_11 (by decide) h (fun w2 H locs h hw => ?_)
  refine lv_aload_n S.1 S.2.1 dX5_wishOf_12 rfl (lv_at hl 0 rfl) ?_
  refine mg23 S hw dX5_wishOf_13 ?_
  refine lv_iconst (v := 2) S.1 S.2.1 dX5_wishOf_16 rfl ?_
  refine lv_aload_n S.1 S.2.1 dX5_wishOf_17 rfl (lv_at hl 0 rfl) ?_
  refine lv_iload_n S.1 S.2.1 dX5_wishOf_18 rfl (lv_at hl 1 rfl) ?_
  refine lv_iconst (v := 0) S.1 S.2.1 dX5_wishOf_19 rfl ?_
  refine mcVri (As := [.int x1, .int (0 : Int32)]) (rest := [.int (2 : Int32), .ref (mAr E 23)]) S hw h (fun u h1 => met_tenantOf l E A x1 (0 : Int32) w2 u h1) (cw_tenantOf S.2.2.2.2 rfl rfl ⟨Nat.le_of_ble_eq_true rfl, Nat.le_of_ble_eq_true rfl⟩) rfl hl.1 rfl (lv_room (Nat.le_of_ble_eq_true rfl)) dX5_wishOf_20 (fun r3 H locs h hw => ?_)
  refine msc23 (j := 2) S hw dX5_wishOf_23 (by decide) h (fun w4 H locs h hw => ?_)
  refine lv_aload_n S.1 S.2.1 dX5_wishOf_24 rfl (lv_at hl 0 rfl) ?_
  refine mg23 S hw dX5_wishOf_25 ?_
  refine lv_iconst (v := 3) S.1 S.2.1 dX5_wishOf_28 rfl ?_
  refine lv_aload_n S.1 S.2.1 dX5_wishOf_29 rfl (lv_at hl 0 rfl) ?_
  refine lv_iload_n S.1 S.2.1 dX5_wishOf_30 rfl (lv_at hl 2 rfl) ?_
  refine lv_iconst (v := 0) S.1 S.2.1 dX5_wishOf_31 rfl ?_
  refine mcVri (As := [.int x2, .int (0 : Int32)]) (rest := [.int (3 : Int32), .ref (mAr E 23)]) S hw h (fun u h1 => met_roomOf l E A x2 (0 : Int32) w4 u h1) (cw_roomOf S.2.2.2.2 rfl rfl ⟨Nat.le_of_ble_eq_true rfl, Nat.le_of_ble_eq_true rfl⟩) rfl hl.1 rfl (lv_room (Nat.le_of_ble_eq_true rfl)) dX5_wishOf_32 (fun r5 H locs h hw => ?_)
  refine msc23 (j := 3) S hw dX5_wishOf_35 (by decide) h (fun w6 H locs h hw => ?_)
  refine lv_aload_n S.1 S.2.1 dX5_wishOf_36 rfl (lv_at hl 0 rfl) ?_
  refine mg23 S hw dX5_wishOf_37 ?_
  refine lv_iconst (v := 4) S.1 S.2.1 dX5_wishOf_40 rfl ?_
  refine lv_aload_n S.1 S.2.1 dX5_wishOf_41 rfl (lv_at hl 0 rfl) ?_
  refine lv_iload_n S.1 S.2.1 dX5_wishOf_42 rfl (lv_at hl 2 rfl) ?_
  refine lv_iconst (v := 1) S.1 S.2.1 dX5_wishOf_43 rfl ?_
  refine mcVri (As := [.int x2, .int (1 : Int32)]) (rest := [.int (4 : Int32), .ref (mAr E 23)]) S hw h (fun u h1 => met_roomOf l E A x2 (1 : Int32) w6 u h1) (cw_roomOf S.2.2.2.2 rfl rfl ⟨Nat.le_of_ble_eq_true rfl, Nat.le_of_ble_eq_true rfl⟩) rfl hl.1 rfl (lv_room (Nat.le_of_ble_eq_true rfl)) dX5_wishOf_44 (fun r7 H locs h hw => ?_)
  refine msc23 (j := 4) S hw dX5_wishOf_47 (by decide) h (fun w8 H locs h hw => ?_)
  refine lv_iconst (v := 0) S.1 S.2.1 dX5_wishOf_48 rfl ?_
  refine lv_aload_n S.1 S.2.1 dX5_wishOf_49 rfl (lv_at hl 0 rfl) ?_
  refine mg23 S hw dX5_wishOf_50 ?_
  refine lv_iconst (v := 4) S.1 S.2.1 dX5_wishOf_53 rfl ?_
  refine mlc23 (j := 4) S hw dX5_wishOf_54 (by decide) ?_
  refine lv_iconst (v := 3) S.1 S.2.1 dX5_wishOf_55 rfl ?_
  refine lv_imul S.1 S.2.1 dX5_wishOf_56 ?_
  refine lv_isub S.1 S.2.1 dX5_wishOf_57 ?_
  refine lv_aload_n S.1 S.2.1 dX5_wishOf_58 rfl (lv_at hl 0 rfl) ?_
  refine mg23 S hw dX5_wishOf_59 ?_
  refine lv_iconst (v := 1) S.1 S.2.1 dX5_wishOf_62 rfl ?_
  refine mlc23 (j := 1) S hw dX5_wishOf_63 (by decide) ?_
  refine lv_isub S.1 S.2.1 dX5_wishOf_64 ?_
  refine lv_aload_n S.1 S.2.1 dX5_wishOf_65 rfl (lv_at hl 0 rfl) ?_
  refine mg23 S hw dX5_wishOf_66 ?_
  refine lv_iconst (v := 2) S.1 S.2.1 dX5_wishOf_69 rfl ?_
  refine mlc23 (j := 2) S hw dX5_wishOf_70 (by decide) ?_
  refine lv_iconst (v := 2) S.1 S.2.1 dX5_wishOf_71 rfl ?_
  refine lv_icmp_ne (tgt := 79) S.1 S.2.1 dX5_wishOf_72 rfl (fun c9 => ?_) (fun c9 => ?_)
  · replace h := if_f c9 h
    refine lv_aload_n S.1 S.2.1 dX5_wishOf_79 rfl (lv_at hl 0 rfl) ?_
    refine mg23 S hw dX5_wishOf_80 ?_
    refine lv_iconst (v := 3) S.1 S.2.1 dX5_wishOf_83 rfl ?_
    refine mlc23 (j := 3) S hw dX5_wishOf_84 (by decide) ?_
    exact wk_M_wishOf_p85 S hr hlocks _ _ _ _ _ _ h hw (lv_sub hl [0] rfl)
  · replace h := if_t c9 h
    refine lv_iconst (v := 0) S.1 S.2.1 dX5_wishOf_75 rfl ?_
    refine lv_goto (tgt := 85) S.1 S.2.1 dX5_wishOf_76 rfl ?_
    exact wk_M_wishOf_p85 S hr hlocks _ _ _ _ _ _ h hw (lv_sub hl [0] rfl)
def M_nextAsked_p59 (k4 : Int32 → Int32 → Int32 → MS → Option Int32) (x1 : Int32) (x2 : Int32) (x3 : Int32) (t0 : Int32) (w : MS) : Option Int32 :=
  if t0 = 0 then
    k4 x1 x2 (x3 + (1 : Int32)) w
  else
    k4 x1 x3 (x3 + (1 : Int32)) w
def M_nextAsked_p4 : Nat → Int32 → Int32 → Int32 → MS → Option Int32
  | 0, _, _, _, _ => none
  | n + 1, x1, x2, x3, w =>
    if (M_rooms w) ≤ x3 then
      some x2
    else
      bd1 (rA w 34 6 x1) fun v2 =>
      if ((v2 >>> (x3 &&& 31)) &&& (1 : Int32)) = 0 then
        if x2 < 0 then
          M_nextAsked_p59 (M_nextAsked_p4 n) x1 x2 x3 (1 : Int32) w
        else
          bd1 (rA w 32 36 (((6 : Int32) * x1) + x3)) fun v6 =>
          bd1 (rA w 32 36 (((6 : Int32) * x1) + x2)) fun v7 =>
          if v6 ≤ v7 then
            M_nextAsked_p59 (M_nextAsked_p4 n) x1 x2 x3 (0 : Int32) w
          else
            M_nextAsked_p59 (M_nextAsked_p4 n) x1 x2 x3 (1 : Int32) w
      else
        M_nextAsked_p59 (M_nextAsked_p4 n) x1 x2 x3 (0 : Int32) w
def M_nextAsked (x1 : Int32) (w : MS) : Option Int32 :=
  M_nextAsked_p4 FU x1 (-1 : Int32) (0 : Int32) w
set_option maxRecDepth 100000 in
set_option maxHeartbeats 4000000 in
theorem wk_M_nextAsked_p59 {p : Program} {l : Launch} {e : Env} {s : State} {m : MethodId} {args : Array Value} {below : List Frame} {meth : Method} {c : Code} {E : mE} {A : Nat → Prop} (S : CallFix p m c cX5_nextAsked 5 s args lw_all RX5) (hr : meth.sig.returnType = (some .int)) (hlocks : meth.locks = false) {res : Int32}  {k4 : Int32 → Int32 → Int32 → MS → Option Int32} (hk4 : ∀ (x1 : Int32) (x2 : Int32) (x3 : Int32) (w : MS) (H : Heap) (locs : List Loc) (ls : Array Slot), k4 x1 x2 x3 w = some res → mH E A s w H locs → lv_has ls 5 [(0, .ref (mM E)), (1, .int x1), (2, .int x2), (3, .int x3)] → W p l e rm_nextAsked s m args below meth c H locs 0 0 (MQ below (mQi E A res w) args s 0 0 A) (F0 m 4 ls [])) : ∀ (x1 : Int32) (x2 : Int32) (x3 : Int32) (t0 : Int32) (w : MS) (H : Heap) (locs : List Loc) (ls : Array Slot), M_nextAsked_p59 k4 x1 x2 x3 t0 w = some res → mH E A s w H locs → lv_has ls 5 [(0, .ref (mM E)), (1, .int x1), (2, .int x2), (3, .int x3)] → W p l e rm_nextAsked s m args below meth c H locs 0 0 (MQ below (mQi E A res w) args s 0 0 A) (F0 m 59 ls [.int t0]) := by
  intro x1 x2 x3 t0 w H locs ls h hw hl
  unfold M_nextAsked_p59 at h
  refine lv_istore (lv' := [(4, .int t0), (0, .ref (mM E)), (1, .int x1), (2, .int x2), (3, .int x3)]) S.1 S.2.1 dX5_nextAsked_59 hl (by decide) rfl (fun ls hl => ?_)
  refine lv_iload S.1 S.2.1 dX5_nextAsked_61 (lv_at hl 0 rfl) ?_
  refine lv_if_eq (tgt := 70) S.1 S.2.1 dX5_nextAsked_63 rfl (fun c4 => ?_) (fun c4 => ?_)
  · replace h := if_t c4 h
    refine lv_iload_n S.1 S.2.1 dX5_nextAsked_70 rfl (lv_at hl 3 rfl) ?_
    refine lv_istore_n (lv' := [(2, .int x2), (4, .int t0), (0, .ref (mM E)), (1, .int x1), (3, .int x3)]) S.1 S.2.1 dX5_nextAsked_71 rfl hl (by decide) rfl (fun ls hl => ?_)
    refine lv_iinc (v := x3 + (1 : Int32)) (lv' := [(3, .int (x3 + (1 : Int32))), (2, .int x2), (4, .int t0), (0, .ref (mM E)), (1, .int x1)]) S.1 S.2.1 dX5_nextAsked_72 hl (k := 4) rfl rfl (by decide) rfl (fun ls hl => ?_)
    refine lv_goto (tgt := 4) S.1 S.2.1 dX5_nextAsked_75 rfl ?_
    exact hk4 _ _ _ _ _ _ _ h hw (lv_sub hl [3, 4, 1, 0] rfl)
  · replace h := if_f c4 h
    refine lv_iload_n S.1 S.2.1 dX5_nextAsked_66 rfl (lv_at hl 4 rfl) ?_
    refine lv_goto (tgt := 71) S.1 S.2.1 dX5_nextAsked_67 rfl ?_
    refine lv_istore_n (lv' := [(2, .int x3), (4, .int t0), (0, .ref (mM E)), (1, .int x1), (3, .int x3)]) S.1 S.2.1 dX5_nextAsked_71 rfl hl (by decide) rfl (fun ls hl => ?_)
    refine lv_iinc (v := x3 + (1 : Int32)) (lv' := [(3, .int (x3 + (1 : Int32))), (2, .int x3), (4, .int t0), (0, .ref (mM E)), (1, .int x1)]) S.1 S.2.1 dX5_nextAsked_72 hl (k := 4) rfl rfl (by decide) rfl (fun ls hl => ?_)
    refine lv_goto (tgt := 4) S.1 S.2.1 dX5_nextAsked_75 rfl ?_
    exact hk4 _ _ _ _ _ _ _ h hw (lv_sub hl [3, 4, 1, 0] rfl)
set_option maxRecDepth 100000 in
set_option maxHeartbeats 4000000 in
theorem wk_M_nextAsked_p4 {p : Program} {l : Launch} {e : Env} {s : State} {m : MethodId} {args : Array Value} {below : List Frame} {meth : Method} {c : Code} {E : mE} {A : Nat → Prop} (S : CallFix p m c cX5_nextAsked 5 s args lw_all RX5) (hr : meth.sig.returnType = (some .int)) (hlocks : meth.locks = false) {res : Int32}  : ∀ n : Nat, ∀ (x1 : Int32) (x2 : Int32) (x3 : Int32) (w : MS) (H : Heap) (locs : List Loc) (ls : Array Slot), M_nextAsked_p4 n x1 x2 x3 w = some res → mH E A s w H locs → lv_has ls 5 [(0, .ref (mM E)), (1, .int x1), (2, .int x2), (3, .int x3)] → W p l e rm_nextAsked s m args below meth c H locs 0 0 (MQ below (mQi E A res w) args s 0 0 A) (F0 m 4 ls []) := by
  intro n
  induction n with
  | zero => intro x1 x2 x3 w H locs ls h; cases (show (none : Option Int32) = some res from h)
  | succ n ih =>
    intro x1 x2 x3 w H locs ls h hw hl
    rw [M_nextAsked_p4] at h
    refine lv_iload_n S.1 S.2.1 dX5_nextAsked_4 rfl (lv_at hl 3 rfl) ?_
    refine lv_aload_n S.1 S.2.1 dX5_nextAsked_5 rfl (lv_at hl 0 rfl) ?_
    refine mcVti (As := []) (rest := [.int x3]) S hw (met_rooms l E A  w _ rfl) (cw_rooms S.2.2.2.2 rfl rfl ⟨Nat.le_of_ble_eq_true rfl, Nat.le_of_ble_eq_true rfl⟩) rfl hl.1 rfl (lv_room (Nat.le_of_ble_eq_true rfl)) dX5_nextAsked_6 (fun H locs hw => ?_)
    refine lv_icmp_ge (tgt := 78) S.1 S.2.1 dX5_nextAsked_9 rfl (fun c1 => ?_) (fun c1 => ?_)
    · replace h := if_t c1 h
      refine lv_iload_n S.1 S.2.1 dX5_nextAsked_78 rfl (lv_at hl 2 rfl) ?_
      exact m_iret S hr hlocks hw ⟨so1 h, rfl⟩ dX5_nextAsked_79
    · replace h := if_f c1 h
      refine lv_aload_n S.1 S.2.1 dX5_nextAsked_12 rfl (lv_at hl 0 rfl) ?_
      refine mg34 S hw dX5_nextAsked_13 ?_
      refine lv_iload_n S.1 S.2.1 dX5_nextAsked_16 rfl (lv_at hl 1 rfl) ?_
      refine ml34 S hw dX5_nextAsked_17 h (fun v2 h => ?_)
      refine lv_iload_n S.1 S.2.1 dX5_nextAsked_18 rfl (lv_at hl 3 rfl) ?_
      refine lv_ishr S.1 S.2.1 dX5_nextAsked_19 ?_
      refine lv_iconst (v := 1) S.1 S.2.1 dX5_nextAsked_20 rfl ?_
      refine lv_iand S.1 S.2.1 dX5_nextAsked_21 ?_
      refine lv_if_ne (tgt := 58) S.1 S.2.1 dX5_nextAsked_22 rfl (fun c3 => ?_) (fun c3 => ?_)
      · replace h := if_f c3 h
        refine lv_iconst (v := 0) S.1 S.2.1 dX5_nextAsked_58 rfl ?_
        exact wk_M_nextAsked_p59 S hr hlocks ih _ _ _ _ _ _ _ _ h hw (lv_sub hl [0, 1, 2, 3] rfl)
      · replace h := if_t c3 h
        refine lv_iload_n S.1 S.2.1 dX5_nextAsked_25 rfl (lv_at hl 2 rfl) ?_
        refine lv_if_lt (tgt := 54) S.1 S.2.1 dX5_nextAsked_26 rfl (fun c5 => ?_) (fun c5 => ?_)
        · replace h := if_t c5 h
          refine lv_iconst (v := 1) S.1 S.2.1 dX5_nextAsked_54 rfl ?_
          refine lv_goto (tgt := 59) S.1 S.2.1 dX5_nextAsked_55 rfl ?_
          exact wk_M_nextAsked_p59 S hr hlocks ih _ _ _ _ _ _ _ _ h hw (lv_sub hl [0, 1, 2, 3] rfl)
        · replace h := if_f c5 h
          refine lv_aload_n S.1 S.2.1 dX5_nextAsked_29 rfl (lv_at hl 0 rfl) ?_
          refine mg32 S hw dX5_nextAsked_30 ?_
          refine lv_bipush (v := 6) S.1 S.2.1 dX5_nextAsked_33 rfl ?_
          refine lv_iload_n S.1 S.2.1 dX5_nextAsked_35 rfl (lv_at hl 1 rfl) ?_
          refine lv_imul S.1 S.2.1 dX5_nextAsked_36 ?_
          refine lv_iload_n S.1 S.2.1 dX5_nextAsked_37 rfl (lv_at hl 3 rfl) ?_
          refine lv_iadd S.1 S.2.1 dX5_nextAsked_38 ?_
          refine ml32 S hw dX5_nextAsked_39 h (fun v6 h => ?_)
          refine lv_aload_n S.1 S.2.1 dX5_nextAsked_40 rfl (lv_at hl 0 rfl) ?_
          refine mg32 S hw dX5_nextAsked_41 ?_
          refine lv_bipush (v := 6) S.1 S.2.1 dX5_nextAsked_44 rfl ?_
          refine lv_iload_n S.1 S.2.1 dX5_nextAsked_46 rfl (lv_at hl 1 rfl) ?_
          refine lv_imul S.1 S.2.1 dX5_nextAsked_47 ?_
          refine lv_iload_n S.1 S.2.1 dX5_nextAsked_48 rfl (lv_at hl 2 rfl) ?_
          refine lv_iadd S.1 S.2.1 dX5_nextAsked_49 ?_
          refine ml32 S hw dX5_nextAsked_50 h (fun v7 h => ?_)
          refine lv_icmp_le (tgt := 58) S.1 S.2.1 dX5_nextAsked_51 rfl (fun c8 => ?_) (fun c8 => ?_)
          · replace h := if_t c8 h
            refine lv_iconst (v := 0) S.1 S.2.1 dX5_nextAsked_58 rfl ?_
            exact wk_M_nextAsked_p59 S hr hlocks ih _ _ _ _ _ _ _ _ h hw (lv_sub hl [0, 1, 2, 3] rfl)
          · replace h := if_f c8 h
            refine lv_iconst (v := 1) S.1 S.2.1 dX5_nextAsked_54 rfl ?_
            refine lv_goto (tgt := 59) S.1 S.2.1 dX5_nextAsked_55 rfl ?_
            exact wk_M_nextAsked_p59 S hr hlocks ih _ _ _ _ _ _ _ _ h hw (lv_sub hl [0, 1, 2, 3] rfl)
set_option maxRecDepth 100000 in
set_option maxHeartbeats 4000000 in
theorem met_nextAsked (l : Launch) (E : mE) (A : Nat → Prop)  (x1 : Int32) (w : MS) (res : Int32) (h : M_nextAsked x1 w = some res) : Met l yX5_nextAsked (ws_ yX5_nextAsked cX5_nextAsked 5 (some .int)) rm_nextAsked (mPc E A [.ref (mM E), .int x1] w) (mQi E A res w) 0 0 A := by
  refine mMet (by decide) rfl (Nat.le_of_ble_eq_true rfl) ?_
  intro p e s m below meth c S hr hlocks H ls hw hl
  replace hl : lv_has ls 5 [(0, .ref (mM E)), (1, .int x1)] := hl
  unfold M_nextAsked at h
  refine lv_iconst (v := -1) S.1 S.2.1 dX5_nextAsked_0 rfl ?_
  refine lv_istore_n (lv' := [(2, .int (-1 : Int32)), (0, .ref (mM E)), (1, .int x1)]) S.1 S.2.1 dX5_nextAsked_1 rfl hl (by decide) rfl (fun ls hl => ?_)
  refine lv_iconst (v := 0) S.1 S.2.1 dX5_nextAsked_2 rfl ?_
  refine lv_istore_n (lv' := [(3, .int (0 : Int32)), (2, .int (-1 : Int32)), (0, .ref (mM E)), (1, .int x1)]) S.1 S.2.1 dX5_nextAsked_3 rfl hl (by decide) rfl (fun ls hl => ?_)
  exact wk_M_nextAsked_p4 S hr hlocks FU _ _ _ _ _ _ _ h hw (lv_sub hl [2, 3, 1, 0] rfl)
def M_keeperOf_p4 : Nat → Int32 → Int32 → Int32 → MS → Option Int32
  | 0, _, _, _, _ => none
  | n + 1, x1, x2, x3, w =>
    if (M_tenants w) ≤ x3 then
      some x2
    else
      bd1 (rA w 33 6 x3) fun v2 =>
      if v2 = x1 then
        (M_keeperOf_p4 n) x1 x3 (x3 + (1 : Int32)) w
      else
        (M_keeperOf_p4 n) x1 x2 (x3 + (1 : Int32)) w
def M_keeperOf (x1 : Int32) (w : MS) : Option Int32 :=
  M_keeperOf_p4 FU x1 (-1 : Int32) (0 : Int32) w
set_option maxRecDepth 100000 in
set_option maxHeartbeats 4000000 in
theorem wk_M_keeperOf_p4 {p : Program} {l : Launch} {e : Env} {s : State} {m : MethodId} {args : Array Value} {below : List Frame} {meth : Method} {c : Code} {E : mE} {A : Nat → Prop} (S : CallFix p m c cX5_keeperOf 4 s args lw_all RX5) (hr : meth.sig.returnType = (some .int)) (hlocks : meth.locks = false) {res : Int32}  : ∀ n : Nat, ∀ (x1 : Int32) (x2 : Int32) (x3 : Int32) (w : MS) (H : Heap) (locs : List Loc) (ls : Array Slot), M_keeperOf_p4 n x1 x2 x3 w = some res → mH E A s w H locs → lv_has ls 4 [(0, .ref (mM E)), (1, .int x1), (2, .int x2), (3, .int x3)] → W p l e rm_keeperOf s m args below meth c H locs 0 0 (MQ below (mQi E A res w) args s 0 0 A) (F0 m 4 ls []) := by
  intro n
  induction n with
  | zero => intro x1 x2 x3 w H locs ls h; cases (show (none : Option Int32) = some res from h)
  | succ n ih =>
    intro x1 x2 x3 w H locs ls h hw hl
    rw [M_keeperOf_p4] at h
    refine lv_iload_n S.1 S.2.1 dX5_keeperOf_4 rfl (lv_at hl 3 rfl) ?_
    refine lv_aload_n S.1 S.2.1 dX5_keeperOf_5 rfl (lv_at hl 0 rfl) ?_
    refine mcVti (As := []) (rest := [.int x3]) S hw (met_tenants l E A  w _ rfl) (cw_tenants S.2.2.2.2 rfl rfl ⟨Nat.le_of_ble_eq_true rfl, Nat.le_of_ble_eq_true rfl⟩) rfl hl.1 rfl (lv_room (Nat.le_of_ble_eq_true rfl)) dX5_keeperOf_6 (fun H locs hw => ?_)
    refine lv_icmp_ge (tgt := 34) S.1 S.2.1 dX5_keeperOf_9 rfl (fun c1 => ?_) (fun c1 => ?_)
    · replace h := if_t c1 h
      refine lv_iload_n S.1 S.2.1 dX5_keeperOf_34 rfl (lv_at hl 2 rfl) ?_
      exact m_iret S hr hlocks hw ⟨so1 h, rfl⟩ dX5_keeperOf_35
    · replace h := if_f c1 h
      refine lv_aload_n S.1 S.2.1 dX5_keeperOf_12 rfl (lv_at hl 0 rfl) ?_
      refine mg33 S hw dX5_keeperOf_13 ?_
      refine lv_iload_n S.1 S.2.1 dX5_keeperOf_16 rfl (lv_at hl 3 rfl) ?_
      refine ml33 S hw dX5_keeperOf_17 h (fun v2 h => ?_)
      refine lv_iload_n S.1 S.2.1 dX5_keeperOf_18 rfl (lv_at hl 1 rfl) ?_
      refine lv_icmp_ne (tgt := 26) S.1 S.2.1 dX5_keeperOf_19 rfl (fun c3 => ?_) (fun c3 => ?_)
      · replace h := if_f c3 h
        refine lv_iload_n S.1 S.2.1 dX5_keeperOf_26 rfl (lv_at hl 2 rfl) ?_
        refine lv_istore_n (lv' := [(2, .int x2), (0, .ref (mM E)), (1, .int x1), (3, .int x3)]) S.1 S.2.1 dX5_keeperOf_27 rfl hl (by decide) rfl (fun ls hl => ?_)
        refine lv_iinc (v := x3 + (1 : Int32)) (lv' := [(3, .int (x3 + (1 : Int32))), (2, .int x2), (0, .ref (mM E)), (1, .int x1)]) S.1 S.2.1 dX5_keeperOf_28 hl (k := 3) rfl rfl (by decide) rfl (fun ls hl => ?_)
        refine lv_goto (tgt := 4) S.1 S.2.1 dX5_keeperOf_31 rfl ?_
        exact ih _ _ _ _ _ _ _ h hw (lv_sub hl [2, 3, 1, 0] rfl)
      · replace h := if_t c3 h
        refine lv_iload_n S.1 S.2.1 dX5_keeperOf_22 rfl (lv_at hl 3 rfl) ?_
        refine lv_goto (tgt := 27) S.1 S.2.1 dX5_keeperOf_23 rfl ?_
        refine lv_istore_n (lv' := [(2, .int x3), (0, .ref (mM E)), (1, .int x1), (3, .int x3)]) S.1 S.2.1 dX5_keeperOf_27 rfl hl (by decide) rfl (fun ls hl => ?_)
        refine lv_iinc (v := x3 + (1 : Int32)) (lv' := [(3, .int (x3 + (1 : Int32))), (2, .int x3), (0, .ref (mM E)), (1, .int x1)]) S.1 S.2.1 dX5_keeperOf_28 hl (k := 3) rfl rfl (by decide) rfl (fun ls hl => ?_)
        refine lv_goto (tgt := 4) S.1 S.2.1 dX5_keeperOf_31 rfl ?_
        exact ih _ _ _ _ _ _ _ h hw (lv_sub hl [2, 3, 1, 0] rfl)
set_option maxRecDepth 100000 in
set_option maxHeartbeats 4000000 in
theorem met_keeperOf (l : Launch) (E : mE) (A : Nat → Prop)  (x1 : Int32) (w : MS) (res : Int32) (h : M_keeperOf x1 w = some res) : Met l yX5_keeperOf (ws_ yX5_keeperOf cX5_keeperOf 4 (some .int)) rm_keeperOf (mPc E A [.ref (mM E), .int x1] w) (mQi E A res w) 0 0 A := by
  refine mMet (by decide) rfl (Nat.le_of_ble_eq_true rfl) ?_
  intro p e s m below meth c S hr hlocks H ls hw hl
  replace hl : lv_has ls 4 [(0, .ref (mM E)), (1, .int x1)] := hl
  unfold M_keeperOf at h
  refine lv_iconst (v := -1) S.1 S.2.1 dX5_keeperOf_0 rfl ?_
  refine lv_istore_n (lv' := [(2, .int (-1 : Int32)), (0, .ref (mM E)), (1, .int x1)]) S.1 S.2.1 dX5_keeperOf_1 rfl hl (by decide) rfl (fun ls hl => ?_)
  refine lv_iconst (v := 0) S.1 S.2.1 dX5_keeperOf_2 rfl ?_
  refine lv_istore_n (lv' := [(3, .int (0 : Int32)), (2, .int (-1 : Int32)), (0, .ref (mM E)), (1, .int x1)]) S.1 S.2.1 dX5_keeperOf_3 rfl hl (by decide) rfl (fun ls hl => ?_)
  exact wk_M_keeperOf_p4 S hr hlocks FU _ _ _ _ _ _ _ h hw (lv_sub hl [2, 3, 1, 0] rfl)
def M_asksOnce_p100 (x1 : Int32) (x2 : Int32) (x3 : Int32) (t0 : Int32) (w : MS) : Option (Int32 × MS) :=
  if t0 = 0 then
    some ((1 : Int32), w)
  else
    bd1 (wA w 33 6 x1 x2) fun w9 =>
    if x3 < 0 then
      some ((1 : Int32), w9)
    else
      bd1 (wA w9 33 6 x3 (-1 : Int32)) fun w11 =>
      some ((1 : Int32), w11)
def M_asksOnce_p31 (x1 : Int32) (t0 : Int32) (w : MS) : Option (Int32 × MS) :=
  if 0 ≤ t0 then
    bd1 (rA w 34 6 x1) fun v4 =>
    bd1 (wA w 34 6 x1 (v4 ||| ((1 : Int32) <<< (t0 &&& 31)))) fun w5 =>
    bd1 (M_keeperOf t0 w5) fun r6 =>
    if r6 < 0 then
      M_asksOnce_p100 x1 t0 r6 (1 : Int32) w5
    else
      bd1 (M_tenantOf x1 (1 : Int32) w5) fun r12 =>
      bd1 (M_tenantOf r6 (1 : Int32) w5) fun r13 =>
      if r13 < r12 then
        M_asksOnce_p100 x1 t0 r6 (1 : Int32) w5
      else
        bd1 (M_tenantOf x1 (1 : Int32) w5) fun r15 =>
        bd1 (M_tenantOf r6 (1 : Int32) w5) fun r16 =>
        if r15 = r16 then
          if r6 ≤ x1 then
            M_asksOnce_p100 x1 t0 r6 (0 : Int32) w5
          else
            M_asksOnce_p100 x1 t0 r6 (1 : Int32) w5
        else
          M_asksOnce_p100 x1 t0 r6 (0 : Int32) w5
  else
    some ((0 : Int32), w)
def M_asksOnce (x1 : Int32) (w : MS) : Option (Int32 × MS) :=
  bd1 (rA w 33 6 x1) fun v1 =>
  if 0 ≤ v1 then
    M_asksOnce_p31 x1 (-1 : Int32) w
  else
    bd1 (rA w 25 1288 ((37 : Int32) + x1)) fun v19 =>
    if v19 = (1 : Int32) then
      M_asksOnce_p31 x1 (-1 : Int32) w
    else
      bd1 (M_nextAsked x1 w) fun r21 =>
      M_asksOnce_p31 x1 r21 w
set_option maxRecDepth 100000 in
set_option maxHeartbeats 4000000 in
theorem wk_M_asksOnce_p100 {p : Program} {l : Launch} {e : Env} {s : State} {m : MethodId} {args : Array Value} {below : List Frame} {meth : Method} {c : Code} {E : mE} {A : Nat → Prop} (S : CallFix p m c cX5_asksOnce 5 s args lw_all RX5) (hr : meth.sig.returnType = (some .boolean)) (hlocks : meth.locks = false) {res : Int32 × MS}  : ∀ (x1 : Int32) (x2 : Int32) (x3 : Int32) (t0 : Int32) (w : MS) (H : Heap) (locs : List Loc) (ls : Array Slot), M_asksOnce_p100 x1 x2 x3 t0 w = some res → mH E A s w H locs → lv_has ls 5 [(0, .ref (mM E)), (1, .int x1), (2, .int x2), (3, .int x3)] → W p l e rm_asksOnce s m args below meth c H locs 0 0 (MQ below (mQi E A res.1 res.2) args s 0 0 A) (F0 m 100 ls [.int t0]) := by
  intro x1 x2 x3 t0 w H locs ls h hw hl
  unfold M_asksOnce_p100 at h
  refine lv_istore (lv' := [(4, .int t0), (0, .ref (mM E)), (1, .int x1), (2, .int x2), (3, .int x3)]) S.1 S.2.1 dX5_asksOnce_100 hl (by decide) rfl (fun ls hl => ?_)
  refine lv_iload S.1 S.2.1 dX5_asksOnce_102 (lv_at hl 0 rfl) ?_
  refine lv_if_eq (tgt := 125) S.1 S.2.1 dX5_asksOnce_104 rfl (fun c8 => ?_) (fun c8 => ?_)
  · replace h := if_t c8 h
    refine lv_iconst (v := 1) S.1 S.2.1 dX5_asksOnce_125 rfl ?_
    exact m_zret S hr hlocks hw rfl (so2 h) dX5_asksOnce_126
  · replace h := if_f c8 h
    refine lv_aload_n S.1 S.2.1 dX5_asksOnce_107 rfl (lv_at hl 1 rfl) ?_
    refine mg33 S hw dX5_asksOnce_108 ?_
    refine lv_iload_n S.1 S.2.1 dX5_asksOnce_111 rfl (lv_at hl 2 rfl) ?_
    refine lv_iload_n S.1 S.2.1 dX5_asksOnce_112 rfl (lv_at hl 3 rfl) ?_
    refine ms33 S hw dX5_asksOnce_113 h (fun w9 H locs h hw => ?_)
    refine lv_iload_n S.1 S.2.1 dX5_asksOnce_114 rfl (lv_at hl 4 rfl) ?_
    refine lv_if_lt (tgt := 125) S.1 S.2.1 dX5_asksOnce_115 rfl (fun c10 => ?_) (fun c10 => ?_)
    · replace h := if_t c10 h
      refine lv_iconst (v := 1) S.1 S.2.1 dX5_asksOnce_125 rfl ?_
      exact m_zret S hr hlocks hw rfl (so2 h) dX5_asksOnce_126
    · replace h := if_f c10 h
      refine lv_aload_n S.1 S.2.1 dX5_asksOnce_118 rfl (lv_at hl 1 rfl) ?_
      refine mg33 S hw dX5_asksOnce_119 ?_
      refine lv_iload_n S.1 S.2.1 dX5_asksOnce_122 rfl (lv_at hl 4 rfl) ?_
      refine lv_iconst (v := -1) S.1 S.2.1 dX5_asksOnce_123 rfl ?_
      refine ms33 S hw dX5_asksOnce_124 h (fun w11 H locs h hw => ?_)
      refine lv_iconst (v := 1) S.1 S.2.1 dX5_asksOnce_125 rfl ?_
      exact m_zret S hr hlocks hw rfl (so2 h) dX5_asksOnce_126
set_option maxRecDepth 100000 in
set_option maxHeartbeats 4000000 in
theorem wk_M_asksOnce_p31 {p : Program} {l : Launch} {e : Env} {s : State} {m : MethodId} {args : Array Value} {below : List Frame} {meth : Method} {c : Code} {E : mE} {A : Nat → Prop} (S : CallFix p m c cX5_asksOnce 5 s args lw_all RX5) (hr : meth.sig.returnType = (some .boolean)) (hlocks : meth.locks = false) {res : Int32 × MS}  : ∀ (x1 : Int32) (t0 : Int32) (w : MS) (H : Heap) (locs : List Loc) (ls : Array Slot), M_asksOnce_p31 x1 t0 w = some res → mH E A s w H locs → lv_has ls 5 [(0, .ref (mM E)), (1, .int x1)] → W p l e rm_asksOnce s m args below meth c H locs 0 0 (MQ below (mQi E A res.1 res.2) args s 0 0 A) (F0 m 31 ls [.int t0]) := by
  intro x1 t0 w H locs ls h hw hl
  unfold M_asksOnce_p31 at h
  refine lv_istore_n (lv' := [(2, .int t0), (0, .ref (mM E)), (1, .int x1)]) S.1 S.2.1 dX5_asksOnce_31 rfl hl (by decide) rfl (fun ls hl => ?_)
  refine lv_iload_n S.1 S.2.1 dX5_asksOnce_32 rfl (lv_at hl 0 rfl) ?_
  refine lv_if_ge (tgt := 38) S.1 S.2.1 dX5_asksOnce_33 rfl (fun c3 => ?_) (fun c3 => ?_)
  · replace h := if_t c3 h
    refine lv_aload_n S.1 S.2.1 dX5_asksOnce_38 rfl (lv_at hl 1 rfl) ?_
    refine mg34 S hw dX5_asksOnce_39 ?_
    refine lv_iload_n S.1 S.2.1 dX5_asksOnce_42 rfl (lv_at hl 2 rfl) ?_
    refine lv_dup2_11 S.1 S.2.1 dX5_asksOnce_43 rfl rfl ?_
    refine ml34 S hw dX5_asksOnce_44 h (fun v4 h => ?_)
    refine lv_iconst (v := 1) S.1 S.2.1 dX5_asksOnce_45 rfl ?_
    refine lv_iload_n S.1 S.2.1 dX5_asksOnce_46 rfl (lv_at hl 0 rfl) ?_
    refine lv_ishl S.1 S.2.1 dX5_asksOnce_47 ?_
    refine lv_ior S.1 S.2.1 dX5_asksOnce_48 ?_
    refine ms34 S hw dX5_asksOnce_49 h (fun w5 H locs h hw => ?_)
    refine lv_aload_n S.1 S.2.1 dX5_asksOnce_50 rfl (lv_at hl 1 rfl) ?_
    refine lv_iload_n S.1 S.2.1 dX5_asksOnce_51 rfl (lv_at hl 0 rfl) ?_
    refine mcVri (As := [.int t0]) (rest := []) S hw h (fun u h1 => met_keeperOf l E A t0 w5 u h1) (cw_keeperOf S.2.2.2.2 rfl rfl ⟨Nat.le_of_ble_eq_true rfl, Nat.le_of_ble_eq_true rfl⟩) rfl hl.1 rfl (lv_room (Nat.le_of_ble_eq_true rfl)) dX5_asksOnce_52 (fun r6 H locs h hw => ?_)
    refine lv_istore_n (lv' := [(3, .int r6), (2, .int t0), (0, .ref (mM E)), (1, .int x1)]) S.1 S.2.1 dX5_asksOnce_55 rfl hl (by decide) rfl (fun ls hl => ?_)
    refine lv_iload_n S.1 S.2.1 dX5_asksOnce_56 rfl (lv_at hl 0 rfl) ?_
    refine lv_if_lt (tgt := 95) S.1 S.2.1 dX5_asksOnce_57 rfl (fun c7 => ?_) (fun c7 => ?_)
    · replace h := if_t c7 h
      refine lv_iconst (v := 1) S.1 S.2.1 dX5_asksOnce_95 rfl ?_
      refine lv_goto (tgt := 100) S.1 S.2.1 dX5_asksOnce_96 rfl ?_
      exact wk_M_asksOnce_p100 S hr hlocks _ _ _ _ _ _ _ _ h hw (lv_sub hl [2, 3, 1, 0] rfl)
    · replace h := if_f c7 h
      refine lv_aload_n S.1 S.2.1 dX5_asksOnce_60 rfl (lv_at hl 2 rfl) ?_
      refine lv_iload_n S.1 S.2.1 dX5_asksOnce_61 rfl (lv_at hl 3 rfl) ?_
      refine lv_iconst (v := 1) S.1 S.2.1 dX5_asksOnce_62 rfl ?_
      refine mcVri (As := [.int x1, .int (1 : Int32)]) (rest := []) S hw h (fun u h1 => met_tenantOf l E A x1 (1 : Int32) w5 u h1) (cw_tenantOf S.2.2.2.2 rfl rfl ⟨Nat.le_of_ble_eq_true rfl, Nat.le_of_ble_eq_true rfl⟩) rfl hl.1 rfl (lv_room (Nat.le_of_ble_eq_true rfl)) dX5_asksOnce_63 (fun r12 H locs h hw => ?_)
      refine lv_aload_n S.1 S.2.1 dX5_asksOnce_66 rfl (lv_at hl 2 rfl) ?_
      refine lv_iload_n S.1 S.2.1 dX5_asksOnce_67 rfl (lv_at hl 0 rfl) ?_
      refine lv_iconst (v := 1) S.1 S.2.1 dX5_asksOnce_68 rfl ?_
      refine mcVri (As := [.int r6, .int (1 : Int32)]) (rest := [.int r12]) S hw h (fun u h1 => met_tenantOf l E A r6 (1 : Int32) w5 u h1) (cw_tenantOf S.2.2.2.2 rfl rfl ⟨Nat.le_of_ble_eq_true rfl, Nat.le_of_ble_eq_true rfl⟩) rfl hl.1 rfl (lv_room (Nat.le_of_ble_eq_true rfl)) dX5_asksOnce_69 (fun r13 H locs h hw => ?_)
      refine lv_icmp_gt (tgt := 95) S.1 S.2.1 dX5_asksOnce_72 rfl (fun c14 => ?_) (fun c14 => ?_)
      · replace h := if_t c14 h
        refine lv_iconst (v := 1) S.1 S.2.1 dX5_asksOnce_95 rfl ?_
        refine lv_goto (tgt := 100) S.1 S.2.1 dX5_asksOnce_96 rfl ?_
        exact wk_M_asksOnce_p100 S hr hlocks _ _ _ _ _ _ _ _ h hw (lv_sub hl [2, 3, 1, 0] rfl)
      · replace h := if_f c14 h
        refine lv_aload_n S.1 S.2.1 dX5_asksOnce_75 rfl (lv_at hl 2 rfl) ?_
        refine lv_iload_n S.1 S.2.1 dX5_asksOnce_76 rfl (lv_at hl 3 rfl) ?_
        refine lv_iconst (v := 1) S.1 S.2.1 dX5_asksOnce_77 rfl ?_
        refine mcVri (As := [.int x1, .int (1 : Int32)]) (rest := []) S hw h (fun u h1 => met_tenantOf l E A x1 (1 : Int32) w5 u h1) (cw_tenantOf S.2.2.2.2 rfl rfl ⟨Nat.le_of_ble_eq_true rfl, Nat.le_of_ble_eq_true rfl⟩) rfl hl.1 rfl (lv_room (Nat.le_of_ble_eq_true rfl)) dX5_asksOnce_78 (fun r15 H locs h hw => ?_)
        refine lv_aload_n S.1 S.2.1 dX5_asksOnce_81 rfl (lv_at hl 2 rfl) ?_
        refine lv_iload_n S.1 S.2.1 dX5_asksOnce_82 rfl (lv_at hl 0 rfl) ?_
        refine lv_iconst (v := 1) S.1 S.2.1 dX5_asksOnce_83 rfl ?_
        refine mcVri (As := [.int r6, .int (1 : Int32)]) (rest := [.int r15]) S hw h (fun u h1 => met_tenantOf l E A r6 (1 : Int32) w5 u h1) (cw_tenantOf S.2.2.2.2 rfl rfl ⟨Nat.le_of_ble_eq_true rfl, Nat.le_of_ble_eq_true rfl⟩) rfl hl.1 rfl (lv_room (Nat.le_of_ble_eq_true rfl)) dX5_asksOnce_84 (fun r16 H locs h hw => ?_)
        refine lv_icmp_ne (tgt := 99) S.1 S.2.1 dX5_asksOnce_87 rfl (fun c17 => ?_) (fun c17 => ?_)
        · replace h := if_f c17 h
          refine lv_iconst (v := 0) S.1 S.2.1 dX5_asksOnce_99 rfl ?_
          exact wk_M_asksOnce_p100 S hr hlocks _ _ _ _ _ _ _ _ h hw (lv_sub hl [2, 3, 1, 0] rfl)
        · replace h := if_t c17 h
          refine lv_iload_n S.1 S.2.1 dX5_asksOnce_90 rfl (lv_at hl 3 rfl) ?_
          refine lv_iload_n S.1 S.2.1 dX5_asksOnce_91 rfl (lv_at hl 0 rfl) ?_
          refine lv_icmp_ge (tgt := 99) S.1 S.2.1 dX5_asksOnce_92 rfl (fun c18 => ?_) (fun c18 => ?_)
          · replace h := if_t c18 h
            refine lv_iconst (v := 0) S.1 S.2.1 dX5_asksOnce_99 rfl ?_
            exact wk_M_asksOnce_p100 S hr hlocks _ _ _ _ _ _ _ _ h hw (lv_sub hl [2, 3, 1, 0] rfl)
          · replace h := if_f c18 h
            refine lv_iconst (v := 1) S.1 S.2.1 dX5_asksOnce_95 rfl ?_
            refine lv_goto (tgt := 100) S.1 S.2.1 dX5_asksOnce_96 rfl ?_
            exact wk_M_asksOnce_p100 S hr hlocks _ _ _ _ _ _ _ _ h hw (lv_sub hl [2, 3, 1, 0] rfl)
  · replace h := if_f c3 h
    refine lv_iconst (v := 0) S.1 S.2.1 dX5_asksOnce_36 rfl ?_
    exact m_zret S hr hlocks hw rfl (so2 h) dX5_asksOnce_37
set_option maxRecDepth 100000 in
set_option maxHeartbeats 4000000 in
theorem met_asksOnce (l : Launch) (E : mE) (A : Nat → Prop)  (x1 : Int32) (w : MS) (res : Int32 × MS) (h : M_asksOnce x1 w = some res) : Met l yX5_asksOnce (ws_ yX5_asksOnce cX5_asksOnce 5 (some .boolean)) rm_asksOnce (mPc E A [.ref (mM E), .int x1] w) (mQi E A res.1 res.2) 0 0 A := by
  refine mMet (by decide) rfl (Nat.le_of_ble_eq_true rfl) ?_
  intro p e s m below meth c S hr hlocks H ls hw hl
  replace hl : lv_has ls 5 [(0, .ref (mM E)), (1, .int x1)] := hl
  unfold M_asksOnce at h
  refine lv_aload_n S.1 S.2.1 dX5_asksOnce_0 rfl (lv_at hl 0 rfl) ?_
  refine mg33 S hw dX5_asksOnce_1 ?_
  refine lv_iload_n S.1 S.2.1 dX5_asksOnce_4 rfl (lv_at hl 1 rfl) ?_
  refine ml33 S hw dX5_asksOnce_5 h (fun v1 h => ?_)
  refine lv_if_ge (tgt := 22) S.1 S.2.1 dX5_asksOnce_6 rfl (fun c2 => ?_) (fun c2 => ?_)
  · replace h := if_t c2 h
    refine lv_iconst (v := -1) S.1 S.2.1 dX5_asksOnce_22 rfl ?_
    refine lv_goto (tgt := 31) S.1 S.2.1 dX5_asksOnce_23 rfl ?_
    exact wk_M_asksOnce_p31 S hr hlocks _ _ _ _ _ _ h hw (lv_sub hl [0, 1] rfl)
  · replace h := if_f c2 h
    refine lv_aload_n S.1 S.2.1 dX5_asksOnce_9 rfl (lv_at hl 0 rfl) ?_
    refine mg25 S hw dX5_asksOnce_10 ?_
    refine lv_bipush (v := 37) S.1 S.2.1 dX5_asksOnce_13 rfl ?_
    refine lv_iload_n S.1 S.2.1 dX5_asksOnce_15 rfl (lv_at hl 1 rfl) ?_
    refine lv_iadd S.1 S.2.1 dX5_asksOnce_16 ?_
    refine ml25 S hw dX5_asksOnce_17 h (fun v19 h => ?_)
    refine lv_iconst (v := 1) S.1 S.2.1 dX5_asksOnce_18 rfl ?_
    refine lv_icmp_ne (tgt := 26) S.1 S.2.1 dX5_asksOnce_19 rfl (fun c20 => ?_) (fun c20 => ?_)
    · replace h := if_f c20 h
      refine lv_aload_n S.1 S.2.1 dX5_asksOnce_26 rfl (lv_at hl 0 rfl) ?_
      refine lv_iload_n S.1 S.2.1 dX5_asksOnce_27 rfl (lv_at hl 1 rfl) ?_
      refine mcVri (As := [.int x1]) (rest := []) S hw h (fun u h1 => met_nextAsked l E A x1 w u h1) (cw_nextAsked S.2.2.2.2 rfl rfl ⟨Nat.le_of_ble_eq_true rfl, Nat.le_of_ble_eq_true rfl⟩) rfl hl.1 rfl (lv_room (Nat.le_of_ble_eq_true rfl)) dX5_asksOnce_28 (fun r21 H locs h hw => ?_)
      exact wk_M_asksOnce_p31 S hr hlocks _ _ _ _ _ _ h hw (lv_sub hl [0, 1] rfl)
    · replace h := if_t c20 h
      refine lv_iconst (v := -1) S.1 S.2.1 dX5_asksOnce_22 rfl ?_
      refine lv_goto (tgt := 31) S.1 S.2.1 dX5_asksOnce_23 rfl ?_
      exact wk_M_asksOnce_p31 S hr hlocks _ _ _ _ _ _ h hw (lv_sub hl [0, 1] rfl)
def M_findMatch_p73 (k65 : Int32 → MS → Option MS) : Nat → Int32 → Int32 → MS → Option MS
  | 0, _, _, _ => none
  | n + 1, x1, x2, w =>
    if (M_tenants w) ≤ x2 then
      k65 x1 w
    else
      bd2 (M_asksOnce x2 w) fun r5 w4 =>
      if r5 = 0 then
        if x1 = 0 then
          (M_findMatch_p73 k65 n) (0 : Int32) (x2 + (1 : Int32)) w4
        else
          (M_findMatch_p73 k65 n) (1 : Int32) (x2 + (1 : Int32)) w4
      else
        (M_findMatch_p73 k65 n) (1 : Int32) (x2 + (1 : Int32)) w4
def M_findMatch_p65 : Nat → Int32 → MS → Option MS
  | 0, _, _ => none
  | n + 1, x1, w =>
    if x1 = 0 then
      some w
    else
      M_findMatch_p73 (M_findMatch_p65 n) FU (0 : Int32) (0 : Int32) w
def M_findMatch_p26 (k2 : Int32 → MS → Option MS) : Nat → Int32 → Int32 → MS → Option MS
  | 0, _, _, _ => none
  | n + 1, x1, x2, w =>
    if (M_rooms w) ≤ x2 then
      k2 (x1 + (1 : Int32)) w
    else
      bd2 (M_wishOf x1 x2 w) fun r12 w11 =>
      bd1 (wA w11 32 36 (((6 : Int32) * x1) + x2) r12) fun w13 =>
      (M_findMatch_p26 k2 n) x1 (x2 + (1 : Int32)) w13
def M_findMatch_p2 : Nat → Int32 → MS → Option MS
  | 0, _, _ => none
  | n + 1, x1, w =>
    if (M_tenants w) ≤ x1 then
      M_findMatch_p65 FU (1 : Int32) w
    else
      bd1 (wA w 33 6 x1 (-1 : Int32)) fun w8 =>
      bd1 (wA w8 34 6 x1 (0 : Int32)) fun w9 =>
      M_findMatch_p26 (M_findMatch_p2 n) FU x1 (0 : Int32) w9
def M_findMatch (w : MS) : Option MS :=
  M_findMatch_p2 FU (0 : Int32) w
set_option maxRecDepth 100000 in
set_option maxHeartbeats 4000000 in
theorem wk_M_findMatch_p73 {p : Program} {l : Launch} {e : Env} {s : State} {m : MethodId} {args : Array Value} {below : List Frame} {meth : Method} {c : Code} {E : mE} {A : Nat → Prop} (S : CallFix p m c cX5_findMatch 3 s args lw_all RX5) (hr : meth.sig.returnType = none) (hlocks : meth.locks = false) {res : MS}  {k65 : Int32 → MS → Option MS} (hk65 : ∀ (x1 : Int32) (w : MS) (H : Heap) (locs : List Loc) (ls : Array Slot), k65 x1 w = some res → mH E A s w H locs → lv_has ls 3 [(0, .ref (mM E)), (1, .int x1)] → W p l e rm_findMatch s m args below meth c H locs 0 0 (MQ below (mQv E A res) args s 0 0 A) (F0 m 65 ls [])) : ∀ n : Nat, ∀ (x1 : Int32) (x2 : Int32) (w : MS) (H : Heap) (locs : List Loc) (ls : Array Slot), M_findMatch_p73 k65 n x1 x2 w = some res → mH E A s w H locs → lv_has ls 3 [(0, .ref (mM E)), (1, .int x1), (2, .int x2)] → W p l e rm_findMatch s m args below meth c H locs 0 0 (MQ below (mQv E A res) args s 0 0 A) (F0 m 73 ls []) := by
  intro n
  induction n with
  | zero => intro x1 x2 w H locs ls h; cases (show (none : Option MS) = some res from h)
  | succ n ih =>
    intro x1 x2 w H locs ls h hw hl
    rw [M_findMatch_p73] at h
    refine lv_iload_n S.1 S.2.1 dX5_findMatch_73 rfl (lv_at hl 2 rfl) ?_
    refine lv_aload_n S.1 S.2.1 dX5_findMatch_74 rfl (lv_at hl 0 rfl) ?_
    refine mcVti (As := []) (rest := [.int x2]) S hw (met_tenants l E A  w _ rfl) (cw_tenants S.2.2.2.2 rfl rfl ⟨Nat.le_of_ble_eq_true rfl, Nat.le_of_ble_eq_true rfl⟩) rfl hl.1 rfl (lv_room (Nat.le_of_ble_eq_true rfl)) dX5_findMatch_75 (fun H locs hw => ?_)
    refine lv_icmp_ge (tgt := 105) S.1 S.2.1 dX5_findMatch_78 rfl (fun c3 => ?_) (fun c3 => ?_)
    · replace h := if_t c3 h
      refine lv_goto (tgt := 65) S.1 S.2.1 dX5_findMatch_105 rfl ?_
      exact hk65 _ _ _ _ _ h hw (lv_sub hl [0, 1] rfl)
    · replace h := if_f c3 h
      refine lv_aload_n S.1 S.2.1 dX5_findMatch_81 rfl (lv_at hl 0 rfl) ?_
      refine lv_iload_n S.1 S.2.1 dX5_findMatch_82 rfl (lv_at hl 2 rfl) ?_
      refine mcVwi (As := [.int x2]) (rest := []) S hw h (fun u h1 => met_asksOnce l E A x2 w u h1) (cw_asksOnce S.2.2.2.2 rfl rfl ⟨Nat.le_of_ble_eq_true rfl, Nat.le_of_ble_eq_true rfl⟩) rfl hl.1 rfl (lv_room (Nat.le_of_ble_eq_true rfl)) dX5_findMatch_83 (fun r5 w4 H locs h hw => ?_)
      refine lv_if_ne (tgt := 93) S.1 S.2.1 dX5_findMatch_86 rfl (fun c6 => ?_) (fun c6 => ?_)
      · replace h := if_f c6 h
        refine lv_iconst (v := 1) S.1 S.2.1 dX5_findMatch_93 rfl ?_
        refine lv_goto (tgt := 98) S.1 S.2.1 dX5_findMatch_94 rfl ?_
        refine lv_istore_n (lv' := [(1, .int (1 : Int32)), (0, .ref (mM E)), (2, .int x2)]) S.1 S.2.1 dX5_findMatch_98 rfl hl (by decide) rfl (fun ls hl => ?_)
        refine lv_iinc (v := x2 + (1 : Int32)) (lv' := [(2, .int (x2 + (1 : Int32))), (1, .int (1 : Int32)), (0, .ref (mM E))]) S.1 S.2.1 dX5_findMatch_99 hl (k := 2) rfl rfl (by decide) rfl (fun ls hl => ?_)
        refine lv_goto (tgt := 73) S.1 S.2.1 dX5_findMatch_102 rfl ?_
        exact ih _ _ _ _ _ _ h hw (lv_sub hl [2, 1, 0] rfl)
      · replace h := if_t c6 h
        refine lv_iload_n S.1 S.2.1 dX5_findMatch_89 rfl (lv_at hl 1 rfl) ?_
        refine lv_if_eq (tgt := 97) S.1 S.2.1 dX5_findMatch_90 rfl (fun c7 => ?_) (fun c7 => ?_)
        · replace h := if_t c7 h
          refine lv_iconst (v := 0) S.1 S.2.1 dX5_findMatch_97 rfl ?_
          refine lv_istore_n (lv' := [(1, .int (0 : Int32)), (0, .ref (mM E)), (2, .int x2)]) S.1 S.2.1 dX5_findMatch_98 rfl hl (by decide) rfl (fun ls hl => ?_)
          refine lv_iinc (v := x2 + (1 : Int32)) (lv' := [(2, .int (x2 + (1 : Int32))), (1, .int (0 : Int32)), (0, .ref (mM E))]) S.1 S.2.1 dX5_findMatch_99 hl (k := 2) rfl rfl (by decide) rfl (fun ls hl => ?_)
          refine lv_goto (tgt := 73) S.1 S.2.1 dX5_findMatch_102 rfl ?_
          exact ih _ _ _ _ _ _ h hw (lv_sub hl [2, 1, 0] rfl)
        · replace h := if_f c7 h
          refine lv_iconst (v := 1) S.1 S.2.1 dX5_findMatch_93 rfl ?_
          refine lv_goto (tgt := 98) S.1 S.2.1 dX5_findMatch_94 rfl ?_
          refine lv_istore_n (lv' := [(1, .int (1 : Int32)), (0, .ref (mM E)), (2, .int x2)]) S.1 S.2.1 dX5_findMatch_98 rfl hl (by decide) rfl (fun ls hl => ?_)
          refine lv_iinc (v := x2 + (1 : Int32)) (lv' := [(2, .int (x2 + (1 : Int32))), (1, .int (1 : Int32)), (0, .ref (mM E))]) S.1 S.2.1 dX5_findMatch_99 hl (k := 2) rfl rfl (by decide) rfl (fun ls hl => ?_)
          refine lv_goto (tgt := 73) S.1 S.2.1 dX5_findMatch_102 rfl ?_
          exact ih _ _ _ _ _ _ h hw (lv_sub hl [2, 1, 0] rfl)
set_option maxRecDepth 100000 in
set_option maxHeartbeats 4000000 in
theorem wk_M_findMatch_p65 {p : Program} {l : Launch} {e : Env} {s : State} {m : MethodId} {args : Array Value} {below : List Frame} {meth : Method} {c : Code} {E : mE} {A : Nat → Prop} (S : CallFix p m c cX5_findMatch 3 s args lw_all RX5) (hr : meth.sig.returnType = none) (hlocks : meth.locks = false) {res : MS}  : ∀ n : Nat, ∀ (x1 : Int32) (w : MS) (H : Heap) (locs : List Loc) (ls : Array Slot), M_findMatch_p65 n x1 w = some res → mH E A s w H locs → lv_has ls 3 [(0, .ref (mM E)), (1, .int x1)] → W p l e rm_findMatch s m args below meth c H locs 0 0 (MQ below (mQv E A res) args s 0 0 A) (F0 m 65 ls []) := by
  intro n
  induction n with
  | zero => intro x1 w H locs ls h; cases (show (none : Option MS) = some res from h)
  | succ n ih =>
    intro x1 w H locs ls h hw hl
    rw [M_findMatch_p65] at h
    refine lv_iload_n S.1 S.2.1 dX5_findMatch_65 rfl (lv_at hl 1 rfl) ?_
    refine lv_if_eq (tgt := 108) S.1 S.2.1 dX5_findMatch_66 rfl (fun c2 => ?_) (fun c2 => ?_)
    · replace h := if_t c2 h
      exact m_vret S hr hlocks hw (so1 h) dX5_findMatch_108
    · replace h := if_f c2 h
      refine lv_iconst (v := 0) S.1 S.2.1 dX5_findMatch_69 rfl ?_
      refine lv_istore_n (lv' := [(1, .int (0 : Int32)), (0, .ref (mM E))]) S.1 S.2.1 dX5_findMatch_70 rfl hl (by decide) rfl (fun ls hl => ?_)
      refine lv_iconst (v := 0) S.1 S.2.1 dX5_findMatch_71 rfl ?_
      refine lv_istore_n (lv' := [(2, .int (0 : Int32)), (1, .int (0 : Int32)), (0, .ref (mM E))]) S.1 S.2.1 dX5_findMatch_72 rfl hl (by decide) rfl (fun ls hl => ?_)
      exact wk_M_findMatch_p73 S hr hlocks ih FU _ _ _ _ _ _ h hw (lv_sub hl [2, 1, 0] rfl)
set_option maxRecDepth 100000 in
set_option maxHeartbeats 4000000 in
theorem wk_M_findMatch_p26 {p : Program} {l : Launch} {e : Env} {s : State} {m : MethodId} {args : Array Value} {below : List Frame} {meth : Method} {c : Code} {E : mE} {A : Nat → Prop} (S : CallFix p m c cX5_findMatch 3 s args lw_all RX5) (hr : meth.sig.returnType = none) (hlocks : meth.locks = false) {res : MS}  {k2 : Int32 → MS → Option MS} (hk2 : ∀ (x1 : Int32) (w : MS) (H : Heap) (locs : List Loc) (ls : Array Slot), k2 x1 w = some res → mH E A s w H locs → lv_has ls 3 [(0, .ref (mM E)), (1, .int x1)] → W p l e rm_findMatch s m args below meth c H locs 0 0 (MQ below (mQv E A res) args s 0 0 A) (F0 m 2 ls [])) : ∀ n : Nat, ∀ (x1 : Int32) (x2 : Int32) (w : MS) (H : Heap) (locs : List Loc) (ls : Array Slot), M_findMatch_p26 k2 n x1 x2 w = some res → mH E A s w H locs → lv_has ls 3 [(0, .ref (mM E)), (1, .int x1), (2, .int x2)] → W p l e rm_findMatch s m args below meth c H locs 0 0 (MQ below (mQv E A res) args s 0 0 A) (F0 m 26 ls []) := by
  intro n
  induction n with
  | zero => intro x1 x2 w H locs ls h; cases (show (none : Option MS) = some res from h)
  | succ n ih =>
    intro x1 x2 w H locs ls h hw hl
    rw [M_findMatch_p26] at h
    refine lv_iload_n S.1 S.2.1 dX5_findMatch_26 rfl (lv_at hl 2 rfl) ?_
    refine lv_aload_n S.1 S.2.1 dX5_findMatch_27 rfl (lv_at hl 0 rfl) ?_
    refine mcVti (As := []) (rest := [.int x2]) S hw (met_rooms l E A  w _ rfl) (cw_rooms S.2.2.2.2 rfl rfl ⟨Nat.le_of_ble_eq_true rfl, Nat.le_of_ble_eq_true rfl⟩) rfl hl.1 rfl (lv_room (Nat.le_of_ble_eq_true rfl)) dX5_findMatch_28 (fun H locs hw => ?_)
    refine lv_icmp_ge (tgt := 57) S.1 S.2.1 dX5_findMatch_31 rfl (fun c10 => ?_) (fun c10 => ?_)
    · replace h := if_t c10 h
      refine lv_iinc (v := x1 + (1 : Int32)) (lv' := [(1, .int (x1 + (1 : Int32))), (0, .ref (mM E)), (2, .int x2)]) S.1 S.2.1 dX5_findMatch_57 hl (k := 1) rfl rfl (by decide) rfl (fun ls hl => ?_)
      refine lv_goto (tgt := 2) S.1 S.2.1 dX5_findMatch_60 rfl ?_
      exact hk2 _ _ _ _ _ h hw (lv_sub hl [1, 0] rfl)
    · replace h := if_f c10 h
      refine lv_aload_n S.1 S.2.1 dX5_findMatch_34 rfl (lv_at hl 0 rfl) ?_
      refine mg32 S hw dX5_findMatch_35 ?_
      refine lv_bipush (v := 6) S.1 S.2.1 dX5_findMatch_38 rfl ?_
      refine lv_iload_n S.1 S.2.1 dX5_findMatch_40 rfl (lv_at hl 1 rfl) ?_
      refine lv_imul S.1 S.2.1 dX5_findMatch_41 ?_
      refine lv_iload_n S.1 S.2.1 dX5_findMatch_42 rfl (lv_at hl 2 rfl) ?_
      refine lv_iadd S.1 S.2.1 dX5_findMatch_43 ?_
      refine lv_aload_n S.1 S.2.1 dX5_findMatch_44 rfl (lv_at hl 0 rfl) ?_
      refine lv_iload_n S.1 S.2.1 dX5_findMatch_45 rfl (lv_at hl 1 rfl) ?_
      refine lv_iload_n S.1 S.2.1 dX5_findMatch_46 rfl (lv_at hl 2 rfl) ?_
      refine mcVwi (As := [.int x1, .int x2]) (rest := [.int (((6 : Int32) * x1) + x2), .ref (mAr E 32)]) S hw h (fun u h1 => met_wishOf l E A x1 x2 w u h1) (cw_wishOf S.2.2.2.2 rfl rfl ⟨Nat.le_of_ble_eq_true rfl, Nat.le_of_ble_eq_true rfl⟩) rfl hl.1 rfl (lv_room (Nat.le_of_ble_eq_true rfl)) dX5_findMatch_47 (fun r12 w11 H locs h hw => ?_)
      refine ms32 S hw dX5_findMatch_50 h (fun w13 H locs h hw => ?_)
      refine lv_iinc (v := x2 + (1 : Int32)) (lv' := [(2, .int (x2 + (1 : Int32))), (0, .ref (mM E)), (1, .int x1)]) S.1 S.2.1 dX5_findMatch_51 hl (k := 2) rfl rfl (by decide) rfl (fun ls hl => ?_)
      refine lv_goto (tgt := 26) S.1 S.2.1 dX5_findMatch_54 rfl ?_
      exact ih _ _ _ _ _ _ h hw (lv_sub hl [1, 2, 0] rfl)
set_option maxRecDepth 100000 in
set_option maxHeartbeats 4000000 in
theorem wk_M_findMatch_p2 {p : Program} {l : Launch} {e : Env} {s : State} {m : MethodId} {args : Array Value} {below : List Frame} {meth : Method} {c : Code} {E : mE} {A : Nat → Prop} (S : CallFix p m c cX5_findMatch 3 s args lw_all RX5) (hr : meth.sig.returnType = none) (hlocks : meth.locks = false) {res : MS}  : ∀ n : Nat, ∀ (x1 : Int32) (w : MS) (H : Heap) (locs : List Loc) (ls : Array Slot), M_findMatch_p2 n x1 w = some res → mH E A s w H locs → lv_has ls 3 [(0, .ref (mM E)), (1, .int x1)] → W p l e rm_findMatch s m args below meth c H locs 0 0 (MQ below (mQv E A res) args s 0 0 A) (F0 m 2 ls []) := by
  intro n
  induction n with
  | zero => intro x1 w H locs ls h; cases (show (none : Option MS) = some res from h)
  | succ n ih =>
    intro x1 w H locs ls h hw hl
    rw [M_findMatch_p2] at h
    refine lv_iload_n S.1 S.2.1 dX5_findMatch_2 rfl (lv_at hl 1 rfl) ?_
    refine lv_aload_n S.1 S.2.1 dX5_findMatch_3 rfl (lv_at hl 0 rfl) ?_
    refine mcVti (As := []) (rest := [.int x1]) S hw (met_tenants l E A  w _ rfl) (cw_tenants S.2.2.2.2 rfl rfl ⟨Nat.le_of_ble_eq_true rfl, Nat.le_of_ble_eq_true rfl⟩) rfl hl.1 rfl (lv_room (Nat.le_of_ble_eq_true rfl)) dX5_findMatch_4 (fun H locs hw => ?_)
    refine lv_icmp_ge (tgt := 63) S.1 S.2.1 dX5_findMatch_7 rfl (fun c1 => ?_) (fun c1 => ?_)
    · replace h := if_t c1 h
      refine lv_iconst (v := 1) S.1 S.2.1 dX5_findMatch_63 rfl ?_
      refine lv_istore_n (lv' := [(1, .int (1 : Int32)), (0, .ref (mM E))]) S.1 S.2.1 dX5_findMatch_64 rfl hl (by decide) rfl (fun ls hl => ?_)
      exact wk_M_findMatch_p65 S hr hlocks FU _ _ _ _ _ h hw (lv_sub hl [1, 0] rfl)
    · replace h := if_f c1 h
      refine lv_aload_n S.1 S.2.1 dX5_findMatch_10 rfl (lv_at hl 0 rfl) ?_
      refine mg33 S hw dX5_findMatch_11 ?_
      refine lv_iload_n S.1 S.2.1 dX5_findMatch_14 rfl (lv_at hl 1 rfl) ?_
      refine lv_iconst (v := -1) S.1 S.2.1 dX5_findMatch_15 rfl ?_
      refine ms33 S hw dX5_findMatch_16 h (fun w8 H locs h hw => ?_)
      refine lv_aload_n S.1 S.2.1 dX5_findMatch_17 rfl (lv_at hl 0 rfl) ?_
      refine mg34 S hw dX5_findMatch_18 ?_
      refine lv_iload_n S.1 S.2.1 dX5_findMatch_21 rfl (lv_at hl 1 rfl) ?_
      refine lv_iconst (v := 0) S.1 S.2.1 dX5_findMatch_22 rfl ?_
      refine ms34 S hw dX5_findMatch_23 h (fun w9 H locs h hw => ?_)
      refine lv_iconst (v := 0) S.1 S.2.1 dX5_findMatch_24 rfl ?_
      refine lv_istore_n (lv' := [(2, .int (0 : Int32)), (0, .ref (mM E)), (1, .int x1)]) S.1 S.2.1 dX5_findMatch_25 rfl hl (by decide) rfl (fun ls hl => ?_)
      exact wk_M_findMatch_p26 S hr hlocks ih FU _ _ _ _ _ _ h hw (lv_sub hl [1, 2, 0] rfl)
set_option maxRecDepth 100000 in
set_option maxHeartbeats 4000000 in
theorem met_findMatch (l : Launch) (E : mE) (A : Nat → Prop)  (w : MS) (res : MS) (h : M_findMatch w = some res) : Met l yX5_findMatch (ws_ yX5_findMatch cX5_findMatch 3 none) rm_findMatch (mPc E A [.ref (mM E)] w) (mQv E A res) 0 0 A := by
  refine mMet (by decide) rfl (Nat.le_of_ble_eq_true rfl) ?_
  intro p e s m below meth c S hr hlocks H ls hw hl
  replace hl : lv_has ls 3 [(0, .ref (mM E))] := hl
  unfold M_findMatch at h
  refine lv_iconst (v := 0) S.1 S.2.1 dX5_findMatch_0 rfl ?_
  refine lv_istore_n (lv' := [(1, .int (0 : Int32)), (0, .ref (mM E))]) S.1 S.2.1 dX5_findMatch_1 rfl hl (by decide) rfl (fun ls hl => ?_)
  exact wk_M_findMatch_p2 S hr hlocks FU _ _ _ _ _ h hw (lv_sub hl [1, 0] rfl)
def M_match (x1 : Int32) (w : MS) : Option (Int32 × MS) :=
  bdp (wI w 0 0 (0 : Int32)) fun w1 =>
  if (M_isTenant x1 w1) = 0 then
    some ((-2 : Int32), w1)
  else
    bd1 (M_findMatch w1) fun w3 =>
    bd1 (rA w3 33 6 x1) fun v4 =>
    some (v4, w3)
set_option maxRecDepth 100000 in
set_option maxHeartbeats 4000000 in
theorem met_match (l : Launch) (E : mE) (A : Nat → Prop)  (x1 : Int32) (w : MS) (res : Int32 × MS) (h : M_match x1 w = some res) : Met l yX5_match (ws_ yX5_match cX5_match 2 (some .int)) rm_match (mPc E A [.ref (mM E), .int x1] w) (mQi E A res.1 res.2) 0 0 A := by
  refine mMet (by decide) rfl (Nat.le_of_ble_eq_true rfl) ?_
  intro p e s m below meth c S hr hlocks H ls hw hl
  replace hl : lv_has ls 2 [(0, .ref (mM E)), (1, .int x1)] := hl
  unfold M_match at h
  refine lv_aload_n S.1 S.2.1 dX5_match_0 rfl (lv_at hl 0 rfl) ?_
  refine lv_iconst (v := 0) S.1 S.2.1 dX5_match_1 rfl ?_
  refine mp0 S hw dX5_match_2 h (fun w1 H locs h hw => ?_)
  refine lv_aload_n S.1 S.2.1 dX5_match_5 rfl (lv_at hl 0 rfl) ?_
  refine lv_iload_n S.1 S.2.1 dX5_match_6 rfl (lv_at hl 1 rfl) ?_
  refine mcVti (As := [.int x1]) (rest := []) S hw (met_isTenant l E A x1 w1 _ rfl) (cw_isTenant S.2.2.2.2 rfl rfl ⟨Nat.le_of_ble_eq_true rfl, Nat.le_of_ble_eq_true rfl⟩) rfl hl.1 rfl (lv_room (Nat.le_of_ble_eq_true rfl)) dX5_match_7 (fun H locs hw => ?_)
  refine lv_if_ne (tgt := 16) S.1 S.2.1 dX5_match_10 rfl (fun c2 => ?_) (fun c2 => ?_)
  · replace h := if_f c2 h
    refine lv_aload_n S.1 S.2.1 dX5_match_16 rfl (lv_at hl 0 rfl) ?_
    refine mcVv (As := []) (rest := []) S hw h (fun u h1 => met_findMatch l E A  w1 u h1) (cw_findMatch S.2.2.2.2 rfl rfl ⟨Nat.le_of_ble_eq_true rfl, Nat.le_of_ble_eq_true rfl⟩) rfl hl.1 rfl (lv_room (Nat.le_of_ble_eq_true rfl)) dX5_match_17 (fun w3 H locs h hw => ?_)
    refine lv_aload_n S.1 S.2.1 dX5_match_20 rfl (lv_at hl 0 rfl) ?_
    refine mg33 S hw dX5_match_21 ?_
    refine lv_iload_n S.1 S.2.1 dX5_match_24 rfl (lv_at hl 1 rfl) ?_
    refine ml33 S hw dX5_match_25 h (fun v4 h => ?_)
    exact m_iret S hr hlocks hw (so2 h) dX5_match_26
  · replace h := if_t c2 h
    refine lv_bipush (v := -2) S.1 S.2.1 dX5_match_13 rfl ?_
    exact m_iret S hr hlocks hw (so2 h) dX5_match_15
def M_spare_p133 (x3 : Int32) (t0 : Int32) (w : MS) : Option (Int32 × MS) :=
  if x3 = 0 then
    some ((0 : Int32), w)
  else
    if t0 = 0 then
      some ((0 : Int32), w)
    else
      some ((1 : Int32), w)
def M_spare_p92 (x1 : Int32) (x2 : Int32) (t0 : Int32) (w : MS) : Option (Int32 × MS) :=
  bd1 (rA w 33 6 x1) fun v15 =>
  bd1 (rA w 32 36 (((6 : Int32) * x2) + v15)) fun v16 =>
  bd1 (rA w 33 6 x2) fun v17 =>
  bd1 (rA w 32 36 (((6 : Int32) * x2) + v17)) fun v18 =>
  if v16 ≤ v18 then
    M_spare_p133 t0 (0 : Int32) w
  else
    M_spare_p133 t0 (1 : Int32) w
def M_spare (x1 : Int32) (x2 : Int32) (w : MS) : Option (Int32 × MS) :=
  bdp (wI w 0 0 (0 : Int32)) fun w1 =>
  if (M_isTenant x1 w1) = 0 then
    some ((-1 : Int32), w1)
  else
    if (M_isTenant x2 w1) = 0 then
      some ((-1 : Int32), w1)
    else
      if x1 = x2 then
        some ((-1 : Int32), w1)
      else
        bd1 (M_findMatch w1) fun w5 =>
        bd1 (rA w5 33 6 x1) fun v6 =>
        if v6 < 0 then
          some ((-1 : Int32), w5)
        else
          bd1 (rA w5 33 6 x2) fun v8 =>
          if 0 ≤ v8 then
            bd1 (rA w5 33 6 x2) fun v10 =>
            bd1 (rA w5 32 36 (((6 : Int32) * x1) + v10)) fun v11 =>
            bd1 (rA w5 33 6 x1) fun v12 =>
            bd1 (rA w5 32 36 (((6 : Int32) * x1) + v12)) fun v13 =>
            if v11 ≤ v13 then
              M_spare_p92 x1 x2 (0 : Int32) w5
            else
              M_spare_p92 x1 x2 (1 : Int32) w5
          else
            some ((-1 : Int32), w5)
set_option maxRecDepth 100000 in
set_option maxHeartbeats 4000000 in
theorem wk_M_spare_p133 {p : Program} {l : Launch} {e : Env} {s : State} {m : MethodId} {args : Array Value} {below : List Frame} {meth : Method} {c : Code} {E : mE} {A : Nat → Prop} (S : CallFix p m c cX5_spare 5 s args lw_all RX5) (hr : meth.sig.returnType = (some .int)) (hlocks : meth.locks = false) {res : Int32 × MS}  : ∀ (x3 : Int32) (t0 : Int32) (w : MS) (H : Heap) (locs : List Loc) (ls : Array Slot), M_spare_p133 x3 t0 w = some res → mH E A s w H locs → lv_has ls 5 [(0, .ref (mM E)), (3, .int x3)] → W p l e rm_spare s m args below meth c H locs 0 0 (MQ below (mQi E A res.1 res.2) args s 0 0 A) (F0 m 133 ls [.int t0]) := by
  intro x3 t0 w H locs ls h hw hl
  unfold M_spare_p133 at h
  refine lv_istore (lv' := [(4, .int t0), (0, .ref (mM E)), (3, .int x3)]) S.1 S.2.1 dX5_spare_133 hl (by decide) rfl (fun ls hl => ?_)
  refine lv_iload_n S.1 S.2.1 dX5_spare_135 rfl (lv_at hl 2 rfl) ?_
  refine lv_if_eq (tgt := 148) S.1 S.2.1 dX5_spare_136 rfl (fun c20 => ?_) (fun c20 => ?_)
  · replace h := if_t c20 h
    refine lv_iconst (v := 0) S.1 S.2.1 dX5_spare_148 rfl ?_
    exact m_iret S hr hlocks hw (so2 h) dX5_spare_149
  · replace h := if_f c20 h
    refine lv_iload S.1 S.2.1 dX5_spare_139 (lv_at hl 0 rfl) ?_
    refine lv_if_eq (tgt := 148) S.1 S.2.1 dX5_spare_141 rfl (fun c21 => ?_) (fun c21 => ?_)
    · replace h := if_t c21 h
      refine lv_iconst (v := 0) S.1 S.2.1 dX5_spare_148 rfl ?_
      exact m_iret S hr hlocks hw (so2 h) dX5_spare_149
    · replace h := if_f c21 h
      refine lv_iconst (v := 1) S.1 S.2.1 dX5_spare_144 rfl ?_
      refine lv_goto (tgt := 149) S.1 S.2.1 dX5_spare_145 rfl ?_
      exact m_iret S hr hlocks hw (so2 h) dX5_spare_149
set_option maxRecDepth 100000 in
set_option maxHeartbeats 4000000 in
theorem wk_M_spare_p92 {p : Program} {l : Launch} {e : Env} {s : State} {m : MethodId} {args : Array Value} {below : List Frame} {meth : Method} {c : Code} {E : mE} {A : Nat → Prop} (S : CallFix p m c cX5_spare 5 s args lw_all RX5) (hr : meth.sig.returnType = (some .int)) (hlocks : meth.locks = false) {res : Int32 × MS}  : ∀ (x1 : Int32) (x2 : Int32) (t0 : Int32) (w : MS) (H : Heap) (locs : List Loc) (ls : Array Slot), M_spare_p92 x1 x2 t0 w = some res → mH E A s w H locs → lv_has ls 5 [(0, .ref (mM E)), (1, .int x1), (2, .int x2)] → W p l e rm_spare s m args below meth c H locs 0 0 (MQ below (mQi E A res.1 res.2) args s 0 0 A) (F0 m 92 ls [.int t0]) := by
  intro x1 x2 t0 w H locs ls h hw hl
  unfold M_spare_p92 at h
  refine lv_istore_n (lv' := [(3, .int t0), (0, .ref (mM E)), (1, .int x1), (2, .int x2)]) S.1 S.2.1 dX5_spare_92 rfl hl (by decide) rfl (fun ls hl => ?_)
  refine lv_aload_n S.1 S.2.1 dX5_spare_93 rfl (lv_at hl 1 rfl) ?_
  refine mg32 S hw dX5_spare_94 ?_
  refine lv_bipush (v := 6) S.1 S.2.1 dX5_spare_97 rfl ?_
  refine lv_iload_n S.1 S.2.1 dX5_spare_99 rfl (lv_at hl 3 rfl) ?_
  refine lv_imul S.1 S.2.1 dX5_spare_100 ?_
  refine lv_aload_n S.1 S.2.1 dX5_spare_101 rfl (lv_at hl 1 rfl) ?_
  refine mg33 S hw dX5_spare_102 ?_
  refine lv_iload_n S.1 S.2.1 dX5_spare_105 rfl (lv_at hl 2 rfl) ?_
  refine ml33 S hw dX5_spare_106 h (fun v15 h => ?_)
  refine lv_iadd S.1 S.2.1 dX5_spare_107 ?_
  refine ml32 S hw dX5_spare_108 h (fun v16 h => ?_)
  refine lv_aload_n S.1 S.2.1 dX5_spare_109 rfl (lv_at hl 1 rfl) ?_
  refine mg32 S hw dX5_spare_110 ?_
  refine lv_bipush (v := 6) S.1 S.2.1 dX5_spare_113 rfl ?_
  refine lv_iload_n S.1 S.2.1 dX5_spare_115 rfl (lv_at hl 3 rfl) ?_
  refine lv_imul S.1 S.2.1 dX5_spare_116 ?_
  refine lv_aload_n S.1 S.2.1 dX5_spare_117 rfl (lv_at hl 1 rfl) ?_
  refine mg33 S hw dX5_spare_118 ?_
  refine lv_iload_n S.1 S.2.1 dX5_spare_121 rfl (lv_at hl 3 rfl) ?_
  refine ml33 S hw dX5_spare_122 h (fun v17 h => ?_)
  refine lv_iadd S.1 S.2.1 dX5_spare_123 ?_
  refine ml32 S hw dX5_spare_124 h (fun v18 h => ?_)
  refine lv_icmp_le (tgt := 132) S.1 S.2.1 dX5_spare_125 rfl (fun c19 => ?_) (fun c19 => ?_)
  · replace h := if_t c19 h
    refine lv_iconst (v := 0) S.1 S.2.1 dX5_spare_132 rfl ?_
    exact wk_M_spare_p133 S hr hlocks _ _ _ _ _ _ h hw (lv_sub hl [1, 0] rfl)
  · replace h := if_f c19 h
    refine lv_iconst (v := 1) S.1 S.2.1 dX5_spare_128 rfl ?_
    refine lv_goto (tgt := 133) S.1 S.2.1 dX5_spare_129 rfl ?_
    exact wk_M_spare_p133 S hr hlocks _ _ _ _ _ _ h hw (lv_sub hl [1, 0] rfl)
set_option maxRecDepth 100000 in
set_option maxHeartbeats 4000000 in
theorem met_spare (l : Launch) (E : mE) (A : Nat → Prop)  (x1 : Int32) (x2 : Int32) (w : MS) (res : Int32 × MS) (h : M_spare x1 x2 w = some res) : Met l yX5_spare (ws_ yX5_spare cX5_spare 5 (some .int)) rm_spare (mPc E A [.ref (mM E), .int x1, .int x2] w) (mQi E A res.1 res.2) 0 0 A := by
  refine mMet (by decide) rfl (Nat.le_of_ble_eq_true rfl) ?_
  intro p e s m below meth c S hr hlocks H ls hw hl
  replace hl : lv_has ls 5 [(0, .ref (mM E)), (1, .int x1), (2, .int x2)] := hl
  unfold M_spare at h
  refine lv_aload_n S.1 S.2.1 dX5_spare_0 rfl (lv_at hl 0 rfl) ?_
  refine lv_iconst (v := 0) S.1 S.2.1 dX5_spare_1 rfl ?_
  refine mp0 S hw dX5_spare_2 h (fun w1 H locs h hw => ?_)
  refine lv_aload_n S.1 S.2.1 dX5_spare_5 rfl (lv_at hl 0 rfl) ?_
  refine lv_iload_n S.1 S.2.1 dX5_spare_6 rfl (lv_at hl 1 rfl) ?_
  refine mcVti (As := [.int x1]) (rest := []) S hw (met_isTenant l E A x1 w1 _ rfl) (cw_isTenant S.2.2.2.2 rfl rfl ⟨Nat.le_of_ble_eq_true rfl, Nat.le_of_ble_eq_true rfl⟩) rfl hl.1 rfl (lv_room (Nat.le_of_ble_eq_true rfl)) dX5_spare_7 (fun H locs hw => ?_)
  refine lv_if_eq (tgt := 26) S.1 S.2.1 dX5_spare_10 rfl (fun c2 => ?_) (fun c2 => ?_)
  · replace h := if_t c2 h
    refine lv_iconst (v := -1) S.1 S.2.1 dX5_spare_26 rfl ?_
    exact m_iret S hr hlocks hw (so2 h) dX5_spare_27
  · replace h := if_f c2 h
    refine lv_aload_n S.1 S.2.1 dX5_spare_13 rfl (lv_at hl 0 rfl) ?_
    refine lv_iload_n S.1 S.2.1 dX5_spare_14 rfl (lv_at hl 2 rfl) ?_
    refine mcVti (As := [.int x2]) (rest := []) S hw (met_isTenant l E A x2 w1 _ rfl) (cw_isTenant S.2.2.2.2 rfl rfl ⟨Nat.le_of_ble_eq_true rfl, Nat.le_of_ble_eq_true rfl⟩) rfl hl.1 rfl (lv_room (Nat.le_of_ble_eq_true rfl)) dX5_spare_15 (fun H locs hw => ?_)
    refine lv_if_eq (tgt := 26) S.1 S.2.1 dX5_spare_18 rfl (fun c3 => ?_) (fun c3 => ?_)
    · replace h := if_t c3 h
      refine lv_iconst (v := -1) S.1 S.2.1 dX5_spare_26 rfl ?_
      exact m_iret S hr hlocks hw (so2 h) dX5_spare_27
    · replace h := if_f c3 h
      refine lv_iload_n S.1 S.2.1 dX5_spare_21 rfl (lv_at hl 1 rfl) ?_
      refine lv_iload_n S.1 S.2.1 dX5_spare_22 rfl (lv_at hl 2 rfl) ?_
      refine lv_icmp_ne (tgt := 28) S.1 S.2.1 dX5_spare_23 rfl (fun c4 => ?_) (fun c4 => ?_)
      · replace h := if_f c4 h
        refine lv_aload_n S.1 S.2.1 dX5_spare_28 rfl (lv_at hl 0 rfl) ?_
        refine mcVv (As := []) (rest := []) S hw h (fun u h1 => met_findMatch l E A  w1 u h1) (cw_findMatch S.2.2.2.2 rfl rfl ⟨Nat.le_of_ble_eq_true rfl, Nat.le_of_ble_eq_true rfl⟩) rfl hl.1 rfl (lv_room (Nat.le_of_ble_eq_true rfl)) dX5_spare_29 (fun w5 H locs h hw => ?_)
        refine lv_aload_n S.1 S.2.1 dX5_spare_32 rfl (lv_at hl 0 rfl) ?_
        refine mg33 S hw dX5_spare_33 ?_
        refine lv_iload_n S.1 S.2.1 dX5_spare_36 rfl (lv_at hl 1 rfl) ?_
        refine ml33 S hw dX5_spare_37 h (fun v6 h => ?_)
        refine lv_if_lt (tgt := 50) S.1 S.2.1 dX5_spare_38 rfl (fun c7 => ?_) (fun c7 => ?_)
        · replace h := if_t c7 h
          refine lv_iconst (v := -1) S.1 S.2.1 dX5_spare_50 rfl ?_
          exact m_iret S hr hlocks hw (so2 h) dX5_spare_51
        · replace h := if_f c7 h
          refine lv_aload_n S.1 S.2.1 dX5_spare_41 rfl (lv_at hl 0 rfl) ?_
          refine mg33 S hw dX5_spare_42 ?_
          refine lv_iload_n S.1 S.2.1 dX5_spare_45 rfl (lv_at hl 2 rfl) ?_
          refine ml33 S hw dX5_spare_46 h (fun v8 h => ?_)
          refine lv_if_ge (tgt := 52) S.1 S.2.1 dX5_spare_47 rfl (fun c9 => ?_) (fun c9 => ?_)
          · replace h := if_t c9 h
            refine lv_aload_n S.1 S.2.1 dX5_spare_52 rfl (lv_at hl 0 rfl) ?_
            refine mg32 S hw dX5_spare_53 ?_
            refine lv_bipush (v := 6) S.1 S.2.1 dX5_spare_56 rfl ?_
            refine lv_iload_n S.1 S.2.1 dX5_spare_58 rfl (lv_at hl 1 rfl) ?_
            refine lv_imul S.1 S.2.1 dX5_spare_59 ?_
            refine lv_aload_n S.1 S.2.1 dX5_spare_60 rfl (lv_at hl 0 rfl) ?_
            refine mg33 S hw dX5_spare_61 ?_
            refine lv_iload_n S.1 S.2.1 dX5_spare_64 rfl (lv_at hl 2 rfl) ?_
            refine ml33 S hw dX5_spare_65 h (fun v10 h => ?_)
            refine lv_iadd S.1 S.2.1 dX5_spare_66 ?_
            refine ml32 S hw dX5_spare_67 h (fun v11 h => ?_)
            refine lv_aload_n S.1 S.2.1 dX5_spare_68 rfl (lv_at hl 0 rfl) ?_
            refine mg32 S hw dX5_spare_69 ?_
            refine lv_bipush (v := 6) S.1 S.2.1 dX5_spare_72 rfl ?_
            refine lv_iload_n S.1 S.2.1 dX5_spare_74 rfl (lv_at hl 1 rfl) ?_
            refine lv_imul S.1 S.2.1 dX5_spare_75 ?_
            refine lv_aload_n S.1 S.2.1 dX5_spare_76 rfl (lv_at hl 0 rfl) ?_
            refine mg33 S hw dX5_spare_77 ?_
            refine lv_iload_n S.1 S.2.1 dX5_spare_80 rfl (lv_at hl 1 rfl) ?_
            refine ml33 S hw dX5_spare_81 h (fun v12 h => ?_)
            refine lv_iadd S.1 S.2.1 dX5_spare_82 ?_
            refine ml32 S hw dX5_spare_83 h (fun v13 h => ?_)
            refine lv_icmp_le (tgt := 91) S.1 S.2.1 dX5_spare_84 rfl (fun c14 => ?_) (fun c14 => ?_)
            · replace h := if_t c14 h
              refine lv_iconst (v := 0) S.1 S.2.1 dX5_spare_91 rfl ?_
              exact wk_M_spare_p92 S hr hlocks _ _ _ _ _ _ _ h hw (lv_sub hl [0, 1, 2] rfl)
            · replace h := if_f c14 h
              refine lv_iconst (v := 1) S.1 S.2.1 dX5_spare_87 rfl ?_
              refine lv_goto (tgt := 92) S.1 S.2.1 dX5_spare_88 rfl ?_
              exact wk_M_spare_p92 S hr hlocks _ _ _ _ _ _ _ h hw (lv_sub hl [0, 1, 2] rfl)
          · replace h := if_f c9 h
            refine lv_iconst (v := -1) S.1 S.2.1 dX5_spare_50 rfl ?_
            exact m_iret S hr hlocks hw (so2 h) dX5_spare_51
      · replace h := if_t c4 h
        refine lv_iconst (v := -1) S.1 S.2.1 dX5_spare_26 rfl ?_
        exact m_iret S hr hlocks hw (so2 h) dX5_spare_27
def M_choose_p5 : Nat → Int32 → Int32 → Int64 → Int32 → Option Int64
  | 0, _, _, _, _ => none
  | n + 1, x0, x1, x2, x4 =>
    if x1 ≤ x4 then
      if x1 < 0 then
        some (0 : Int64)
      else
        if x1 ≤ x0 then
          some x2
        else
          some (0 : Int64)
    else
      bd1 (o_ldiv (x2 * ((x0 - x4).toInt64)) ((x4 + (1 : Int32)).toInt64)) fun d4 =>
      (M_choose_p5 n) x0 x1 d4 (x4 + (1 : Int32))
def M_choose (x0 : Int32) (x1 : Int32) : Option Int64 :=
  M_choose_p5 FU x0 x1 (1 : Int64) (0 : Int32)
set_option maxRecDepth 100000 in
set_option maxHeartbeats 4000000 in
theorem wk_M_choose_p5 {p : Program} {l : Launch} {e : Env} {s : State} {m : MethodId} {args : Array Value} {below : List Frame} {meth : Method} {c : Code} {E : mE} {A : Nat → Prop} (S : CallFix p m c cX5_choose 5 s args lw_all RX5) (hr : meth.sig.returnType = (some .long)) (hlocks : meth.locks = false) {res : Int64}  : ∀ n : Nat, ∀ (x0 : Int32) (x1 : Int32) (x2 : Int64) (x4 : Int32) (w : MS) (H : Heap) (locs : List Loc) (ls : Array Slot), M_choose_p5 n x0 x1 x2 x4 = some res → mH E A s w H locs → lv_has ls 5 [(0, .int x0), (1, .int x1), (2, .long x2), (4, .int x4)] → W p l e rm_choose s m args below meth c H locs 0 0 (MQ below (mQl E A res w) args s 0 0 A) (F0 m 5 ls []) := by
  intro n
  induction n with
  | zero => intro x0 x1 x2 x4 w H locs ls h; cases (show (none : Option Int64) = some res from h)
  | succ n ih =>
    intro x0 x1 x2 x4 w H locs ls h hw hl
    rw [M_choose_p5] at h
    refine lv_iload S.1 S.2.1 dX5_choose_5 (lv_at hl 3 rfl) ?_
    refine lv_iload_n S.1 S.2.1 dX5_choose_7 rfl (lv_at hl 1 rfl) ?_
    refine lv_icmp_ge (tgt := 31) S.1 S.2.1 dX5_choose_8 rfl (fun c1 => ?_) (fun c1 => ?_)
    · replace h := if_t c1 h
      refine lv_iload_n S.1 S.2.1 dX5_choose_31 rfl (lv_at hl 1 rfl) ?_
      refine lv_if_lt (tgt := 40) S.1 S.2.1 dX5_choose_32 rfl (fun c2 => ?_) (fun c2 => ?_)
      · replace h := if_t c2 h
        refine lv_lconst (v := 0) S.1 S.2.1 dX5_choose_40 rfl ?_
        refine lv_goto (tgt := 45) S.1 S.2.1 dX5_choose_41 rfl ?_
        exact m_lret S hr hlocks hw ⟨so1 h, rfl⟩ dX5_choose_45
      · replace h := if_f c2 h
        refine lv_iload_n S.1 S.2.1 dX5_choose_35 rfl (lv_at hl 1 rfl) ?_
        refine lv_iload_n S.1 S.2.1 dX5_choose_36 rfl (lv_at hl 0 rfl) ?_
        refine lv_icmp_le (tgt := 44) S.1 S.2.1 dX5_choose_37 rfl (fun c3 => ?_) (fun c3 => ?_)
        · replace h := if_t c3 h
          refine lv_lload_n S.1 S.2.1 dX5_choose_44 rfl (lv_at hl 2 rfl) ?_
          exact m_lret S hr hlocks hw ⟨so1 h, rfl⟩ dX5_choose_45
        · replace h := if_f c3 h
          refine lv_lconst (v := 0) S.1 S.2.1 dX5_choose_40 rfl ?_
          refine lv_goto (tgt := 45) S.1 S.2.1 dX5_choose_41 rfl ?_
          exact m_lret S hr hlocks hw ⟨so1 h, rfl⟩ dX5_choose_45
    · replace h := if_f c1 h
      refine lv_lload_n S.1 S.2.1 dX5_choose_11 rfl (lv_at hl 2 rfl) ?_
      refine lv_iload_n S.1 S.2.1 dX5_choose_12 rfl (lv_at hl 0 rfl) ?_
      refine lv_iload S.1 S.2.1 dX5_choose_13 (lv_at hl 3 rfl) ?_
      refine lv_isub S.1 S.2.1 dX5_choose_15 ?_
      refine lv_i2l S.1 S.2.1 dX5_choose_16 rfl ?_
      refine lv_lmul S.1 S.2.1 dX5_choose_17 ?_
      refine lv_iload S.1 S.2.1 dX5_choose_18 (lv_at hl 3 rfl) ?_
      refine lv_iconst (v := 1) S.1 S.2.1 dX5_choose_20 rfl ?_
      refine lv_iadd S.1 S.2.1 dX5_choose_21 ?_
      refine lv_i2l S.1 S.2.1 dX5_choose_22 rfl ?_
      refine r_ldiv S.1 S.2.1 dX5_choose_23 h (fun d4 h => ?_)
      refine lv_lstore_n (lv' := [(2, .long d4), (0, .int x0), (1, .int x1), (4, .int x4)]) S.1 S.2.1 dX5_choose_24 rfl hl (by decide) rfl (fun ls hl => ?_)
      refine lv_iinc (v := x4 + (1 : Int32)) (lv' := [(4, .int (x4 + (1 : Int32))), (2, .long d4), (0, .int x0), (1, .int x1)]) S.1 S.2.1 dX5_choose_25 hl (k := 3) rfl rfl (by decide) rfl (fun ls hl => ?_)
      refine lv_goto (tgt := 5) S.1 S.2.1 dX5_choose_28 rfl ?_
      exact ih _ _ _ _ _ _ _ _ h hw (lv_sub hl [2, 3, 1, 0] rfl)
set_option maxRecDepth 100000 in
set_option maxHeartbeats 4000000 in
theorem met_choose (l : Launch) (E : mE) (A : Nat → Prop)  (x0 : Int32) (x1 : Int32) (w : MS) (res : Int64) (h : M_choose x0 x1 = some res) : Met l yX5_choose (ws_ yX5_choose cX5_choose 5 (some .long)) rm_choose (mPc E A [.int x0, .int x1] w) (mQl E A res w) 0 0 A := by
  refine mMet (by decide) rfl (Nat.le_of_ble_eq_true rfl) ?_
  intro p e s m below meth c S hr hlocks H ls hw hl
  replace hl : lv_has ls 5 [(0, .int x0), (1, .int x1)] := hl
  unfold M_choose at h
  refine lv_lconst (v := 1) S.1 S.2.1 dX5_choose_0 rfl ?_
  refine lv_lstore_n (lv' := [(2, .long (1 : Int64)), (0, .int x0), (1, .int x1)]) S.1 S.2.1 dX5_choose_1 rfl hl (by decide) rfl (fun ls hl => ?_)
  refine lv_iconst (v := 0) S.1 S.2.1 dX5_choose_2 rfl ?_
  refine lv_istore (lv' := [(4, .int (0 : Int32)), (2, .long (1 : Int64)), (0, .int x0), (1, .int x1)]) S.1 S.2.1 dX5_choose_3 hl (by decide) rfl (fun ls hl => ?_)
  exact wk_M_choose_p5 S hr hlocks FU _ _ _ _ _ _ _ _ h hw (lv_sub hl [2, 3, 1, 0] rfl)
def M_sampled_p52 : Nat → Int32 → Int32 → Int32 → Int64 → Int32 → MS → Option (Int32 × MS)
  | 0, _, _, _, _, _, _ => none
  | n + 1, x1, x2, x3, x5, x7, w =>
    if x3 < x7 then
      bd1 (M_choose x1 x3) fun r7 =>
      bd1 (o_ldiv (x5 * (1000000 : Int64)) r7) fun d8 =>
      some (d8.toInt32, w)
    else
      bd1 (M_choose x2 x7) fun r9 =>
      bd1 (M_choose (x1 - x2) (x3 - x7)) fun r10 =>
      bdp (x5 + (r9 * r10)) fun y11 =>
      (M_sampled_p52 n) x1 x2 x3 y11 (x7 + (1 : Int32)) w
def M_sampled (x1 : Int32) (x2 : Int32) (x3 : Int32) (x4 : Int32) (w : MS) : Option (Int32 × MS) :=
  bdp (wI w 0 0 (0 : Int32)) fun w1 =>
  if (M_within x1 (1 : Int32) (30 : Int32)) = 0 then
    some ((-1 : Int32), w1)
  else
    if (M_within x2 (0 : Int32) x1) = 0 then
      some ((-1 : Int32), w1)
    else
      if (M_within x3 (0 : Int32) x1) = 0 then
        some ((-1 : Int32), w1)
      else
        if (M_within x4 (0 : Int32) x3) = 0 then
          some ((-1 : Int32), w1)
        else
          M_sampled_p52 FU x1 x2 x3 (0 : Int64) x4 w1
set_option maxRecDepth 100000 in
set_option maxHeartbeats 4000000 in
theorem wk_M_sampled_p52 {p : Program} {l : Launch} {e : Env} {s : State} {m : MethodId} {args : Array Value} {below : List Frame} {meth : Method} {c : Code} {E : mE} {A : Nat → Prop} (S : CallFix p m c cX5_sampled 8 s args lw_all RX5) (hr : meth.sig.returnType = (some .int)) (hlocks : meth.locks = false) {res : Int32 × MS}  : ∀ n : Nat, ∀ (x1 : Int32) (x2 : Int32) (x3 : Int32) (x5 : Int64) (x7 : Int32) (w : MS) (H : Heap) (locs : List Loc) (ls : Array Slot), M_sampled_p52 n x1 x2 x3 x5 x7 w = some res → mH E A s w H locs → lv_has ls 8 [(0, .ref (mM E)), (1, .int x1), (2, .int x2), (3, .int x3), (5, .long x5), (7, .int x7)] → W p l e rm_sampled s m args below meth c H locs 0 0 (MQ below (mQi E A res.1 res.2) args s 0 0 A) (F0 m 52 ls []) := by
  intro n
  induction n with
  | zero => intro x1 x2 x3 x5 x7 w H locs ls h; cases (show (none : Option (Int32 × MS)) = some res from h)
  | succ n ih =>
    intro x1 x2 x3 x5 x7 w H locs ls h hw hl
    rw [M_sampled_p52] at h
    refine lv_iload S.1 S.2.1 dX5_sampled_52 (lv_at hl 5 rfl) ?_
    refine lv_iload_n S.1 S.2.1 dX5_sampled_54 rfl (lv_at hl 3 rfl) ?_
    refine lv_icmp_gt (tgt := 86) S.1 S.2.1 dX5_sampled_55 rfl (fun c6 => ?_) (fun c6 => ?_)
    · replace h := if_t c6 h
      refine lv_lload S.1 S.2.1 dX5_sampled_86 (lv_at hl 4 rfl) ?_
      refine lv_ldc2 (v := 1000000) S.1 S.2.1 S.2.2.2.1 (S.2.2.2.2 _ q2269) dX5_sampled_88 ?_
      refine lv_lmul S.1 S.2.1 dX5_sampled_91 ?_
      refine lv_iload_n S.1 S.2.1 dX5_sampled_92 rfl (lv_at hl 1 rfl) ?_
      refine lv_iload_n S.1 S.2.1 dX5_sampled_93 rfl (lv_at hl 3 rfl) ?_
      refine mcSrl (As := [.int x1, .int x3]) (rest := [.long (x5 * (1000000 : Int64))]) S hw h (fun u h1 => met_choose l E A x1 x3 w u h1) (cw_choose S.2.2.2.2 rfl rfl ⟨Nat.le_of_ble_eq_true rfl, Nat.le_of_ble_eq_true rfl⟩) rfl hl.1 rfl (lv_room (Nat.le_of_ble_eq_true rfl)) dX5_sampled_94 (fun r7 H locs h hw => ?_)
      refine r_ldiv S.1 S.2.1 dX5_sampled_97 h (fun d8 h => ?_)
      refine lv_l2i S.1 S.2.1 dX5_sampled_98 rfl ?_
      exact m_iret S hr hlocks hw (so2 h) dX5_sampled_99
    · replace h := if_f c6 h
      refine lv_lload S.1 S.2.1 dX5_sampled_58 (lv_at hl 4 rfl) ?_
      refine lv_iload_n S.1 S.2.1 dX5_sampled_60 rfl (lv_at hl 2 rfl) ?_
      refine lv_iload S.1 S.2.1 dX5_sampled_61 (lv_at hl 5 rfl) ?_
      refine mcSrl (As := [.int x2, .int x7]) (rest := [.long x5]) S hw h (fun u h1 => met_choose l E A x2 x7 w u h1) (cw_choose S.2.2.2.2 rfl rfl ⟨Nat.le_of_ble_eq_true rfl, Nat.le_of_ble_eq_true rfl⟩) rfl hl.1 rfl (lv_room (Nat.le_of_ble_eq_true rfl)) dX5_sampled_63 (fun r9 H locs h hw => ?_)
      refine lv_iload_n S.1 S.2.1 dX5_sampled_66 rfl (lv_at hl 1 rfl) ?_
      refine lv_iload_n S.1 S.2.1 dX5_sampled_67 rfl (lv_at hl 2 rfl) ?_
      refine lv_isub S.1 S.2.1 dX5_sampled_68 ?_
      refine lv_iload_n S.1 S.2.1 dX5_sampled_69 rfl (lv_at hl 3 rfl) ?_
      refine lv_iload S.1 S.2.1 dX5_sampled_70 (lv_at hl 5 rfl) ?_
      refine lv_isub S.1 S.2.1 dX5_sampled_72 ?_
      refine mcSrl (As := [.int (x1 - x2), .int (x3 - x7)]) (rest := [.long r9, .long x5]) S hw h (fun u h1 => met_choose l E A (x1 - x2) (x3 - x7) w u h1) (cw_choose S.2.2.2.2 rfl rfl ⟨Nat.le_of_ble_eq_true rfl, Nat.le_of_ble_eq_true rfl⟩) rfl hl.1 rfl (lv_room (Nat.le_of_ble_eq_true rfl)) dX5_sampled_73 (fun r10 H locs h hw => ?_)
      refine lv_lmul S.1 S.2.1 dX5_sampled_76 ?_
      refine lv_ladd S.1 S.2.1 dX5_sampled_77 ?_
      refine lv_topl (fun y11 ey => ?_)
      replace h := bdp_e ey h
      refine lv_lstore (lv' := [(5, .long y11), (0, .ref (mM E)), (1, .int x1), (2, .int x2), (3, .int x3), (7, .int x7)]) S.1 S.2.1 dX5_sampled_78 hl (by decide) rfl (fun ls hl => ?_)
      refine lv_iinc (v := x7 + (1 : Int32)) (lv' := [(7, .int (x7 + (1 : Int32))), (5, .long y11), (0, .ref (mM E)), (1, .int x1), (2, .int x2), (3, .int x3)]) S.1 S.2.1 dX5_sampled_80 hl (k := 5) rfl rfl (by decide) rfl (fun ls hl => ?_)
      refine lv_goto (tgt := 52) S.1 S.2.1 dX5_sampled_83 rfl ?_
      exact ih _ _ _ _ _ _ _ _ _ h hw (lv_sub hl [2, 3, 4, 5, 1, 0] rfl)
set_option maxRecDepth 100000 in
set_option maxHeartbeats 4000000 in
theorem met_sampled (l : Launch) (E : mE) (A : Nat → Prop)  (x1 : Int32) (x2 : Int32) (x3 : Int32) (x4 : Int32) (w : MS) (res : Int32 × MS) (h : M_sampled x1 x2 x3 x4 w = some res) : Met l yX5_sampled (ws_ yX5_sampled cX5_sampled 8 (some .int)) rm_sampled (mPc E A [.ref (mM E), .int x1, .int x2, .int x3, .int x4] w) (mQi E A res.1 res.2) 0 0 A := by
  refine mMet (by decide) rfl (Nat.le_of_ble_eq_true rfl) ?_
  intro p e s m below meth c S hr hlocks H ls hw hl
  replace hl : lv_has ls 8 [(0, .ref (mM E)), (1, .int x1), (2, .int x2), (3, .int x3), (4, .int x4)] := hl
  unfold M_sampled at h
  refine lv_aload_n S.1 S.2.1 dX5_sampled_0 rfl (lv_at hl 0 rfl) ?_
  refine lv_iconst (v := 0) S.1 S.2.1 dX5_sampled_1 rfl ?_
  refine mp0 S hw dX5_sampled_2 h (fun w1 H locs h hw => ?_)
  refine lv_iload_n S.1 S.2.1 dX5_sampled_5 rfl (lv_at hl 1 rfl) ?_
  refine lv_iconst (v := 1) S.1 S.2.1 dX5_sampled_6 rfl ?_
  refine lv_bipush (v := 30) S.1 S.2.1 dX5_sampled_7 rfl ?_
  refine mcSti (As := [.int x1, .int (1 : Int32), .int (30 : Int32)]) (rest := []) S hw (met_within l E A x1 (1 : Int32) (30 : Int32) w1 _ rfl) (cw_within S.2.2.2.2 rfl rfl ⟨Nat.le_of_ble_eq_true rfl, Nat.le_of_ble_eq_true rfl⟩) rfl hl.1 rfl (lv_room (Nat.le_of_ble_eq_true rfl)) dX5_sampled_9 (fun H locs hw => ?_)
  refine lv_if_eq (tgt := 43) S.1 S.2.1 dX5_sampled_12 rfl (fun c2 => ?_) (fun c2 => ?_)
  · replace h := if_t c2 h
    refine lv_iconst (v := -1) S.1 S.2.1 dX5_sampled_43 rfl ?_
    exact m_iret S hr hlocks hw (so2 h) dX5_sampled_44
  · replace h := if_f c2 h
    refine lv_iload_n S.1 S.2.1 dX5_sampled_15 rfl (lv_at hl 2 rfl) ?_
    refine lv_iconst (v := 0) S.1 S.2.1 dX5_sampled_16 rfl ?_
    refine lv_iload_n S.1 S.2.1 dX5_sampled_17 rfl (lv_at hl 1 rfl) ?_
    refine mcSti (As := [.int x2, .int (0 : Int32), .int x1]) (rest := []) S hw (met_within l E A x2 (0 : Int32) x1 w1 _ rfl) (cw_within S.2.2.2.2 rfl rfl ⟨Nat.le_of_ble_eq_true rfl, Nat.le_of_ble_eq_true rfl⟩) rfl hl.1 rfl (lv_room (Nat.le_of_ble_eq_true rfl)) dX5_sampled_18 (fun H locs hw => ?_)
    refine lv_if_eq (tgt := 43) S.1 S.2.1 dX5_sampled_21 rfl (fun c3 => ?_) (fun c3 => ?_)
    · replace h := if_t c3 h
      refine lv_iconst (v := -1) S.1 S.2.1 dX5_sampled_43 rfl ?_
      exact m_iret S hr hlocks hw (so2 h) dX5_sampled_44
    · replace h := if_f c3 h
      refine lv_iload_n S.1 S.2.1 dX5_sampled_24 rfl (lv_at hl 3 rfl) ?_
      refine lv_iconst (v := 0) S.1 S.2.1 dX5_sampled_25 rfl ?_
      refine lv_iload_n S.1 S.2.1 dX5_sampled_26 rfl (lv_at hl 1 rfl) ?_
      refine mcSti (As := [.int x3, .int (0 : Int32), .int x1]) (rest := []) S hw (met_within l E A x3 (0 : Int32) x1 w1 _ rfl) (cw_within S.2.2.2.2 rfl rfl ⟨Nat.le_of_ble_eq_true rfl, Nat.le_of_ble_eq_true rfl⟩) rfl hl.1 rfl (lv_room (Nat.le_of_ble_eq_true rfl)) dX5_sampled_27 (fun H locs hw => ?_)
      refine lv_if_eq (tgt := 43) S.1 S.2.1 dX5_sampled_30 rfl (fun c4 => ?_) (fun c4 => ?_)
      · replace h := if_t c4 h
        refine lv_iconst (v := -1) S.1 S.2.1 dX5_sampled_43 rfl ?_
        exact m_iret S hr hlocks hw (so2 h) dX5_sampled_44
      · replace h := if_f c4 h
        refine lv_iload S.1 S.2.1 dX5_sampled_33 (lv_at hl 4 rfl) ?_
        refine lv_iconst (v := 0) S.1 S.2.1 dX5_sampled_35 rfl ?_
        refine lv_iload_n S.1 S.2.1 dX5_sampled_36 rfl (lv_at hl 3 rfl) ?_
        refine mcSti (As := [.int x4, .int (0 : Int32), .int x3]) (rest := []) S hw (met_within l E A x4 (0 : Int32) x3 w1 _ rfl) (cw_within S.2.2.2.2 rfl rfl ⟨Nat.le_of_ble_eq_true rfl, Nat.le_of_ble_eq_true rfl⟩) rfl hl.1 rfl (lv_room (Nat.le_of_ble_eq_true rfl)) dX5_sampled_37 (fun H locs hw => ?_)
        refine lv_if_ne (tgt := 45) S.1 S.2.1 dX5_sampled_40 rfl (fun c5 => ?_) (fun c5 => ?_)
        · replace h := if_f c5 h
          refine lv_lconst (v := 0) S.1 S.2.1 dX5_sampled_45 rfl ?_
          refine lv_lstore (lv' := [(5, .long (0 : Int64)), (0, .ref (mM E)), (1, .int x1), (2, .int x2), (3, .int x3), (4, .int x4)]) S.1 S.2.1 dX5_sampled_46 hl (by decide) rfl (fun ls hl => ?_)
          refine lv_iload S.1 S.2.1 dX5_sampled_48 (lv_at hl 5 rfl) ?_
          refine lv_istore (lv' := [(7, .int x4), (5, .long (0 : Int64)), (0, .ref (mM E)), (1, .int x1), (2, .int x2), (3, .int x3), (4, .int x4)]) S.1 S.2.1 dX5_sampled_50 hl (by decide) rfl (fun ls hl => ?_)
          exact wk_M_sampled_p52 S hr hlocks FU _ _ _ _ _ _ _ _ _ h hw (lv_sub hl [2, 3, 4, 5, 1, 0] rfl)
        · replace h := if_t c5 h
          refine lv_iconst (v := -1) S.1 S.2.1 dX5_sampled_43 rfl ?_
          exact m_iret S hr hlocks hw (so2 h) dX5_sampled_44
def M_bits_p4 : Nat → Int32 → Int32 → Int32 → Option Int32
  | 0, _, _, _ => none
  | n + 1, x0, x1, x2 =>
    if (30 : Int32) ≤ x2 then
      some x1
    else
      bdp (x1 + ((x0 >>> (x2 &&& 31)) &&& (1 : Int32))) fun y2 =>
      (M_bits_p4 n) x0 y2 (x2 + (1 : Int32))
def M_bits (x0 : Int32) : Option Int32 :=
  M_bits_p4 FU x0 (0 : Int32) (0 : Int32)
set_option maxRecDepth 100000 in
set_option maxHeartbeats 4000000 in
theorem wk_M_bits_p4 {p : Program} {l : Launch} {e : Env} {s : State} {m : MethodId} {args : Array Value} {below : List Frame} {meth : Method} {c : Code} {E : mE} {A : Nat → Prop} (S : CallFix p m c cX5_bits 3 s args lw_all RX5) (hr : meth.sig.returnType = (some .int)) (hlocks : meth.locks = false) {res : Int32}  : ∀ n : Nat, ∀ (x0 : Int32) (x1 : Int32) (x2 : Int32) (w : MS) (H : Heap) (locs : List Loc) (ls : Array Slot), M_bits_p4 n x0 x1 x2 = some res → mH E A s w H locs → lv_has ls 3 [(0, .int x0), (1, .int x1), (2, .int x2)] → W p l e rm_bits s m args below meth c H locs 0 0 (MQ below (mQi E A res w) args s 0 0 A) (F0 m 4 ls []) := by
  intro n
  induction n with
  | zero => intro x0 x1 x2 w H locs ls h; cases (show (none : Option Int32) = some res from h)
  | succ n ih =>
    intro x0 x1 x2 w H locs ls h hw hl
    rw [M_bits_p4] at h
    refine lv_iload_n S.1 S.2.1 dX5_bits_4 rfl (lv_at hl 2 rfl) ?_
    refine lv_bipush (v := 30) S.1 S.2.1 dX5_bits_5 rfl ?_
    refine lv_icmp_ge (tgt := 24) S.1 S.2.1 dX5_bits_7 rfl (fun c1 => ?_) (fun c1 => ?_)
    · replace h := if_t c1 h
      refine lv_iload_n S.1 S.2.1 dX5_bits_24 rfl (lv_at hl 1 rfl) ?_
      exact m_iret S hr hlocks hw ⟨so1 h, rfl⟩ dX5_bits_25
    · replace h := if_f c1 h
      refine lv_iload_n S.1 S.2.1 dX5_bits_10 rfl (lv_at hl 1 rfl) ?_
      refine lv_iload_n S.1 S.2.1 dX5_bits_11 rfl (lv_at hl 0 rfl) ?_
      refine lv_iload_n S.1 S.2.1 dX5_bits_12 rfl (lv_at hl 2 rfl) ?_
      refine lv_ishr S.1 S.2.1 dX5_bits_13 ?_
      refine lv_iconst (v := 1) S.1 S.2.1 dX5_bits_14 rfl ?_
      refine lv_iand S.1 S.2.1 dX5_bits_15 ?_
      refine lv_iadd S.1 S.2.1 dX5_bits_16 ?_
      refine lv_topi (fun y2 ey => ?_)
      replace h := bdp_e ey h
      refine lv_istore_n (lv' := [(1, .int y2), (0, .int x0), (2, .int x2)]) S.1 S.2.1 dX5_bits_17 rfl hl (by decide) rfl (fun ls hl => ?_)
      refine lv_iinc (v := x2 + (1 : Int32)) (lv' := [(2, .int (x2 + (1 : Int32))), (1, .int y2), (0, .int x0)]) S.1 S.2.1 dX5_bits_18 hl (k := 2) rfl rfl (by decide) rfl (fun ls hl => ?_)
      refine lv_goto (tgt := 4) S.1 S.2.1 dX5_bits_21 rfl ?_
      exact ih _ _ _ _ _ _ _ h hw (lv_sub hl [2, 1, 0] rfl)
set_option maxRecDepth 100000 in
set_option maxHeartbeats 4000000 in
theorem met_bits (l : Launch) (E : mE) (A : Nat → Prop)  (x0 : Int32) (w : MS) (res : Int32) (h : M_bits x0 = some res) : Met l yX5_bits (ws_ yX5_bits cX5_bits 3 (some .int)) rm_bits (mPc E A [.int x0] w) (mQi E A res w) 0 0 A := by
  refine mMet (by decide) rfl (Nat.le_of_ble_eq_true rfl) ?_
  intro p e s m below meth c S hr hlocks H ls hw hl
  replace hl : lv_has ls 3 [(0, .int x0)] := hl
  unfold M_bits at h
  refine lv_iconst (v := 0) S.1 S.2.1 dX5_bits_0 rfl ?_
  refine lv_istore_n (lv' := [(1, .int (0 : Int32)), (0, .int x0)]) S.1 S.2.1 dX5_bits_1 rfl hl (by decide) rfl (fun ls hl => ?_)
  refine lv_iconst (v := 0) S.1 S.2.1 dX5_bits_2 rfl ?_
  refine lv_istore_n (lv' := [(2, .int (0 : Int32)), (1, .int (0 : Int32)), (0, .int x0)]) S.1 S.2.1 dX5_bits_3 rfl hl (by decide) rfl (fun ls hl => ?_)
  exact wk_M_bits_p4 S hr hlocks FU _ _ _ _ _ _ _ h hw (lv_sub hl [2, 1, 0] rfl)
def M_haunted_p39 (k13 : Int32 → Int32 → Int32 → Int32 → MS → Option (Int32 × MS)) (x1 : Int32) (x2 : Int32) (x3 : Int32) (x4 : Int32) (w : MS) : Option (Int32 × MS) :=
  bd2 (M_passes (1176 : Int32) w) fun r7 w6 =>
  k13 x1 x2 x3 (x4 + (1 : Int32)) w6
def M_haunted_p13 : Nat → Int32 → Int32 → Int32 → Int32 → MS → Option (Int32 × MS)
  | 0, _, _, _, _, _ => none
  | n + 1, x1, x2, x3, x4, w =>
    if (12 : Int32) ≤ x4 then
      bd1 (rA w 25 1288 ((1183 : Int32) + x1)) fun v3 =>
      bd1 (rA w 25 1288 ((7 : Int32) + x1)) fun v4 =>
      some (v3 - v4, w)
    else
      if ((x2 >>> (x4 &&& 31)) &&& (1 : Int32)) = (1 : Int32) then
        bd1 (M_frights (1176 : Int32) x1 x3 w) fun w8 =>
        M_haunted_p39 (M_haunted_p13 n) x1 x2 x3 x4 w8
      else
        M_haunted_p39 (M_haunted_p13 n) x1 x2 x3 x4 w
def M_haunted (x1 : Int32) (x2 : Int32) (x3 : Int32) (w : MS) : Option (Int32 × MS) :=
  bd1 (M_copies (0 : Int32) (1176 : Int32) (43 : Int32) w) fun w1 =>
  M_haunted_p13 FU x1 x2 x3 (0 : Int32) w1
set_option maxRecDepth 100000 in
set_option maxHeartbeats 4000000 in
theorem wk_M_haunted_p39 {p : Program} {l : Launch} {e : Env} {s : State} {m : MethodId} {args : Array Value} {below : List Frame} {meth : Method} {c : Code} {E : mE} {A : Nat → Prop} (S : CallFix p m c cX5_haunted 5 s args lw_all RX5) (hr : meth.sig.returnType = (some .int)) (hlocks : meth.locks = false) {res : Int32 × MS}  {k13 : Int32 → Int32 → Int32 → Int32 → MS → Option (Int32 × MS)} (hk13 : ∀ (x1 : Int32) (x2 : Int32) (x3 : Int32) (x4 : Int32) (w : MS) (H : Heap) (locs : List Loc) (ls : Array Slot), k13 x1 x2 x3 x4 w = some res → mH E A s w H locs → lv_has ls 5 [(0, .ref (mM E)), (1, .int x1), (2, .int x2), (3, .int x3), (4, .int x4)] → W p l e rm_haunted s m args below meth c H locs 0 0 (MQ below (mQi E A res.1 res.2) args s 0 0 A) (F0 m 13 ls [])) : ∀ (x1 : Int32) (x2 : Int32) (x3 : Int32) (x4 : Int32) (w : MS) (H : Heap) (locs : List Loc) (ls : Array Slot), M_haunted_p39 k13 x1 x2 x3 x4 w = some res → mH E A s w H locs → lv_has ls 5 [(0, .ref (mM E)), (1, .int x1), (2, .int x2), (3, .int x3), (4, .int x4)] → W p l e rm_haunted s m args below meth c H locs 0 0 (MQ below (mQi E A res.1 res.2) args s 0 0 A) (F0 m 39 ls []) := by
  intro x1 x2 x3 x4 w H locs ls h hw hl
  unfold M_haunted_p39 at h
  refine lv_aload_n S.1 S.2.1 dX5_haunted_39 rfl (lv_at hl 0 rfl) ?_
  refine lv_sipush (v := 1176) S.1 S.2.1 dX5_haunted_40 rfl ?_
  refine mcVwi (As := [.int (1176 : Int32)]) (rest := []) S hw h (fun u h1 => met_passes l E A (1176 : Int32) w u h1) (cw_passes S.2.2.2.2 rfl rfl ⟨Nat.le_of_ble_eq_true rfl, Nat.le_of_ble_eq_true rfl⟩) rfl hl.1 rfl (lv_room (Nat.le_of_ble_eq_true rfl)) dX5_haunted_43 (fun r7 w6 H locs h hw => ?_)
  refine lv_pop S.1 S.2.1 dX5_haunted_46 rfl ?_
  refine lv_iinc (v := x4 + (1 : Int32)) (lv' := [(4, .int (x4 + (1 : Int32))), (0, .ref (mM E)), (1, .int x1), (2, .int x2), (3, .int x3)]) S.1 S.2.1 dX5_haunted_47 hl (k := 4) rfl rfl (by decide) rfl (fun ls hl => ?_)
  refine lv_goto (tgt := 13) S.1 S.2.1 dX5_haunted_50 rfl ?_
  exact hk13 _ _ _ _ _ _ _ _ h hw (lv_sub hl [1, 2, 3, 4, 0] rfl)
set_option maxRecDepth 100000 in
set_option maxHeartbeats 4000000 in
theorem wk_M_haunted_p13 {p : Program} {l : Launch} {e : Env} {s : State} {m : MethodId} {args : Array Value} {below : List Frame} {meth : Method} {c : Code} {E : mE} {A : Nat → Prop} (S : CallFix p m c cX5_haunted 5 s args lw_all RX5) (hr : meth.sig.returnType = (some .int)) (hlocks : meth.locks = false) {res : Int32 × MS}  : ∀ n : Nat, ∀ (x1 : Int32) (x2 : Int32) (x3 : Int32) (x4 : Int32) (w : MS) (H : Heap) (locs : List Loc) (ls : Array Slot), M_haunted_p13 n x1 x2 x3 x4 w = some res → mH E A s w H locs → lv_has ls 5 [(0, .ref (mM E)), (1, .int x1), (2, .int x2), (3, .int x3), (4, .int x4)] → W p l e rm_haunted s m args below meth c H locs 0 0 (MQ below (mQi E A res.1 res.2) args s 0 0 A) (F0 m 13 ls []) := by
  intro n
  induction n with
  | zero => intro x1 x2 x3 x4 w H locs ls h; cases (show (none : Option (Int32 × MS)) = some res from h)
  | succ n ih =>
    intro x1 x2 x3 x4 w H locs ls h hw hl
    rw [M_haunted_p13] at h
    refine lv_iload S.1 S.2.1 dX5_haunted_13 (lv_at hl 4 rfl) ?_
    refine lv_bipush (v := 12) S.1 S.2.1 dX5_haunted_15 rfl ?_
    refine lv_icmp_ge (tgt := 53) S.1 S.2.1 dX5_haunted_17 rfl (fun c2 => ?_) (fun c2 => ?_)
    · replace h := if_t c2 h
      refine lv_aload_n S.1 S.2.1 dX5_haunted_53 rfl (lv_at hl 0 rfl) ?_
      refine mg25 S hw dX5_haunted_54 ?_
      refine lv_sipush (v := 1183) S.1 S.2.1 dX5_haunted_57 rfl ?_
      refine lv_iload_n S.1 S.2.1 dX5_haunted_60 rfl (lv_at hl 1 rfl) ?_
      refine lv_iadd S.1 S.2.1 dX5_haunted_61 ?_
      refine ml25 S hw dX5_haunted_62 h (fun v3 h => ?_)
      refine lv_aload_n S.1 S.2.1 dX5_haunted_63 rfl (lv_at hl 0 rfl) ?_
      refine mg25 S hw dX5_haunted_64 ?_
      refine lv_bipush (v := 7) S.1 S.2.1 dX5_haunted_67 rfl ?_
      refine lv_iload_n S.1 S.2.1 dX5_haunted_69 rfl (lv_at hl 1 rfl) ?_
      refine lv_iadd S.1 S.2.1 dX5_haunted_70 ?_
      refine ml25 S hw dX5_haunted_71 h (fun v4 h => ?_)
      refine lv_isub S.1 S.2.1 dX5_haunted_72 ?_
      exact m_iret S hr hlocks hw (so2 h) dX5_haunted_73
    · replace h := if_f c2 h
      refine lv_iload_n S.1 S.2.1 dX5_haunted_20 rfl (lv_at hl 2 rfl) ?_
      refine lv_iload S.1 S.2.1 dX5_haunted_21 (lv_at hl 4 rfl) ?_
      refine lv_ishr S.1 S.2.1 dX5_haunted_23 ?_
      refine lv_iconst (v := 1) S.1 S.2.1 dX5_haunted_24 rfl ?_
      refine lv_iand S.1 S.2.1 dX5_haunted_25 ?_
      refine lv_iconst (v := 1) S.1 S.2.1 dX5_haunted_26 rfl ?_
      refine lv_icmp_ne (tgt := 39) S.1 S.2.1 dX5_haunted_27 rfl (fun c5 => ?_) (fun c5 => ?_)
      · replace h := if_f c5 h
        exact wk_M_haunted_p39 S hr hlocks ih _ _ _ _ _ _ _ _ h hw (lv_sub hl [0, 1, 2, 3, 4] rfl)
      · replace h := if_t c5 h
        refine lv_aload_n S.1 S.2.1 dX5_haunted_30 rfl (lv_at hl 0 rfl) ?_
        refine lv_sipush (v := 1176) S.1 S.2.1 dX5_haunted_31 rfl ?_
        refine lv_iload_n S.1 S.2.1 dX5_haunted_34 rfl (lv_at hl 1 rfl) ?_
        refine lv_iload_n S.1 S.2.1 dX5_haunted_35 rfl (lv_at hl 3 rfl) ?_
        refine mcVv (As := [.int (1176 : Int32), .int x1, .int x3]) (rest := []) S hw h (fun u h1 => met_frights l E A (1176 : Int32) x1 x3 w u h1) (cw_frights S.2.2.2.2 rfl rfl ⟨Nat.le_of_ble_eq_true rfl, Nat.le_of_ble_eq_true rfl⟩) rfl hl.1 rfl (lv_room (Nat.le_of_ble_eq_true rfl)) dX5_haunted_36 (fun w8 H locs h hw => ?_)
        exact wk_M_haunted_p39 S hr hlocks ih _ _ _ _ _ _ _ _ h hw (lv_sub hl [0, 1, 2, 3, 4] rfl)
set_option maxRecDepth 100000 in
set_option maxHeartbeats 4000000 in
theorem met_haunted (l : Launch) (E : mE) (A : Nat → Prop)  (x1 : Int32) (x2 : Int32) (x3 : Int32) (w : MS) (res : Int32 × MS) (h : M_haunted x1 x2 x3 w = some res) : Met l yX5_haunted (ws_ yX5_haunted cX5_haunted 5 (some .int)) rm_haunted (mPc E A [.ref (mM E), .int x1, .int x2, .int x3] w) (mQi E A res.1 res.2) 0 0 A := by
  refine mMet (by decide) rfl (Nat.le_of_ble_eq_true rfl) ?_
  intro p e s m below meth c S hr hlocks H ls hw hl
  replace hl : lv_has ls 5 [(0, .ref (mM E)), (1, .int x1), (2, .int x2), (3, .int x3)] := hl
  unfold M_haunted at h
  refine lv_aload_n S.1 S.2.1 dX5_haunted_0 rfl (lv_at hl 0 rfl) ?_
  refine lv_iconst (v := 0) S.1 S.2.1 dX5_haunted_1 rfl ?_
  refine lv_sipush (v := 1176) S.1 S.2.1 dX5_haunted_2 rfl ?_
  refine lv_bipush (v := 43) S.1 S.2.1 dX5_haunted_5 rfl ?_
  refine mcVv (As := [.int (0 : Int32), .int (1176 : Int32), .int (43 : Int32)]) (rest := []) S hw h (fun u h1 => met_copies l E A (0 : Int32) (1176 : Int32) (43 : Int32) w u h1) (cw_copies S.2.2.2.2 rfl rfl ⟨Nat.le_of_ble_eq_true rfl, Nat.le_of_ble_eq_true rfl⟩) rfl hl.1 rfl (lv_room (Nat.le_of_ble_eq_true rfl)) dX5_haunted_7 (fun w1 H locs h hw => ?_)
  refine lv_iconst (v := 0) S.1 S.2.1 dX5_haunted_10 rfl ?_
  refine lv_istore (lv' := [(4, .int (0 : Int32)), (0, .ref (mM E)), (1, .int x1), (2, .int x2), (3, .int x3)]) S.1 S.2.1 dX5_haunted_11 hl (by decide) rfl (fun ls hl => ?_)
  exact wk_M_haunted_p13 S hr hlocks FU _ _ _ _ _ _ _ _ h hw (lv_sub hl [1, 2, 3, 4, 0] rfl)
