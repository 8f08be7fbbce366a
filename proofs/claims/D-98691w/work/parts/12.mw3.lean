/-! walks of the Model, printed by gen/model.py -/
set_option maxRecDepth 100000
def M_readMonth (x1 : Int32) (x2 : Int32) (w : MS) : Option MS :=
  if x1 = (3 : Int32) then
    bd2 (M_takeNumber (1 : Int32) (120 : Int32) w) fun r16 w15 =>
    bd1 (wA w15 22 200 x2 r16) fun w17 =>
    some w17
  else
    if x1 = (4 : Int32) then
      some w
    else
      bd2 (M_takeTold (0 : Int32) (20 : Int32) w) fun r4 w3 =>
      bd1 (wA w3 22 200 x2 r4) fun w5 =>
      if x1 = (1 : Int32) then
        bd2 (M_takeNumber (1 : Int32) (99 : Int32) w5) fun r13 w12 =>
        bd1 (wA w12 22 200 (x2 + (1 : Int32)) r13) fun w14 =>
        some w14
      else
        if x1 = (5 : Int32) then
          bd2 (M_takeTold (0 : Int32) (0 : Int32) w5) fun r10 w9 =>
          bd1 (wA w9 22 200 (x2 + (1 : Int32)) r10) fun w11 =>
          some w11
        else
          bd1 (wA w5 22 200 (x2 + (1 : Int32)) (0 : Int32)) fun w8 =>
          some w8
set_option maxRecDepth 100000 in
set_option maxHeartbeats 4000000 in
theorem met_readMonth (l : Launch) (E : mE) (A : Nat → Prop)  (x1 : Int32) (x2 : Int32) (w : MS) (res : MS) (h : M_readMonth x1 x2 w = some res) : Met l yX5_readMonth (ws_ yX5_readMonth cX5_readMonth 3 none) rm_readMonth (mPc E A [.ref (mM E), .int x1, .int x2] w) (mQv E A res) 0 0 A := by
  refine mMet (by decide) rfl (Nat.le_of_ble_eq_true rfl) ?_
  intro p e s m below meth c S hr hlocks H ls hw hl
  replace hl : lv_has ls 3 [(0, .ref (mM E)), (1, .int x1), (2, .int x2)] := hl
  unfold M_readMonth at h
  refine lv_iload_n S.1 S.2.1 dX5_readMonth_0 rfl (lv_at hl 1 rfl) ?_
  refine lv_iconst (v := 3) S.1 S.2.1 dX5_readMonth_1 rfl ?_
  refine lv_icmp_ne (tgt := 21) S.1 S.2.1 dX5_readMonth_2 rfl (fun c1 => ?_) (fun c1 => ?_)
  · replace h := if_f c1 h
    refine lv_iload_n S.1 S.2.1 dX5_readMonth_21 rfl (lv_at hl 1 rfl) ?_
    refine lv_iconst (v := 4) S.1 S.2.1 dX5_readMonth_22 rfl ?_
    refine lv_icmp_eq (tgt := 77) S.1 S.2.1 dX5_readMonth_23 rfl (fun c2 => ?_) (fun c2 => ?_)
    · replace h := if_t c2 h
      exact m_vret S hr hlocks hw (so1 h) dX5_readMonth_77
    · replace h := if_f c2 h
      refine lv_aload_n S.1 S.2.1 dX5_readMonth_26 rfl (lv_at hl 0 rfl) ?_
      refine mg22 S hw dX5_readMonth_27 ?_
      refine lv_iload_n S.1 S.2.1 dX5_readMonth_30 rfl (lv_at hl 2 rfl) ?_
      refine lv_aload_n S.1 S.2.1 dX5_readMonth_31 rfl (lv_at hl 0 rfl) ?_
      refine lv_iconst (v := 0) S.1 S.2.1 dX5_readMonth_32 rfl ?_
      refine lv_bipush (v := 20) S.1 S.2.1 dX5_readMonth_33 rfl ?_
      refine mcVwi (As := [.int (0 : Int32), .int (20 : Int32)]) (rest := [.int x2, .ref (mAr E 22)]) S hw h (fun u h1 => met_takeTold l E A (0 : Int32) (20 : Int32) w u h1) (cw_takeTold S.2.2.2.2 rfl rfl ⟨Nat.le_of_ble_eq_true rfl, Nat.le_of_ble_eq_true rfl⟩) rfl hl.1 rfl (lv_room (Nat.le_of_ble_eq_true rfl)) dX5_readMonth_35 (fun r4 w3 H locs h hw => ?_)
      refine ms22 S hw dX5_readMonth_38 h (fun w5 H locs h hw => ?_)
      refine lv_aload_n S.1 S.2.1 dX5_readMonth_39 rfl (lv_at hl 0 rfl) ?_
      refine mg22 S hw dX5_readMonth_40 ?_
      refine lv_iload_n S.1 S.2.1 dX5_readMonth_43 rfl (lv_at hl 2 rfl) ?_
      refine lv_iconst (v := 1) S.1 S.2.1 dX5_readMonth_44 rfl ?_
      refine lv_iadd S.1 S.2.1 dX5_readMonth_45 ?_
      refine lv_iload_n S.1 S.2.1 dX5_readMonth_46 rfl (lv_at hl 1 rfl) ?_
      refine lv_iconst (v := 1) S.1 S.2.1 dX5_readMonth_47 rfl ?_
      refine lv_icmp_ne (tgt := 61) S.1 S.2.1 dX5_readMonth_48 rfl (fun c6 => ?_) (fun c6 => ?_)
      · replace h := if_f c6 h
        refine lv_iload_n S.1 S.2.1 dX5_readMonth_61 rfl (lv_at hl 1 rfl) ?_
        refine lv_iconst (v := 5) S.1 S.2.1 dX5_readMonth_62 rfl ?_
        refine lv_icmp_ne (tgt := 75) S.1 S.2.1 dX5_readMonth_63 rfl (fun c7 => ?_) (fun c7 => ?_)
        · replace h := if_f c7 h
          refine lv_iconst (v := 0) S.1 S.2.1 dX5_readMonth_75 rfl ?_
          refine ms22 S hw dX5_readMonth_76 h (fun w8 H locs h hw => ?_)
          exact m_vret S hr hlocks hw (so1 h) dX5_readMonth_77
        · replace h := if_t c7 h
          refine lv_aload_n S.1 S.2.1 dX5_readMonth_66 rfl (lv_at hl 0 rfl) ?_
          refine lv_iconst (v := 0) S.1 S.2.1 dX5_readMonth_67 rfl ?_
          refine lv_iconst (v := 0) S.1 S.2.1 dX5_readMonth_68 rfl ?_
          refine mcVwi (As := [.int (0 : Int32), .int (0 : Int32)]) (rest := [.int (x2 + (1 : Int32)), .ref (mAr E 22)]) S hw h (fun u h1 => met_takeTold l E A (0 : Int32) (0 : Int32) w5 u h1) (cw_takeTold S.2.2.2.2 rfl rfl ⟨Nat.le_of_ble_eq_true rfl, Nat.le_of_ble_eq_true rfl⟩) rfl hl.1 rfl (lv_room (Nat.le_of_ble_eq_true rfl)) dX5_readMonth_69 (fun r10 w9 H locs h hw => ?_)
          refine lv_goto (tgt := 76) S.1 S.2.1 dX5_readMonth_72 rfl ?_
          refine ms22 S hw dX5_readMonth_76 h (fun w11 H locs h hw => ?_)
          exact m_vret S hr hlocks hw (so1 h) dX5_readMonth_77
      · replace h := if_t c6 h
        refine lv_aload_n S.1 S.2.1 dX5_readMonth_51 rfl (lv_at hl 0 rfl) ?_
        refine lv_iconst (v := 1) S.1 S.2.1 dX5_readMonth_52 rfl ?_
        refine lv_bipush (v := 99) S.1 S.2.1 dX5_readMonth_53 rfl ?_
        refine mcVwi (As := [.int (1 : Int32), .int (99 : Int32)]) (rest := [.int (x2 + (1 : Int32)), .ref (mAr E 22)]) S hw h (fun u h1 => met_takeNumber l E A (1 : Int32) (99 : Int32) w5 u h1) (cw_takeNumber S.2.2.2.2 rfl rfl ⟨Nat.le_of_ble_eq_true rfl, Nat.le_of_ble_eq_true rfl⟩) rfl hl.1 rfl (lv_room (Nat.le_of_ble_eq_true rfl)) dX5_readMonth_55 (fun r13 w12 H locs h hw => ?_)
        refine lv_goto (tgt := 76) S.1 S.2.1 dX5_readMonth_58 rfl ?_
        refine ms22 S hw dX5_readMonth_76 h (fun w14 H locs h hw => ?_)
        exact m_vret S hr hlocks hw (so1 h) dX5_readMonth_77
  · replace h := if_t c1 h
    refine lv_aload_n S.1 S.2.1 dX5_readMonth_5 rfl (lv_at hl 0 rfl) ?_
    refine mg22 S hw dX5_readMonth_6 ?_
    refine lv_iload_n S.1 S.2.1 dX5_readMonth_9 rfl (lv_at hl 2 rfl) ?_
    refine lv_aload_n S.1 S.2.1 dX5_readMonth_10 rfl (lv_at hl 0 rfl) ?_
    refine lv_iconst (v := 1) S.1 S.2.1 dX5_readMonth_11 rfl ?_
    refine lv_bipush (v := 120) S.1 S.2.1 dX5_readMonth_12 rfl ?_
    refine mcVwi (As := [.int (1 : Int32), .int (120 : Int32)]) (rest := [.int x2, .ref (mAr E 22)]) S hw h (fun u h1 => met_takeNumber l E A (1 : Int32) (120 : Int32) w u h1) (cw_takeNumber S.2.2.2.2 rfl rfl ⟨Nat.le_of_ble_eq_true rfl, Nat.le_of_ble_eq_true rfl⟩) rfl hl.1 rfl (lv_room (Nat.le_of_ble_eq_true rfl)) dX5_readMonth_14 (fun r16 w15 H locs h hw => ?_)
    refine ms22 S hw dX5_readMonth_17 h (fun w17 H locs h hw => ?_)
    refine lv_goto (tgt := 77) S.1 S.2.1 dX5_readMonth_18 rfl ?_
    exact m_vret S hr hlocks hw (so1 h) dX5_readMonth_77
def M_months_p131 : Nat → Int32 → Int32 → MS → Option (Int32 × MS)
  | 0, _, _, _ => none
  | n + 1, x1, x2, w =>
    if ((3 : Int32) * x1) ≤ x2 then
      some ((0 : Int32), w)
    else
      bd1 (rA w 22 200 ((100 : Int32) + x2)) fun v7 =>
      bd1 (wA w 22 200 ((1 : Int32) + x2) v7) fun w8 =>
      (M_months_p131 n) x1 (x2 + (1 : Int32)) w8
def M_months_p110 (x1 : Int32) (w : MS) : Option (Int32 × MS) :=
  if (rI w 8 0) ≤ 0 then
    bdp (wI w 22 0 x1) fun w5 =>
    M_months_p131 FU x1 (0 : Int32) w5
  else
    some (rI w 8 0, w)
def M_months_p101 (k11 : Int32 → MS → Option (Int32 × MS)) (x1 : Int32) (w : MS) : Option (Int32 × MS) :=
  bd1 (M_takeSign (59 : Int32) w) fun w17 =>
  k11 x1 w17
def M_months_p11 : Nat → Int32 → MS → Option (Int32 × MS)
  | 0, _, _ => none
  | n + 1, x1, w =>
    if (rI w 8 0) = 0 then
      bd1 (rA w 4 1002 (rI w 7 0)) fun v9 =>
      if v9 = 0 then
        M_months_p110 x1 w
      else
        bd1 (M_wordHere (19 : Int32) (6 : Int32) w) fun r11 =>
        if 0 ≤ r11 then
          if x1 = (30 : Int32) then
            bd1 (M_wrong (5 : Int32) w) fun w18 =>
            M_months_p101 (M_months_p11 n) x1 w18
          else
            bdp (wI w 7 0 ((rI w 7 0) + (1 : Int32))) fun w14 =>
            bd1 (wA w14 22 200 ((100 : Int32) + ((3 : Int32) * x1)) r11) fun w15 =>
            bd1 (M_readMonth r11 ((101 : Int32) + ((3 : Int32) * x1)) w15) fun w16 =>
            M_months_p101 (M_months_p11 n) (x1 + (1 : Int32)) w16
        else
          bd1 (M_wrong (1 : Int32) w) fun w19 =>
          M_months_p101 (M_months_p11 n) x1 w19
    else
      M_months_p110 x1 w
def M_months (w : MS) : Option (Int32 × MS) :=
  bdp (wI w 0 0 (0 : Int32)) fun w1 =>
  bd1 (M_cutAll w1) fun w2 =>
  M_months_p11 FU (0 : Int32) w2
set_option maxRecDepth 100000 in
set_option maxHeartbeats 4000000 in
theorem wk_M_months_p131 {p : Program} {l : Launch} {e : Env} {s : State} {m : MethodId} {args : Array Value} {below : List Frame} {meth : Method} {c : Code} {E : mE} {A : Nat → Prop} (S : CallFix p m c cX5_months 3 s args lw_all RX5) (hr : meth.sig.returnType = (some .int)) (hlocks : meth.locks = false) {res : Int32 × MS}  : ∀ n : Nat, ∀ (x1 : Int32) (x2 : Int32) (w : MS) (H : Heap) (locs : List Loc) (ls : Array Slot), M_months_p131 n x1 x2 w = some res → mH E A s w H locs → lv_has ls 3 [(0, .ref (mM E)), (1, .int x1), (2, .int x2)] → W p l e rm_months s m args below meth c H locs 0 0 (MQ below (mQi E A res.1 res.2) args s 0 0 A) (F0 m 131 ls []) := by
  intro n
  induction n with
  | zero => intro x1 x2 w H locs ls h; cases (show (none : Option (Int32 × MS)) = some res from h)
  | succ n ih =>
    intro x1 x2 w H locs ls h hw hl
    rw [M_months_p131] at h
    refine lv_iload_n S.1 S.2.1 dX5_months_131 rfl (lv_at hl 2 rfl) ?_
    refine lv_iconst (v := 3) S.1 S.2.1 dX5_months_132 rfl ?_
    refine lv_iload_n S.1 S.2.1 dX5_months_133 rfl (lv_at hl 1 rfl) ?_
    refine lv_imul S.1 S.2.1 dX5_months_134 ?_
    refine lv_icmp_ge (tgt := 161) S.1 S.2.1 dX5_months_135 rfl (fun c6 => ?_) (fun c6 => ?_)
    · replace h := if_t c6 h
      refine lv_iconst (v := 0) S.1 S.2.1 dX5_months_161 rfl ?_
      exact m_iret S hr hlocks hw (so2 h) dX5_months_162
    · replace h := if_f c6 h
      refine lv_aload_n S.1 S.2.1 dX5_months_138 rfl (lv_at hl 0 rfl) ?_
      refine mg22 S hw dX5_months_139 ?_
      refine lv_iconst (v := 1) S.1 S.2.1 dX5_months_142 rfl ?_
      refine lv_iload_n S.1 S.2.1 dX5_months_143 rfl (lv_at hl 2 rfl) ?_
      refine lv_iadd S.1 S.2.1 dX5_months_144 ?_
      refine lv_aload_n S.1 S.2.1 dX5_months_145 rfl (lv_at hl 0 rfl) ?_
      refine mg22 S hw dX5_months_146 ?_
      refine lv_bipush (v := 100) S.1 S.2.1 dX5_months_149 rfl ?_
      refine lv_iload_n S.1 S.2.1 dX5_months_151 rfl (lv_at hl 2 rfl) ?_
      refine lv_iadd S.1 S.2.1 dX5_months_152 ?_
      refine ml22 S hw dX5_months_153 h (fun v7 h => ?_)
      refine ms22 S hw dX5_months_154 h (fun w8 H locs h hw => ?_)
      refine lv_iinc (v := x2 + (1 : Int32)) (lv' := [(2, .int (x2 + (1 : Int32))), (0, .ref (mM E)), (1, .int x1)]) S.1 S.2.1 dX5_months_155 hl (k := 2) rfl rfl (by decide) rfl (fun ls hl => ?_)
      refine lv_goto (tgt := 131) S.1 S.2.1 dX5_months_158 rfl ?_
      exact ih _ _ _ _ _ _ h hw (lv_sub hl [1, 2, 0] rfl)
set_option maxRecDepth 100000 in
set_option maxHeartbeats 4000000 in
theorem wk_M_months_p110 {p : Program} {l : Launch} {e : Env} {s : State} {m : MethodId} {args : Array Value} {below : List Frame} {meth : Method} {c : Code} {E : mE} {A : Nat → Prop} (S : CallFix p m c cX5_months 3 s args lw_all RX5) (hr : meth.sig.returnType = (some .int)) (hlocks : meth.locks = false) {res : Int32 × MS}  : ∀ (x1 : Int32) (w : MS) (H : Heap) (locs : List Loc) (ls : Array Slot), M_months_p110 x1 w = some res → mH E A s w H locs → lv_has ls 3 [(0, .ref (mM E)), (1, .int x1)] → W p l e rm_months s m args below meth c H locs 0 0 (MQ below (mQi E A res.1 res.2) args s 0 0 A) (F0 m 110 ls []) := by
  intro x1 w H locs ls h hw hl
  unfold M_months_p110 at h
  refine lv_aload_n S.1 S.2.1 dX5_months_110 rfl (lv_at hl 0 rfl) ?_
  refine mg8 S hw dX5_months_111 ?_
  refine lv_if_le (tgt := 122) S.1 S.2.1 dX5_months_114 rfl (fun c4 => ?_) (fun c4 => ?_)
  · replace h := if_t c4 h
    refine lv_aload_n S.1 S.2.1 dX5_months_122 rfl (lv_at hl 0 rfl) ?_
    refine mg22 S hw dX5_months_123 ?_
    refine lv_iconst (v := 0) S.1 S.2.1 dX5_months_126 rfl ?_
    refine lv_iload_n S.1 S.2.1 dX5_months_127 rfl (lv_at hl 1 rfl) ?_
    refine msc22 (j := 0) S hw dX5_months_128 (by decide) h (fun w5 H locs h hw => ?_)
    refine lv_iconst (v := 0) S.1 S.2.1 dX5_months_129 rfl ?_
    refine lv_istore_n (lv' := [(2, .int (0 : Int32)), (0, .ref (mM E)), (1, .int x1)]) S.1 S.2.1 dX5_months_130 rfl hl (by decide) rfl (fun ls hl => ?_)
    exact wk_M_months_p131 S hr hlocks FU _ _ _ _ _ _ h hw (lv_sub hl [1, 2, 0] rfl)
  · replace h := if_f c4 h
    refine lv_aload_n S.1 S.2.1 dX5_months_117 rfl (lv_at hl 0 rfl) ?_
    refine mg8 S hw dX5_months_118 ?_
    exact m_iret S hr hlocks hw (so2 h) dX5_months_121
set_option maxRecDepth 100000 in
set_option maxHeartbeats 4000000 in
theorem wk_M_months_p101 {p : Program} {l : Launch} {e : Env} {s : State} {m : MethodId} {args : Array Value} {below : List Frame} {meth : Method} {c : Code} {E : mE} {A : Nat → Prop} (S : CallFix p m c cX5_months 3 s args lw_all RX5) (hr : meth.sig.returnType = (some .int)) (hlocks : meth.locks = false) {res : Int32 × MS}  {k11 : Int32 → MS → Option (Int32 × MS)} (hk11 : ∀ (x1 : Int32) (w : MS) (H : Heap) (locs : List Loc) (ls : Array Slot), k11 x1 w = some res → mH E A s w H locs → lv_has ls 3 [(0, .ref (mM E)), (1, .int x1)] → W p l e rm_months s m args below meth c H locs 0 0 (MQ below (mQi E A res.1 res.2) args s 0 0 A) (F0 m 11 ls [])) : ∀ (x1 : Int32) (w : MS) (H : Heap) (locs : List Loc) (ls : Array Slot), M_months_p101 k11 x1 w = some res → mH E A s w H locs → lv_has ls 3 [(0, .ref (mM E)), (1, .int x1)] → W p l e rm_months s m args below meth c H locs 0 0 (MQ below (mQi E A res.1 res.2) args s 0 0 A) (F0 m 101 ls []) := by
  intro x1 w H locs ls h hw hl
  unfold M_months_p101 at h
  refine lv_aload_n S.1 S.2.1 dX5_months_101 rfl (lv_at hl 0 rfl) ?_
  refine lv_bipush (v := 59) S.1 S.2.1 dX5_months_102 rfl ?_
  refine mcVv (As := [.int (59 : Int32)]) (rest := []) S hw h (fun u h1 => met_takeSign l E A (59 : Int32) w u h1) (cw_takeSign S.2.2.2.2 rfl rfl ⟨Nat.le_of_ble_eq_true rfl, Nat.le_of_ble_eq_true rfl⟩) rfl hl.1 rfl (lv_room (Nat.le_of_ble_eq_true rfl)) dX5_months_104 (fun w17 H locs h hw => ?_)
  refine lv_goto (tgt := 11) S.1 S.2.1 dX5_months_107 rfl ?_
  exact hk11 _ _ _ _ _ h hw (lv_sub hl [0, 1] rfl)
set_option maxRecDepth 100000 in
set_option maxHeartbeats 4000000 in
theorem wk_M_months_p11 {p : Program} {l : Launch} {e : Env} {s : State} {m : MethodId} {args : Array Value} {below : List Frame} {meth : Method} {c : Code} {E : mE} {A : Nat → Prop} (S : CallFix p m c cX5_months 3 s args lw_all RX5) (hr : meth.sig.returnType = (some .int)) (hlocks : meth.locks = false) {res : Int32 × MS}  : ∀ n : Nat, ∀ (x1 : Int32) (w : MS) (H : Heap) (locs : List Loc) (ls : Array Slot), M_months_p11 n x1 w = some res → mH E A s w H locs → lv_has ls 3 [(0, .ref (mM E)), (1, .int x1)] → W p l e rm_months s m args below meth c H locs 0 0 (MQ below (mQi E A res.1 res.2) args s 0 0 A) (F0 m 11 ls []) := by
  intro n
  induction n with
  | zero => intro x1 w H locs ls h; cases (show (none : Option (Int32 × MS)) = some res from h)
  | succ n ih =>
    intro x1 w H locs ls h hw hl
    rw [M_months_p11] at h
    refine lv_aload_n S.1 S.2.1 dX5_months_11 rfl (lv_at hl 0 rfl) ?_
    refine mg8 S hw dX5_months_12 ?_
    refine lv_if_ne (tgt := 110) S.1 S.2.1 dX5_months_15 rfl (fun c3 => ?_) (fun c3 => ?_)
    · replace h := if_f c3 h
      exact wk_M_months_p110 S hr hlocks _ _ _ _ _ h hw (lv_sub hl [0, 1] rfl)
    · replace h := if_t c3 h
      refine lv_aload_n S.1 S.2.1 dX5_months_18 rfl (lv_at hl 0 rfl) ?_
      refine mg4 S hw dX5_months_19 ?_
      refine lv_aload_n S.1 S.2.1 dX5_months_22 rfl (lv_at hl 0 rfl) ?_
      refine mg7 S hw dX5_months_23 ?_
      refine ml4 S hw dX5_months_26 h (fun v9 h => ?_)
      refine lv_if_eq (tgt := 110) S.1 S.2.1 dX5_months_27 rfl (fun c10 => ?_) (fun c10 => ?_)
      · replace h := if_t c10 h
        exact wk_M_months_p110 S hr hlocks _ _ _ _ _ h hw (lv_sub hl [0, 1] rfl)
      · replace h := if_f c10 h
        refine lv_aload_n S.1 S.2.1 dX5_months_30 rfl (lv_at hl 0 rfl) ?_
        refine lv_bipush (v := 19) S.1 S.2.1 dX5_months_31 rfl ?_
        refine lv_bipush (v := 6) S.1 S.2.1 dX5_months_33 rfl ?_
        refine mcVri (As := [.int (19 : Int32), .int (6 : Int32)]) (rest := []) S hw h (fun u h1 => met_wordHere l E A (19 : Int32) (6 : Int32) w u h1) (cw_wordHere S.2.2.2.2 rfl rfl ⟨Nat.le_of_ble_eq_true rfl, Nat.le_of_ble_eq_true rfl⟩) rfl hl.1 rfl (lv_room (Nat.le_of_ble_eq_true rfl)) dX5_months_35 (fun r11 H locs h hw => ?_)
        refine lv_istore_n (lv' := [(2, .int r11), (0, .ref (mM E)), (1, .int x1)]) S.1 S.2.1 dX5_months_38 rfl hl (by decide) rfl (fun ls hl => ?_)
        refine lv_iload_n S.1 S.2.1 dX5_months_39 rfl (lv_at hl 0 rfl) ?_
        refine lv_if_ge (tgt := 51) S.1 S.2.1 dX5_months_40 rfl (fun c12 => ?_) (fun c12 => ?_)
        · replace h := if_t c12 h
          refine lv_iload_n S.1 S.2.1 dX5_months_51 rfl (lv_at hl 2 rfl) ?_
          refine lv_bipush (v := 30) S.1 S.2.1 dX5_months_52 rfl ?_
          refine lv_icmp_ne (tgt := 65) S.1 S.2.1 dX5_months_54 rfl (fun c13 => ?_) (fun c13 => ?_)
          · replace h := if_f c13 h
            refine lv_aload_n S.1 S.2.1 dX5_months_65 rfl (lv_at hl 1 rfl) ?_
            refine lv_dup S.1 S.2.1 dX5_months_66 rfl ?_
            refine mg7 S hw dX5_months_67 ?_
            refine lv_iconst (v := 1) S.1 S.2.1 dX5_months_70 rfl ?_
            refine lv_iadd S.1 S.2.1 dX5_months_71 ?_
            refine mp7 S hw dX5_months_72 h (fun w14 H locs h hw => ?_)
            refine lv_aload_n S.1 S.2.1 dX5_months_75 rfl (lv_at hl 1 rfl) ?_
            refine mg22 S hw dX5_months_76 ?_
            refine lv_bipush (v := 100) S.1 S.2.1 dX5_months_79 rfl ?_
            refine lv_iconst (v := 3) S.1 S.2.1 dX5_months_81 rfl ?_
            refine lv_iload_n S.1 S.2.1 dX5_months_82 rfl (lv_at hl 2 rfl) ?_
            refine lv_imul S.1 S.2.1 dX5_months_83 ?_
            refine lv_iadd S.1 S.2.1 dX5_months_84 ?_
            refine lv_iload_n S.1 S.2.1 dX5_months_85 rfl (lv_at hl 0 rfl) ?_
            refine ms22 S hw dX5_months_86 h (fun w15 H locs h hw => ?_)
            refine lv_aload_n S.1 S.2.1 dX5_months_87 rfl (lv_at hl 1 rfl) ?_
            refine lv_iload_n S.1 S.2.1 dX5_months_88 rfl (lv_at hl 0 rfl) ?_
            refine lv_bipush (v := 101) S.1 S.2.1 dX5_months_89 rfl ?_
            refine lv_iconst (v := 3) S.1 S.2.1 dX5_months_91 rfl ?_
            refine lv_iload_n S.1 S.2.1 dX5_months_92 rfl (lv_at hl 2 rfl) ?_
            refine lv_imul S.1 S.2.1 dX5_months_93 ?_
            refine lv_iadd S.1 S.2.1 dX5_months_94 ?_
            refine mcVv (As := [.int r11, .int ((101 : Int32) + ((3 : Int32) * x1))]) (rest := []) S hw h (fun u h1 => met_readMonth l E A r11 ((101 : Int32) + ((3 : Int32) * x1)) w15 u h1) (cw_readMonth S.2.2.2.2 rfl rfl ⟨Nat.le_of_ble_eq_true rfl, Nat.le_of_ble_eq_true rfl⟩) rfl hl.1 rfl (lv_room (Nat.le_of_ble_eq_true rfl)) dX5_months_95 (fun w16 H locs h hw => ?_)
            refine lv_iinc (v := x1 + (1 : Int32)) (lv' := [(1, .int (x1 + (1 : Int32))), (2, .int r11), (0, .ref (mM E))]) S.1 S.2.1 dX5_months_98 hl (k := 2) rfl rfl (by decide) rfl (fun ls hl => ?_)
            exact wk_M_months_p101 S hr hlocks ih _ _ _ _ _ h hw (lv_sub hl [2, 0] rfl)
          · replace h := if_t c13 h
            refine lv_aload_n S.1 S.2.1 dX5_months_57 rfl (lv_at hl 1 rfl) ?_
            refine lv_iconst (v := 5) S.1 S.2.1 dX5_months_58 rfl ?_
            refine mcVv (As := [.int (5 : Int32)]) (rest := []) S hw h (fun u h1 => met_wrong l E A (5 : Int32) w u h1) (cw_wrong S.2.2.2.2 rfl rfl ⟨Nat.le_of_ble_eq_true rfl, Nat.le_of_ble_eq_true rfl⟩) rfl hl.1 rfl (lv_room (Nat.le_of_ble_eq_true rfl)) dX5_months_59 (fun w18 H locs h hw => ?_)
            refine lv_goto (tgt := 101) S.1 S.2.1 dX5_months_62 rfl ?_
            exact wk_M_months_p101 S hr hlocks ih _ _ _ _ _ h hw (lv_sub hl [1, 2] rfl)
        · replace h := if_f c12 h
          refine lv_aload_n S.1 S.2.1 dX5_months_43 rfl (lv_at hl 1 rfl) ?_
          refine lv_iconst (v := 1) S.1 S.2.1 dX5_months_44 rfl ?_
          refine mcVv (As := [.int (1 : Int32)]) (rest := []) S hw h (fun u h1 => met_wrong l E A (1 : Int32) w u h1) (cw_wrong S.2.2.2.2 rfl rfl ⟨Nat.le_of_ble_eq_true rfl, Nat.le_of_ble_eq_true rfl⟩) rfl hl.1 rfl (lv_room (Nat.le_of_ble_eq_true rfl)) dX5_months_45 (fun w19 H locs h hw => ?_)
          refine lv_goto (tgt := 101) S.1 S.2.1 dX5_months_48 rfl ?_
          exact wk_M_months_p101 S hr hlocks ih _ _ _ _ _ h hw (lv_sub hl [1, 2] rfl)
set_option maxRecDepth 100000 in
set_option maxHeartbeats 4000000 in
theorem met_months (l : Launch) (E : mE) (A : Nat → Prop)  (w : MS) (res : Int32 × MS) (h : M_months w = some res) : Met l yX5_months (ws_ yX5_months cX5_months 3 (some .int)) rm_months (mPc E A [.ref (mM E)] w) (mQi E A res.1 res.2) 0 0 A := by
  refine mMet (by decide) rfl (Nat.le_of_ble_eq_true rfl) ?_
  intro p e s m below meth c S hr hlocks H ls hw hl
  replace hl : lv_has ls 3 [(0, .ref (mM E))] := hl
  unfold M_months at h
  refine lv_aload_n S.1 S.2.1 dX5_months_0 rfl (lv_at hl 0 rfl) ?_
  refine lv_iconst (v := 0) S.1 S.2.1 dX5_months_1 rfl ?_
  refine mp0 S hw dX5_months_2 h (fun w1 H locs h hw => ?_)
  refine lv_aload_n S.1 S.2.1 dX5_months_5 rfl (lv_at hl 0 rfl) ?_
  refine mcVv (As := []) (rest := []) S hw h (fun u h1 => met_cutAll l E A  w1 u h1) (cw_cutAll S.2.2.2.2 rfl rfl ⟨Nat.le_of_ble_eq_true rfl, Nat.le_of_ble_eq_true rfl⟩) rfl hl.1 rfl (lv_room (Nat.le_of_ble_eq_true rfl)) dX5_months_6 (fun w2 H locs h hw => ?_)
  refine lv_iconst (v := 0) S.1 S.2.1 dX5_months_9 rfl ?_
  refine lv_istore_n (lv' := [(1, .int (0 : Int32)), (0, .ref (mM E))]) S.1 S.2.1 dX5_months_10 rfl hl (by decide) rfl (fun ls hl => ?_)
  exact wk_M_months_p11 S hr hlocks FU _ _ _ _ _ h hw (lv_sub hl [1, 0] rfl)
def M_rooms (w : MS) : Int32 :=
  rI w 10 0
set_option maxRecDepth 100000 in
set_option maxHeartbeats 4000000 in
theorem met_rooms (l : Launch) (E : mE) (A : Nat → Prop)  (w : MS) (res : Int32) (h : M_rooms w = res) : Met l yX5_rooms (ws_ yX5_rooms cX5_rooms 1 (some .int)) rm_rooms (mPc E A [.ref (mM E)] w) (mQi E A res w) 0 0 A := by
  refine mMet (by decide) rfl (Nat.le_of_ble_eq_true rfl) ?_
  intro p e s m below meth c S hr hlocks H ls hw hl
  replace hl : lv_has ls 1 [(0, .ref (mM E))] := hl
  unfold M_rooms at h
  refine lv_aload_n S.1 S.2.1 dX5_rooms_0 rfl (lv_at hl 0 rfl) ?_
  refine mg10 S hw dX5_rooms_1 ?_
  refine lv_iconst (v := 0) S.1 S.2.1 dX5_rooms_4 rfl ?_
  refine mlc10 (j := 0) S hw dX5_rooms_5 (by decide) ?_
  exact m_iret S hr hlocks hw ⟨h, rfl⟩ dX5_rooms_6
def M_isRoom (x1 : Int32) (w : MS) : Int32 :=
  if x1 < 0 then
    (0 : Int32)
  else
    if (M_rooms w) ≤ x1 then
      (0 : Int32)
    else
      (1 : Int32)
set_option maxRecDepth 100000 in
set_option maxHeartbeats 4000000 in
theorem met_isRoom (l : Launch) (E : mE) (A : Nat → Prop)  (x1 : Int32) (w : MS) (res : Int32) (h : M_isRoom x1 w = res) : Met l yX5_isRoom (ws_ yX5_isRoom cX5_isRoom 2 (some .boolean)) rm_isRoom (mPc E A [.ref (mM E), .int x1] w) (mQi E A res w) 0 0 A := by
  refine mMet (by decide) rfl (Nat.le_of_ble_eq_true rfl) ?_
  intro p e s m below meth c S hr hlocks H ls hw hl
  replace hl : lv_has ls 2 [(0, .ref (mM E)), (1, .int x1)] := hl
  unfold M_isRoom at h
  refine lv_iload_n S.1 S.2.1 dX5_isRoom_0 rfl (lv_at hl 1 rfl) ?_
  refine lv_if_lt (tgt := 16) S.1 S.2.1 dX5_isRoom_1 rfl (fun c1 => ?_) (fun c1 => ?_)
  · replace h := if_t c1 h
    refine lv_iconst (v := 0) S.1 S.2.1 dX5_isRoom_16 rfl ?_
    exact m_zret S hr hlocks hw rfl ⟨h, rfl⟩ dX5_isRoom_17
  · replace h := if_f c1 h
    refine lv_iload_n S.1 S.2.1 dX5_isRoom_4 rfl (lv_at hl 1 rfl) ?_
    refine lv_aload_n S.1 S.2.1 dX5_isRoom_5 rfl (lv_at hl 0 rfl) ?_
    refine mcVti (As := []) (rest := [.int x1]) S hw (met_rooms l E A  w _ rfl) (cw_rooms S.2.2.2.2 rfl rfl ⟨Nat.le_of_ble_eq_true rfl, Nat.le_of_ble_eq_true rfl⟩) rfl hl.1 rfl (lv_room (Nat.le_of_ble_eq_true rfl)) dX5_isRoom_6 (fun H locs hw => ?_)
    refine lv_icmp_ge (tgt := 16) S.1 S.2.1 dX5_isRoom_9 rfl (fun c2 => ?_) (fun c2 => ?_)
    · replace h := if_t c2 h
      refine lv_iconst (v := 0) S.1 S.2.1 dX5_isRoom_16 rfl ?_
      exact m_zret S hr hlocks hw rfl ⟨h, rfl⟩ dX5_isRoom_17
    · replace h := if_f c2 h
      refine lv_iconst (v := 1) S.1 S.2.1 dX5_isRoom_12 rfl ?_
      refine lv_goto (tgt := 17) S.1 S.2.1 dX5_isRoom_13 rfl ?_
      exact m_zret S hr hlocks hw rfl ⟨h, rfl⟩ dX5_isRoom_17
def M_roomOf (x1 : Int32) (x2 : Int32) (w : MS) : Option Int32 :=
  bd1 (rA w 10 240 (((8 : Int32) + ((3 : Int32) * x1)) + x2)) fun v1 =>
  some v1
set_option maxRecDepth 100000 in
set_option maxHeartbeats 4000000 in
theorem met_roomOf (l : Launch) (E : mE) (A : Nat → Prop)  (x1 : Int32) (x2 : Int32) (w : MS) (res : Int32) (h : M_roomOf x1 x2 w = some res) : Met l yX5_roomOf (ws_ yX5_roomOf cX5_roomOf 3 (some .int)) rm_roomOf (mPc E A [.ref (mM E), .int x1, .int x2] w) (mQi E A res w) 0 0 A := by
  refine mMet (by decide) rfl (Nat.le_of_ble_eq_true rfl) ?_
  intro p e s m below meth c S hr hlocks H ls hw hl
  replace hl : lv_has ls 3 [(0, .ref (mM E)), (1, .int x1), (2, .int x2)] := hl
  unfold M_roomOf at h
  refine lv_aload_n S.1 S.2.1 dX5_roomOf_0 rfl (lv_at hl 0 rfl) ?_
  refine mg10 S hw dX5_roomOf_1 ?_
  refine lv_bipush (v := 8) S.1 S.2.1 dX5_roomOf_4 rfl ?_
  refine lv_iconst (v := 3) S.1 S.2.1 dX5_roomOf_6 rfl ?_
  refine lv_iload_n S.1 S.2.1 dX5_roomOf_7 rfl (lv_at hl 1 rfl) ?_
  refine lv_imul S.1 S.2.1 dX5_roomOf_8 ?_
  refine lv_iadd S.1 S.2.1 dX5_roomOf_9 ?_
  refine lv_iload_n S.1 S.2.1 dX5_roomOf_10 rfl (lv_at hl 2 rfl) ?_
  refine lv_iadd S.1 S.2.1 dX5_roomOf_11 ?_
  refine ml10 S hw dX5_roomOf_12 h (fun v1 h => ?_)
  exact m_iret S hr hlocks hw ⟨so1 h, rfl⟩ dX5_roomOf_13
def M_whoIn_p5 : Nat → Int32 → Int32 → Int32 → Int32 → MS → Option Int32
  | 0, _, _, _, _, _ => none
  | n + 1, x1, x2, x3, x4, w =>
    if (M_tenants w) ≤ x4 then
      some x3
    else
      bd1 (rA w 25 1288 ((x1 + (1 : Int32)) + x4)) fun v2 =>
      if v2 = x2 then
        (M_whoIn_p5 n) x1 x2 x4 (x4 + (1 : Int32)) w
      else
        (M_whoIn_p5 n) x1 x2 x3 (x4 + (1 : Int32)) w
def M_whoIn (x1 : Int32) (x2 : Int32) (w : MS) : Option Int32 :=
  M_whoIn_p5 FU x1 x2 (-1 : Int32) (0 : Int32) w
set_option maxRecDepth 100000 in
set_option maxHeartbeats 4000000 in
theorem wk_M_whoIn_p5 {p : Program} {l : Launch} {e : Env} {s : State} {m : MethodId} {args : Array Value} {below : List Frame} {meth : Method} {c : Code} {E : mE} {A : Nat → Prop} (S : CallFix p m c cX5_whoIn 5 s args lw_all RX5) (hr : meth.sig.returnType = (some .int)) (hlocks : meth.locks = false) {res : Int32}  : ∀ n : Nat, ∀ (x1 : Int32) (x2 : Int32) (x3 : Int32) (x4 : Int32) (w : MS) (H : Heap) (locs : List Loc) (ls : Array Slot), M_whoIn_p5 n x1 x2 x3 x4 w = some res → mH E A s w H locs → lv_has ls 5 [(0, .ref (mM E)), (1, .int x1), (2, .int x2), (3, .int x3), (4, .int x4)] → W p l e rm_whoIn s m args below meth c H locs 0 0 (MQ below (mQi E A res w) args s 0 0 A) (F0 m 5 ls []) := by
  intro n
  induction n with
  | zero => intro x1 x2 x3 x4 w H locs ls h; cases (show (none : Option Int32) = some res from h)
  | succ n ih =>
    intro x1 x2 x3 x4 w H locs ls h hw hl
    rw [M_whoIn_p5] at h
    refine lv_iload S.1 S.2.1 dX5_whoIn_5 (lv_at hl 4 rfl) ?_
    refine lv_aload_n S.1 S.2.1 dX5_whoIn_7 rfl (lv_at hl 0 rfl) ?_
    refine mcVti (As := []) (rest := [.int x4]) S hw (met_tenants l E A  w _ rfl) (cw_tenants S.2.2.2.2 rfl rfl ⟨Nat.le_of_ble_eq_true rfl, Nat.le_of_ble_eq_true rfl⟩) rfl hl.1 rfl (lv_room (Nat.le_of_ble_eq_true rfl)) dX5_whoIn_8 (fun H locs hw => ?_)
    refine lv_icmp_ge (tgt := 42) S.1 S.2.1 dX5_whoIn_11 rfl (fun c1 => ?_) (fun c1 => ?_)
    · replace h := if_t c1 h
      refine lv_iload_n S.1 S.2.1 dX5_whoIn_42 rfl (lv_at hl 3 rfl) ?_
      exact m_iret S hr hlocks hw ⟨so1 h, rfl⟩ dX5_whoIn_43
    · replace h := if_f c1 h
      refine lv_aload_n S.1 S.2.1 dX5_whoIn_14 rfl (lv_at hl 0 rfl) ?_
      refine mg25 S hw dX5_whoIn_15 ?_
      refine lv_iload_n S.1 S.2.1 dX5_whoIn_18 rfl (lv_at hl 1 rfl) ?_
      refine lv_iconst (v := 1) S.1 S.2.1 dX5_whoIn_19 rfl ?_
      refine lv_iadd S.1 S.2.1 dX5_whoIn_20 ?_
      refine lv_iload S.1 S.2.1 dX5_whoIn_21 (lv_at hl 4 rfl) ?_
      refine lv_iadd S.1 S.2.1 dX5_whoIn_23 ?_
      refine ml25 S hw dX5_whoIn_24 h (fun v2 h => ?_)
      refine lv_iload_n S.1 S.2.1 dX5_whoIn_25 rfl (lv_at hl 2 rfl) ?_
      refine lv_icmp_ne (tgt := 34) S.1 S.2.1 dX5_whoIn_26 rfl (fun c3 => ?_) (fun c3 => ?_)
      · replace h := if_f c3 h
        refine lv_iload_n S.1 S.2.1 dX5_whoIn_34 rfl (lv_at hl 3 rfl) ?_
        refine lv_istore_n (lv' := [(3, .int x3), (0, .ref (mM E)), (1, .int x1), (2, .int x2), (4, .int x4)]) S.1 S.2.1 dX5_whoIn_35 rfl hl (by decide) rfl (fun ls hl => ?_)
        refine lv_iinc (v := x4 + (1 : Int32)) (lv' := [(4, .int (x4 + (1 : Int32))), (3, .int x3), (0, .ref (mM E)), (1, .int x1), (2, .int x2)]) S.1 S.2.1 dX5_whoIn_36 hl (k := 4) rfl rfl (by decide) rfl (fun ls hl => ?_)
        refine lv_goto (tgt := 5) S.1 S.2.1 dX5_whoIn_39 rfl ?_
        exact ih _ _ _ _ _ _ _ _ h hw (lv_sub hl [2, 3, 4, 1, 0] rfl)
      · replace h := if_t c3 h
        refine lv_iload S.1 S.2.1 dX5_whoIn_29 (lv_at hl 4 rfl) ?_
        refine lv_goto (tgt := 35) S.1 S.2.1 dX5_whoIn_31 rfl ?_
        refine lv_istore_n (lv' := [(3, .int x4), (0, .ref (mM E)), (1, .int x1), (2, .int x2), (4, .int x4)]) S.1 S.2.1 dX5_whoIn_35 rfl hl (by decide) rfl (fun ls hl => ?_)
        refine lv_iinc (v := x4 + (1 : Int32)) (lv' := [(4, .int (x4 + (1 : Int32))), (3, .int x4), (0, .ref (mM E)), (1, .int x1), (2, .int x2)]) S.1 S.2.1 dX5_whoIn_36 hl (k := 4) rfl rfl (by decide) rfl (fun ls hl => ?_)
        refine lv_goto (tgt := 5) S.1 S.2.1 dX5_whoIn_39 rfl ?_
        exact ih _ _ _ _ _ _ _ _ h hw (lv_sub hl [2, 3, 4, 1, 0] rfl)
set_option maxRecDepth 100000 in
set_option maxHeartbeats 4000000 in
theorem met_whoIn (l : Launch) (E : mE) (A : Nat → Prop)  (x1 : Int32) (x2 : Int32) (w : MS) (res : Int32) (h : M_whoIn x1 x2 w = some res) : Met l yX5_whoIn (ws_ yX5_whoIn cX5_whoIn 5 (some .int)) rm_whoIn (mPc E A [.ref (mM E), .int x1, .int x2] w) (mQi E A res w) 0 0 A := by
  refine mMet (by decide) rfl (Nat.le_of_ble_eq_true rfl) ?_
  intro p e s m below meth c S hr hlocks H ls hw hl
  replace hl : lv_has ls 5 [(0, .ref (mM E)), (1, .int x1), (2, .int x2)] := hl
  unfold M_whoIn at h
  refine lv_iconst (v := -1) S.1 S.2.1 dX5_whoIn_0 rfl ?_
  refine lv_istore_n (lv' := [(3, .int (-1 : Int32)), (0, .ref (mM E)), (1, .int x1), (2, .int x2)]) S.1 S.2.1 dX5_whoIn_1 rfl hl (by decide) rfl (fun ls hl => ?_)
  refine lv_iconst (v := 0) S.1 S.2.1 dX5_whoIn_2 rfl ?_
  refine lv_istore (lv' := [(4, .int (0 : Int32)), (3, .int (-1 : Int32)), (0, .ref (mM E)), (1, .int x1), (2, .int x2)]) S.1 S.2.1 dX5_whoIn_3 hl (by decide) rfl (fun ls hl => ?_)
  exact wk_M_whoIn_p5 S hr hlocks FU _ _ _ _ _ _ _ _ h hw (lv_sub hl [2, 3, 4, 1, 0] rfl)
def M_room (x1 : Int32) (x2 : Int32) (w : MS) : Option (Int32 × MS) :=
  bdp (wI w 0 0 (0 : Int32)) fun w1 =>
  if (M_isRoom x1 w1) = 0 then
    some ((-1 : Int32), w1)
  else
    if (M_within x2 (0 : Int32) (3 : Int32)) = 0 then
      some ((-1 : Int32), w1)
    else
      if (3 : Int32) ≤ x2 then
        bd1 (M_whoIn (0 : Int32) x1 w1) fun r5 =>
        some (r5, w1)
      else
        bd1 (M_roomOf x1 x2 w1) fun r6 =>
        some (r6, w1)
set_option maxRecDepth 100000 in
set_option maxHeartbeats 4000000 in
theorem met_room (l : Launch) (E : mE) (A : Nat → Prop)  (x1 : Int32) (x2 : Int32) (w : MS) (res : Int32 × MS) (h : M_room x1 x2 w = some res) : Met l yX5_room (ws_ yX5_room cX5_room 3 (some .int)) rm_room (mPc E A [.ref (mM E), .int x1, .int x2] w) (mQi E A res.1 res.2) 0 0 A := by
  refine mMet (by decide) rfl (Nat.le_of_ble_eq_true rfl) ?_
  intro p e s m below meth c S hr hlocks H ls hw hl
  replace hl : lv_has ls 3 [(0, .ref (mM E)), (1, .int x1), (2, .int x2)] := hl
  unfold M_room at h
  refine lv_aload_n S.1 S.2.1 dX5_room_0 rfl (lv_at hl 0 rfl) ?_
  refine lv_iconst (v := 0) S.1 S.2.1 dX5_room_1 rfl ?_
  refine mp0 S hw dX5_room_2 h (fun w1 H locs h hw => ?_)
  refine lv_aload_n S.1 S.2.1 dX5_room_5 rfl (lv_at hl 0 rfl) ?_
  refine lv_iload_n S.1 S.2.1 dX5_room_6 rfl (lv_at hl 1 rfl) ?_
  refine mcVti (As := [.int x1]) (rest := []) S hw (met_isRoom l E A x1 w1 _ rfl) (cw_isRoom S.2.2.2.2 rfl rfl ⟨Nat.le_of_ble_eq_true rfl, Nat.le_of_ble_eq_true rfl⟩) rfl hl.1 rfl (lv_room (Nat.le_of_ble_eq_true rfl)) dX5_room_7 (fun H locs hw => ?_)
  refine lv_if_eq (tgt := 45) S.1 S.2.1 dX5_room_10 rfl (fun c2 => ?_) (fun c2 => ?_)
  · replace h := if_t c2 h
    refine lv_iconst (v := -1) S.1 S.2.1 dX5_room_45 rfl ?_
    exact m_iret S hr hlocks hw (so2 h) dX5_room_46
  · replace h := if_f c2 h
    refine lv_iload_n S.1 S.2.1 dX5_room_13 rfl (lv_at hl 2 rfl) ?_
    refine lv_iconst (v := 0) S.1 S.2.1 dX5_room_14 rfl ?_
    refine lv_iconst (v := 3) S.1 S.2.1 dX5_room_15 rfl ?_
    refine mcSti (As := [.int x2, .int (0 : Int32), .int (3 : Int32)]) (rest := []) S hw (met_within l E A x2 (0 : Int32) (3 : Int32) w1 _ rfl) (cw_within S.2.2.2.2 rfl rfl ⟨Nat.le_of_ble_eq_true rfl, Nat.le_of_ble_eq_true rfl⟩) rfl hl.1 rfl (lv_room (Nat.le_of_ble_eq_true rfl)) dX5_room_16 (fun H locs hw => ?_)
    refine lv_if_eq (tgt := 45) S.1 S.2.1 dX5_room_19 rfl (fun c3 => ?_) (fun c3 => ?_)
    · replace h := if_t c3 h
      refine lv_iconst (v := -1) S.1 S.2.1 dX5_room_45 rfl ?_
      exact m_iret S hr hlocks hw (so2 h) dX5_room_46
    · replace h := if_f c3 h
      refine lv_iload_n S.1 S.2.1 dX5_room_22 rfl (lv_at hl 2 rfl) ?_
      refine lv_iconst (v := 3) S.1 S.2.1 dX5_room_23 rfl ?_
      refine lv_icmp_ge (tgt := 36) S.1 S.2.1 dX5_room_24 rfl (fun c4 => ?_) (fun c4 => ?_)
      · replace h := if_t c4 h
        refine lv_aload_n S.1 S.2.1 dX5_room_36 rfl (lv_at hl 0 rfl) ?_
        refine lv_iconst (v := 0) S.1 S.2.1 dX5_room_37 rfl ?_
        refine lv_iload_n S.1 S.2.1 dX5_room_38 rfl (lv_at hl 1 rfl) ?_
        refine mcVri (As := [.int (0 : Int32), .int x1]) (rest := []) S hw h (fun u h1 => met_whoIn l E A (0 : Int32) x1 w1 u h1) (cw_whoIn S.2.2.2.2 rfl rfl ⟨Nat.le_of_ble_eq_true rfl, Nat.le_of_ble_eq_true rfl⟩) rfl hl.1 rfl (lv_room (Nat.le_of_ble_eq_true rfl)) dX5_room_39 (fun r5 H locs h hw => ?_)
        refine lv_goto (tgt := 46) S.1 S.2.1 dX5_room_42 rfl ?_
        exact m_iret S hr hlocks hw (so2 h) dX5_room_46
      · replace h := if_f c4 h
        refine lv_aload_n S.1 S.2.1 dX5_room_27 rfl (lv_at hl 0 rfl) ?_
        refine lv_iload_n S.1 S.2.1 dX5_room_28 rfl (lv_at hl 1 rfl) ?_
        refine lv_iload_n S.1 S.2.1 dX5_room_29 rfl (lv_at hl 2 rfl) ?_
        refine mcVri (As := [.int x1, .int x2]) (rest := []) S hw h (fun u h1 => met_roomOf l E A x1 x2 w1 u h1) (cw_roomOf S.2.2.2.2 rfl rfl ⟨Nat.le_of_ble_eq_true rfl, Nat.le_of_ble_eq_true rfl⟩) rfl hl.1 rfl (lv_room (Nat.le_of_ble_eq_true rfl)) dX5_room_30 (fun r6 H locs h hw => ?_)
        refine lv_goto (tgt := 46) S.1 S.2.1 dX5_room_33 rfl ?_
        exact m_iret S hr hlocks hw (so2 h) dX5_room_46
def M_isTenant (x1 : Int32) (w : MS) : Int32 :=
  if x1 < 0 then
    (0 : Int32)
  else
    if (M_tenants w) ≤ x1 then
      (0 : Int32)
    else
      (1 : Int32)
set_option maxRecDepth 100000 in
set_option maxHeartbeats 4000000 in
theorem met_isTenant (l : Launch) (E : mE) (A : Nat → Prop)  (x1 : Int32) (w : MS) (res : Int32) (h : M_isTenant x1 w = res) : Met l yX5_isTenant (ws_ yX5_isTenant cX5_isTenant 2 (some .boolean)) rm_isTenant (mPc E A [.ref (mM E), .int x1] w) (mQi E A res w) 0 0 A := by
  refine mMet (by decide) rfl (Nat.le_of_ble_eq_true rfl) ?_
  intro p e s m below meth c S hr hlocks H ls hw hl
  replace hl : lv_has ls 2 [(0, .ref (mM E)), (1, .int x1)] := hl
  unfold M_isTenant at h
  refine lv_iload_n S.1 S.2.1 dX5_isTenant_0 rfl (lv_at hl 1 rfl) ?_
  refine lv_if_lt (tgt := 16) S.1 S.2.1 dX5_isTenant_1 rfl (fun c1 => ?_) (fun c1 => ?_)
  · replace h := if_t c1 h
    refine lv_iconst (v := 0) S.1 S.2.1 dX5_isTenant_16 rfl ?_
    exact m_zret S hr hlocks hw rfl ⟨h, rfl⟩ dX5_isTenant_17
  · replace h := if_f c1 h
    refine lv_iload_n S.1 S.2.1 dX5_isTenant_4 rfl (lv_at hl 1 rfl) ?_
    refine lv_aload_n S.1 S.2.1 dX5_isTenant_5 rfl (lv_at hl 0 rfl) ?_
    refine mcVti (As := []) (rest := [.int x1]) S hw (met_tenants l E A  w _ rfl) (cw_tenants S.2.2.2.2 rfl rfl ⟨Nat.le_of_ble_eq_true rfl, Nat.le_of_ble_eq_true rfl⟩) rfl hl.1 rfl (lv_room (Nat.le_of_ble_eq_true rfl)) dX5_isTenant_6 (fun H locs hw => ?_)
    refine lv_icmp_ge (tgt := 16) S.1 S.2.1 dX5_isTenant_9 rfl (fun c2 => ?_) (fun c2 => ?_)
    · replace h := if_t c2 h
      refine lv_iconst (v := 0) S.1 S.2.1 dX5_isTenant_16 rfl ?_
      exact m_zret S hr hlocks hw rfl ⟨h, rfl⟩ dX5_isTenant_17
    · replace h := if_f c2 h
      refine lv_iconst (v := 1) S.1 S.2.1 dX5_isTenant_12 rfl ?_
      refine lv_goto (tgt := 17) S.1 S.2.1 dX5_isTenant_13 rfl ?_
      exact m_zret S hr hlocks hw rfl ⟨h, rfl⟩ dX5_isTenant_17
def M_tenant (x1 : Int32) (x2 : Int32) (w : MS) : Option (Int32 × MS) :=
  bdp (wI w 0 0 (0 : Int32)) fun w1 =>
  if (M_isTenant x1 w1) = 0 then
    some ((-1 : Int32), w1)
  else
    if (M_within x2 (0 : Int32) (9 : Int32)) = 0 then
      some ((-1 : Int32), w1)
    else
      if x2 = (3 : Int32) then
        bd1 (rA w1 25 1288 ((31 : Int32) + x1)) fun v5 =>
        some (v5, w1)
      else
        if x2 = (4 : Int32) then
          bd1 (rA w1 25 1288 ((1 : Int32) + x1)) fun v6 =>
          some (v6, w1)
        else
          if x2 = (5 : Int32) then
            bd1 (rA w1 25 1288 ((13 : Int32) + x1)) fun v7 =>
            some (v7, w1)
          else
            if x2 = (6 : Int32) then
              bd1 (rA w1 25 1288 ((19 : Int32) + x1)) fun v8 =>
              some (v8, w1)
            else
              if x2 = (7 : Int32) then
                bd1 (rA w1 25 1288 ((25 : Int32) + x1)) fun v9 =>
                some (v9, w1)
              else
                if x2 = (8 : Int32) then
                  bd1 (rA w1 25 1288 ((7 : Int32) + x1)) fun v10 =>
                  some (v10, w1)
                else
                  if x2 = (9 : Int32) then
                    bd1 (rA w1 25 1288 ((37 : Int32) + x1)) fun v11 =>
                    some (v11, w1)
                  else
                    bd1 (M_tenantOf x1 x2 w1) fun r4 =>
                    some (r4, w1)
set_option maxRecDepth 100000 in
set_option maxHeartbeats 4000000 in
theorem met_tenant (l : Launch) (E : mE) (A : Nat → Prop)  (x1 : Int32) (x2 : Int32) (w : MS) (res : Int32 × MS) (h : M_tenant x1 x2 w = some res) : Met l yX5_tenant (ws_ yX5_tenant cX5_tenant 3 (some .int)) rm_tenant (mPc E A [.ref (mM E), .int x1, .int x2] w) (mQi E A res.1 res.2) 0 0 A := by
  refine mMet (by decide) rfl (Nat.le_of_ble_eq_true rfl) ?_
  intro p e s m below meth c S hr hlocks H ls hw hl
  replace hl : lv_has ls 3 [(0, .ref (mM E)), (1, .int x1), (2, .int x2)] := hl
  unfold M_tenant at h
  refine lv_aload_n S.1 S.2.1 dX5_tenant_0 rfl (lv_at hl 0 rfl) ?_
  refine lv_iconst (v := 0) S.1 S.2.1 dX5_tenant_1 rfl ?_
  refine mp0 S hw dX5_tenant_2 h (fun w1 H locs h hw => ?_)
  refine lv_aload_n S.1 S.2.1 dX5_tenant_5 rfl (lv_at hl 0 rfl) ?_
  refine lv_iload_n S.1 S.2.1 dX5_tenant_6 rfl (lv_at hl 1 rfl) ?_
  refine mcVti (As := [.int x1]) (rest := []) S hw (met_isTenant l E A x1 w1 _ rfl) (cw_isTenant S.2.2.2.2 rfl rfl ⟨Nat.le_of_ble_eq_true rfl, Nat.le_of_ble_eq_true rfl⟩) rfl hl.1 rfl (lv_room (Nat.le_of_ble_eq_true rfl)) dX5_tenant_7 (fun H locs hw => ?_)
  refine lv_if_eq (tgt := 23) S.1 S.2.1 dX5_tenant_10 rfl (fun c2 => ?_) (fun c2 => ?_)
  · replace h := if_t c2 h
    refine lv_iconst (v := -1) S.1 S.2.1 dX5_tenant_23 rfl ?_
    exact m_iret S hr hlocks hw (so2 h) dX5_tenant_24
  · replace h := if_f c2 h
    refine lv_iload_n S.1 S.2.1 dX5_tenant_13 rfl (lv_at hl 2 rfl) ?_
    refine lv_iconst (v := 0) S.1 S.2.1 dX5_tenant_14 rfl ?_
    refine lv_bipush (v := 9) S.1 S.2.1 dX5_tenant_15 rfl ?_
    refine mcSti (As := [.int x2, .int (0 : Int32), .int (9 : Int32)]) (rest := []) S hw (met_within l E A x2 (0 : Int32) (9 : Int32) w1 _ rfl) (cw_within S.2.2.2.2 rfl rfl ⟨Nat.le_of_ble_eq_true rfl, Nat.le_of_ble_eq_true rfl⟩) rfl hl.1 rfl (lv_room (Nat.le_of_ble_eq_true rfl)) dX5_tenant_17 (fun H locs hw => ?_)
    refine lv_if_ne (tgt := 25) S.1 S.2.1 dX5_tenant_20 rfl (fun c3 => ?_) (fun c3 => ?_)
    · replace h := if_f c3 h
      refine lv_iload_n S.1 S.2.1 dX5_tenant_25 rfl (lv_at hl 2 rfl) ?_
      by_cases e3 : x2 = (3 : Int32)
      · replace h := if_t e3 h
        refine lv_tableIn (tgt := 68) S.1 S.2.1 dX5_tenant_26 (by rw [e3]; decide) (by rw [e3]; decide) (by rw [e3]; rfl) rfl ?_
        refine lv_aload_n S.1 S.2.1 dX5_tenant_68 rfl (lv_at hl 0 rfl) ?_
        refine mg25 S hw dX5_tenant_69 ?_
        refine lv_bipush (v := 31) S.1 S.2.1 dX5_tenant_72 rfl ?_
        refine lv_iload_n S.1 S.2.1 dX5_tenant_74 rfl (lv_at hl 1 rfl) ?_
        refine lv_iadd S.1 S.2.1 dX5_tenant_75 ?_
        refine ml25 S hw dX5_tenant_76 h (fun v5 h => ?_)
        exact m_iret S hr hlocks hw (so2 h) dX5_tenant_77
      · replace h := if_f e3 h
        by_cases e4 : x2 = (4 : Int32)
        · replace h := if_t e4 h
          refine lv_tableIn (tgt := 78) S.1 S.2.1 dX5_tenant_26 (by rw [e4]; decide) (by rw [e4]; decide) (by rw [e4]; rfl) rfl ?_
          refine lv_aload_n S.1 S.2.1 dX5_tenant_78 rfl (lv_at hl 0 rfl) ?_
          refine mg25 S hw dX5_tenant_79 ?_
          refine lv_iconst (v := 1) S.1 S.2.1 dX5_tenant_82 rfl ?_
          refine lv_iload_n S.1 S.2.1 dX5_tenant_83 rfl (lv_at hl 1 rfl) ?_
          refine lv_iadd S.1 S.2.1 dX5_tenant_84 ?_
          refine ml25 S hw dX5_tenant_85 h (fun v6 h => ?_)
          exact m_iret S hr hlocks hw (so2 h) dX5_tenant_86
        · replace h := if_f e4 h
          by_cases e5 : x2 = (5 : Int32)
          · replace h := if_t e5 h
            refine lv_tableIn (tgt := 87) S.1 S.2.1 dX5_tenant_26 (by rw [e5]; decide) (by rw [e5]; decide) (by rw [e5]; rfl) rfl ?_
            refine lv_aload_n S.1 S.2.1 dX5_tenant_87 rfl (lv_at hl 0 rfl) ?_
            refine mg25 S hw dX5_tenant_88 ?_
            refine lv_bipush (v := 13) S.1 S.2.1 dX5_tenant_91 rfl ?_
            refine lv_iload_n S.1 S.2.1 dX5_tenant_93 rfl (lv_at hl 1 rfl) ?_
            refine lv_iadd S.1 S.2.1 dX5_tenant_94 ?_
            refine ml25 S hw dX5_tenant_95 h (fun v7 h => ?_)
            exact m_iret S hr hlocks hw (so2 h) dX5_tenant_96
          · replace h := if_f e5 h
            by_cases e6 : x2 = (6 : Int32)
            · replace h := if_t e6 h
              refine lv_tableIn (tgt := 97) S.1 S.2.1 dX5_tenant_26 (by rw [e6]; decide) (by rw [e6]; decide) (by rw [e6]; rfl) rfl ?_
              refine lv_aload_n S.1 S.2.1 dX5_tenant_97 rfl (lv_at hl 0 rfl) ?_
              refine mg25 S hw dX5_tenant_98 ?_
              refine lv_bipush (v := 19) S.1 S.2.1 dX5_tenant_101 rfl ?_
              refine lv_iload_n S.1 S.2.1 dX5_tenant_103 rfl (lv_at hl 1 rfl) ?_
              refine lv_iadd S.1 S.2.1 dX5_tenant_104 ?_
              refine ml25 S hw dX5_tenant_105 h (fun v8 h => ?_)
              exact m_iret S hr hlocks hw (so2 h) dX5_tenant_106
            · replace h := if_f e6 h
              by_cases e7 : x2 = (7 : Int32)
              · replace h := if_t e7 h
                refine lv_tableIn (tgt := 107) S.1 S.2.1 dX5_tenant_26 (by rw [e7]; decide) (by rw [e7]; decide) (by rw [e7]; rfl) rfl ?_
                refine lv_aload_n S.1 S.2.1 dX5_tenant_107 rfl (lv_at hl 0 rfl) ?_
                refine mg25 S hw dX5_tenant_108 ?_
                refine lv_bipush (v := 25) S.1 S.2.1 dX5_tenant_111 rfl ?_
                refine lv_iload_n S.1 S.2.1 dX5_tenant_113 rfl (lv_at hl 1 rfl) ?_
                refine lv_iadd S.1 S.2.1 dX5_tenant_114 ?_
                refine ml25 S hw dX5_tenant_115 h (fun v9 h => ?_)
                exact m_iret S hr hlocks hw (so2 h) dX5_tenant_116
              · replace h := if_f e7 h
                by_cases e8 : x2 = (8 : Int32)
                · replace h := if_t e8 h
                  refine lv_tableIn (tgt := 117) S.1 S.2.1 dX5_tenant_26 (by rw [e8]; decide) (by rw [e8]; decide) (by rw [e8]; rfl) rfl ?_
                  refine lv_aload_n S.1 S.2.1 dX5_tenant_117 rfl (lv_at hl 0 rfl) ?_
                  refine mg25 S hw dX5_tenant_118 ?_
                  refine lv_bipush (v := 7) S.1 S.2.1 dX5_tenant_121 rfl ?_
                  refine lv_iload_n S.1 S.2.1 dX5_tenant_123 rfl (lv_at hl 1 rfl) ?_
                  refine lv_iadd S.1 S.2.1 dX5_tenant_124 ?_
                  refine ml25 S hw dX5_tenant_125 h (fun v10 h => ?_)
                  exact m_iret S hr hlocks hw (so2 h) dX5_tenant_126
                · replace h := if_f e8 h
                  by_cases e9 : x2 = (9 : Int32)
                  · replace h := if_t e9 h
                    refine lv_tableIn (tgt := 127) S.1 S.2.1 dX5_tenant_26 (by rw [e9]; decide) (by rw [e9]; decide) (by rw [e9]; rfl) rfl ?_
                    refine lv_aload_n S.1 S.2.1 dX5_tenant_127 rfl (lv_at hl 0 rfl) ?_
                    refine mg25 S hw dX5_tenant_128 ?_
                    refine lv_bipush (v := 37) S.1 S.2.1 dX5_tenant_131 rfl ?_
                    refine lv_iload_n S.1 S.2.1 dX5_tenant_133 rfl (lv_at hl 1 rfl) ?_
                    refine lv_iadd S.1 S.2.1 dX5_tenant_134 ?_
                    refine ml25 S hw dX5_tenant_135 h (fun v11 h => ?_)
                    exact m_iret S hr hlocks hw (so2 h) dX5_tenant_136
                  · replace h := if_f e9 h
                    refine lv_tableOut (tgt := 137) S.1 S.2.1 dX5_tenant_26 (by have z3 := ne_toInt e3 (j := 3) rfl; have z4 := ne_toInt e4 (j := 4) rfl; have z5 := ne_toInt e5 (j := 5) rfl; have z6 := ne_toInt e6 (j := 6) rfl; have z7 := ne_toInt e7 (j := 7) rfl; have z8 := ne_toInt e8 (j := 8) rfl; have z9 := ne_toInt e9 (j := 9) rfl; omega) rfl ?_
                    refine lv_aload_n S.1 S.2.1 dX5_tenant_137 rfl (lv_at hl 0 rfl) ?_
                    refine lv_iload_n S.1 S.2.1 dX5_tenant_138 rfl (lv_at hl 1 rfl) ?_
                    refine lv_iload_n S.1 S.2.1 dX5_tenant_139 rfl (lv_at hl 2 rfl) ?_
                    refine mcVri (As := [.int x1, .int x2]) (rest := []) S hw h (fun u h1 => met_tenantOf l E A x1 x2 w1 u h1) (cw_tenantOf S.2.2.2.2 rfl rfl ⟨Nat.le_of_ble_eq_true rfl, Nat.le_of_ble_eq_true rfl⟩) rfl hl.1 rfl (lv_room (Nat.le_of_ble_eq_true rfl)) dX5_tenant_140 (fun r4 H locs h hw => ?_)
                    exact m_iret S hr hlocks hw (so2 h) dX5_tenant_143
    · replace h := if_t c3 h
      refine lv_iconst (v := -1) S.1 S.2.1 dX5_tenant_23 rfl ?_
      exact m_iret S hr hlocks hw (so2 h) dX5_tenant_24
def M_isIn (x1 : Int32) (x2 : Int32) (w : MS) : Option Int32 :=
  if (M_isTenant x2 w) = 0 then
    some (0 : Int32)
  else
    bd1 (rA w 25 1288 ((x1 + (1 : Int32)) + x2)) fun v2 =>
    if v2 < 0 then
      some (0 : Int32)
    else
      some (1 : Int32)
set_option maxRecDepth 100000 in
set_option maxHeartbeats 4000000 in
theorem met_isIn (l : Launch) (E : mE) (A : Nat → Prop)  (x1 : Int32) (x2 : Int32) (w : MS) (res : Int32) (h : M_isIn x1 x2 w = some res) : Met l yX5_isIn (ws_ yX5_isIn cX5_isIn 3 (some .boolean)) rm_isIn (mPc E A [.ref (mM E), .int x1, .int x2] w) (mQi E A res w) 0 0 A := by
  refine mMet (by decide) rfl (Nat.le_of_ble_eq_true rfl) ?_
  intro p e s m below meth c S hr hlocks H ls hw hl
  replace hl : lv_has ls 3 [(0, .ref (mM E)), (1, .int x1), (2, .int x2)] := hl
  unfold M_isIn at h
  refine lv_aload_n S.1 S.2.1 dX5_isIn_0 rfl (lv_at hl 0 rfl) ?_
  refine lv_iload_n S.1 S.2.1 dX5_isIn_1 rfl (lv_at hl 2 rfl) ?_
  refine mcVti (As := [.int x2]) (rest := []) S hw (met_isTenant l E A x2 w _ rfl) (cw_isTenant S.2.2.2.2 rfl rfl ⟨Nat.le_of_ble_eq_true rfl, Nat.le_of_ble_eq_true rfl⟩) rfl hl.1 rfl (lv_room (Nat.le_of_ble_eq_true rfl)) dX5_isIn_2 (fun H locs hw => ?_)
  refine lv_if_eq (tgt := 25) S.1 S.2.1 dX5_isIn_5 rfl (fun c1 => ?_) (fun c1 => ?_)
  · replace h := if_t c1 h
    refine lv_iconst (v := 0) S.1 S.2.1 dX5_isIn_25 rfl ?_
    exact m_zret S hr hlocks hw rfl ⟨so1 h, rfl⟩ dX5_isIn_26
  · replace h := if_f c1 h
    refine lv_aload_n S.1 S.2.1 dX5_isIn_8 rfl (lv_at hl 0 rfl) ?_
    refine mg25 S hw dX5_isIn_9 ?_
    refine lv_iload_n S.1 S.2.1 dX5_isIn_12 rfl (lv_at hl 1 rfl) ?_
    refine lv_iconst (v := 1) S.1 S.2.1 dX5_isIn_13 rfl ?_
    refine lv_iadd S.1 S.2.1 dX5_isIn_14 ?_
    refine lv_iload_n S.1 S.2.1 dX5_isIn_15 rfl (lv_at hl 2 rfl) ?_
    refine lv_iadd S.1 S.2.1 dX5_isIn_16 ?_
    refine ml25 S hw dX5_isIn_17 h (fun v2 h => ?_)
    refine lv_if_lt (tgt := 25) S.1 S.2.1 dX5_isIn_18 rfl (fun c3 => ?_) (fun c3 => ?_)
    · replace h := if_t c3 h
      refine lv_iconst (v := 0) S.1 S.2.1 dX5_isIn_25 rfl ?_
      exact m_zret S hr hlocks hw rfl ⟨so1 h, rfl⟩ dX5_isIn_26
    · replace h := if_f c3 h
      refine lv_iconst (v := 1) S.1 S.2.1 dX5_isIn_21 rfl ?_
      refine lv_goto (tgt := 26) S.1 S.2.1 dX5_isIn_22 rfl ?_
      exact m_zret S hr hlocks hw rfl ⟨so1 h, rfl⟩ dX5_isIn_26
def M_restOf (x1 : Int32) (w : MS) : Option Int32 :=
  bd1 (M_tenantOf x1 (1 : Int32) w) fun r1 =>
  bd1 (M_tenantOf x1 (0 : Int32) w) fun r2 =>
  if r2 = (3 : Int32) then
    some (r1 + (20 : Int32))
  else
    some (r1 + (0 : Int32))
set_option maxRecDepth 100000 in
set_option maxHeartbeats 4000000 in
theorem met_restOf (l : Launch) (E : mE) (A : Nat → Prop)  (x1 : Int32) (w : MS) (res : Int32) (h : M_restOf x1 w = some res) : Met l yX5_restOf (ws_ yX5_restOf cX5_restOf 2 (some .int)) rm_restOf (mPc E A [.ref (mM E), .int x1] w) (mQi E A res w) 0 0 A := by
  refine mMet (by decide) rfl (Nat.le_of_ble_eq_true rfl) ?_
  intro p e s m below meth c S hr hlocks H ls hw hl
  replace hl : lv_has ls 2 [(0, .ref (mM E)), (1, .int x1)] := hl
  unfold M_restOf at h
  refine lv_aload_n S.1 S.2.1 dX5_restOf_0 rfl (lv_at hl 0 rfl) ?_
  refine lv_iload_n S.1 S.2.1 dX5_restOf_1 rfl (lv_at hl 1 rfl) ?_
  refine lv_iconst (v := 1) S.1 S.2.1 dX5_restOf_2 rfl ?_
  refine mcVri (As := [.int x1, .int (1 : Int32)]) (rest := []) S hw h (fun u h1 => met_tenantOf l E A x1 (1 : Int32) w u h1) (cw_tenantOf S.2.2.2.2 rfl rfl ⟨Nat.le_of_ble_eq_true rfl, Nat.le_of_ble_eq_true rfl⟩) rfl hl.1 rfl (lv_room (Nat.le_of_ble_eq_true rfl)) dX5_restOf_3 (fun r1 H locs h hw => ?_)
  refine lv_aload_n S.1 S.2.1 dX5_restOf_6 rfl (lv_at hl 0 rfl) ?_
  refine lv_iload_n S.1 S.2.1 dX5_restOf_7 rfl (lv_at hl 1 rfl) ?_
  refine lv_iconst (v := 0) S.1 S.2.1 dX5_restOf_8 rfl ?_
  refine mcVri (As := [.int x1, .int (0 : Int32)]) (rest := [.int r1]) S hw h (fun u h1 => met_tenantOf l E A x1 (0 : Int32) w u h1) (cw_tenantOf S.2.2.2.2 rfl rfl ⟨Nat.le_of_ble_eq_true rfl, Nat.le_of_ble_eq_true rfl⟩) rfl hl.1 rfl (lv_room (Nat.le_of_ble_eq_true rfl)) dX5_restOf_9 (fun r2 H locs h hw => ?_)
  refine lv_iconst (v := 3) S.1 S.2.1 dX5_restOf_12 rfl ?_
  refine lv_icmp_ne (tgt := 21) S.1 S.2.1 dX5_restOf_13 rfl (fun c3 => ?_) (fun c3 => ?_)
  · replace h := if_f c3 h
    refine lv_iconst (v := 0) S.1 S.2.1 dX5_restOf_21 rfl ?_
    refine lv_iadd S.1 S.2.1 dX5_restOf_22 ?_
    exact m_iret S hr hlocks hw ⟨so1 h, rfl⟩ dX5_restOf_23
  · replace h := if_t c3 h
    refine lv_bipush (v := 20) S.1 S.2.1 dX5_restOf_16 rfl ?_
    refine lv_goto (tgt := 22) S.1 S.2.1 dX5_restOf_18 rfl ?_
    refine lv_iadd S.1 S.2.1 dX5_restOf_22 ?_
    exact m_iret S hr hlocks hw ⟨so1 h, rfl⟩ dX5_restOf_23
def M_isLoving_p5 : Nat → Int32 → Int32 → Int32 → Int32 → MS → Option Int32
  | 0, _, _, _, _, _ => none
  | n + 1, x1, x2, x3, x4, w =>
    if (M_tenants w) ≤ x4 then
      zb x3 (some x3)
    else
      if x3 = 0 then
        bd1 (rA w 10 240 (((56 : Int32) + ((6 : Int32) * x2)) + x4)) fun v3 =>
        if v3 = (1 : Int32) then
          bd1 (M_isIn x1 x4 w) fun r5 =>
          if r5 = 0 then
            (M_isLoving_p5 n) x1 x2 (0 : Int32) (x4 + (1 : Int32)) w
          else
            (M_isLoving_p5 n) x1 x2 (1 : Int32) (x4 + (1 : Int32)) w
        else
          (M_isLoving_p5 n) x1 x2 (0 : Int32) (x4 + (1 : Int32)) w
      else
        (M_isLoving_p5 n) x1 x2 (1 : Int32) (x4 + (1 : Int32)) w
def M_isLoving (x1 : Int32) (x2 : Int32) (w : MS) : Option Int32 :=
  M_isLoving_p5 FU x1 x2 (0 : Int32) (0 : Int32) w
set_option maxRecDepth 100000 in
set_option maxHeartbeats 4000000 in
theorem wk_M_isLoving_p5 {p : Program} {l : Launch} {e : Env} {s : State} {m : MethodId} {args : Array Value} {below : List Frame} {meth : Method} {c : Code} {E : mE} {A : Nat → Prop} (S : CallFix p m c cX5_isLoving 5 s args lw_all RX5) (hr : meth.sig.returnType = (some .boolean)) (hlocks : meth.locks = false) {res : Int32}  : ∀ n : Nat, ∀ (x1 : Int32) (x2 : Int32) (x3 : Int32) (x4 : Int32) (w : MS) (H : Heap) (locs : List Loc) (ls : Array Slot), M_isLoving_p5 n x1 x2 x3 x4 w = some res → mH E A s w H locs → lv_has ls 5 [(0, .ref (mM E)), (1, .int x1), (2, .int x2), (3, .int x3), (4, .int x4)] → W p l e rm_isLoving s m args below meth c H locs 0 0 (MQ below (mQi E A res w) args s 0 0 A) (F0 m 5 ls []) := by
  intro n
  induction n with
  | zero => intro x1 x2 x3 x4 w H locs ls h; cases (show (none : Option Int32) = some res from h)
  | succ n ih =>
    intro x1 x2 x3 x4 w H locs ls h hw hl
    rw [M_isLoving_p5] at h
    refine lv_iload S.1 S.2.1 dX5_isLoving_5 (lv_at hl 4 rfl) ?_
    refine lv_aload_n S.1 S.2.1 dX5_isLoving_7 rfl (lv_at hl 0 rfl) ?_
    refine mcVti (As := []) (rest := [.int x4]) S hw (met_tenants l E A  w _ rfl) (cw_tenants S.2.2.2.2 rfl rfl ⟨Nat.le_of_ble_eq_true rfl, Nat.le_of_ble_eq_true rfl⟩) rfl hl.1 rfl (lv_room (Nat.le_of_ble_eq_true rfl)) dX5_isLoving_8 (fun H locs hw => ?_)
    refine lv_icmp_ge (tgt := 59) S.1 S.2.1 dX5_isLoving_11 rfl (fun c1 => ?_) (fun c1 => ?_)
    · replace h := if_t c1 h
      refine lv_iload_n S.1 S.2.1 dX5_isLoving_59 rfl (lv_at hl 3 rfl) ?_
      exact m_zretn S hr hlocks hw (zb_some h).1 ⟨so1 (zb_some h).2, rfl⟩ dX5_isLoving_60
    · replace h := if_f c1 h
      refine lv_iload_n S.1 S.2.1 dX5_isLoving_14 rfl (lv_at hl 3 rfl) ?_
      refine lv_if_ne (tgt := 47) S.1 S.2.1 dX5_isLoving_15 rfl (fun c2 => ?_) (fun c2 => ?_)
      · replace h := if_f c2 h
        refine lv_iconst (v := 1) S.1 S.2.1 dX5_isLoving_47 rfl ?_
        refine lv_goto (tgt := 52) S.1 S.2.1 dX5_isLoving_48 rfl ?_
        refine lv_istore_n (lv' := [(3, .int (1 : Int32)), (0, .ref (mM E)), (1, .int x1), (2, .int x2), (4, .int x4)]) S.1 S.2.1 dX5_isLoving_52 rfl hl (by decide) rfl (fun ls hl => ?_)
        refine lv_iinc (v := x4 + (1 : Int32)) (lv' := [(4, .int (x4 + (1 : Int32))), (3, .int (1 : Int32)), (0, .ref (mM E)), (1, .int x1), (2, .int x2)]) S.1 S.2.1 dX5_isLoving_53 hl (k := 4) rfl rfl (by decide) rfl (fun ls hl => ?_)
        refine lv_goto (tgt := 5) S.1 S.2.1 dX5_isLoving_56 rfl ?_
        exact ih _ _ _ _ _ _ _ _ h hw (lv_sub hl [2, 3, 4, 1, 0] rfl)
      · replace h := if_t c2 h
        refine lv_aload_n S.1 S.2.1 dX5_isLoving_18 rfl (lv_at hl 0 rfl) ?_
        refine mg10 S hw dX5_isLoving_19 ?_
        refine lv_bipush (v := 56) S.1 S.2.1 dX5_isLoving_22 rfl ?_
        refine lv_bipush (v := 6) S.1 S.2.1 dX5_isLoving_24 rfl ?_
        refine lv_iload_n S.1 S.2.1 dX5_isLoving_26 rfl (lv_at hl 2 rfl) ?_
        refine lv_imul S.1 S.2.1 dX5_isLoving_27 ?_
        refine lv_iadd S.1 S.2.1 dX5_isLoving_28 ?_
        refine lv_iload S.1 S.2.1 dX5_isLoving_29 (lv_at hl 4 rfl) ?_
        refine lv_iadd S.1 S.2.1 dX5_isLoving_31 ?_
        refine ml10 S hw dX5_isLoving_32 h (fun v3 h => ?_)
        refine lv_iconst (v := 1) S.1 S.2.1 dX5_isLoving_33 rfl ?_
        refine lv_icmp_ne (tgt := 51) S.1 S.2.1 dX5_isLoving_34 rfl (fun c4 => ?_) (fun c4 => ?_)
        · replace h := if_f c4 h
          refine lv_iconst (v := 0) S.1 S.2.1 dX5_isLoving_51 rfl ?_
          refine lv_istore_n (lv' := [(3, .int (0 : Int32)), (0, .ref (mM E)), (1, .int x1), (2, .int x2), (4, .int x4)]) S.1 S.2.1 dX5_isLoving_52 rfl hl (by decide) rfl (fun ls hl => ?_)
          refine lv_iinc (v := x4 + (1 : Int32)) (lv' := [(4, .int (x4 + (1 : Int32))), (3, .int (0 : Int32)), (0, .ref (mM E)), (1, .int x1), (2, .int x2)]) S.1 S.2.1 dX5_isLoving_53 hl (k := 4) rfl rfl (by decide) rfl (fun ls hl => ?_)
          refine lv_goto (tgt := 5) S.1 S.2.1 dX5_isLoving_56 rfl ?_
          exact ih _ _ _ _ _ _ _ _ h hw (lv_sub hl [2, 3, 4, 1, 0] rfl)
        · replace h := if_t c4 h
          refine lv_aload_n S.1 S.2.1 dX5_isLoving_37 rfl (lv_at hl 0 rfl) ?_
          refine lv_iload_n S.1 S.2.1 dX5_isLoving_38 rfl (lv_at hl 1 rfl) ?_
          refine lv_iload S.1 S.2.1 dX5_isLoving_39 (lv_at hl 4 rfl) ?_
          refine mcVri (As := [.int x1, .int x4]) (rest := []) S hw h (fun u h1 => met_isIn l E A x1 x4 w u h1) (cw_isIn S.2.2.2.2 rfl rfl ⟨Nat.le_of_ble_eq_true rfl, Nat.le_of_ble_eq_true rfl⟩) rfl hl.1 rfl (lv_room (Nat.le_of_ble_eq_true rfl)) dX5_isLoving_41 (fun r5 H locs h hw => ?_)
          refine lv_if_eq (tgt := 51) S.1 S.2.1 dX5_isLoving_44 rfl (fun c6 => ?_) (fun c6 => ?_)
          · replace h := if_t c6 h
            refine lv_iconst (v := 0) S.1 S.2.1 dX5_isLoving_51 rfl ?_
            refine lv_istore_n (lv' := [(3, .int (0 : Int32)), (0, .ref (mM E)), (1, .int x1), (2, .int x2), (4, .int x4)]) S.1 S.2.1 dX5_isLoving_52 rfl hl (by decide) rfl (fun ls hl => ?_)
            refine lv_iinc (v := x4 + (1 : Int32)) (lv' := [(4, .int (x4 + (1 : Int32))), (3, .int (0 : Int32)), (0, .ref (mM E)), (1, .int x1), (2, .int x2)]) S.1 S.2.1 dX5_isLoving_53 hl (k := 4) rfl rfl (by decide) rfl (fun ls hl => ?_)
            refine lv_goto (tgt := 5) S.1 S.2.1 dX5_isLoving_56 rfl ?_
            exact ih _ _ _ _ _ _ _ _ h hw (lv_sub hl [2, 3, 4, 1, 0] rfl)
          · replace h := if_f c6 h
            refine lv_iconst (v := 1) S.1 S.2.1 dX5_isLoving_47 rfl ?_
            refine lv_goto (tgt := 52) S.1 S.2.1 dX5_isLoving_48 rfl ?_
            refine lv_istore_n (lv' := [(3, .int (1 : Int32)), (0, .ref (mM E)), (1, .int x1), (2, .int x2), (4, .int x4)]) S.1 S.2.1 dX5_isLoving_52 rfl hl (by decide) rfl (fun ls hl => ?_)
            refine lv_iinc (v := x4 + (1 : Int32)) (lv' := [(4, .int (x4 + (1 : Int32))), (3, .int (1 : Int32)), (0, .ref (mM E)), (1, .int x1), (2, .int x2)]) S.1 S.2.1 dX5_isLoving_53 hl (k := 4) rfl rfl (by decide) rfl (fun ls hl => ?_)
            refine lv_goto (tgt := 5) S.1 S.2.1 dX5_isLoving_56 rfl ?_
            exact ih _ _ _ _ _ _ _ _ h hw (lv_sub hl [2, 3, 4, 1, 0] rfl)
set_option maxRecDepth 100000 in
set_option maxHeartbeats 4000000 in
theorem met_isLoving (l : Launch) (E : mE) (A : Nat → Prop)  (x1 : Int32) (x2 : Int32) (w : MS) (res : Int32) (h : M_isLoving x1 x2 w = some res) : Met l yX5_isLoving (ws_ yX5_isLoving cX5_isLoving 5 (some .boolean)) rm_isLoving (mPc E A [.ref (mM E), .int x1, .int x2] w) (mQi E A res w) 0 0 A := by
  refine mMet (by decide) rfl (Nat.le_of_ble_eq_true rfl) ?_
  intro p e s m below meth c S hr hlocks H ls hw hl
  replace hl : lv_has ls 5 [(0, .ref (mM E)), (1, .int x1), (2, .int x2)] := hl
  unfold M_isLoving at h
  refine lv_iconst (v := 0) S.1 S.2.1 dX5_isLoving_0 rfl ?_
  refine lv_istore_n (lv' := [(3, .int (0 : Int32)), (0, .ref (mM E)), (1, .int x1), (2, .int x2)]) S.1 S.2.1 dX5_isLoving_1 rfl hl (by decide) rfl (fun ls hl => ?_)
  refine lv_iconst (v := 0) S.1 S.2.1 dX5_isLoving_2 rfl ?_
  refine lv_istore (lv' := [(4, .int (0 : Int32)), (3, .int (0 : Int32)), (0, .ref (mM E)), (1, .int x1), (2, .int x2)]) S.1 S.2.1 dX5_isLoving_3 hl (by decide) rfl (fun ls hl => ?_)
  exact wk_M_isLoving_p5 S hr hlocks FU _ _ _ _ _ _ _ _ h hw (lv_sub hl [2, 3, 4, 1, 0] rfl)
def M_pulseOf_p75 (t0 : Int32) (t1 : Int32) (w : MS) : Option Int32 :=
  bdp (t1 + t0) fun y11 =>
  if y11 ≤ (240 : Int32) then
    some y11
  else
    some (240 : Int32)
def M_pulseOf_p57 (x1 : Int32) (x2 : Int32) (t0 : Int32) (t1 : Int32) (w : MS) : Option Int32 :=
  bdp (t1 + t0) fun y8 =>
  bd1 (M_isLoving x1 x2 w) fun r9 =>
  if r9 = 0 then
    M_pulseOf_p75 (0 : Int32) y8 w
  else
    M_pulseOf_p75 (8 : Int32) y8 w
def M_pulseOf (x1 : Int32) (x2 : Int32) (w : MS) : Option Int32 :=
  bd1 (M_restOf x2 w) fun r1 =>
  bd1 (rA w 25 1288 ((x1 + (13 : Int32)) + x2)) fun v2 =>
  bd1 (rA w 25 1288 ((x1 + (1 : Int32)) + x2)) fun v3 =>
  bd1 (M_roomOf v3 (1 : Int32) w) fun r4 =>
  bdp ((r1 + v2) + r4) fun y5 =>
  bd1 (rA w 25 1288 ((x1 + (19 : Int32)) + x2)) fun v6 =>
  if v6 ≤ 0 then
    M_pulseOf_p57 x1 x2 (0 : Int32) y5 w
  else
    M_pulseOf_p57 x1 x2 (rI w 28 0) y5 w
set_option maxRecDepth 100000 in
set_option maxHeartbeats 4000000 in
theorem wk_M_pulseOf_p75 {p : Program} {l : Launch} {e : Env} {s : State} {m : MethodId} {args : Array Value} {below : List Frame} {meth : Method} {c : Code} {E : mE} {A : Nat → Prop} (S : CallFix p m c cX5_pulseOf 4 s args lw_all RX5) (hr : meth.sig.returnType = (some .int)) (hlocks : meth.locks = false) {res : Int32}  : ∀ (t0 : Int32) (t1 : Int32) (w : MS) (H : Heap) (locs : List Loc) (ls : Array Slot), M_pulseOf_p75 t0 t1 w = some res → mH E A s w H locs → lv_has ls 4 [(0, .ref (mM E))] → W p l e rm_pulseOf s m args below meth c H locs 0 0 (MQ below (mQi E A res w) args s 0 0 A) (F0 m 75 ls [.int t0, .int t1]) := by
  intro t0 t1 w H locs ls h hw hl
  unfold M_pulseOf_p75 at h
  refine lv_iadd S.1 S.2.1 dX5_pulseOf_75 ?_
  refine lv_topi (fun y11 ey => ?_)
  replace h := bdp_e ey h
  refine lv_istore_n (lv' := [(3, .int y11), (0, .ref (mM E))]) S.1 S.2.1 dX5_pulseOf_76 rfl hl (by decide) rfl (fun ls hl => ?_)
  refine lv_iload_n S.1 S.2.1 dX5_pulseOf_77 rfl (lv_at hl 0 rfl) ?_
  refine lv_sipush (v := 240) S.1 S.2.1 dX5_pulseOf_78 rfl ?_
  refine lv_icmp_le (tgt := 90) S.1 S.2.1 dX5_pulseOf_81 rfl (fun c12 => ?_) (fun c12 => ?_)
  · replace h := if_t c12 h
    refine lv_iload_n S.1 S.2.1 dX5_pulseOf_90 rfl (lv_at hl 0 rfl) ?_
    exact m_iret S hr hlocks hw ⟨so1 h, rfl⟩ dX5_pulseOf_91
  · replace h := if_f c12 h
    refine lv_sipush (v := 240) S.1 S.2.1 dX5_pulseOf_84 rfl ?_
    refine lv_goto (tgt := 91) S.1 S.2.1 dX5_pulseOf_87 rfl ?_
    exact m_iret S hr hlocks hw ⟨so1 h, rfl⟩ dX5_pulseOf_91
set_option maxRecDepth 100000 in
set_option maxHeartbeats 4000000 in
theorem wk_M_pulseOf_p57 {p : Program} {l : Launch} {e : Env} {s : State} {m : MethodId} {args : Array Value} {below : List Frame} {meth : Method} {c : Code} {E : mE} {A : Nat → Prop} (S : CallFix p m c cX5_pulseOf 4 s args lw_all RX5) (hr : meth.sig.returnType = (some .int)) (hlocks : meth.locks = false) {res : Int32}  : ∀ (x1 : Int32) (x2 : Int32) (t0 : Int32) (t1 : Int32) (w : MS) (H : Heap) (locs : List Loc) (ls : Array Slot), M_pulseOf_p57 x1 x2 t0 t1 w = some res → mH E A s w H locs → lv_has ls 4 [(0, .ref (mM E)), (1, .int x1), (2, .int x2)] → W p l e rm_pulseOf s m args below meth c H locs 0 0 (MQ below (mQi E A res w) args s 0 0 A) (F0 m 57 ls [.int t0, .int t1]) := by
  intro x1 x2 t0 t1 w H locs ls h hw hl
  unfold M_pulseOf_p57 at h
  refine lv_iadd S.1 S.2.1 dX5_pulseOf_57 ?_
  refine lv_topi (fun y8 ey => ?_)
  replace h := bdp_e ey h
  refine lv_istore_n (lv' := [(3, .int y8), (0, .ref (mM E)), (1, .int x1), (2, .int x2)]) S.1 S.2.1 dX5_pulseOf_58 rfl hl (by decide) rfl (fun ls hl => ?_)
  refine lv_iload_n S.1 S.2.1 dX5_pulseOf_59 rfl (lv_at hl 0 rfl) ?_
  refine lv_aload_n S.1 S.2.1 dX5_pulseOf_60 rfl (lv_at hl 1 rfl) ?_
  refine lv_iload_n S.1 S.2.1 dX5_pulseOf_61 rfl (lv_at hl 2 rfl) ?_
  refine lv_iload_n S.1 S.2.1 dX5_pulseOf_62 rfl (lv_at hl 3 rfl) ?_
  refine mcVri (As := [.int x1, .int x2]) (rest := [.int y8]) S hw h (fun u h1 => met_isLoving l E A x1 x2 w u h1) (cw_isLoving S.2.2.2.2 rfl rfl ⟨Nat.le_of_ble_eq_true rfl, Nat.le_of_ble_eq_true rfl⟩) rfl hl.1 rfl (lv_room (Nat.le_of_ble_eq_true rfl)) dX5_pulseOf_63 (fun r9 H locs h hw => ?_)
  refine lv_if_eq (tgt := 74) S.1 S.2.1 dX5_pulseOf_66 rfl (fun c10 => ?_) (fun c10 => ?_)
  · replace h := if_t c10 h
    refine lv_iconst (v := 0) S.1 S.2.1 dX5_pulseOf_74 rfl ?_
    exact wk_M_pulseOf_p75 S hr hlocks _ _ _ _ _ _ h hw (lv_sub hl [1] rfl)
  · replace h := if_f c10 h
    refine lv_bipush (v := 8) S.1 S.2.1 dX5_pulseOf_69 rfl ?_
    refine lv_goto (tgt := 75) S.1 S.2.1 dX5_pulseOf_71 rfl ?_
    exact wk_M_pulseOf_p75 S hr hlocks _ _ _ _ _ _ h hw (lv_sub hl [1] rfl)
set_option maxRecDepth 100000 in
set_option maxHeartbeats 4000000 in
theorem met_pulseOf (l : Launch) (E : mE) (A : Nat → Prop)  (x1 : Int32) (x2 : Int32) (w : MS) (res : Int32) (h : M_pulseOf x1 x2 w = some res) : Met l yX5_pulseOf (ws_ yX5_pulseOf cX5_pulseOf 4 (some .int)) rm_pulseOf (mPc E A [.ref (mM E), .int x1, .int x2] w) (mQi E A res w) 0 0 A := by
  refine mMet (by decide) rfl (Nat.le_of_ble_eq_true rfl) ?_
  intro p e s m below meth c S hr hlocks H ls hw hl
  replace hl : lv_has ls 4 [(0, .ref (mM E)), (1, .int x1), (2, .int x2)] := hl
  unfold M_pulseOf at h
  refine lv_aload_n S.1 S.2.1 dX5_pulseOf_0 rfl (lv_at hl 0 rfl) ?_
  refine lv_iload_n S.1 S.2.1 dX5_pulseOf_1 rfl (lv_at hl 2 rfl) ?_
  refine mcVri (As := [.int x2]) (rest := []) S hw h (fun u h1 => met_restOf l E A x2 w u h1) (cw_restOf S.2.2.2.2 rfl rfl ⟨Nat.le_of_ble_eq_true rfl, Nat.le_of_ble_eq_true rfl⟩) rfl hl.1 rfl (lv_room (Nat.le_of_ble_eq_true rfl)) dX5_pulseOf_2 (fun r1 H locs h hw => ?_)
  refine lv_aload_n S.1 S.2.1 dX5_pulseOf_5 rfl (lv_at hl 0 rfl) ?_
  refine mg25 S hw dX5_pulseOf_6 ?_
  refine lv_iload_n S.1 S.2.1 dX5_pulseOf_9 rfl (lv_at hl 1 rfl) ?_
  refine lv_bipush (v := 13) S.1 S.2.1 dX5_pulseOf_10 rfl ?_
  refine lv_iadd S.1 S.2.1 dX5_pulseOf_12 ?_
  refine lv_iload_n S.1 S.2.1 dX5_pulseOf_13 rfl (lv_at hl 2 rfl) ?_
  refine lv_iadd S.1 S.2.1 dX5_pulseOf_14 ?_
  refine ml25 S hw dX5_pulseOf_15 h (fun v2 h => ?_)
  refine lv_iadd S.1 S.2.1 dX5_pulseOf_16 ?_
  refine lv_aload_n S.1 S.2.1 dX5_pulseOf_17 rfl (lv_at hl 0 rfl) ?_
  refine lv_aload_n S.1 S.2.1 dX5_pulseOf_18 rfl (lv_at hl 0 rfl) ?_
  refine mg25 S hw dX5_pulseOf_19 ?_
  refine lv_iload_n S.1 S.2.1 dX5_pulseOf_22 rfl (lv_at hl 1 rfl) ?_
  refine lv_iconst (v := 1) S.1 S.2.1 dX5_pulseOf_23 rfl ?_
  refine lv_iadd S.1 S.2.1 dX5_pulseOf_24 ?_
  refine lv_iload_n S.1 S.2.1 dX5_pulseOf_25 rfl (lv_at hl 2 rfl) ?_
  refine lv_iadd S.1 S.2.1 dX5_pulseOf_26 ?_
  refine ml25 S hw dX5_pulseOf_27 h (fun v3 h => ?_)
  refine lv_iconst (v := 1) S.1 S.2.1 dX5_pulseOf_28 rfl ?_
  refine mcVri (As := [.int v3, .int (1 : Int32)]) (rest := [.int (r1 + v2)]) S hw h (fun u h1 => met_roomOf l E A v3 (1 : Int32) w u h1) (cw_roomOf S.2.2.2.2 rfl rfl ⟨Nat.le_of_ble_eq_true rfl, Nat.le_of_ble_eq_true rfl⟩) rfl hl.1 rfl (lv_room (Nat.le_of_ble_eq_true rfl)) dX5_pulseOf_29 (fun r4 H locs h hw => ?_)
  refine lv_iadd S.1 S.2.1 dX5_pulseOf_32 ?_
  refine lv_topi (fun y5 ey => ?_)
  replace h := bdp_e ey h
  refine lv_istore_n (lv' := [(3, .int y5), (0, .ref (mM E)), (1, .int x1), (2, .int x2)]) S.1 S.2.1 dX5_pulseOf_33 rfl hl (by decide) rfl (fun ls hl => ?_)
  refine lv_iload_n S.1 S.2.1 dX5_pulseOf_34 rfl (lv_at hl 0 rfl) ?_
  refine lv_aload_n S.1 S.2.1 dX5_pulseOf_35 rfl (lv_at hl 1 rfl) ?_
  refine mg25 S hw dX5_pulseOf_36 ?_
  refine lv_iload_n S.1 S.2.1 dX5_pulseOf_39 rfl (lv_at hl 2 rfl) ?_
  refine lv_bipush (v := 19) S.1 S.2.1 dX5_pulseOf_40 rfl ?_
  refine lv_iadd S.1 S.2.1 dX5_pulseOf_42 ?_
  refine lv_iload_n S.1 S.2.1 dX5_pulseOf_43 rfl (lv_at hl 3 rfl) ?_
  refine lv_iadd S.1 S.2.1 dX5_pulseOf_44 ?_
  refine ml25 S hw dX5_pulseOf_45 h (fun v6 h => ?_)
  refine lv_if_le (tgt := 56) S.1 S.2.1 dX5_pulseOf_46 rfl (fun c7 => ?_) (fun c7 => ?_)
  · replace h := if_t c7 h
    refine lv_iconst (v := 0) S.1 S.2.1 dX5_pulseOf_56 rfl ?_
    exact wk_M_pulseOf_p57 S hr hlocks _ _ _ _ _ _ _ _ h hw (lv_sub hl [1, 2, 3] rfl)
  · replace h := if_f c7 h
    refine lv_aload_n S.1 S.2.1 dX5_pulseOf_49 rfl (lv_at hl 1 rfl) ?_
    refine mg28 S hw dX5_pulseOf_50 ?_
    refine lv_goto (tgt := 57) S.1 S.2.1 dX5_pulseOf_53 rfl ?_
    exact wk_M_pulseOf_p57 S hr hlocks _ _ _ _ _ _ _ _ h hw (lv_sub hl [1, 2, 3] rfl)
def M_pulse (x1 : Int32) (w : MS) : Option (Int32 × MS) :=
  bdp (wI w 0 0 (0 : Int32)) fun w1 =>
  bd1 (M_isIn (0 : Int32) x1 w1) fun r2 =>
  if r2 = 0 then
    some ((-1 : Int32), w1)
  else
    bd1 (M_pulseOf (0 : Int32) x1 w1) fun r4 =>
    some (r4, w1)
set_option maxRecDepth 100000 in
set_option maxHeartbeats 4000000 in
theorem met_pulse (l : Launch) (E : mE) (A : Nat → Prop)  (x1 : Int32) (w : MS) (res : Int32 × MS) (h : M_pulse x1 w = some res) : Met l yX5_pulse (ws_ yX5_pulse cX5_pulse 2 (some .int)) rm_pulse (mPc E A [.ref (mM E), .int x1] w) (mQi E A res.1 res.2) 0 0 A := by
  refine mMet (by decide) rfl (Nat.le_of_ble_eq_true rfl) ?_
  intro p e s m below meth c S hr hlocks H ls hw hl
  replace hl : lv_has ls 2 [(0, .ref (mM E)), (1, .int x1)] := hl
  unfold M_pulse at h
  refine lv_aload_n S.1 S.2.1 dX5_pulse_0 rfl (lv_at hl 0 rfl) ?_
  refine lv_iconst (v := 0) S.1 S.2.1 dX5_pulse_1 rfl ?_
  refine mp0 S hw dX5_pulse_2 h (fun w1 H locs h hw => ?_)
  refine lv_aload_n S.1 S.2.1 dX5_pulse_5 rfl (lv_at hl 0 rfl) ?_
  refine lv_iconst (v := 0) S.1 S.2.1 dX5_pulse_6 rfl ?_
  refine lv_iload_n S.1 S.2.1 dX5_pulse_7 rfl (lv_at hl 1 rfl) ?_
  refine mcVri (As := [.int (0 : Int32), .int x1]) (rest := []) S hw h (fun u h1 => met_isIn l E A (0 : Int32) x1 w1 u h1) (cw_isIn S.2.2.2.2 rfl rfl ⟨Nat.le_of_ble_eq_true rfl, Nat.le_of_ble_eq_true rfl⟩) rfl hl.1 rfl (lv_room (Nat.le_of_ble_eq_true rfl)) dX5_pulse_8 (fun r2 H locs h hw => ?_)
  refine lv_if_eq (tgt := 23) S.1 S.2.1 dX5_pulse_11 rfl (fun c3 => ?_) (fun c3 => ?_)
  · replace h := if_t c3 h
    refine lv_iconst (v := -1) S.1 S.2.1 dX5_pulse_23 rfl ?_
    exact m_iret S hr hlocks hw (so2 h) dX5_pulse_24
  · replace h := if_f c3 h
    refine lv_aload_n S.1 S.2.1 dX5_pulse_14 rfl (lv_at hl 0 rfl) ?_
    refine lv_iconst (v := 0) S.1 S.2.1 dX5_pulse_15 rfl ?_
    refine lv_iload_n S.1 S.2.1 dX5_pulse_16 rfl (lv_at hl 1 rfl) ?_
    refine mcVri (As := [.int (0 : Int32), .int x1]) (rest := []) S hw h (fun u h1 => met_pulseOf l E A (0 : Int32) x1 w1 u h1) (cw_pulseOf S.2.2.2.2 rfl rfl ⟨Nat.le_of_ble_eq_true rfl, Nat.le_of_ble_eq_true rfl⟩) rfl hl.1 rfl (lv_room (Nat.le_of_ble_eq_true rfl)) dX5_pulse_17 (fun r4 H locs h hw => ?_)
    refine lv_goto (tgt := 24) S.1 S.2.1 dX5_pulse_20 rfl ?_
    exact m_iret S hr hlocks hw (so2 h) dX5_pulse_24
def M_copies_p3 : Nat → Int32 → Int32 → Int32 → Int32 → MS → Option MS
  | 0, _, _, _, _, _ => none
  | n + 1, x1, x2, x3, x4, w =>
    if x3 ≤ x4 then
      some w
    else
      bd1 (rA w 25 1288 (x1 + x4)) fun v2 =>
      bd1 (wA w 25 1288 (x2 + x4) v2) fun w3 =>
      (M_copies_p3 n) x1 x2 x3 (x4 + (1 : Int32)) w3
def M_copies (x1 : Int32) (x2 : Int32) (x3 : Int32) (w : MS) : Option MS :=
  M_copies_p3 FU x1 x2 x3 (0 : Int32) w
set_option maxRecDepth 100000 in
set_option maxHeartbeats 4000000 in
theorem wk_M_copies_p3 {p : Program} {l : Launch} {e : Env} {s : State} {m : MethodId} {args : Array Value} {below : List Frame} {meth : Method} {c : Code} {E : mE} {A : Nat → Prop} (S : CallFix p m c cX5_copies 5 s args lw_all RX5) (hr : meth.sig.returnType = none) (hlocks : meth.locks = false) {res : MS}  : ∀ n : Nat, ∀ (x1 : Int32) (x2 : Int32) (x3 : Int32) (x4 : Int32) (w : MS) (H : Heap) (locs : List Loc) (ls : Array Slot), M_copies_p3 n x1 x2 x3 x4 w = some res → mH E A s w H locs → lv_has ls 5 [(0, .ref (mM E)), (1, .int x1), (2, .int x2), (3, .int x3), (4, .int x4)] → W p l e rm_copies s m args below meth c H locs 0 0 (MQ below (mQv E A res) args s 0 0 A) (F0 m 3 ls []) := by
  intro n
  induction n with
  | zero => intro x1 x2 x3 x4 w H locs ls h; cases (show (none : Option MS) = some res from h)
  | succ n ih =>
    intro x1 x2 x3 x4 w H locs ls h hw hl
    rw [M_copies_p3] at h
    refine lv_iload S.1 S.2.1 dX5_copies_3 (lv_at hl 4 rfl) ?_
    refine lv_iload_n S.1 S.2.1 dX5_copies_5 rfl (lv_at hl 3 rfl) ?_
    refine lv_icmp_ge (tgt := 33) S.1 S.2.1 dX5_copies_6 rfl (fun c1 => ?_) (fun c1 => ?_)
    · replace h := if_t c1 h
      exact m_vret S hr hlocks hw (so1 h) dX5_copies_33
    · replace h := if_f c1 h
      refine lv_aload_n S.1 S.2.1 dX5_copies_9 rfl (lv_at hl 0 rfl) ?_
      refine mg25 S hw dX5_copies_10 ?_
      refine lv_iload_n S.1 S.2.1 dX5_copies_13 rfl (lv_at hl 2 rfl) ?_
      refine lv_iload S.1 S.2.1 dX5_copies_14 (lv_at hl 4 rfl) ?_
      refine lv_iadd S.1 S.2.1 dX5_copies_16 ?_
      refine lv_aload_n S.1 S.2.1 dX5_copies_17 rfl (lv_at hl 0 rfl) ?_
      refine mg25 S hw dX5_copies_18 ?_
      refine lv_iload_n S.1 S.2.1 dX5_copies_21 rfl (lv_at hl 1 rfl) ?_
      refine lv_iload S.1 S.2.1 dX5_copies_22 (lv_at hl 4 rfl) ?_
      refine lv_iadd S.1 S.2.1 dX5_copies_24 ?_
      refine ml25 S hw dX5_copies_25 h (fun v2 h => ?_)
      refine ms25 S hw dX5_copies_26 h (fun w3 H locs h hw => ?_)
      refine lv_iinc (v := x4 + (1 : Int32)) (lv' := [(4, .int (x4 + (1 : Int32))), (0, .ref (mM E)), (1, .int x1), (2, .int x2), (3, .int x3)]) S.1 S.2.1 dX5_copies_27 hl (k := 4) rfl rfl (by decide) rfl (fun ls hl => ?_)
      refine lv_goto (tgt := 3) S.1 S.2.1 dX5_copies_30 rfl ?_
      exact ih _ _ _ _ _ _ _ _ h hw (lv_sub hl [1, 2, 3, 4, 0] rfl)
set_option maxRecDepth 100000 in
set_option maxHeartbeats 4000000 in
theorem met_copies (l : Launch) (E : mE) (A : Nat → Prop)  (x1 : Int32) (x2 : Int32) (x3 : Int32) (w : MS) (res : MS) (h : M_copies x1 x2 x3 w = some res) : Met l yX5_copies (ws_ yX5_copies cX5_copies 5 none) rm_copies (mPc E A [.ref (mM E), .int x1, .int x2, .int x3] w) (mQv E A res) 0 0 A := by
  refine mMet (by decide) rfl (Nat.le_of_ble_eq_true rfl) ?_
  intro p e s m below meth c S hr hlocks H ls hw hl
  replace hl : lv_has ls 5 [(0, .ref (mM E)), (1, .int x1), (2, .int x2), (3, .int x3)] := hl
  unfold M_copies at h
  refine lv_iconst (v := 0) S.1 S.2.1 dX5_copies_0 rfl ?_
  refine lv_istore (lv' := [(4, .int (0 : Int32)), (0, .ref (mM E)), (1, .int x1), (2, .int x2), (3, .int x3)]) S.1 S.2.1 dX5_copies_1 hl (by decide) rfl (fun ls hl => ?_)
  exact wk_M_copies_p3 S hr hlocks FU _ _ _ _ _ _ _ _ h hw (lv_sub hl [1, 2, 3, 4, 0] rfl)
def M_keeps_p53 (w : MS) : Option MS :=
  bd1 (M_copies (0 : Int32) ((56 : Int32) * ((5 : Int32) + (rI w 26 0))) (43 : Int32) w) fun w2 =>
  bdp (wI w2 26 0 ((rI w2 26 0) + (1 : Int32))) fun w3 =>
  some w3
def M_keeps_p11 : Nat → Int32 → MS → Option MS
  | 0, _, _ => none
  | n + 1, x1, w =>
    if (16 : Int32) ≤ x1 then
      bdp (wI w 26 0 ((rI w 26 0) - (1 : Int32))) fun w5 =>
      M_keeps_p53 w5
    else
      bd1 (M_copies ((56 : Int32) * ((5 : Int32) + x1)) ((56 : Int32) * (((5 : Int32) + x1) - (1 : Int32))) (43 : Int32) w) fun w6 =>
      (M_keeps_p11 n) (x1 + (1 : Int32)) w6
def M_keeps (w : MS) : Option MS :=
  if (rI w 26 0) = (16 : Int32) then
    M_keeps_p11 FU (1 : Int32) w
  else
    M_keeps_p53 w
set_option maxRecDepth 100000 in
set_option maxHeartbeats 4000000 in
theorem wk_M_keeps_p53 {p : Program} {l : Launch} {e : Env} {s : State} {m : MethodId} {args : Array Value} {below : List Frame} {meth : Method} {c : Code} {E : mE} {A : Nat → Prop} (S : CallFix p m c cX5_keeps 2 s args lw_all RX5) (hr : meth.sig.returnType = none) (hlocks : meth.locks = false) {res : MS}  : ∀ (w : MS) (H : Heap) (locs : List Loc) (ls : Array Slot), M_keeps_p53 w = some res → mH E A s w H locs → lv_has ls 2 [(0, .ref (mM E))] → W p l e rm_keeps s m args below meth c H locs 0 0 (MQ below (mQv E A res) args s 0 0 A) (F0 m 53 ls []) := by
  intro  w H locs ls h hw hl
  unfold M_keeps_p53 at h
  refine lv_aload_n S.1 S.2.1 dX5_keeps_53 rfl (lv_at hl 0 rfl) ?_
  refine lv_iconst (v := 0) S.1 S.2.1 dX5_keeps_54 rfl ?_
  refine lv_bipush (v := 56) S.1 S.2.1 dX5_keeps_55 rfl ?_
  refine lv_iconst (v := 5) S.1 S.2.1 dX5_keeps_57 rfl ?_
  refine lv_aload_n S.1 S.2.1 dX5_keeps_58 rfl (lv_at hl 0 rfl) ?_
  refine mg26 S hw dX5_keeps_59 ?_
  refine lv_iadd S.1 S.2.1 dX5_keeps_62 ?_
  refine lv_imul S.1 S.2.1 dX5_keeps_63 ?_
  refine lv_bipush (v := 43) S.1 S.2.1 dX5_keeps_64 rfl ?_
  refine mcVv (As := [.int (0 : Int32), .int ((56 : Int32) * ((5 : Int32) + (rI w 26 0))), .int (43 : Int32)]) (rest := []) S hw h (fun u h1 => met_copies l E A (0 : Int32) ((56 : Int32) * ((5 : Int32) + (rI w 26 0))) (43 : Int32) w u h1) (cw_copies S.2.2.2.2 rfl rfl ⟨Nat.le_of_ble_eq_true rfl, Nat.le_of_ble_eq_true rfl⟩) rfl hl.1 rfl (lv_room (Nat.le_of_ble_eq_true rfl)) dX5_keeps_66 (fun w2 H locs h hw => ?_)
  refine lv_aload_n S.1 S.2.1 dX5_keeps_69 rfl (lv_at hl 0 rfl) ?_
  refine lv_dup S.1 S.2.1 dX5_keeps_70 rfl ?_
  refine mg26 S hw dX5_keeps_71 ?_
  refine lv_iconst (v := 1) S.1 S.2.1 dX5_keeps_74 rfl ?_
  refine lv_iadd S.1 S.2.1 dX5_keeps_75 ?_
  refine mp26 S hw dX5_keeps_76 h (fun w3 H locs h hw => ?_)
  exact m_vret S hr hlocks hw (so1 h) dX5_keeps_79
set_option maxRecDepth 100000 in
set_option maxHeartbeats 4000000 in
theorem wk_M_keeps_p11 {p : Program} {l : Launch} {e : Env} {s : State} {m : MethodId} {args : Array Value} {below : List Frame} {meth : Method} {c : Code} {E : mE} {A : Nat → Prop} (S : CallFix p m c cX5_keeps 2 s args lw_all RX5) (hr : meth.sig.returnType = none) (hlocks : meth.locks = false) {res : MS}  : ∀ n : Nat, ∀ (x1 : Int32) (w : MS) (H : Heap) (locs : List Loc) (ls : Array Slot), M_keeps_p11 n x1 w = some res → mH E A s w H locs → lv_has ls 2 [(0, .ref (mM E)), (1, .int x1)] → W p l e rm_keeps s m args below meth c H locs 0 0 (MQ below (mQv E A res) args s 0 0 A) (F0 m 11 ls []) := by
  intro n
  induction n with
  | zero => intro x1 w H locs ls h; cases (show (none : Option MS) = some res from h)
  | succ n ih =>
    intro x1 w H locs ls h hw hl
    rw [M_keeps_p11] at h
    refine lv_iload_n S.1 S.2.1 dX5_keeps_11 rfl (lv_at hl 1 rfl) ?_
    refine lv_bipush (v := 16) S.1 S.2.1 dX5_keeps_12 rfl ?_
    refine lv_icmp_ge (tgt := 43) S.1 S.2.1 dX5_keeps_14 rfl (fun c4 => ?_) (fun c4 => ?_)
    · replace h := if_t c4 h
      refine lv_aload_n S.1 S.2.1 dX5_keeps_43 rfl (lv_at hl 0 rfl) ?_
      refine lv_dup S.1 S.2.1 dX5_keeps_44 rfl ?_
      refine mg26 S hw dX5_keeps_45 ?_
      refine lv_iconst (v := 1) S.1 S.2.1 dX5_keeps_48 rfl ?_
      refine lv_isub S.1 S.2.1 dX5_keeps_49 ?_
      refine mp26 S hw dX5_keeps_50 h (fun w5 H locs h hw => ?_)
      exact wk_M_keeps_p53 S hr hlocks _ _ _ _ h hw (lv_sub hl [0] rfl)
    · replace h := if_f c4 h
      refine lv_aload_n S.1 S.2.1 dX5_keeps_17 rfl (lv_at hl 0 rfl) ?_
      refine lv_bipush (v := 56) S.1 S.2.1 dX5_keeps_18 rfl ?_
      refine lv_iconst (v := 5) S.1 S.2.1 dX5_keeps_20 rfl ?_
      refine lv_iload_n S.1 S.2.1 dX5_keeps_21 rfl (lv_at hl 1 rfl) ?_
      refine lv_iadd S.1 S.2.1 dX5_keeps_22 ?_
      refine lv_imul S.1 S.2.1 dX5_keeps_23 ?_
      refine lv_bipush (v := 56) S.1 S.2.1 dX5_keeps_24 rfl ?_
      refine lv_iconst (v := 5) S.1 S.2.1 dX5_keeps_26 rfl ?_
      refine lv_iload_n S.1 S.2.1 dX5_keeps_27 rfl (lv_at hl 1 rfl) ?_
      refine lv_iadd S.1 S.2.1 dX5_keeps_28 ?_
      refine lv_iconst (v := 1) S.1 S.2.1 dX5_keeps_29 rfl ?_
      refine lv_isub S.1 S.2.1 dX5_keeps_30 ?_
      refine lv_imul S.1 S.2.1 dX5_keeps_31 ?_
      refine lv_bipush (v := 43) S.1 S.2.1 dX5_keeps_32 rfl ?_
      refine mcVv (As := [.int ((56 : Int32) * ((5 : Int32) + x1)), .int ((56 : Int32) * (((5 : Int32) + x1) - (1 : Int32))), .int (43 : Int32)]) (rest := []) S hw h (fun u h1 => met_copies l E A ((56 : Int32) * ((5 : Int32) + x1)) ((56 : Int32) * (((5 : Int32) + x1) - (1 : Int32))) (43 : Int32) w u h1) (cw_copies S.2.2.2.2 rfl rfl ⟨Nat.le_of_ble_eq_true rfl, Nat.le_of_ble_eq_true rfl⟩) rfl hl.1 rfl (lv_room (Nat.le_of_ble_eq_true rfl)) dX5_keeps_34 (fun w6 H locs h hw => ?_)
      refine lv_iinc (v := x1 + (1 : Int32)) (lv' := [(1, .int (x1 + (1 : Int32))), (0, .ref (mM E))]) S.1 S.2.1 dX5_keeps_37 hl (k := 1) rfl rfl (by decide) rfl (fun ls hl => ?_)
      refine lv_goto (tgt := 11) S.1 S.2.1 dX5_keeps_40 rfl ?_
      exact ih _ _ _ _ _ h hw (lv_sub hl [1, 0] rfl)
set_option maxRecDepth 100000 in
set_option maxHeartbeats 4000000 in
theorem met_keeps (l : Launch) (E : mE) (A : Nat → Prop)  (w : MS) (res : MS) (h : M_keeps w = some res) : Met l yX5_keeps (ws_ yX5_keeps cX5_keeps 2 none) rm_keeps (mPc E A [.ref (mM E)] w) (mQv E A res) 0 0 A := by
  refine mMet (by decide) rfl (Nat.le_of_ble_eq_true rfl) ?_
  intro p e s m below meth c S hr hlocks H ls hw hl
  replace hl : lv_has ls 2 [(0, .ref (mM E))] := hl
  unfold M_keeps at h
  refine lv_aload_n S.1 S.2.1 dX5_keeps_0 rfl (lv_at hl 0 rfl) ?_
  refine mg26 S hw dX5_keeps_1 ?_
  refine lv_bipush (v := 16) S.1 S.2.1 dX5_keeps_4 rfl ?_
  refine lv_icmp_ne (tgt := 53) S.1 S.2.1 dX5_keeps_6 rfl (fun c1 => ?_) (fun c1 => ?_)
  · replace h := if_f c1 h
    exact wk_M_keeps_p53 S hr hlocks _ _ _ _ h hw (lv_sub hl [0] rfl)
  · replace h := if_t c1 h
    refine lv_iconst (v := 1) S.1 S.2.1 dX5_keeps_9 rfl ?_
    refine lv_istore_n (lv' := [(1, .int (1 : Int32)), (0, .ref (mM E))]) S.1 S.2.1 dX5_keeps_10 rfl hl (by decide) rfl (fun ls hl => ?_)
    exact wk_M_keeps_p11 S hr hlocks FU _ _ _ _ _ h hw (lv_sub hl [1, 0] rfl)
def M_climbs (x1 : Int32) (x2 : Int32) (w : MS) : Option MS :=
  bd1 (rA w 25 1288 ((x1 + (1 : Int32)) + x2)) fun v1 =>
  bd1 (M_roomOf v1 (0 : Int32) w) fun r2 =>
  bd1 (rA w 25 1288 ((x1 + (13 : Int32)) + x2)) fun v3 =>
  bd1 (M_tenantOf x2 (0 : Int32) w) fun r4 =>
  if r4 = (2 : Int32) then
    bd1 (wA w 25 1288 ((x1 + (13 : Int32)) + x2) (v3 + (r2 / (2 : Int32)))) fun w7 =>
    some w7
  else
    bd1 (wA w 25 1288 ((x1 + (13 : Int32)) + x2) (v3 + r2)) fun w6 =>
    some w6
set_option maxRecDepth 100000 in
set_option maxHeartbeats 4000000 in
theorem met_climbs (l : Launch) (E : mE) (A : Nat → Prop)  (x1 : Int32) (x2 : Int32) (w : MS) (res : MS) (h : M_climbs x1 x2 w = some res) : Met l yX5_climbs (ws_ yX5_climbs cX5_climbs 4 none) rm_climbs (mPc E A [.ref (mM E), .int x1, .int x2] w) (mQv E A res) 0 0 A := by
  refine mMet (by decide) rfl (Nat.le_of_ble_eq_true rfl) ?_
  intro p e s m below meth c S hr hlocks H ls hw hl
  replace hl : lv_has ls 4 [(0, .ref (mM E)), (1, .int x1), (2, .int x2)] := hl
  unfold M_climbs at h
  refine lv_aload_n S.1 S.2.1 dX5_climbs_0 rfl (lv_at hl 0 rfl) ?_
  refine lv_aload_n S.1 S.2.1 dX5_climbs_1 rfl (lv_at hl 0 rfl) ?_
  refine mg25 S hw dX5_climbs_2 ?_
  refine lv_iload_n S.1 S.2.1 dX5_climbs_5 rfl (lv_at hl 1 rfl) ?_
  refine lv_iconst (v := 1) S.1 S.2.1 dX5_climbs_6 rfl ?_
  refine lv_iadd S.1 S.2.1 dX5_climbs_7 ?_
  refine lv_iload_n S.1 S.2.1 dX5_climbs_8 rfl (lv_at hl 2 rfl) ?_
  refine lv_iadd S.1 S.2.1 dX5_climbs_9 ?_
  refine ml25 S hw dX5_climbs_10 h (fun v1 h => ?_)
  refine lv_iconst (v := 0) S.1 S.2.1 dX5_climbs_11 rfl ?_
  refine mcVri (As := [.int v1, .int (0 : Int32)]) (rest := []) S hw h (fun u h1 => met_roomOf l E A v1 (0 : Int32) w u h1) (cw_roomOf S.2.2.2.2 rfl rfl ⟨Nat.le_of_ble_eq_true rfl, Nat.le_of_ble_eq_true rfl⟩) rfl hl.1 rfl (lv_room (Nat.le_of_ble_eq_true rfl)) dX5_climbs_12 (fun r2 H locs h hw => ?_)
  refine lv_istore_n (lv' := [(3, .int r2), (0, .ref (mM E)), (1, .int x1), (2, .int x2)]) S.1 S.2.1 dX5_climbs_15 rfl hl (by decide) rfl (fun ls hl => ?_)
  refine lv_aload_n S.1 S.2.1 dX5_climbs_16 rfl (lv_at hl 1 rfl) ?_
  refine mg25 S hw dX5_climbs_17 ?_
  refine lv_iload_n S.1 S.2.1 dX5_climbs_20 rfl (lv_at hl 2 rfl) ?_
  refine lv_bipush (v := 13) S.1 S.2.1 dX5_climbs_21 rfl ?_
  refine lv_iadd S.1 S.2.1 dX5_climbs_23 ?_
  refine lv_iload_n S.1 S.2.1 dX5_climbs_24 rfl (lv_at hl 3 rfl) ?_
  refine lv_iadd S.1 S.2.1 dX5_climbs_25 ?_
  refine lv_dup2_11 S.1 S.2.1 dX5_climbs_26 rfl rfl ?_
  refine ml25 S hw dX5_climbs_27 h (fun v3 h => ?_)
  refine lv_aload_n S.1 S.2.1 dX5_climbs_28 rfl (lv_at hl 1 rfl) ?_
  refine lv_iload_n S.1 S.2.1 dX5_climbs_29 rfl (lv_at hl 3 rfl) ?_
  refine lv_iconst (v := 0) S.1 S.2.1 dX5_climbs_30 rfl ?_
  refine mcVri (As := [.int x2, .int (0 : Int32)]) (rest := [.int v3, .int ((x1 + (13 : Int32)) + x2), .ref (mAr E 25)]) S hw h (fun u h1 => met_tenantOf l E A x2 (0 : Int32) w u h1) (cw_tenantOf S.2.2.2.2 rfl rfl ⟨Nat.le_of_ble_eq_true rfl, Nat.le_of_ble_eq_true rfl⟩) rfl hl.1 rfl (lv_room (Nat.le_of_ble_eq_true rfl)) dX5_climbs_31 (fun r4 H locs h hw => ?_)
  refine lv_iconst (v := 2) S.1 S.2.1 dX5_climbs_34 rfl ?_
  refine lv_icmp_ne (tgt := 44) S.1 S.2.1 dX5_climbs_35 rfl (fun c5 => ?_) (fun c5 => ?_)
  · replace h := if_f c5 h
    refine lv_iload_n S.1 S.2.1 dX5_climbs_44 rfl (lv_at hl 0 rfl) ?_
    refine lv_iadd S.1 S.2.1 dX5_climbs_45 ?_
    refine ms25 S hw dX5_climbs_46 h (fun w6 H locs h hw => ?_)
    exact m_vret S hr hlocks hw (so1 h) dX5_climbs_47
  · replace h := if_t c5 h
    refine lv_iload_n S.1 S.2.1 dX5_climbs_38 rfl (lv_at hl 0 rfl) ?_
    refine lv_iconst (v := 2) S.1 S.2.1 dX5_climbs_39 rfl ?_
    refine lv_idiv S.1 S.2.1 dX5_climbs_40 (by decide) ?_
    refine lv_goto (tgt := 45) S.1 S.2.1 dX5_climbs_41 rfl ?_
    refine lv_iadd S.1 S.2.1 dX5_climbs_45 ?_
    refine ms25 S hw dX5_climbs_46 h (fun w7 H locs h hw => ?_)
    exact m_vret S hr hlocks hw (so1 h) dX5_climbs_47
def M_climb (x1 : Int32) (w : MS) : Option (Int32 × MS) :=
  bdp (wI w 0 0 (0 : Int32)) fun w1 =>
  bd1 (M_isIn (0 : Int32) x1 w1) fun r2 =>
  if r2 = 0 then
    some ((-1 : Int32), w1)
  else
    bd1 (M_keeps w1) fun w4 =>
    bd1 (M_climbs (0 : Int32) x1 w4) fun w5 =>
    bd1 (rA w5 25 1288 ((13 : Int32) + x1)) fun v6 =>
    some (v6, w5)
set_option maxRecDepth 100000 in
set_option maxHeartbeats 4000000 in
theorem met_climb (l : Launch) (E : mE) (A : Nat → Prop)  (x1 : Int32) (w : MS) (res : Int32 × MS) (h : M_climb x1 w = some res) : Met l yX5_climb (ws_ yX5_climb cX5_climb 2 (some .int)) rm_climb (mPc E A [.ref (mM E), .int x1] w) (mQi E A res.1 res.2) 0 0 A := by
  refine mMet (by decide) rfl (Nat.le_of_ble_eq_true rfl) ?_
  intro p e s m below meth c S hr hlocks H ls hw hl
  replace hl : lv_has ls 2 [(0, .ref (mM E)), (1, .int x1)] := hl
  unfold M_climb at h
  refine lv_aload_n S.1 S.2.1 dX5_climb_0 rfl (lv_at hl 0 rfl) ?_
  refine lv_iconst (v := 0) S.1 S.2.1 dX5_climb_1 rfl ?_
  refine mp0 S hw dX5_climb_2 h (fun w1 H locs h hw => ?_)
  refine lv_aload_n S.1 S.2.1 dX5_climb_5 rfl (lv_at hl 0 rfl) ?_
  refine lv_iconst (v := 0) S.1 S.2.1 dX5_climb_6 rfl ?_
  refine lv_iload_n S.1 S.2.1 dX5_climb_7 rfl (lv_at hl 1 rfl) ?_
  refine mcVri (As := [.int (0 : Int32), .int x1]) (rest := []) S hw h (fun u h1 => met_isIn l E A (0 : Int32) x1 w1 u h1) (cw_isIn S.2.2.2.2 rfl rfl ⟨Nat.le_of_ble_eq_true rfl, Nat.le_of_ble_eq_true rfl⟩) rfl hl.1 rfl (lv_room (Nat.le_of_ble_eq_true rfl)) dX5_climb_8 (fun r2 H locs h hw => ?_)
  refine lv_if_ne (tgt := 16) S.1 S.2.1 dX5_climb_11 rfl (fun c3 => ?_) (fun c3 => ?_)
  · replace h := if_f c3 h
    refine lv_aload_n S.1 S.2.1 dX5_climb_16 rfl (lv_at hl 0 rfl) ?_
    refine mcVv (As := []) (rest := []) S hw h (fun u h1 => met_keeps l E A  w1 u h1) (cw_keeps S.2.2.2.2 rfl rfl ⟨Nat.le_of_ble_eq_true rfl, Nat.le_of_ble_eq_true rfl⟩) rfl hl.1 rfl (lv_room (Nat.le_of_ble_eq_true rfl)) dX5_climb_17 (fun w4 H locs h hw => ?_)
    refine lv_aload_n S.1 S.2.1 dX5_climb_20 rfl (lv_at hl 0 rfl) ?_
    refine lv_iconst (v := 0) S.1 S.2.1 dX5_climb_21 rfl ?_
    refine lv_iload_n S.1 S.2.1 dX5_climb_22 rfl (lv_at hl 1 rfl) ?_
    refine mcVv (As := [.int (0 : Int32), .int x1]) (rest := []) S hw h (fun u h1 => met_climbs l E A (0 : Int32) x1 w4 u h1) (cw_climbs S.2.2.2.2 rfl rfl ⟨Nat.le_of_ble_eq_true rfl, Nat.le_of_ble_eq_true rfl⟩) rfl hl.1 rfl (lv_room (Nat.le_of_ble_eq_true rfl)) dX5_climb_23 (fun w5 H locs h hw => ?_)
    refine lv_aload_n S.1 S.2.1 dX5_climb_26 rfl (lv_at hl 0 rfl) ?_
    refine mg25 S hw dX5_climb_27 ?_
    refine lv_bipush (v := 13) S.1 S.2.1 dX5_climb_30 rfl ?_
    refine lv_iload_n S.1 S.2.1 dX5_climb_32 rfl (lv_at hl 1 rfl) ?_
    refine lv_iadd S.1 S.2.1 dX5_climb_33 ?_
    refine ml25 S hw dX5_climb_34 h (fun v6 h => ?_)
    exact m_iret S hr hlocks hw (so2 h) dX5_climb_35
  · replace h := if_t c3 h
    refine lv_iconst (v := -1) S.1 S.2.1 dX5_climb_14 rfl ?_
    exact m_iret S hr hlocks hw (so2 h) dX5_climb_15
def M_frightened (x1 : Int32) (x2 : Int32) (x3 : Int32) (w : MS) : Option Int32 :=
  bd1 (M_tenantOf x1 (2 : Int32) w) fun r1 =>
  bdp (x2 - r1) fun y2 =>
  if 0 ≤ y2 then
    bd1 (o_idiv y2 ((1 : Int32) + x3)) fun d4 =>
    some d4
  else
    some (0 : Int32)
set_option maxRecDepth 100000 in
set_option maxHeartbeats 4000000 in
theorem met_frightened (l : Launch) (E : mE) (A : Nat → Prop)  (x1 : Int32) (x2 : Int32) (x3 : Int32) (w : MS) (res : Int32) (h : M_frightened x1 x2 x3 w = some res) : Met l yX5_frightened (ws_ yX5_frightened cX5_frightened 5 (some .int)) rm_frightened (mPc E A [.ref (mM E), .int x1, .int x2, .int x3] w) (mQi E A res w) 0 0 A := by
  refine mMet (by decide) rfl (Nat.le_of_ble_eq_true rfl) ?_
  intro p e s m below meth c S hr hlocks H ls hw hl
  replace hl : lv_has ls 5 [(0, .ref (mM E)), (1, .int x1), (2, .int x2), (3, .int x3)] := hl
  unfold M_frightened at h
  refine lv_iload_n S.1 S.2.1 dX5_frightened_0 rfl (lv_at hl 2 rfl) ?_
  refine lv_aload_n S.1 S.2.1 dX5_frightened_1 rfl (lv_at hl 0 rfl) ?_
  refine lv_iload_n S.1 S.2.1 dX5_frightened_2 rfl (lv_at hl 1 rfl) ?_
  refine lv_iconst (v := 2) S.1 S.2.1 dX5_frightened_3 rfl ?_
  refine mcVri (As := [.int x1, .int (2 : Int32)]) (rest := [.int x2]) S hw h (fun u h1 => met_tenantOf l E A x1 (2 : Int32) w u h1) (cw_tenantOf S.2.2.2.2 rfl rfl ⟨Nat.le_of_ble_eq_true rfl, Nat.le_of_ble_eq_true rfl⟩) rfl hl.1 rfl (lv_room (Nat.le_of_ble_eq_true rfl)) dX5_frightened_4 (fun r1 H locs h hw => ?_)
  refine lv_isub S.1 S.2.1 dX5_frightened_7 ?_
  refine lv_topi (fun y2 ey => ?_)
  replace h := bdp_e ey h
  refine lv_istore (lv' := [(4, .int y2), (0, .ref (mM E)), (1, .int x1), (2, .int x2), (3, .int x3)]) S.1 S.2.1 dX5_frightened_8 hl (by decide) rfl (fun ls hl => ?_)
  refine lv_iload S.1 S.2.1 dX5_frightened_10 (lv_at hl 0 rfl) ?_
  refine lv_if_ge (tgt := 19) S.1 S.2.1 dX5_frightened_12 rfl (fun c3 => ?_) (fun c3 => ?_)
  · replace h := if_t c3 h
    refine lv_iload S.1 S.2.1 dX5_frightened_19 (lv_at hl 0 rfl) ?_
    refine lv_iconst (v := 1) S.1 S.2.1 dX5_frightened_21 rfl ?_
    refine lv_iload_n S.1 S.2.1 dX5_frightened_22 rfl (lv_at hl 4 rfl) ?_
    refine lv_iadd S.1 S.2.1 dX5_frightened_23 ?_
    refine r_idiv S.1 S.2.1 dX5_frightened_24 h (fun d4 h => ?_)
    exact m_iret S hr hlocks hw ⟨so1 h, rfl⟩ dX5_frightened_25
  · replace h := if_f c3 h
    refine lv_iconst (v := 0) S.1 S.2.1 dX5_frightened_15 rfl ?_
    refine lv_goto (tgt := 25) S.1 S.2.1 dX5_frightened_16 rfl ?_
    exact m_iret S hr hlocks hw ⟨so1 h, rfl⟩ dX5_frightened_25
