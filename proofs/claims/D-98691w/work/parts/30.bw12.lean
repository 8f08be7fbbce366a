/-! walks over the plain heap, printed by gen/bgen.py -/
set_option maxRecDepth 100000
theorem cb_X1_27 {R : Room} {s : State} {args : Array Value} {rm : Room} {mc ms : Nat} (hts : ∀ w ∈ lw_all, w.before args s = true) (hN : gNw s) (hc : rm.cells = mc) (hs : rm.slots = ms) (hR : rm.frames + 1 ≤ R.frames ∧ 8 + (1 + 11) + rm.locals ≤ R.locals) : va_CN R s args RX1 27 yX2_init "PulseRent" cX2_init 1 none (ws_ yX2_init cX2_init 1 (Option.none : Option Jvm.ClassFile.FieldType)) rm mc ms 0 ∧ yX2_init.name = "<init>" ∧ (Cond.instanceMethod yX2_init).before args s = true := ⟨va_cnB 0 hts (lw_meth q192) rfl hc hs (hN _ q190 rfl) (hts _ q136) (by decide +kernel) hR, rfl, hts _ q191⟩
theorem cb_X1_34 {R : Room} {s : State} {args : Array Value} {rm : Room} {mc ms : Nat} (hts : ∀ w ∈ lw_all, w.before args s = true) (hN : gNw s) (hc : rm.cells = mc) (hs : rm.slots = ms) (hR : rm.frames + 1 ≤ R.frames ∧ 8 + (1 + 11) + rm.locals ≤ R.locals) : va_CN R s args RX1 34 yX3_init "PulseRent" cX3_init 1 none (ws_ yX3_init cX3_init 1 (Option.none : Option Jvm.ClassFile.FieldType)) rm mc ms 0 ∧ yX3_init.name = "<init>" ∧ (Cond.instanceMethod yX3_init).before args s = true := ⟨va_cnB 0 hts (lw_meth q227) rfl hc hs (hN _ q225 rfl) (hts _ q137) (by decide +kernel) hR, rfl, hts _ q226⟩
def B_X1_init (x0 : Nat) (w : GS) : Option GS :=
  bd1 (onA w 41 (1000 : Int32)) fun w1 =>
  bd1 (pR w1 x0 1 1 0 (some (gZ w))) fun w2 =>
  bd1 (onw w2 2 0 9) fun w3 =>
  bd1 (B_X2_init (gZ w2) w3) fun w4 =>
  bd1 (pR w4 x0 1 1 1 (some (gZ w2))) fun w5 =>
  bd1 (onw w5 3 0 8) fun w6 =>
  bd1 (B_X3_init (gZ w5) w6) fun w7 =>
  bd1 (pR w7 x0 1 1 2 (some (gZ w5))) fun w8 =>
  bd1 (onw w8 23 0 3) fun w9 =>
  bd1 (B_J2_init (gZ w8) (0 : Int32) w9) fun w10 =>
  bd1 (pR w10 x0 1 1 3 (some (gZ w8))) fun w11 =>
  bd1 (onw w11 4 0 8) fun w12 =>
  bd1 (B_X4_init (gZ w11) w12) fun w13 =>
  bd1 (pR w13 x0 1 1 4 (some (gZ w11))) fun w14 =>
  bd1 (onw w14 4 0 8) fun w15 =>
  bd1 (B_X4_init (gZ w14) w15) fun w16 =>
  bd1 (pR w16 x0 1 1 5 (some (gZ w14))) fun w17 =>
  bd1 (onA w17 40 (4 : Int32)) fun w18 =>
  bd1 (pR w18 x0 1 1 6 (some (gZ w17))) fun w19 =>
  bd1 (onA w19 45 (16 : Int32)) fun w20 =>
  bd1 (pR w20 x0 1 1 8 (some (gZ w19))) fun w21 =>
  bd1 (onA w21 40 (6 : Int32)) fun w22 =>
  bd1 (pR w22 x0 1 1 10 (some (gZ w21))) fun w23 =>
  bd1 (onA w23 40 (6 : Int32)) fun w24 =>
  bd1 (pR w24 x0 1 1 11 (some (gZ w23))) fun w25 =>
  bd1 (onA w25 40 (6 : Int32)) fun w26 =>
  bd1 (pR w26 x0 1 1 13 (some (gZ w25))) fun w27 =>
  bd1 (onA w27 40 (6 : Int32)) fun w28 =>
  bd1 (pR w28 x0 1 1 14 (some (gZ w27))) fun w29 =>
  bd1 (onA w29 40 (6 : Int32)) fun w30 =>
  bd1 (pR w30 x0 1 1 15 (some (gZ w29))) fun w31 =>
  bd1 (onA w31 40 (6 : Int32)) fun w32 =>
  bd1 (pR w32 x0 1 1 16 (some (gZ w31))) fun w33 =>
  bd1 (onA w33 40 (6 : Int32)) fun w34 =>
  bd1 (pR w34 x0 1 1 17 (some (gZ w33))) fun w35 =>
  bd1 (onA w35 40 (6 : Int32)) fun w36 =>
  bd1 (pR w36 x0 1 1 19 (some (gZ w35))) fun w37 =>
  bd1 (omna w37 6 241) fun w38 =>
  bd1 (pR w38 x0 1 1 20 (some (gZ w37))) fun w39 =>
  bd1 (onA w39 47 (4 : Int32)) fun w40 =>
  bd1 (pR w40 x0 1 1 24 (some (gZ w39))) fun w41 =>
  bd1 (oRn w41 x0 1 1 4) fun a42 =>
  bd1 (oRn w41 x0 1 1 2) fun a43 =>
  bd1 (oK w41 a42 4 4) fun _ =>
  bd1 (B_X4_begin a42 a43 w41) fun w44 =>
  some w44
set_option maxRecDepth 100000 in
set_option maxHeartbeats 4000000 in
theorem met_B_X1_init (l : Launch) (E : gE) (A : Nat → Prop) (LC LS : Nat)  (x0 : Nat) (w : GS) (res : GS) (h : B_X1_init x0 w = some res) : Met l yX1_init (ws_ yX1_init cX1_init 1 (Option.none : Option Jvm.ClassFile.FieldType)) (gRoom 5 101 LC LS w) (gPc E A LC LS [.ref x0] w) (gQv E A LC LS res) (LC - gZ w) (LS - gN w) A := by
  refine gMet (by decide) rfl (Nat.le_of_ble_eq_true rfl) ?_
  intro p e s m below meth c R S hr hlocks hin2 X Z hF hL H ls hw hl
  replace hl : lv_has ls 1 [(0, .ref x0)] := hl
  unfold B_X1_init at h
  replace hin2 : meth.name = "<init>" := hin2
  refine lv_aload_n S.1 S.2.1 dX1_init_0 rfl (lv_at hl 0 rfl) ?_
  refine W.objInit S.1 S.2.1 S.2.2.2.1 (S.2.2.2.2 _ q185) (S.2.2.2.2 _ q186) (S.2.2.2.2 _ q187) rfl (by rw [S.2.2.1]; exact hl.1) rfl dX1_init_1 (Nat.le_trans (Nat.le_of_ble_eq_true rfl) hF) (Nat.le_trans (Nat.add_le_add_right (lv_room (st := []) (Nat.le_of_ble_eq_true rfl)) 12) (Nat.le_trans (Nat.le_of_ble_eq_true rfl) hL)) ?_
  refine W.eq (g2 := F0 m 4 ls []) rfl ?_
  refine lv_aload_n S.1 S.2.1 dX1_init_4 rfl (lv_at hl 0 rfl) ?_
  refine lv_sipush (v := 1000) S.1 S.2.1 dX1_init_5 rfl ?_
  refine gna_byte S X hw Z dX1_init_8 h (fun w1 H h hw => ?_)
  refine gpX1_21 (v := some (gZ w)) S X hw hin2 dX1_init_10 h (fun w2 H locs h hw => ?_)
  refine lv_aload_n S.1 S.2.1 dX1_init_13 rfl (lv_at hl 0 rfl) ?_
  refine gnX1_25 S X Z hw dX1_init_14 h (fun w3 H h hw => ?_)
  refine lv_dup S.1 S.2.1 dX1_init_17 rfl ?_
  refine gcINv (As := []) (rest := [.ref (gZ w2), .ref x0]) S X Z hw (b := (gZ w2)) h (fun u h1 => met_B_X2_init l E A LC LS (gZ w2) w3 u h1) (cb_X1_27 S.2.2.2.2 X.2.2.2.2.2.1 rfl rfl ⟨Nat.le_trans (Nat.le_of_ble_eq_true rfl : 1 + 1 ≤ 5) hF, Nat.le_trans (Nat.le_of_ble_eq_true rfl : 8 + (1 + 11) + 20 ≤ 101) hL⟩) rfl hl.1 rfl (lv_room (Nat.le_of_ble_eq_true rfl)) dX1_init_18 (fun w4 H locs h hw => ?_)
  refine gpX1_28 (v := some (gZ w2)) S X hw hin2 dX1_init_21 h (fun w5 H locs h hw => ?_)
  refine lv_aload_n S.1 S.2.1 dX1_init_24 rfl (lv_at hl 0 rfl) ?_
  refine gnX1_32 S X Z hw dX1_init_25 h (fun w6 H h hw => ?_)
  refine lv_dup S.1 S.2.1 dX1_init_28 rfl ?_
  refine gcINv (As := []) (rest := [.ref (gZ w5), .ref x0]) S X Z hw (b := (gZ w5)) h (fun u h1 => met_B_X3_init l E A LC LS (gZ w5) w6 u h1) (cb_X1_34 S.2.2.2.2 X.2.2.2.2.2.1 rfl rfl ⟨Nat.le_trans (Nat.le_of_ble_eq_true rfl : 4 + 1 ≤ 5) hF, Nat.le_trans (Nat.le_of_ble_eq_true rfl : 8 + (1 + 11) + 81 ≤ 101) hL⟩) rfl hl.1 rfl (lv_room (Nat.le_of_ble_eq_true rfl)) dX1_init_29 (fun w7 H locs h hw => ?_)
  refine gpX1_35 (v := some (gZ w5)) S X hw dX1_init_32 h (fun w8 H locs h hw => ?_)
  refine lv_aload_n S.1 S.2.1 dX1_init_35 rfl (lv_at hl 0 rfl) ?_
  refine gnX1_39 S X Z hw dX1_init_36 h (fun w9 H h hw => ?_)
  refine lv_dup S.1 S.2.1 dX1_init_39 rfl ?_
  refine lv_iconst (v := 0) S.1 S.2.1 dX1_init_40 rfl ?_
  refine gcIv (As := [.int (0 : Int32)]) (rest := [.ref (gZ w8), .ref x0]) S X Z hw (b := (gZ w8)) h (fun u h1 => met_B_J2_init l E A LC LS (gZ w8) (0 : Int32) w9 u h1) (cb_X1_41 S.2.2.2.2 rfl rfl ⟨Nat.le_trans (Nat.le_of_ble_eq_true rfl : 3 + 1 ≤ 5) hF, Nat.le_trans (Nat.le_of_ble_eq_true rfl : 8 + (2 + 11) + 60 ≤ 101) hL⟩) rfl hl.1 rfl (lv_room (Nat.le_of_ble_eq_true rfl)) dX1_init_41 (fun w10 H locs h hw => ?_)
  refine gpX1_44 (v := some (gZ w8)) S X hw dX1_init_44 h (fun w11 H locs h hw => ?_)
  refine lv_aload_n S.1 S.2.1 dX1_init_47 rfl (lv_at hl 0 rfl) ?_
  refine gnX1_48 S X Z hw dX1_init_48 h (fun w12 H h hw => ?_)
  refine lv_dup S.1 S.2.1 dX1_init_51 rfl ?_
  refine gcINv (As := []) (rest := [.ref (gZ w11), .ref x0]) S X Z hw (b := (gZ w11)) h (fun u h1 => met_B_X4_init l E A LC LS (gZ w11) w12 u h1) (cb_X1_50 S.2.2.2.2 X.2.2.2.2.2.1 rfl rfl ⟨Nat.le_trans (Nat.le_of_ble_eq_true rfl : 1 + 1 ≤ 5) hF, Nat.le_trans (Nat.le_of_ble_eq_true rfl : 8 + (1 + 11) + 20 ≤ 101) hL⟩) rfl hl.1 rfl (lv_room (Nat.le_of_ble_eq_true rfl)) dX1_init_52 (fun w13 H locs h hw => ?_)
  refine gpX1_51 (v := some (gZ w11)) S X hw hin2 dX1_init_55 h (fun w14 H locs h hw => ?_)
  refine lv_aload_n S.1 S.2.1 dX1_init_58 rfl (lv_at hl 0 rfl) ?_
  refine gnX1_48 S X Z hw dX1_init_59 h (fun w15 H h hw => ?_)
  refine lv_dup S.1 S.2.1 dX1_init_62 rfl ?_
  refine gcINv (As := []) (rest := [.ref (gZ w14), .ref x0]) S X Z hw (b := (gZ w14)) h (fun u h1 => met_B_X4_init l E A LC LS (gZ w14) w15 u h1) (cb_X1_50 S.2.2.2.2 X.2.2.2.2.2.1 rfl rfl ⟨Nat.le_trans (Nat.le_of_ble_eq_true rfl : 1 + 1 ≤ 5) hF, Nat.le_trans (Nat.le_of_ble_eq_true rfl : 8 + (1 + 11) + 20 ≤ 101) hL⟩) rfl hl.1 rfl (lv_room (Nat.le_of_ble_eq_true rfl)) dX1_init_63 (fun w16 H locs h hw => ?_)
  refine gpX1_55 (v := some (gZ w14)) S X hw hin2 dX1_init_66 h (fun w17 H locs h hw => ?_)
  refine lv_aload_n S.1 S.2.1 dX1_init_69 rfl (lv_at hl 0 rfl) ?_
  refine lv_iconst (v := 4) S.1 S.2.1 dX1_init_70 rfl ?_
  refine gna_int S X hw Z dX1_init_71 h (fun w18 H h hw => ?_)
  refine gpX1_58 (v := some (gZ w17)) S X hw hin2 dX1_init_73 h (fun w19 H locs h hw => ?_)
  refine lv_aload_n S.1 S.2.1 dX1_init_76 rfl (lv_at hl 0 rfl) ?_
  refine lv_bipush (v := 16) S.1 S.2.1 dX1_init_77 rfl ?_
  refine gnqX1_48 S X Z hw dX1_init_79 h (fun w20 H h hw => ?_)
  refine gpX1_62 (v := some (gZ w19)) S X hw hin2 dX1_init_82 h (fun w21 H locs h hw => ?_)
  refine lv_aload_n S.1 S.2.1 dX1_init_85 rfl (lv_at hl 0 rfl) ?_
  refine lv_bipush (v := 6) S.1 S.2.1 dX1_init_86 rfl ?_
  refine gna_int S X hw Z dX1_init_88 h (fun w22 H h hw => ?_)
  refine gpX1_66 (v := some (gZ w21)) S X hw hin2 dX1_init_90 h (fun w23 H locs h hw => ?_)
  refine lv_aload_n S.1 S.2.1 dX1_init_93 rfl (lv_at hl 0 rfl) ?_
  refine lv_bipush (v := 6) S.1 S.2.1 dX1_init_94 rfl ?_
  refine gna_int S X hw Z dX1_init_96 h (fun w24 H h hw => ?_)
  refine gpX1_69 (v := some (gZ w23)) S X hw hin2 dX1_init_98 h (fun w25 H locs h hw => ?_)
  refine lv_aload_n S.1 S.2.1 dX1_init_101 rfl (lv_at hl 0 rfl) ?_
  refine lv_bipush (v := 6) S.1 S.2.1 dX1_init_102 rfl ?_
  refine gna_int S X hw Z dX1_init_104 h (fun w26 H h hw => ?_)
  refine gpX1_72 (v := some (gZ w25)) S X hw hin2 dX1_init_106 h (fun w27 H locs h hw => ?_)
  refine lv_aload_n S.1 S.2.1 dX1_init_109 rfl (lv_at hl 0 rfl) ?_
  refine lv_bipush (v := 6) S.1 S.2.1 dX1_init_110 rfl ?_
  refine gna_int S X hw Z dX1_init_112 h (fun w28 H h hw => ?_)
  refine gpX1_75 (v := some (gZ w27)) S X hw hin2 dX1_init_114 h (fun w29 H locs h hw => ?_)
  refine lv_aload_n S.1 S.2.1 dX1_init_117 rfl (lv_at hl 0 rfl) ?_
  refine lv_bipush (v := 6) S.1 S.2.1 dX1_init_118 rfl ?_
  refine gna_int S X hw Z dX1_init_120 h (fun w30 H h hw => ?_)
  refine gpX1_78 (v := some (gZ w29)) S X hw hin2 dX1_init_122 h (fun w31 H locs h hw => ?_)
  refine lv_aload_n S.1 S.2.1 dX1_init_125 rfl (lv_at hl 0 rfl) ?_
  refine lv_bipush (v := 6) S.1 S.2.1 dX1_init_126 rfl ?_
  refine gna_int S X hw Z dX1_init_128 h (fun w32 H h hw => ?_)
  refine gpX1_81 (v := some (gZ w31)) S X hw hin2 dX1_init_130 h (fun w33 H locs h hw => ?_)
  refine lv_aload_n S.1 S.2.1 dX1_init_133 rfl (lv_at hl 0 rfl) ?_
  refine lv_bipush (v := 6) S.1 S.2.1 dX1_init_134 rfl ?_
  refine gna_int S X hw Z dX1_init_136 h (fun w34 H h hw => ?_)
  refine gpX1_84 (v := some (gZ w33)) S X hw hin2 dX1_init_138 h (fun w35 H locs h hw => ?_)
  refine lv_aload_n S.1 S.2.1 dX1_init_141 rfl (lv_at hl 0 rfl) ?_
  refine lv_bipush (v := 6) S.1 S.2.1 dX1_init_142 rfl ?_
  refine gna_int S X hw Z dX1_init_144 h (fun w36 H h hw => ?_)
  refine gpX1_87 (v := some (gZ w35)) S X hw hin2 dX1_init_146 h (fun w37 H locs h hw => ?_)
  refine lv_aload_n S.1 S.2.1 dX1_init_149 rfl (lv_at hl 0 rfl) ?_
  refine lv_bipush (v := 6) S.1 S.2.1 dX1_init_150 rfl ?_
  refine lv_sipush (v := 241) S.1 S.2.1 dX1_init_152 rfl ?_
  refine gmna (N := 6) (M := 241) S X Z hw dX1_init_155 (by decide) (by decide) (by decide) (by decide) (by decide) (by decide) h (fun w38 H h hw => ?_)
  refine gpX1_92 (v := some (gZ w37)) S X hw hin2 dX1_init_159 h (fun w39 H locs h hw => ?_)
  refine lv_aload_n S.1 S.2.1 dX1_init_162 rfl (lv_at hl 0 rfl) ?_
  refine lv_iconst (v := 4) S.1 S.2.1 dX1_init_163 rfl ?_
  refine gnqX1_95 S X Z hw dX1_init_164 h (fun w40 H h hw => ?_)
  refine gpX1_97 (v := some (gZ w39)) S X hw hin2 dX1_init_167 h (fun w41 H locs h hw => ?_)
  refine lv_aload_n S.1 S.2.1 dX1_init_170 rfl (lv_at hl 0 rfl) ?_
  refine ggX1_51 S X hw dX1_init_171 h (fun a42 h => ?_)
  refine lv_aload_n S.1 S.2.1 dX1_init_174 rfl (lv_at hl 0 rfl) ?_
  refine ggX1_35 S X hw dX1_init_175 h (fun a43 h => ?_)
  obtain ⟨hrc, h⟩ := oK1 h
  refine gcVv (As := [.ref a43]) (rest := []) S X Z hw (b := a42) h (fun u h1 => met_B_X4_begin l E A LC LS a42 a43 w41 u h1) (cb_X1_101 S.2.2.2.2 rfl rfl ⟨Nat.le_trans (Nat.le_of_ble_eq_true rfl : 3 + 1 ≤ 5) hF, Nat.le_trans (Nat.le_of_ble_eq_true rfl : 8 + (4 + 11) + 64 ≤ 101) hL⟩) (g_recv X hw (ci := 3) rfl (gcell_4 hrc)) rfl hl.1 rfl (lv_room (Nat.le_of_ble_eq_true rfl)) dX1_init_178 (fun w44 H locs h hw => ?_)
  exact g_vret S Z hr hlocks hw (so1 h) dX1_init_181
def B_X5_init (x0 : Nat) (w : GS) : Option GS :=
  bd1 (onA w 40 (1000 : Int32)) fun w1 =>
  bd1 (pR w1 x0 5 5 1 (some (gZ w))) fun w2 =>
  bd1 (onA w2 40 (1002 : Int32)) fun w3 =>
  bd1 (pR w3 x0 5 5 4 (some (gZ w2))) fun w4 =>
  bd1 (onA w4 40 (1002 : Int32)) fun w5 =>
  bd1 (pR w5 x0 5 5 5 (some (gZ w4))) fun w6 =>
  bd1 (onA w6 48 (1002 : Int32)) fun w7 =>
  bd1 (pR w7 x0 5 5 6 (some (gZ w6))) fun w8 =>
  bd1 (onA w8 48 (37 : Int32)) fun w9 =>
  bd1 (xL w9 (gZ w8) 48 (0 : Int32) (932857 : Int64)) fun w10 =>
  bd1 (xL w10 (gZ w8) 48 (1 : Int32) (1355082062 : Int64)) fun w11 =>
  bd1 (xL w11 (gZ w8) 48 (2 : Int32) (27011078 : Int64)) fun w12 =>
  bd1 (xL w12 (gZ w8) 48 (3 : Int32) (103383 : Int64)) fun w13 =>
  bd1 (xL w13 (gZ w8) 48 (4 : Int32) (1396960994 : Int64)) fun w14 =>
  bd1 (xL w14 (gZ w8) 48 (5 : Int32) (919322 : Int64)) fun w15 =>
  bd1 (xL w15 (gZ w8) 48 (6 : Int32) (153785 : Int64)) fun w16 =>
  bd1 (xL w16 (gZ w8) 48 (7 : Int32) (6395136 : Int64)) fun w17 =>
  bd1 (xL w17 (gZ w8) 48 (8 : Int32) (347 : Int64)) fun w18 =>
  bd1 (xL w18 (gZ w8) 48 (9 : Int32) (23280049 : Int64)) fun w19 =>
  bd1 (xL w19 (gZ w8) 48 (10 : Int32) (381368328 : Int64)) fun w20 =>
  bd1 (xL w20 (gZ w8) 48 (11 : Int32) (28930245 : Int64)) fun w21 =>
  bd1 (xL w21 (gZ w8) 48 (12 : Int32) (37549136 : Int64)) fun w22 =>
  bd1 (xL w22 (gZ w8) 48 (13 : Int32) (56296 : Int64)) fun w23 =>
  bd1 (xL w23 (gZ w8) 48 (14 : Int32) (236456608 : Int64)) fun w24 =>
  bd1 (xL w24 (gZ w8) 48 (15 : Int32) (22567355 : Int64)) fun w25 =>
  bd1 (xL w25 (gZ w8) 48 (16 : Int32) (10492707 : Int64)) fun w26 =>
  bd1 (xL w26 (gZ w8) 48 (17 : Int32) (6258 : Int64)) fun w27 =>
  bd1 (xL w27 (gZ w8) 48 (18 : Int32) (1178051 : Int64)) fun w28 =>
  bd1 (xL w28 (gZ w8) 48 (19 : Int32) (6243123 : Int64)) fun w29 =>
  bd1 (xL w29 (gZ w8) 48 (20 : Int32) (450264416 : Int64)) fun w30 =>
  bd1 (xL w30 (gZ w8) 48 (21 : Int32) (8421248 : Int64)) fun w31 =>
  bd1 (xL w31 (gZ w8) 48 (22 : Int32) (34005868481 : Int64)) fun w32 =>
  bd1 (xL w32 (gZ w8) 48 (23 : Int32) (730246 : Int64)) fun w33 =>
  bd1 (xL w33 (gZ w8) 48 (24 : Int32) (679843 : Int64)) fun w34 =>
  bd1 (xL w34 (gZ w8) 48 (25 : Int32) (30596128 : Int64)) fun w35 =>
  bd1 (xL w35 (gZ w8) 48 (26 : Int32) (679553 : Int64)) fun w36 =>
  bd1 (xL w36 (gZ w8) 48 (27 : Int32) (1288277118 : Int64)) fun w37 =>
  bd1 (xL w37 (gZ w8) 48 (28 : Int32) (974850 : Int64)) fun w38 =>
  bd1 (xL w38 (gZ w8) 48 (29 : Int32) (19741 : Int64)) fun w39 =>
  bd1 (xL w39 (gZ w8) 48 (30 : Int32) (1891 : Int64)) fun w40 =>
  bd1 (xL w40 (gZ w8) 48 (31 : Int32) (573 : Int64)) fun w41 =>
  bd1 (xL w41 (gZ w8) 48 (32 : Int32) (4003715 : Int64)) fun w42 =>
  bd1 (xL w42 (gZ w8) 48 (33 : Int32) (11873910 : Int64)) fun w43 =>
  bd1 (xL w43 (gZ w8) 48 (34 : Int32) (570026 : Int64)) fun w44 =>
  bd1 (xL w44 (gZ w8) 48 (35 : Int32) (36629575 : Int64)) fun w45 =>
  bd1 (xL w45 (gZ w8) 48 (36 : Int32) (629152 : Int64)) fun w46 =>
  bd1 (pR w46 x0 5 5 9 (some (gZ w8))) fun w47 =>
  bd1 (onA w47 40 (240 : Int32)) fun w48 =>
  bd1 (pR w48 x0 5 5 10 (some (gZ w47))) fun w49 =>
  bd1 (onA w49 40 (2200 : Int32)) fun w50 =>
  bd1 (pR w50 x0 5 5 11 (some (gZ w49))) fun w51 =>
  bd1 (onA w51 40 (2200 : Int32)) fun w52 =>
  bd1 (pR w52 x0 5 5 12 (some (gZ w51))) fun w53 =>
  bd1 (onA w53 48 (18 : Int32)) fun w54 =>
  bd1 (pR w54 x0 5 5 14 (some (gZ w53))) fun w55 =>
  bd1 (onA w55 48 (18 : Int32)) fun w56 =>
  bd1 (pR w56 x0 5 5 15 (some (gZ w55))) fun w57 =>
  bd1 (onA w57 40 (18 : Int32)) fun w58 =>
  bd1 (pR w58 x0 5 5 16 (some (gZ w57))) fun w59 =>
  bd1 (onA w59 40 (18 : Int32)) fun w60 =>
  bd1 (pR w60 x0 5 5 17 (some (gZ w59))) fun w61 =>
  bd1 (onA w61 40 (200 : Int32)) fun w62 =>
  bd1 (pR w62 x0 5 5 22 (some (gZ w61))) fun w63 =>
  bd1 (onA w63 40 (5 : Int32)) fun w64 =>
  bd1 (pR w64 x0 5 5 23 (some (gZ w63))) fun w65 =>
  bd1 (onA w65 40 (1100 : Int32)) fun w66 =>
  bd1 (pR w66 x0 5 5 24 (some (gZ w65))) fun w67 =>
  bd1 (onA w67 40 (1288 : Int32)) fun w68 =>
  bd1 (pR w68 x0 5 5 25 (some (gZ w67))) fun w69 =>
  bd1 (onA w69 49 (4 : Int32)) fun w70 =>
  bd1 (pR w70 x0 5 5 27 (some (gZ w69))) fun w71 =>
  bd1 (onA w71 40 (6 : Int32)) fun w72 =>
  bd1 (pR w72 x0 5 5 29 (some (gZ w71))) fun w73 =>
  bd1 (onA w73 40 (6 : Int32)) fun w74 =>
  bd1 (pR w74 x0 5 5 30 (some (gZ w73))) fun w75 =>
  bd1 (onA w75 40 (36 : Int32)) fun w76 =>
  bd1 (pR w76 x0 5 5 32 (some (gZ w75))) fun w77 =>
  bd1 (onA w77 40 (6 : Int32)) fun w78 =>
  bd1 (pR w78 x0 5 5 33 (some (gZ w77))) fun w79 =>
  bd1 (onA w79 40 (6 : Int32)) fun w80 =>
  bd1 (pR w80 x0 5 5 34 (some (gZ w79))) fun w81 =>
  bd1 (onA w81 40 (6 : Int32)) fun w82 =>
  bd1 (pR w82 x0 5 5 35 (some (gZ w81))) fun w83 =>
  bd1 (onA w83 40 (1446 : Int32)) fun w84 =>
  bd1 (pR w84 x0 5 5 36 (some (gZ w83))) fun w85 =>
  some w85
set_option maxRecDepth 100000 in
set_option maxHeartbeats 4000000 in
theorem pre_B_X5_init {p : Program} {l : Launch} {e : Env} {R : Room} {s : State} {m : MethodId} {args : Array Value} {below : List Frame} {meth : Method} {c : Code} {E : gE} {A : Nat → Prop} {LC LS : Nat} {Q : State → Prop} (S : CallFix p m c cX5_init 1 s args lw_all RX5) (X : gCtx E A s) (Z : gRm R s LC LS) (hF : 2 ≤ R.frames) (hL : 60 ≤ R.locals) (hin2 : meth.name = "<init>") {x0 : Nat} {w res : GS} (h : B_X5_init x0 w = some res) (hend : ∀ (H : Heap) (locs : List Loc) (ls : Array Slot), gH E A LC LS s res H locs → lv_has ls 1 [(0, .ref x0)] → W p l e R s m args below meth c H locs (H.size - s.heap.size) (tot H - tot s.heap) Q (F0 m 458 ls [])) {H : Heap} {locs : List Loc} {ls : Array Slot} (hw : gH E A LC LS s w H locs) (hl : lv_has ls 1 [(0, .ref x0)]) : W p l e R s m args below meth c H locs (H.size - s.heap.size) (tot H - tot s.heap) Q (F0 m 0 ls []) := by
  unfold B_X5_init at h
  refine lv_aload_n S.1 S.2.1 dX5_init_0 rfl (lv_at hl 0 rfl) ?_
  refine W.objInit S.1 S.2.1 S.2.2.2.1 (S.2.2.2.2 _ q1736) (S.2.2.2.2 _ q186) (S.2.2.2.2 _ q187) rfl (by rw [S.2.2.1]; exact hl.1) rfl dX5_init_1 (Nat.le_trans (Nat.le_of_ble_eq_true rfl) hF) (Nat.le_trans (Nat.add_le_add_right (lv_room (st := []) (Nat.le_of_ble_eq_true rfl)) 12) (Nat.le_trans (Nat.le_of_ble_eq_true rfl) hL)) ?_
  refine W.eq (g2 := F0 m 4 ls []) rfl ?_
  refine lv_aload_n S.1 S.2.1 dX5_init_4 rfl (lv_at hl 0 rfl) ?_
  refine lv_sipush (v := 1000) S.1 S.2.1 dX5_init_5 rfl ?_
  refine gna_int S X hw Z dX5_init_8 h (fun w1 H h hw => ?_)
  refine gpX5_14 (v := some (gZ w)) S X hw hin2 dX5_init_10 h (fun w2 H locs h hw => ?_)
  refine lv_aload_n S.1 S.2.1 dX5_init_13 rfl (lv_at hl 0 rfl) ?_
  refine lv_sipush (v := 1002) S.1 S.2.1 dX5_init_14 rfl ?_
  refine gna_int S X hw Z dX5_init_17 h (fun w3 H h hw => ?_)
  refine gpX5_24 (v := some (gZ w2)) S X hw hin2 dX5_init_19 h (fun w4 H locs h hw => ?_)
  refine lv_aload_n S.1 S.2.1 dX5_init_22 rfl (lv_at hl 0 rfl) ?_
  refine lv_sipush (v := 1002) S.1 S.2.1 dX5_init_23 rfl ?_
  refine gna_int S X hw Z dX5_init_26 h (fun w5 H h hw => ?_)
  refine gpX5_27 (v := some (gZ w4)) S X hw hin2 dX5_init_28 h (fun w6 H locs h hw => ?_)
  refine lv_aload_n S.1 S.2.1 dX5_init_31 rfl (lv_at hl 0 rfl) ?_
  refine lv_sipush (v := 1002) S.1 S.2.1 dX5_init_32 rfl ?_
  refine gna_long S X hw Z dX5_init_35 h (fun w7 H h hw => ?_)
  refine gpX5_30 (v := some (gZ w6)) S X hw hin2 dX5_init_37 h (fun w8 H locs h hw => ?_)
  refine lv_aload_n S.1 S.2.1 dX5_init_40 rfl (lv_at hl 0 rfl) ?_
  refine lv_bipush (v := 37) S.1 S.2.1 dX5_init_41 rfl ?_
  refine gna_long S X hw Z dX5_init_43 h (fun w9 H h hw => ?_)
  refine lv_dup S.1 S.2.1 dX5_init_45 rfl ?_
  refine lv_iconst (v := 0) S.1 S.2.1 dX5_init_46 rfl ?_
  refine lv_ldc2 (v := 932857) S.1 S.2.1 S.2.2.2.1 (S.2.2.2.2 _ q1737) dX5_init_47 ?_
  refine gast48 S X hw dX5_init_50 h (fun w10 H locs h hw => ?_)
  refine lv_dup S.1 S.2.1 dX5_init_51 rfl ?_
  refine lv_iconst (v := 1) S.1 S.2.1 dX5_init_52 rfl ?_
  refine lv_ldc2 (v := 1355082062) S.1 S.2.1 S.2.2.2.1 (S.2.2.2.2 _ q1738) dX5_init_53 ?_
  refine gast48 S X hw dX5_init_56 h (fun w11 H locs h hw => ?_)
  refine lv_dup S.1 S.2.1 dX5_init_57 rfl ?_
  refine lv_iconst (v := 2) S.1 S.2.1 dX5_init_58 rfl ?_
  refine lv_ldc2 (v := 27011078) S.1 S.2.1 S.2.2.2.1 (S.2.2.2.2 _ q1739) dX5_init_59 ?_
  refine gast48 S X hw dX5_init_62 h (fun w12 H locs h hw => ?_)
  refine lv_dup S.1 S.2.1 dX5_init_63 rfl ?_
  refine lv_iconst (v := 3) S.1 S.2.1 dX5_init_64 rfl ?_
  refine lv_ldc2 (v := 103383) S.1 S.2.1 S.2.2.2.1 (S.2.2.2.2 _ q1740) dX5_init_65 ?_
  refine gast48 S X hw dX5_init_68 h (fun w13 H locs h hw => ?_)
  refine lv_dup S.1 S.2.1 dX5_init_69 rfl ?_
  refine lv_iconst (v := 4) S.1 S.2.1 dX5_init_70 rfl ?_
  refine lv_ldc2 (v := 1396960994) S.1 S.2.1 S.2.2.2.1 (S.2.2.2.2 _ q1741) dX5_init_71 ?_
  refine gast48 S X hw dX5_init_74 h (fun w14 H locs h hw => ?_)
  refine lv_dup S.1 S.2.1 dX5_init_75 rfl ?_
  refine lv_iconst (v := 5) S.1 S.2.1 dX5_init_76 rfl ?_
  refine lv_ldc2 (v := 919322) S.1 S.2.1 S.2.2.2.1 (S.2.2.2.2 _ q1742) dX5_init_77 ?_
  refine gast48 S X hw dX5_init_80 h (fun w15 H locs h hw => ?_)
  refine lv_dup S.1 S.2.1 dX5_init_81 rfl ?_
  refine lv_bipush (v := 6) S.1 S.2.1 dX5_init_82 rfl ?_
  refine lv_ldc2 (v := 153785) S.1 S.2.1 S.2.2.2.1 (S.2.2.2.2 _ q1743) dX5_init_84 ?_
  refine gast48 S X hw dX5_init_87 h (fun w16 H locs h hw => ?_)
  refine lv_dup S.1 S.2.1 dX5_init_88 rfl ?_
  refine lv_bipush (v := 7) S.1 S.2.1 dX5_init_89 rfl ?_
  refine lv_ldc2 (v := 6395136) S.1 S.2.1 S.2.2.2.1 (S.2.2.2.2 _ q1744) dX5_init_91 ?_
  refine gast48 S X hw dX5_init_94 h (fun w17 H locs h hw => ?_)
  refine lv_dup S.1 S.2.1 dX5_init_95 rfl ?_
  refine lv_bipush (v := 8) S.1 S.2.1 dX5_init_96 rfl ?_
  refine lv_ldc2 (v := 347) S.1 S.2.1 S.2.2.2.1 (S.2.2.2.2 _ q1745) dX5_init_98 ?_
  refine gast48 S X hw dX5_init_101 h (fun w18 H locs h hw => ?_)
  refine lv_dup S.1 S.2.1 dX5_init_102 rfl ?_
  refine lv_bipush (v := 9) S.1 S.2.1 dX5_init_103 rfl ?_
  refine lv_ldc2 (v := 23280049) S.1 S.2.1 S.2.2.2.1 (S.2.2.2.2 _ q1746) dX5_init_105 ?_
  refine gast48 S X hw dX5_init_108 h (fun w19 H locs h hw => ?_)
  refine lv_dup S.1 S.2.1 dX5_init_109 rfl ?_
  refine lv_bipush (v := 10) S.1 S.2.1 dX5_init_110 rfl ?_
  refine lv_ldc2 (v := 381368328) S.1 S.2.1 S.2.2.2.1 (S.2.2.2.2 _ q1747) dX5_init_112 ?_
  refine gast48 S X hw dX5_init_115 h (fun w20 H locs h hw => ?_)
  refine lv_dup S.1 S.2.1 dX5_init_116 rfl ?_
  refine lv_bipush (v := 11) S.1 S.2.1 dX5_init_117 rfl ?_
  refine lv_ldc2 (v := 28930245) S.1 S.2.1 S.2.2.2.1 (S.2.2.2.2 _ q1748) dX5_init_119 ?_
  refine gast48 S X hw dX5_init_122 h (fun w21 H locs h hw => ?_)
  refine lv_dup S.1 S.2.1 dX5_init_123 rfl ?_
  refine lv_bipush (v := 12) S.1 S.2.1 dX5_init_124 rfl ?_
  refine lv_ldc2 (v := 37549136) S.1 S.2.1 S.2.2.2.1 (S.2.2.2.2 _ q1749) dX5_init_126 ?_
  refine gast48 S X hw dX5_init_129 h (fun w22 H locs h hw => ?_)
  refine lv_dup S.1 S.2.1 dX5_init_130 rfl ?_
  refine lv_bipush (v := 13) S.1 S.2.1 dX5_init_131 rfl ?_
  refine lv_ldc2 (v := 56296) S.1 S.2.1 S.2.2.2.1 (S.2.2.2.2 _ q1750) dX5_init_133 ?_
  refine gast48 S X hw dX5_init_136 h (fun w23 H locs h hw => ?_)
  refine lv_dup S.1 S.2.1 dX5_init_137 rfl ?_
  refine lv_bipush (v := 14) S.1 S.2.1 dX5_init_138 rfl ?_
  refine lv_ldc2 (v := 236456608) S.1 S.2.1 S.2.2.2.1 (S.2.2.2.2 _ q1751) dX5_init_140 ?_
  refine gast48 S X hw dX5_init_143 h (fun w24 H locs h hw => ?_)
  refine lv_dup S.1 S.2.1 dX5_init_144 rfl ?_
  refine lv_bipush (v := 15) S.1 S.2.1 dX5_init_145 rfl ?_
  refine lv_ldc2 (v := 22567355) S.1 S.2.1 S.2.2.2.1 (S.2.2.2.2 _ q1752) dX5_init_147 ?_
  refine gast48 S X hw dX5_init_150 h (fun w25 H locs h hw => ?_)
  refine lv_dup S.1 S.2.1 dX5_init_151 rfl ?_
  refine lv_bipush (v := 16) S.1 S.2.1 dX5_init_152 rfl ?_
  refine lv_ldc2 (v := 10492707) S.1 S.2.1 S.2.2.2.1 (S.2.2.2.2 _ q1753) dX5_init_154 ?_
  refine gast48 S X hw dX5_init_157 h (fun w26 H locs h hw => ?_)
  refine lv_dup S.1 S.2.1 dX5_init_158 rfl ?_
  refine lv_bipush (v := 17) S.1 S.2.1 dX5_init_159 rfl ?_
  refine lv_ldc2 (v := 6258) S.1 S.2.1 S.2.2.2.1 (S.2.2.2.2 _ q1754) dX5_init_161 ?_
  refine gast48 S X hw dX5_init_164 h (fun w27 H locs h hw => ?_)
  refine lv_dup S.1 S.2.1 dX5_init_165 rfl ?_
  refine lv_bipush (v := 18) S.1 S.2.1 dX5_init_166 rfl ?_
  refine lv_ldc2 (v := 1178051) S.1 S.2.1 S.2.2.2.1 (S.2.2.2.2 _ q1755) dX5_init_168 ?_
  refine gast48 S X hw dX5_init_171 h (fun w28 H locs h hw => ?_)
  refine lv_dup S.1 S.2.1 dX5_init_172 rfl ?_
  refine lv_bipush (v := 19) S.1 S.2.1 dX5_init_173 rfl ?_
  refine lv_ldc2 (v := 6243123) S.1 S.2.1 S.2.2.2.1 (S.2.2.2.2 _ q1756) dX5_init_175 ?_
  refine gast48 S X hw dX5_init_178 h (fun w29 H locs h hw => ?_)
  refine lv_dup S.1 S.2.1 dX5_init_179 rfl ?_
  refine lv_bipush (v := 20) S.1 S.2.1 dX5_init_180 rfl ?_
  refine lv_ldc2 (v := 450264416) S.1 S.2.1 S.2.2.2.1 (S.2.2.2.2 _ q1757) dX5_init_182 ?_
  refine gast48 S X hw dX5_init_185 h (fun w30 H locs h hw => ?_)
  refine lv_dup S.1 S.2.1 dX5_init_186 rfl ?_
  refine lv_bipush (v := 21) S.1 S.2.1 dX5_init_187 rfl ?_
  refine lv_ldc2 (v := 8421248) S.1 S.2.1 S.2.2.2.1 (S.2.2.2.2 _ q1758) dX5_init_189 ?_
  refine gast48 S X hw dX5_init_192 h (fun w31 H locs h hw => ?_)
  refine lv_dup S.1 S.2.1 dX5_init_193 rfl ?_
  refine lv_bipush (v := 22) S.1 S.2.1 dX5_init_194 rfl ?_
  refine lv_ldc2 (v := 34005868481) S.1 S.2.1 S.2.2.2.1 (S.2.2.2.2 _ q1759) dX5_init_196 ?_
  refine gast48 S X hw dX5_init_199 h (fun w32 H locs h hw => ?_)
  refine lv_dup S.1 S.2.1 dX5_init_200 rfl ?_
  refine lv_bipush (v := 23) S.1 S.2.1 dX5_init_201 rfl ?_
  refine lv_ldc2 (v := 730246) S.1 S.2.1 S.2.2.2.1 (S.2.2.2.2 _ q1760) dX5_init_203 ?_
  refine gast48 S X hw dX5_init_206 h (fun w33 H locs h hw => ?_)
  refine lv_dup S.1 S.2.1 dX5_init_207 rfl ?_
  refine lv_bipush (v := 24) S.1 S.2.1 dX5_init_208 rfl ?_
  refine lv_ldc2 (v := 679843) S.1 S.2.1 S.2.2.2.1 (S.2.2.2.2 _ q1761) dX5_init_210 ?_
  refine gast48 S X hw dX5_init_213 h (fun w34 H locs h hw => ?_)
  refine lv_dup S.1 S.2.1 dX5_init_214 rfl ?_
  refine lv_bipush (v := 25) S.1 S.2.1 dX5_init_215 rfl ?_
  refine lv_ldc2 (v := 30596128) S.1 S.2.1 S.2.2.2.1 (S.2.2.2.2 _ q1762) dX5_init_217 ?_
  refine gast48 S X hw dX5_init_220 h (fun w35 H locs h hw => ?_)
  refine lv_dup S.1 S.2.1 dX5_init_221 rfl ?_
  refine lv_bipush (v := 26) S.1 S.2.1 dX5_init_222 rfl ?_
  refine lv_ldc2 (v := 679553) S.1 S.2.1 S.2.2.2.1 (S.2.2.2.2 _ q1763) dX5_init_224 ?_
  refine gast48 S X hw dX5_init_227 h (fun w36 H locs h hw => ?_)
  refine lv_dup S.1 S.2.1 dX5_init_228 rfl ?_
  refine lv_bipush (v := 27) S.1 S.2.1 dX5_init_229 rfl ?_
  refine lv_ldc2 (v := 1288277118) S.1 S.2.1 S.2.2.2.1 (S.2.2.2.2 _ q1764) dX5_init_231 ?_
  refine gast48 S X hw dX5_init_234 h (fun w37 H locs h hw => ?_)
  refine lv_dup S.1 S.2.1 dX5_init_235 rfl ?_
  refine lv_bipush (v := 28) S.1 S.2.1 dX5_init_236 rfl ?_
  refine lv_ldc2 (v := 974850) S.1 S.2.1 S.2.2.2.1 (S.2.2.2.2 _ q1765) dX5_init_238 ?_
  refine gast48 S X hw dX5_init_241 h (fun w38 H locs h hw => ?_)
  refine lv_dup S.1 S.2.1 dX5_init_242 rfl ?_
  refine lv_bipush (v := 29) S.1 S.2.1 dX5_init_243 rfl ?_
  refine lv_ldc2 (v := 19741) S.1 S.2.1 S.2.2.2.1 (S.2.2.2.2 _ q1766) dX5_init_245 ?_
  refine gast48 S X hw dX5_init_248 h (fun w39 H locs h hw => ?_)
  refine lv_dup S.1 S.2.1 dX5_init_249 rfl ?_
  refine lv_bipush (v := 30) S.1 S.2.1 dX5_init_250 rfl ?_
  refine lv_ldc2 (v := 1891) S.1 S.2.1 S.2.2.2.1 (S.2.2.2.2 _ q1767) dX5_init_252 ?_
  refine gast48 S X hw dX5_init_255 h (fun w40 H locs h hw => ?_)
  refine lv_dup S.1 S.2.1 dX5_init_256 rfl ?_
  refine lv_bipush (v := 31) S.1 S.2.1 dX5_init_257 rfl ?_
  refine lv_ldc2 (v := 573) S.1 S.2.1 S.2.2.2.1 (S.2.2.2.2 _ q1768) dX5_init_259 ?_
  refine gast48 S X hw dX5_init_262 h (fun w41 H locs h hw => ?_)
  refine lv_dup S.1 S.2.1 dX5_init_263 rfl ?_
  refine lv_bipush (v := 32) S.1 S.2.1 dX5_init_264 rfl ?_
  refine lv_ldc2 (v := 4003715) S.1 S.2.1 S.2.2.2.1 (S.2.2.2.2 _ q1769) dX5_init_266 ?_
  refine gast48 S X hw dX5_init_269 h (fun w42 H locs h hw => ?_)
  refine lv_dup S.1 S.2.1 dX5_init_270 rfl ?_
  refine lv_bipush (v := 33) S.1 S.2.1 dX5_init_271 rfl ?_
  refine lv_ldc2 (v := 11873910) S.1 S.2.1 S.2.2.2.1 (S.2.2.2.2 _ q1770) dX5_init_273 ?_
  refine gast48 S X hw dX5_init_276 h (fun w43 H locs h hw => ?_)
  refine lv_dup S.1 S.2.1 dX5_init_277 rfl ?_
  refine lv_bipush (v := 34) S.1 S.2.1 dX5_init_278 rfl ?_
  refine lv_ldc2 (v := 570026) S.1 S.2.1 S.2.2.2.1 (S.2.2.2.2 _ q1771) dX5_init_280 ?_
  refine gast48 S X hw dX5_init_283 h (fun w44 H locs h hw => ?_)
  refine lv_dup S.1 S.2.1 dX5_init_284 rfl ?_
  refine lv_bipush (v := 35) S.1 S.2.1 dX5_init_285 rfl ?_
  refine lv_ldc2 (v := 36629575) S.1 S.2.1 S.2.2.2.1 (S.2.2.2.2 _ q1772) dX5_init_287 ?_
  refine gast48 S X hw dX5_init_290 h (fun w45 H locs h hw => ?_)
  refine lv_dup S.1 S.2.1 dX5_init_291 rfl ?_
  refine lv_bipush (v := 36) S.1 S.2.1 dX5_init_292 rfl ?_
  refine lv_ldc2 (v := 629152) S.1 S.2.1 S.2.2.2.1 (S.2.2.2.2 _ q1773) dX5_init_294 ?_
  refine gast48 S X hw dX5_init_297 h (fun w46 H locs h hw => ?_)
  refine gpX5_108 (v := some (gZ w8)) S X hw hin2 dX5_init_298 h (fun w47 H locs h hw => ?_)
  refine lv_aload_n S.1 S.2.1 dX5_init_301 rfl (lv_at hl 0 rfl) ?_
  refine lv_sipush (v := 240) S.1 S.2.1 dX5_init_302 rfl ?_
  refine gna_int S X hw Z dX5_init_305 h (fun w48 H h hw => ?_)
  refine gpX5_111 (v := some (gZ w47)) S X hw hin2 dX5_init_307 h (fun w49 H locs h hw => ?_)
  refine lv_aload_n S.1 S.2.1 dX5_init_310 rfl (lv_at hl 0 rfl) ?_
  refine lv_sipush (v := 2200) S.1 S.2.1 dX5_init_311 rfl ?_
  refine gna_int S X hw Z dX5_init_314 h (fun w50 H h hw => ?_)
  refine gpX5_114 (v := some (gZ w49)) S X hw hin2 dX5_init_316 h (fun w51 H locs h hw => ?_)
  refine lv_aload_n S.1 S.2.1 dX5_init_319 rfl (lv_at hl 0 rfl) ?_
  refine lv_sipush (v := 2200) S.1 S.2.1 dX5_init_320 rfl ?_
  refine gna_int S X hw Z dX5_init_323 h (fun w52 H h hw => ?_)
  refine gpX5_117 (v := some (gZ w51)) S X hw hin2 dX5_init_325 h (fun w53 H locs h hw => ?_)
  refine lv_aload_n S.1 S.2.1 dX5_init_328 rfl (lv_at hl 0 rfl) ?_
  refine lv_bipush (v := 18) S.1 S.2.1 dX5_init_329 rfl ?_
  refine gna_long S X hw Z dX5_init_331 h (fun w54 H h hw => ?_)
  refine gpX5_120 (v := some (gZ w53)) S X hw hin2 dX5_init_333 h (fun w55 H locs h hw => ?_)
  refine lv_aload_n S.1 S.2.1 dX5_init_336 rfl (lv_at hl 0 rfl) ?_
  refine lv_bipush (v := 18) S.1 S.2.1 dX5_init_337 rfl ?_
  refine gna_long S X hw Z dX5_init_339 h (fun w56 H h hw => ?_)
  refine gpX5_123 (v := some (gZ w55)) S X hw hin2 dX5_init_341 h (fun w57 H locs h hw => ?_)
  refine lv_aload_n S.1 S.2.1 dX5_init_344 rfl (lv_at hl 0 rfl) ?_
  refine lv_bipush (v := 18) S.1 S.2.1 dX5_init_345 rfl ?_
  refine gna_int S X hw Z dX5_init_347 h (fun w58 H h hw => ?_)
  refine gpX5_126 (v := some (gZ w57)) S X hw hin2 dX5_init_349 h (fun w59 H locs h hw => ?_)
  refine lv_aload_n S.1 S.2.1 dX5_init_352 rfl (lv_at hl 0 rfl) ?_
  refine lv_bipush (v := 18) S.1 S.2.1 dX5_init_353 rfl ?_
  refine gna_int S X hw Z dX5_init_355 h (fun w60 H h hw => ?_)
  refine gpX5_129 (v := some (gZ w59)) S X hw hin2 dX5_init_357 h (fun w61 H locs h hw => ?_)
  refine lv_aload_n S.1 S.2.1 dX5_init_360 rfl (lv_at hl 0 rfl) ?_
  refine lv_sipush (v := 200) S.1 S.2.1 dX5_init_361 rfl ?_
  refine gna_int S X hw Z dX5_init_364 h (fun w62 H h hw => ?_)
  refine gpX5_132 (v := some (gZ w61)) S X hw hin2 dX5_init_366 h (fun w63 H locs h hw => ?_)
  refine lv_aload_n S.1 S.2.1 dX5_init_369 rfl (lv_at hl 0 rfl) ?_
  refine lv_iconst (v := 5) S.1 S.2.1 dX5_init_370 rfl ?_
  refine gna_int S X hw Z dX5_init_371 h (fun w64 H h hw => ?_)
  refine gpX5_135 (v := some (gZ w63)) S X hw hin2 dX5_init_373 h (fun w65 H locs h hw => ?_)
  refine lv_aload_n S.1 S.2.1 dX5_init_376 rfl (lv_at hl 0 rfl) ?_
  refine lv_sipush (v := 1100) S.1 S.2.1 dX5_init_377 rfl ?_
  refine gna_int S X hw Z dX5_init_380 h (fun w66 H h hw => ?_)
  refine gpX5_138 (v := some (gZ w65)) S X hw hin2 dX5_init_382 h (fun w67 H locs h hw => ?_)
  refine lv_aload_n S.1 S.2.1 dX5_init_385 rfl (lv_at hl 0 rfl) ?_
  refine lv_sipush (v := 1288) S.1 S.2.1 dX5_init_386 rfl ?_
  refine gna_int S X hw Z dX5_init_389 h (fun w68 H h hw => ?_)
  refine gpX5_141 (v := some (gZ w67)) S X hw hin2 dX5_init_391 h (fun w69 H locs h hw => ?_)
  refine lv_aload_n S.1 S.2.1 dX5_init_394 rfl (lv_at hl 0 rfl) ?_
  refine lv_iconst (v := 4) S.1 S.2.1 dX5_init_395 rfl ?_
  refine gna_boolean S X hw Z dX5_init_396 h (fun w70 H h hw => ?_)
  refine gpX5_144 (v := some (gZ w69)) S X hw hin2 dX5_init_398 h (fun w71 H locs h hw => ?_)
  refine lv_aload_n S.1 S.2.1 dX5_init_401 rfl (lv_at hl 0 rfl) ?_
  refine lv_bipush (v := 6) S.1 S.2.1 dX5_init_402 rfl ?_
  refine gna_int S X hw Z dX5_init_404 h (fun w72 H h hw => ?_)
  refine gpX5_148 (v := some (gZ w71)) S X hw hin2 dX5_init_406 h (fun w73 H locs h hw => ?_)
  refine lv_aload_n S.1 S.2.1 dX5_init_409 rfl (lv_at hl 0 rfl) ?_
  refine lv_bipush (v := 6) S.1 S.2.1 dX5_init_410 rfl ?_
  refine gna_int S X hw Z dX5_init_412 h (fun w74 H h hw => ?_)
  refine gpX5_151 (v := some (gZ w73)) S X hw hin2 dX5_init_414 h (fun w75 H locs h hw => ?_)
  refine lv_aload_n S.1 S.2.1 dX5_init_417 rfl (lv_at hl 0 rfl) ?_
  refine lv_bipush (v := 36) S.1 S.2.1 dX5_init_418 rfl ?_
  refine gna_int S X hw Z dX5_init_420 h (fun w76 H h hw => ?_)
  refine gpX5_154 (v := some (gZ w75)) S X hw hin2 dX5_init_422 h (fun w77 H locs h hw => ?_)
  refine lv_aload_n S.1 S.2.1 dX5_init_425 rfl (lv_at hl 0 rfl) ?_
  refine lv_bipush (v := 6) S.1 S.2.1 dX5_init_426 rfl ?_
  refine gna_int S X hw Z dX5_init_428 h (fun w78 H h hw => ?_)
  refine gpX5_157 (v := some (gZ w77)) S X hw hin2 dX5_init_430 h (fun w79 H locs h hw => ?_)
  refine lv_aload_n S.1 S.2.1 dX5_init_433 rfl (lv_at hl 0 rfl) ?_
  refine lv_bipush (v := 6) S.1 S.2.1 dX5_init_434 rfl ?_
  refine gna_int S X hw Z dX5_init_436 h (fun w80 H h hw => ?_)
  refine gpX5_160 (v := some (gZ w79)) S X hw hin2 dX5_init_438 h (fun w81 H locs h hw => ?_)
  refine lv_aload_n S.1 S.2.1 dX5_init_441 rfl (lv_at hl 0 rfl) ?_
  refine lv_bipush (v := 6) S.1 S.2.1 dX5_init_442 rfl ?_
  refine gna_int S X hw Z dX5_init_444 h (fun w82 H h hw => ?_)
  refine gpX5_163 (v := some (gZ w81)) S X hw hin2 dX5_init_446 h (fun w83 H locs h hw => ?_)
  refine lv_aload_n S.1 S.2.1 dX5_init_449 rfl (lv_at hl 0 rfl) ?_
  refine lv_sipush (v := 1446) S.1 S.2.1 dX5_init_450 rfl ?_
  refine gna_int S X hw Z dX5_init_453 h (fun w84 H h hw => ?_)
  refine gpX5_166 (v := some (gZ w83)) S X hw hin2 dX5_init_455 h (fun w85 H locs h hw => ?_)
  replace h := so1 h
  subst h
  exact hend H locs ls hw hl
theorem cb_X1_369 {R : Room} {s : State} {args : Array Value} {rm : Room} {mc ms : Nat} (hts : ∀ w ∈ lw_all, w.before args s = true) (hc : rm.cells = mc) (hs : rm.slots = ms) (hR : rm.frames + 1 ≤ R.frames ∧ 8 + (4 + 11) + rm.locals ≤ R.locals) : CallW R s args RX1 RX1 369 yX1_saved cX1_saved 4 (Option.some Jvm.ClassFile.FieldType.int) (ws_ yX1_saved cX1_saved 4 (Option.some Jvm.ClassFile.FieldType.int)) rm mc ms 2 := cwV 2 hts (lw_V q1708 q1710 qs56 q135 q1711) rfl hc hs (by decide +kernel) hR
def B_X1_lease_p26 (x0 : Nat) (x1 : Int32) (x2 : Int32) (t0 : Int32) (w : GS) : Option ((Int32 ⊕ Unit) × GS) :=
  bdn t0 w (
  bd1 (oK w x0 1 1) fun _ =>
  bd2 (B_X1_saved x0 x1 x2 w) fun r4 w3 =>
  some (.inl r4, w3))
def B_X1_lease (x0 : Nat) (x1 : Int32) (x2 : Int32) (w : GS) : Option ((Int32 ⊕ Unit) × GS) :=
  bd1 (oK w x0 1 1) fun _ =>
  bd1 (B_X1_isHome x0 x1 w) fun r1 =>
  if r1 = 0 then
    B_X1_lease_p26 x0 x1 x2 (0 : Int32) w
  else
    bd1 (oK w x0 1 1) fun _ =>
    bd1 (B_X1_isHome x0 x2 w) fun r5 =>
    if r5 = 0 then
      B_X1_lease_p26 x0 x1 x2 (0 : Int32) w
    else
      if x1 = x2 then
        B_X1_lease_p26 x0 x1 x2 (0 : Int32) w
      else
        B_X1_lease_p26 x0 x1 x2 (1 : Int32) w
set_option maxRecDepth 100000 in
set_option maxHeartbeats 4000000 in
theorem wk_B_X1_lease_p26 {p : Program} {l : Launch} {e : Env} {R : Room} {s : State} {m : MethodId} {args : Array Value} {below : List Frame} {meth : Method} {c : Code} {E : gE} {A : Nat → Prop} {LC LS : Nat} (S : CallFix p m c cX1_lease 3 s args lw_all RX1) (X : gCtx E A s) (Z : gRm R s LC LS) (hF : 1105 ≤ R.frames) (hL : 33121 ≤ R.locals) (hr : meth.sig.returnType = (Option.some Jvm.ClassFile.FieldType.int)) (hlocks : meth.locks = false) (hno : ∀ x ∈ c.exceptionTable.toList, False) {res : (Int32 ⊕ Unit) × GS} (hst : l.stackTraces = false) : ∀ (x0 : Nat) (x1 : Int32) (x2 : Int32) (t0 : Int32) (w : GS) (H : Heap) (locs : List Loc) (ls : Array Slot), B_X1_lease_p26 x0 x1 x2 t0 w = some res → gH E A LC LS s w H locs → lv_has ls 3 [(0, .ref x0), (1, .int x1), (2, .int x2)] → W p l e R s m args below meth c H locs (H.size - s.heap.size) (tot H - tot s.heap) (vx_MQ below (gYi E A LC LS res) (gYX E A LC LS res) args s R.cells R.slots A) (F0 m 26 ls [.int t0]) := by
  intro x0 x1 x2 t0 w H locs ls h hw hl
  unfold B_X1_lease_p26 at h
  refine gneed (rest := []) S X Z hw hno hlocks hst h (Nat.le_trans (Nat.le_of_ble_eq_true rfl : 11 ≤ 1105) hF) (Nat.le_trans (Nat.le_of_ble_eq_true rfl : 220 ≤ 33121) hL) hl.1 (lv_room (Nat.le_of_ble_eq_true rfl)) dX1_lease_26 (fun H locs h hw => ?_)
  refine lv_aload_n S.1 S.2.1 dX1_lease_29 rfl (lv_at hl 0 rfl) ?_
  refine lv_iload_n S.1 S.2.1 dX1_lease_30 rfl (lv_at hl 1 rfl) ?_
  refine lv_iload_n S.1 S.2.1 dX1_lease_31 rfl (lv_at hl 2 rfl) ?_
  obtain ⟨hrc, h⟩ := oK1 h
  refine gcVi (As := [.int x1, .int x2]) (rest := []) S X Z hw (b := x0) h (fun u h1 => met_B_X1_saved l E A LC LS x0 x1 x2 w u h1) (cb_X1_369 S.2.2.2.2 rfl rfl ⟨Nat.le_trans (Nat.le_of_ble_eq_true rfl : 1104 + 1 ≤ 1105) hF, Nat.le_trans (Nat.le_of_ble_eq_true rfl : 8 + (4 + 11) + 33098 ≤ 33121) hL⟩) (g_recv X hw (ci := 0) rfl (gcell_1 hrc)) rfl hl.1 rfl (lv_room (Nat.le_of_ble_eq_true rfl)) dX1_lease_32 (fun r4 w3 H locs h hw => ?_)
  exact y_iret S Z hr hlocks hw (so1 h) dX1_lease_35
set_option maxRecDepth 100000 in
set_option maxHeartbeats 4000000 in
theorem met_B_X1_lease (l : Launch) (E : gE) (A : Nat → Prop) (LC LS : Nat) (hst : l.stackTraces = false) (x0 : Nat) (x1 : Int32) (x2 : Int32) (w : GS) (res : (Int32 ⊕ Unit) × GS) (h : B_X1_lease x0 x1 x2 w = some res) : vx_Met l yX1_lease (ws_ yX1_lease cX1_lease 3 (Option.some Jvm.ClassFile.FieldType.int)) (gRoom 1105 33121 LC LS w) (gPc E A LC LS [.ref x0, .int x1, .int x2] w) (gYi E A LC LS res) (gYX E A LC LS res) (LC - gZ w) (LS - gN w) A := by
  refine gMetx (by decide) rfl (Nat.le_of_ble_eq_true rfl) ?_
  intro p e s m below meth c R S hr hlocks hno X Z hF hL H ls hw hl
  replace hl : lv_has ls 3 [(0, .ref x0), (1, .int x1), (2, .int x2)] := hl
  unfold B_X1_lease at h
  refine lv_aload_n S.1 S.2.1 dX1_lease_0 rfl (lv_at hl 0 rfl) ?_
  refine lv_iload_n S.1 S.2.1 dX1_lease_1 rfl (lv_at hl 1 rfl) ?_
  obtain ⟨hrc, h⟩ := oK1 h
  refine gcVri (As := [.int x1]) (rest := []) S X Z hw (b := x0) h (fun u h1 => met_B_X1_isHome l E A LC LS x0 x1 w u h1) (cb_X1_273 S.2.2.2.2 rfl rfl ⟨Nat.le_trans (Nat.le_of_ble_eq_true rfl : 3 + 1 ≤ 1105) hF, Nat.le_trans (Nat.le_of_ble_eq_true rfl : 8 + (2 + 11) + 61 ≤ 33121) hL⟩) (g_recv X hw (ci := 0) rfl (gcell_1 hrc)) rfl hl.1 rfl (lv_room (Nat.le_of_ble_eq_true rfl)) dX1_lease_2 (fun r1 H locs h hw => ?_)
  refine lv_if_eq (tgt := 25) S.1 S.2.1 dX1_lease_5 rfl (fun c2 => ?_) (fun c2 => ?_)
  · replace h := if_t c2 h
    refine lv_iconst (v := 0) S.1 S.2.1 dX1_lease_25 rfl ?_
    exact wk_B_X1_lease_p26 S X Z hF hL hr hlocks hno hst _ _ _ _ _ _ _ _ h hw (lv_sub hl [0, 1, 2] rfl)
  · replace h := if_f c2 h
    refine lv_aload_n S.1 S.2.1 dX1_lease_8 rfl (lv_at hl 0 rfl) ?_
    refine lv_iload_n S.1 S.2.1 dX1_lease_9 rfl (lv_at hl 2 rfl) ?_
    obtain ⟨hrc, h⟩ := oK1 h
    refine gcVri (As := [.int x2]) (rest := []) S X Z hw (b := x0) h (fun u h1 => met_B_X1_isHome l E A LC LS x0 x2 w u h1) (cb_X1_273 S.2.2.2.2 rfl rfl ⟨Nat.le_trans (Nat.le_of_ble_eq_true rfl : 3 + 1 ≤ 1105) hF, Nat.le_trans (Nat.le_of_ble_eq_true rfl : 8 + (2 + 11) + 61 ≤ 33121) hL⟩) (g_recv X hw (ci := 0) rfl (gcell_1 hrc)) rfl hl.1 rfl (lv_room (Nat.le_of_ble_eq_true rfl)) dX1_lease_10 (fun r5 H locs h hw => ?_)
    refine lv_if_eq (tgt := 25) S.1 S.2.1 dX1_lease_13 rfl (fun c6 => ?_) (fun c6 => ?_)
    · replace h := if_t c6 h
      refine lv_iconst (v := 0) S.1 S.2.1 dX1_lease_25 rfl ?_
      exact wk_B_X1_lease_p26 S X Z hF hL hr hlocks hno hst _ _ _ _ _ _ _ _ h hw (lv_sub hl [0, 1, 2] rfl)
    · replace h := if_f c6 h
      refine lv_iload_n S.1 S.2.1 dX1_lease_16 rfl (lv_at hl 1 rfl) ?_
      refine lv_iload_n S.1 S.2.1 dX1_lease_17 rfl (lv_at hl 2 rfl) ?_
      refine lv_icmp_eq (tgt := 25) S.1 S.2.1 dX1_lease_18 rfl (fun c7 => ?_) (fun c7 => ?_)
      · replace h := if_t c7 h
        refine lv_iconst (v := 0) S.1 S.2.1 dX1_lease_25 rfl ?_
        exact wk_B_X1_lease_p26 S X Z hF hL hr hlocks hno hst _ _ _ _ _ _ _ _ h hw (lv_sub hl [0, 1, 2] rfl)
      · replace h := if_f c7 h
        refine lv_iconst (v := 1) S.1 S.2.1 dX1_lease_21 rfl ?_
        refine lv_goto (tgt := 26) S.1 S.2.1 dX1_lease_22 rfl ?_
        exact wk_B_X1_lease_p26 S X Z hF hL hr hlocks hno hst _ _ _ _ _ _ _ _ h hw (lv_sub hl [0, 1, 2] rfl)
def B_X1_share_p26 (x0 : Nat) (x1 : Int32) (x2 : Int32) (t0 : Int32) (w : GS) : Option ((Int32 ⊕ Unit) × GS) :=
  bdn t0 w (
  bd1 (oRn w x0 1 1 4) fun a3 =>
  bd1 (oK w x0 1 1) fun _ =>
  bd2 (B_X1_due x0 a3 x1 w) fun r5 w4 =>
  bd1 (oK w4 x0 1 1) fun _ =>
  bd2 (B_X1_saved x0 x1 x2 w4) fun r7 w6 =>
  some (.inl (r5 - (r7 / (2 : Int32))), w6))
def B_X1_share (x0 : Nat) (x1 : Int32) (x2 : Int32) (w : GS) : Option ((Int32 ⊕ Unit) × GS) :=
  bd1 (oK w x0 1 1) fun _ =>
  bd1 (B_X1_isHome x0 x1 w) fun r1 =>
  if r1 = 0 then
    B_X1_share_p26 x0 x1 x2 (0 : Int32) w
  else
    bd1 (oK w x0 1 1) fun _ =>
    bd1 (B_X1_isHome x0 x2 w) fun r8 =>
    if r8 = 0 then
      B_X1_share_p26 x0 x1 x2 (0 : Int32) w
    else
      if x1 = x2 then
        B_X1_share_p26 x0 x1 x2 (0 : Int32) w
      else
        B_X1_share_p26 x0 x1 x2 (1 : Int32) w
set_option maxRecDepth 100000 in
set_option maxHeartbeats 4000000 in
theorem wk_B_X1_share_p26 {p : Program} {l : Launch} {e : Env} {R : Room} {s : State} {m : MethodId} {args : Array Value} {below : List Frame} {meth : Method} {c : Code} {E : gE} {A : Nat → Prop} {LC LS : Nat} (S : CallFix p m c cX1_share 3 s args lw_all RX1) (X : gCtx E A s) (Z : gRm R s LC LS) (hF : 1105 ≤ R.frames) (hL : 33121 ≤ R.locals) (hr : meth.sig.returnType = (Option.some Jvm.ClassFile.FieldType.int)) (hlocks : meth.locks = false) (hno : ∀ x ∈ c.exceptionTable.toList, False) {res : (Int32 ⊕ Unit) × GS} (hst : l.stackTraces = false) : ∀ (x0 : Nat) (x1 : Int32) (x2 : Int32) (t0 : Int32) (w : GS) (H : Heap) (locs : List Loc) (ls : Array Slot), B_X1_share_p26 x0 x1 x2 t0 w = some res → gH E A LC LS s w H locs → lv_has ls 3 [(0, .ref x0), (1, .int x1), (2, .int x2)] → W p l e R s m args below meth c H locs (H.size - s.heap.size) (tot H - tot s.heap) (vx_MQ below (gYi E A LC LS res) (gYX E A LC LS res) args s R.cells R.slots A) (F0 m 26 ls [.int t0]) := by
  intro x0 x1 x2 t0 w H locs ls h hw hl
  unfold B_X1_share_p26 at h
  refine gneed (rest := []) S X Z hw hno hlocks hst h (Nat.le_trans (Nat.le_of_ble_eq_true rfl : 11 ≤ 1105) hF) (Nat.le_trans (Nat.le_of_ble_eq_true rfl : 220 ≤ 33121) hL) hl.1 (lv_room (Nat.le_of_ble_eq_true rfl)) dX1_share_26 (fun H locs h hw => ?_)
  refine lv_aload_n S.1 S.2.1 dX1_share_29 rfl (lv_at hl 0 rfl) ?_
  refine lv_aload_n S.1 S.2.1 dX1_share_30 rfl (lv_at hl 0 rfl) ?_
  refine ggX1_51 S X hw dX1_share_31 h (fun a3 h => ?_)
  refine lv_iload_n S.1 S.2.1 dX1_share_34 rfl (lv_at hl 1 rfl) ?_
  obtain ⟨hrc, h⟩ := oK1 h
  refine gcVi (As := [.ref a3, .int x1]) (rest := []) S X Z hw (b := x0) h (fun u h1 => met_B_X1_due l E A LC LS x0 a3 x1 w u h1) (cb_X1_240 S.2.2.2.2 rfl rfl ⟨Nat.le_trans (Nat.le_of_ble_eq_true rfl : 1103 + 1 ≤ 1105) hF, Nat.le_trans (Nat.le_of_ble_eq_true rfl : 8 + (3 + 11) + 33076 ≤ 33121) hL⟩) (g_recv X hw (ci := 0) rfl (gcell_1 hrc)) rfl hl.1 rfl (lv_room (Nat.le_of_ble_eq_true rfl)) dX1_share_35 (fun r5 w4 H locs h hw => ?_)
  refine lv_aload_n S.1 S.2.1 dX1_share_38 rfl (lv_at hl 0 rfl) ?_
  refine lv_iload_n S.1 S.2.1 dX1_share_39 rfl (lv_at hl 1 rfl) ?_
  refine lv_iload_n S.1 S.2.1 dX1_share_40 rfl (lv_at hl 2 rfl) ?_
  obtain ⟨hrc, h⟩ := oK1 h
  refine gcVi (As := [.int x1, .int x2]) (rest := [.int r5]) S X Z hw (b := x0) h (fun u h1 => met_B_X1_saved l E A LC LS x0 x1 x2 w4 u h1) (cb_X1_369 S.2.2.2.2 rfl rfl ⟨Nat.le_trans (Nat.le_of_ble_eq_true rfl : 1104 + 1 ≤ 1105) hF, Nat.le_trans (Nat.le_of_ble_eq_true rfl : 8 + (4 + 11) + 33098 ≤ 33121) hL⟩) (g_recv X hw (ci := 0) rfl (gcell_1 hrc)) rfl hl.1 rfl (lv_room (Nat.le_of_ble_eq_true rfl)) dX1_share_41 (fun r7 w6 H locs h hw => ?_)
  refine lv_iconst (v := 2) S.1 S.2.1 dX1_share_44 rfl ?_
  refine lv_idiv S.1 S.2.1 dX1_share_45 (by decide) ?_
  refine lv_isub S.1 S.2.1 dX1_share_46 ?_
  exact y_iret S Z hr hlocks hw (so1 h) dX1_share_47
set_option maxRecDepth 100000 in
set_option maxHeartbeats 4000000 in
theorem met_B_X1_share (l : Launch) (E : gE) (A : Nat → Prop) (LC LS : Nat) (hst : l.stackTraces = false) (x0 : Nat) (x1 : Int32) (x2 : Int32) (w : GS) (res : (Int32 ⊕ Unit) × GS) (h : B_X1_share x0 x1 x2 w = some res) : vx_Met l yX1_share (ws_ yX1_share cX1_share 3 (Option.some Jvm.ClassFile.FieldType.int)) (gRoom 1105 33121 LC LS w) (gPc E A LC LS [.ref x0, .int x1, .int x2] w) (gYi E A LC LS res) (gYX E A LC LS res) (LC - gZ w) (LS - gN w) A := by
  refine gMetx (by decide) rfl (Nat.le_of_ble_eq_true rfl) ?_
  intro p e s m below meth c R S hr hlocks hno X Z hF hL H ls hw hl
  replace hl : lv_has ls 3 [(0, .ref x0), (1, .int x1), (2, .int x2)] := hl
  unfold B_X1_share at h
  refine lv_aload_n S.1 S.2.1 dX1_share_0 rfl (lv_at hl 0 rfl) ?_
  refine lv_iload_n S.1 S.2.1 dX1_share_1 rfl (lv_at hl 1 rfl) ?_
  obtain ⟨hrc, h⟩ := oK1 h
  refine gcVri (As := [.int x1]) (rest := []) S X Z hw (b := x0) h (fun u h1 => met_B_X1_isHome l E A LC LS x0 x1 w u h1) (cb_X1_273 S.2.2.2.2 rfl rfl ⟨Nat.le_trans (Nat.le_of_ble_eq_true rfl : 3 + 1 ≤ 1105) hF, Nat.le_trans (Nat.le_of_ble_eq_true rfl : 8 + (2 + 11) + 61 ≤ 33121) hL⟩) (g_recv X hw (ci := 0) rfl (gcell_1 hrc)) rfl hl.1 rfl (lv_room (Nat.le_of_ble_eq_true rfl)) dX1_share_2 (fun r1 H locs h hw => ?_)
  refine lv_if_eq (tgt := 25) S.1 S.2.1 dX1_share_5 rfl (fun c2 => ?_) (fun c2 => ?_)
  · replace h := if_t c2 h
    refine lv_iconst (v := 0) S.1 S.2.1 dX1_share_25 rfl ?_
    exact wk_B_X1_share_p26 S X Z hF hL hr hlocks hno hst _ _ _ _ _ _ _ _ h hw (lv_sub hl [0, 1, 2] rfl)
  · replace h := if_f c2 h
    refine lv_aload_n S.1 S.2.1 dX1_share_8 rfl (lv_at hl 0 rfl) ?_
    refine lv_iload_n S.1 S.2.1 dX1_share_9 rfl (lv_at hl 2 rfl) ?_
    obtain ⟨hrc, h⟩ := oK1 h
    refine gcVri (As := [.int x2]) (rest := []) S X Z hw (b := x0) h (fun u h1 => met_B_X1_isHome l E A LC LS x0 x2 w u h1) (cb_X1_273 S.2.2.2.2 rfl rfl ⟨Nat.le_trans (Nat.le_of_ble_eq_true rfl : 3 + 1 ≤ 1105) hF, Nat.le_trans (Nat.le_of_ble_eq_true rfl : 8 + (2 + 11) + 61 ≤ 33121) hL⟩) (g_recv X hw (ci := 0) rfl (gcell_1 hrc)) rfl hl.1 rfl (lv_room (Nat.le_of_ble_eq_true rfl)) dX1_share_10 (fun r8 H locs h hw => ?_)
    refine lv_if_eq (tgt := 25) S.1 S.2.1 dX1_share_13 rfl (fun c9 => ?_) (fun c9 => ?_)
    · replace h := if_t c9 h
      refine lv_iconst (v := 0) S.1 S.2.1 dX1_share_25 rfl ?_
      exact wk_B_X1_share_p26 S X Z hF hL hr hlocks hno hst _ _ _ _ _ _ _ _ h hw (lv_sub hl [0, 1, 2] rfl)
    · replace h := if_f c9 h
      refine lv_iload_n S.1 S.2.1 dX1_share_16 rfl (lv_at hl 1 rfl) ?_
      refine lv_iload_n S.1 S.2.1 dX1_share_17 rfl (lv_at hl 2 rfl) ?_
      refine lv_icmp_eq (tgt := 25) S.1 S.2.1 dX1_share_18 rfl (fun c10 => ?_) (fun c10 => ?_)
      · replace h := if_t c10 h
        refine lv_iconst (v := 0) S.1 S.2.1 dX1_share_25 rfl ?_
        exact wk_B_X1_share_p26 S X Z hF hL hr hlocks hno hst _ _ _ _ _ _ _ _ h hw (lv_sub hl [0, 1, 2] rfl)
      · replace h := if_f c10 h
        refine lv_iconst (v := 1) S.1 S.2.1 dX1_share_21 rfl ?_
        refine lv_goto (tgt := 26) S.1 S.2.1 dX1_share_22 rfl ?_
        exact wk_B_X1_share_p26 S X Z hF hL hr hlocks hno hst _ _ _ _ _ _ _ _ h hw (lv_sub hl [0, 1, 2] rfl)
