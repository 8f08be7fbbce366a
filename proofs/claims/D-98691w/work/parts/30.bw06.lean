/-! walks over the plain heap, printed by gen/bgen.py -/
set_option maxRecDepth 100000
theorem cb_X1_255 {R : Room} {s : State} {args : Array Value} {rm : Room} {mc ms : Nat} (hts : ∀ w ∈ lw_all, w.before args s = true) (hc : rm.cells = mc) (hs : rm.slots = ms) (hR : rm.frames + 1 ≤ R.frames ∧ 8 + (2 + 11) + rm.locals ≤ R.locals) : CallW R s args RX1 RX1 255 yX1_isRoom cX1_isRoom 2 (Option.some Jvm.ClassFile.FieldType.boolean) (ws_ yX1_isRoom cX1_isRoom 2 (Option.some Jvm.ClassFile.FieldType.boolean)) rm mc ms 1 := cwV 1 hts (lw_V q1271 q1273 qs29 q135 q1274) rfl hc hs (by decide +kernel) hR
theorem cb_X1_179 {R : Room} {s : State} {args : Array Value} {rm : Room} {mc ms : Nat} (hts : ∀ w ∈ lw_all, w.before args s = true) (hc : rm.cells = mc) (hs : rm.slots = ms) (hR : rm.frames + 1 ≤ R.frames ∧ 8 + (2 + 11) + rm.locals ≤ R.locals) : CallW R s args RX1 RX1 179 yX1_room_2 cX1_room_2 2 (Option.some (Jvm.ClassFile.FieldType.object "PulseRent$Room")) (ws_ yX1_room_2 cX1_room_2 2 (Option.some (Jvm.ClassFile.FieldType.object "PulseRent$Room"))) rm mc ms 1 := cwV 1 hts (lw_V q1283 q1285 qs31 q135 q1286) rfl hc hs (by decide +kernel) hR
theorem cb_X1_261 {R : Room} {s : State} {args : Array Value} {rm : Room} {mc ms : Nat} (hts : ∀ w ∈ lw_all, w.before args s = true) (hc : rm.cells = mc) (hs : rm.slots = ms) (hR : rm.frames + 1 ≤ R.frames ∧ 8 + (4 + 11) + rm.locals ≤ R.locals) : CallW R s args RX1 RX1 261 yX1_whoIn cX1_whoIn 4 (Option.some Jvm.ClassFile.FieldType.int) (ws_ yX1_whoIn cX1_whoIn 4 (Option.some Jvm.ClassFile.FieldType.int)) rm mc ms 2 := cwV 2 hts (lw_V q1289 q1291 qs32 q135 q1292) rfl hc hs (by decide +kernel) hR
def B_X1_room (x0 : Nat) (x1 : Int32) (x2 : Int32) (w : GS) : Option Int32 :=
  bd1 (oK w x0 1 1) fun _ =>
  bd1 (B_X1_isRoom x0 x1 w) fun r1 =>
  if r1 = 0 then
    some (-1 : Int32)
  else
    bd1 (oK w x0 1 1) fun _ =>
    bd1 (B_X1_room_2 x0 x1 w) fun a3 =>
    if x2 = (0 : Int32) then
      bd1 (oI w a3 7 7 1) fun v4 =>
      some v4
    else
      if x2 = (1 : Int32) then
        bd1 (oI w a3 7 7 2) fun v5 =>
        some v5
      else
        if x2 = (2 : Int32) then
          bd1 (oI w a3 7 7 3) fun v6 =>
          some v6
        else
          if x2 = (3 : Int32) then
            bd1 (oRn w x0 1 1 4) fun a7 =>
            bd1 (oK w x0 1 1) fun _ =>
            bd1 (B_X1_whoIn x0 a7 x1 w) fun r8 =>
            some r8
          else
            some (-1 : Int32)
set_option maxRecDepth 100000 in
set_option maxHeartbeats 4000000 in
theorem met_B_X1_room (l : Launch) (E : gE) (A : Nat → Prop) (LC LS : Nat)  (x0 : Nat) (x1 : Int32) (x2 : Int32) (w : GS) (res : Int32) (h : B_X1_room x0 x1 x2 w = some res) : Met l yX1_room (ws_ yX1_room cX1_room 4 (Option.some Jvm.ClassFile.FieldType.int)) (gRoom 4 85 LC LS w) (gPc E A LC LS [.ref x0, .int x1, .int x2] w) (gQi E A LC LS res w) (LC - gZ w) (LS - gN w) A := by
  refine gMet (by decide) rfl (Nat.le_of_ble_eq_true rfl) ?_
  intro p e s m below meth c R S hr hlocks hin2 X Z hF hL H ls hw hl
  replace hl : lv_has ls 4 [(0, .ref x0), (1, .int x1), (2, .int x2)] := hl
  unfold B_X1_room at h
  refine lv_aload_n S.1 S.2.1 dX1_room_0 rfl (lv_at hl 0 rfl) ?_
  refine lv_iload_n S.1 S.2.1 dX1_room_1 rfl (lv_at hl 1 rfl) ?_
  obtain ⟨hrc, h⟩ := oK1 h
  refine gcVri (As := [.int x1]) (rest := []) S X Z hw (b := x0) h (fun u h1 => met_B_X1_isRoom l E A LC LS x0 x1 w u h1) (cb_X1_255 S.2.2.2.2 rfl rfl ⟨Nat.le_trans (Nat.le_of_ble_eq_true rfl : 2 + 1 ≤ 4) hF, Nat.le_trans (Nat.le_of_ble_eq_true rfl : 8 + (2 + 11) + 40 ≤ 85) hL⟩) (g_recv X hw (ci := 0) rfl (gcell_1 hrc)) rfl hl.1 rfl (lv_room (Nat.le_of_ble_eq_true rfl)) dX1_room_2 (fun r1 H locs h hw => ?_)
  refine lv_if_ne (tgt := 10) S.1 S.2.1 dX1_room_5 rfl (fun c2 => ?_) (fun c2 => ?_)
  · replace h := if_f c2 h
    refine lv_aload_n S.1 S.2.1 dX1_room_10 rfl (lv_at hl 0 rfl) ?_
    refine lv_iload_n S.1 S.2.1 dX1_room_11 rfl (lv_at hl 1 rfl) ?_
    obtain ⟨hrc, h⟩ := oK1 h
    refine gcVrr (As := [.int x1]) (rest := []) S X Z hw (b := x0) h (fun u h1 => met_B_X1_room_2 l E A LC LS x0 x1 w u h1) (cb_X1_179 S.2.2.2.2 rfl rfl ⟨Nat.le_trans (Nat.le_of_ble_eq_true rfl : 3 + 1 ≤ 4) hF, Nat.le_trans (Nat.le_of_ble_eq_true rfl : 8 + (2 + 11) + 64 ≤ 85) hL⟩) (g_recv X hw (ci := 0) rfl (gcell_1 hrc)) rfl hl.1 rfl (lv_room (Nat.le_of_ble_eq_true rfl)) dX1_room_12 (fun a3 H locs h hw => ?_)
    refine lv_astore_n (lv' := [(3, .ref a3), (0, .ref x0), (1, .int x1), (2, .int x2)]) S.1 S.2.1 dX1_room_15 rfl hl (by decide) rfl (fun ls hl => ?_)
    refine lv_iload_n S.1 S.2.1 dX1_room_16 rfl (lv_at hl 3 rfl) ?_
    by_cases e0 : x2 = (0 : Int32)
    · replace h := if_t e0 h
      refine lv_tableIn (tgt := 48) S.1 S.2.1 dX1_room_17 (by rw [e0]; decide) (by rw [e0]; decide) (by rw [e0]; rfl) rfl ?_
      refine lv_aload_n S.1 S.2.1 dX1_room_48 rfl (lv_at hl 0 rfl) ?_
      refine ggX1_258 S X hw dX1_room_49 h (fun v4 h => ?_)
      exact g_iret S Z hr hlocks hw ⟨so1 h, rfl⟩ dX1_room_52
    · replace h := if_f e0 h
      by_cases e1 : x2 = (1 : Int32)
      · replace h := if_t e1 h
        refine lv_tableIn (tgt := 53) S.1 S.2.1 dX1_room_17 (by rw [e1]; decide) (by rw [e1]; decide) (by rw [e1]; rfl) rfl ?_
        refine lv_aload_n S.1 S.2.1 dX1_room_53 rfl (lv_at hl 0 rfl) ?_
        refine ggX1_182 S X hw dX1_room_54 h (fun v5 h => ?_)
        exact g_iret S Z hr hlocks hw ⟨so1 h, rfl⟩ dX1_room_57
      · replace h := if_f e1 h
        by_cases e2 : x2 = (2 : Int32)
        · replace h := if_t e2 h
          refine lv_tableIn (tgt := 58) S.1 S.2.1 dX1_room_17 (by rw [e2]; decide) (by rw [e2]; decide) (by rw [e2]; rfl) rfl ?_
          refine lv_aload_n S.1 S.2.1 dX1_room_58 rfl (lv_at hl 0 rfl) ?_
          refine ggX1_231 S X hw dX1_room_59 h (fun v6 h => ?_)
          exact g_iret S Z hr hlocks hw ⟨so1 h, rfl⟩ dX1_room_62
        · replace h := if_f e2 h
          by_cases e3 : x2 = (3 : Int32)
          · replace h := if_t e3 h
            refine lv_tableIn (tgt := 63) S.1 S.2.1 dX1_room_17 (by rw [e3]; decide) (by rw [e3]; decide) (by rw [e3]; rfl) rfl ?_
            refine lv_aload_n S.1 S.2.1 dX1_room_63 rfl (lv_at hl 1 rfl) ?_
            refine lv_aload_n S.1 S.2.1 dX1_room_64 rfl (lv_at hl 1 rfl) ?_
            refine ggX1_51 S X hw dX1_room_65 h (fun a7 h => ?_)
            refine lv_iload_n S.1 S.2.1 dX1_room_68 rfl (lv_at hl 2 rfl) ?_
            obtain ⟨hrc, h⟩ := oK1 h
            refine gcVri (As := [.ref a7, .int x1]) (rest := []) S X Z hw (b := x0) h (fun u h1 => met_B_X1_whoIn l E A LC LS x0 a7 x1 w u h1) (cb_X1_261 S.2.2.2.2 rfl rfl ⟨Nat.le_trans (Nat.le_of_ble_eq_true rfl : 2 + 1 ≤ 4) hF, Nat.le_trans (Nat.le_of_ble_eq_true rfl : 8 + (4 + 11) + 40 ≤ 85) hL⟩) (g_recv X hw (ci := 0) rfl (gcell_1 hrc)) rfl hl.1 rfl (lv_room (Nat.le_of_ble_eq_true rfl)) dX1_room_69 (fun r8 H locs h hw => ?_)
            exact g_iret S Z hr hlocks hw ⟨so1 h, rfl⟩ dX1_room_72
          · replace h := if_f e3 h
            refine lv_tableOut (tgt := 73) S.1 S.2.1 dX1_room_17 (by have z0 := ne_toInt e0 (j := 0) rfl; have z1 := ne_toInt e1 (j := 1) rfl; have z2 := ne_toInt e2 (j := 2) rfl; have z3 := ne_toInt e3 (j := 3) rfl; omega) rfl ?_
            refine lv_iconst (v := -1) S.1 S.2.1 dX1_room_73 rfl ?_
            exact g_iret S Z hr hlocks hw ⟨so1 h, rfl⟩ dX1_room_74
  · replace h := if_t c2 h
    refine lv_iconst (v := -1) S.1 S.2.1 dX1_room_8 rfl ?_
    exact g_iret S Z hr hlocks hw ⟨so1 h, rfl⟩ dX1_room_9
def B_X1_isTenant (x0 : Nat) (x1 : Int32) (w : GS) : Option Int32 :=
  bd1 (oK w x0 1 1) fun _ =>
  bd1 (B_X1_tenants x0 w) fun r1 =>
  zb (B_X1_in x1 (0 : Int32) (r1 - (1 : Int32))) (some (B_X1_in x1 (0 : Int32) (r1 - (1 : Int32))))
set_option maxRecDepth 100000 in
set_option maxHeartbeats 4000000 in
theorem met_B_X1_isTenant (l : Launch) (E : gE) (A : Nat → Prop) (LC LS : Nat)  (x0 : Nat) (x1 : Int32) (w : GS) (res : Int32) (h : B_X1_isTenant x0 x1 w = some res) : Met l yX1_isTenant (ws_ yX1_isTenant cX1_isTenant 2 (Option.some Jvm.ClassFile.FieldType.boolean)) (gRoom 2 40 LC LS w) (gPc E A LC LS [.ref x0, .int x1] w) (gQi E A LC LS res w) (LC - gZ w) (LS - gN w) A := by
  refine gMet (by decide) rfl (Nat.le_of_ble_eq_true rfl) ?_
  intro p e s m below meth c R S hr hlocks hin2 X Z hF hL H ls hw hl
  replace hl : lv_has ls 2 [(0, .ref x0), (1, .int x1)] := hl
  unfold B_X1_isTenant at h
  refine lv_iload_n S.1 S.2.1 dX1_isTenant_0 rfl (lv_at hl 1 rfl) ?_
  refine lv_iconst (v := 0) S.1 S.2.1 dX1_isTenant_1 rfl ?_
  refine lv_aload_n S.1 S.2.1 dX1_isTenant_2 rfl (lv_at hl 0 rfl) ?_
  obtain ⟨hrc, h⟩ := oK1 h
  refine gcVri (As := []) (rest := [.int (0 : Int32), .int x1]) S X Z hw (b := x0) h (fun u h1 => met_B_X1_tenants l E A LC LS x0 w u h1) (cb_X1_157 S.2.2.2.2 rfl rfl ⟨Nat.le_trans (Nat.le_of_ble_eq_true rfl : 1 + 1 ≤ 2) hF, Nat.le_trans (Nat.le_of_ble_eq_true rfl : 8 + (1 + 11) + 20 ≤ 40) hL⟩) (g_recv X hw (ci := 0) rfl (gcell_1 hrc)) rfl hl.1 rfl (lv_room (Nat.le_of_ble_eq_true rfl)) dX1_isTenant_3 (fun r1 H locs h hw => ?_)
  refine lv_iconst (v := 1) S.1 S.2.1 dX1_isTenant_6 rfl ?_
  refine lv_isub S.1 S.2.1 dX1_isTenant_7 ?_
  refine gcSti (As := [.int x1, .int (0 : Int32), .int (r1 - (1 : Int32))]) (rest := []) S X Z hw (met_B_X1_in l E A LC LS x1 (0 : Int32) (r1 - (1 : Int32)) w _ rfl) (cb_X1_153 S.2.2.2.2 rfl rfl ⟨Nat.le_trans (Nat.le_of_ble_eq_true rfl : 0 + 1 ≤ 2) hF, Nat.le_trans (Nat.le_of_ble_eq_true rfl : 8 + (3 + 11) + 0 ≤ 40) hL⟩) rfl hl.1 rfl (lv_room (Nat.le_of_ble_eq_true rfl)) dX1_isTenant_8 (fun H locs hw => ?_)
  exact g_zret S Z hr hlocks hw (by rcases (zb_some h).1 with e | e <;> rw [e] <;> rfl) ⟨so1 (zb_some h).2, rfl⟩ dX1_isTenant_11
def B_X1_tenant_2 (x0 : Nat) (x1 : Int32) (w : GS) : Option Nat :=
  bd1 (oRn w x0 1 1 2) fun a1 =>
  bd1 (oRn w a1 3 3 1) fun a2 =>
  bd1 (oK w a2 23 23) fun _ =>
  bd1 (B_J2_get a2 x1 w) fun a3 =>
  bd1 (oK w a3 8 11) fun _ =>
  some a3
set_option maxRecDepth 100000 in
set_option maxHeartbeats 4000000 in
theorem met_B_X1_tenant_2 (l : Launch) (E : gE) (A : Nat → Prop) (LC LS : Nat)  (x0 : Nat) (x1 : Int32) (w : GS) (res : Nat) (h : B_X1_tenant_2 x0 x1 w = some res) : Met l yX1_tenant_2 (ws_ yX1_tenant_2 cX1_tenant_2 2 (Option.some (Jvm.ClassFile.FieldType.object "PulseRent$Tenant"))) (gRoom 3 64 LC LS w) (gPc E A LC LS [.ref x0, .int x1] w) (gQr E A LC LS res w) (LC - gZ w) (LS - gN w) A := by
  refine gMet (by decide) rfl (Nat.le_of_ble_eq_true rfl) ?_
  intro p e s m below meth c R S hr hlocks hin2 X Z hF hL H ls hw hl
  replace hl : lv_has ls 2 [(0, .ref x0), (1, .int x1)] := hl
  unfold B_X1_tenant_2 at h
  refine lv_aload_n S.1 S.2.1 dX1_tenant_2_0 rfl (lv_at hl 0 rfl) ?_
  refine ggX1_35 S X hw dX1_tenant_2_1 h (fun a1 h => ?_)
  refine ggX1_146 S X hw dX1_tenant_2_4 h (fun a2 h => ?_)
  refine lv_iload_n S.1 S.2.1 dX1_tenant_2_7 rfl (lv_at hl 1 rfl) ?_
  obtain ⟨hrc, h⟩ := oK1 h
  refine gcVrr (As := [.int x1]) (rest := []) S X Z hw (b := a2) h (fun u h1 => met_B_J2_get l E A LC LS a2 x1 w u h1) (cb_X1_140 S.2.2.2.2 rfl rfl ⟨Nat.le_trans (Nat.le_of_ble_eq_true rfl : 2 + 1 ≤ 3) hF, Nat.le_trans (Nat.le_of_ble_eq_true rfl : 8 + (2 + 11) + 43 ≤ 64) hL⟩) (g_recv X hw (ci := 22) rfl (gcell_23 hrc)) rfl hl.1 rfl (lv_room (Nat.le_of_ble_eq_true rfl)) dX1_tenant_2_8 (fun a3 H locs h hw => ?_)
  refine gckX1_149 S X hw dX1_tenant_2_11 h (fun _ h => ?_)
  exact g_aret S Z hr (Or.inl ⟨_, rfl⟩) hlocks hw ⟨so1 h, rfl⟩ dX1_tenant_2_14
theorem cb_X1_159 {R : Room} {s : State} {args : Array Value} {rm : Room} {mc ms : Nat} (hts : ∀ w ∈ lw_all, w.before args s = true) (hc : rm.cells = mc) (hs : rm.slots = ms) (hR : rm.frames + 1 ≤ R.frames ∧ 8 + (2 + 11) + rm.locals ≤ R.locals) : CallW R s args RX1 RX1 159 yX1_isTenant cX1_isTenant 2 (Option.some Jvm.ClassFile.FieldType.boolean) (ws_ yX1_isTenant cX1_isTenant 2 (Option.some Jvm.ClassFile.FieldType.boolean)) rm mc ms 1 := cwV 1 hts (lw_V q1301 q1303 qs34 q135 q1304) rfl hc hs (by decide +kernel) hR
theorem cb_X1_166 {R : Room} {s : State} {args : Array Value} {rm : Room} {mc ms : Nat} (hts : ∀ w ∈ lw_all, w.before args s = true) (hc : rm.cells = mc) (hs : rm.slots = ms) (hR : rm.frames + 1 ≤ R.frames ∧ 8 + (2 + 11) + rm.locals ≤ R.locals) : CallW R s args RX1 RX1 166 yX1_tenant_2 cX1_tenant_2 2 (Option.some (Jvm.ClassFile.FieldType.object "PulseRent$Tenant")) (ws_ yX1_tenant_2 cX1_tenant_2 2 (Option.some (Jvm.ClassFile.FieldType.object "PulseRent$Tenant"))) rm mc ms 1 := cwV 1 hts (lw_V q1305 q1307 qs35 q135 q1308) rfl hc hs (by decide +kernel) hR
section
variable {p : Program} {l : Launch} {e : Env} {R : Room} {s : State} {m : MethodId} {args : Array Value} {below : List Frame} {meth : Method} {c : Code} {H : Heap} {locs : List Loc} {cells slots : Nat} {Q : State → Prop}
variable {cc : ByteArray} {nL pc : Nat} {ls : Array Slot} {rest : List Value} {A : Nat → Prop} {E : gE} {LC LS : Nat} {g : GS} {a : Nat} {β : Type} {r : β}
theorem dv_X1_234 {b : Nat} {F : Int32 → Option β} {o : Option (Int32)} {st : List Value} (S : CallFix p m c cc nL s args lw_all RX1) (X : gCtx E A s) (Z : gRm R s LC LS) (hw : gH E A LC LS s g H locs) (h : bd1 o F = some r) (hM : ∀ u, o = some u → vt_kind l E A LC LS b g u) (hR : 0 + 1 ≤ R.frames ∧ 8 + (1 + 11) + (0) ≤ R.locals) (hz : ls.size = nL) (hst : st = ([].reverse ++ .ref b :: rest)) (hrm : 2 * (F0 m pc ls st).monitorRoom + (rest.map fun v => v.category).sum ≤ 8) (hd : decode cc pc = .ok (.invokevirtual 234, 3)) (kk : ∀ (v : Int32) (H : Heap) (locs : List Loc), F v = some r → gH E A LC LS s g H locs → W p l e R s m args below meth c H locs (H.size - s.heap.size) (tot H - tot s.heap) Q (F0 m (pc + 3) ls (.int v :: rest))) : W p l e R s m args below meth c H locs (H.size - s.heap.size) (tot H - tot s.heap) Q (F0 m pc ls st) := by
  obtain ⟨u, h1, h2⟩ := bd1_some h
  have hm := hM u h1
  unfold vt_kind at hm
  rcases hm with ⟨ht, hm⟩ | ⟨ht, hm⟩ | ⟨ht, hm⟩ | ⟨ht, hm⟩
  · have cw : va_CU R s args RX1 RX8 "PulseRent$Tenant" 234 yX8_kind yX8_kind cX8_kind 1 (Option.some Jvm.ClassFile.FieldType.int) (ws_ yX8_kind cX8_kind 1 (Option.some Jvm.ClassFile.FieldType.int)) (gRoom (0) (0) LC LS g) (LC - gZ g) (LS - gN g) 0 := va_cwU 0 S.2.2.2.2 (lw_app (by intro w hw; simp only [List.mem_cons, List.not_mem_nil, or_false] at hw; rcases hw with e | e | e | e | e <;> rw [e]; exact q1310; exact q1313; exact q1312; exact q1311; exact q160) (lw_meth q1323)) rfl rfl rfl rfl (by decide +kernel) ⟨hR.1, Nat.le_trans (Nat.add_le_add_right (Nat.le_of_ble_eq_true rfl : 8 + (1 + 11) ≤ 8 + (1 + 11)) _) hR.2⟩
    exact gcHri (As := []) (rest := rest) S X Z hw h (fun u1 e1 => by rw [h1] at e1; cases e1; exact hm) cw (g_recv X hw (ci := 7) rfl (gcell_8 ht)) rfl hz hst hrm hd kk
  · have cw : va_CU R s args RX1 RX9 "PulseRent$Tenant" 234 yX8_kind yX9_kind cX9_kind 1 (Option.some Jvm.ClassFile.FieldType.int) (ws_ yX9_kind cX9_kind 1 (Option.some Jvm.ClassFile.FieldType.int)) (gRoom (0) (0) LC LS g) (LC - gZ g) (LS - gN g) 0 := va_cwO 0 S.2.2.2.2 (lw_app (by intro w hw; simp only [List.mem_cons, List.not_mem_nil, or_false] at hw; rcases hw with e | e | e | e | e | e <;> rw [e]; exact q1310; exact q1313; exact q1311; exact q1314; exact q1315; exact q161) (lw_meth q1316)) rfl rfl rfl q1323 (by decide +kernel) ⟨hR.1, Nat.le_trans (Nat.add_le_add_right (Nat.le_of_ble_eq_true rfl : 8 + (1 + 11) ≤ 8 + (1 + 11)) _) hR.2⟩
    exact gcHri (As := []) (rest := rest) S X Z hw h (fun u1 e1 => by rw [h1] at e1; cases e1; exact hm) cw (g_recv X hw (ci := 8) rfl (gcell_9 ht)) rfl hz hst hrm hd kk
  · have cw : va_CU R s args RX1 RX10 "PulseRent$Tenant" 234 yX8_kind yX10_kind cX10_kind 1 (Option.some Jvm.ClassFile.FieldType.int) (ws_ yX10_kind cX10_kind 1 (Option.some Jvm.ClassFile.FieldType.int)) (gRoom (0) (0) LC LS g) (LC - gZ g) (LS - gN g) 0 := va_cwO 0 S.2.2.2.2 (lw_app (by intro w hw; simp only [List.mem_cons, List.not_mem_nil, or_false] at hw; rcases hw with e | e | e | e | e | e <;> rw [e]; exact q1310; exact q1313; exact q1311; exact q1317; exact q1318; exact q162) (lw_meth q1319)) rfl rfl rfl q1323 (by decide +kernel) ⟨hR.1, Nat.le_trans (Nat.add_le_add_right (Nat.le_of_ble_eq_true rfl : 8 + (1 + 11) ≤ 8 + (1 + 11)) _) hR.2⟩
    exact gcHri (As := []) (rest := rest) S X Z hw h (fun u1 e1 => by rw [h1] at e1; cases e1; exact hm) cw (g_recv X hw (ci := 9) rfl (gcell_10 ht)) rfl hz hst hrm hd kk
  · have cw : va_CU R s args RX1 RX11 "PulseRent$Tenant" 234 yX8_kind yX11_kind cX11_kind 1 (Option.some Jvm.ClassFile.FieldType.int) (ws_ yX11_kind cX11_kind 1 (Option.some Jvm.ClassFile.FieldType.int)) (gRoom (0) (0) LC LS g) (LC - gZ g) (LS - gN g) 0 := va_cwO 0 S.2.2.2.2 (lw_app (by intro w hw; simp only [List.mem_cons, List.not_mem_nil, or_false] at hw; rcases hw with e | e | e | e | e | e <;> rw [e]; exact q1310; exact q1313; exact q1311; exact q1320; exact q1321; exact q163) (lw_meth q1322)) rfl rfl rfl q1323 (by decide +kernel) ⟨hR.1, Nat.le_trans (Nat.add_le_add_right (Nat.le_of_ble_eq_true rfl : 8 + (1 + 11) ≤ 8 + (1 + 11)) _) hR.2⟩
    exact gcHri (As := []) (rest := rest) S X Z hw h (fun u1 e1 => by rw [h1] at e1; cases e1; exact hm) cw (g_recv X hw (ci := 10) rfl (gcell_11 ht)) rfl hz hst hrm hd kk
end
theorem cb_X1_252 {R : Room} {s : State} {args : Array Value} {rm : Room} {mc ms : Nat} (hts : ∀ w ∈ lw_all, w.before args s = true) (hc : rm.cells = mc) (hs : rm.slots = ms) (hR : rm.frames + 1 ≤ R.frames ∧ 8 + (2 + 11) + rm.locals ≤ R.locals) : CallB R s args RX1 252 yX1_isIn cX1_isIn 2 (Option.some Jvm.ClassFile.FieldType.boolean) (ws_ yX1_isIn cX1_isIn 2 (Option.some Jvm.ClassFile.FieldType.boolean)) rm mc ms 2 ∧ (Cond.static yX1_isIn).before args s = true := va_cwS 2 hts (lw_S q1324 q1072 q135 q1073) rfl hc hs (by decide +kernel) hR
def B_X1_tenant (x0 : Nat) (x1 : Int32) (x2 : Int32) (w : GS) : Option Int32 :=
  bd1 (oK w x0 1 1) fun _ =>
  bd1 (B_X1_isTenant x0 x1 w) fun r1 =>
  if r1 = 0 then
    some (-1 : Int32)
  else
    if x2 = (0 : Int32) then
      bd1 (oK w x0 1 1) fun _ =>
      bd1 (B_X1_tenant_2 x0 x1 w) fun a3 =>
      bd1 (V_kind a3 w) fun r4 =>
      some r4
    else
      if x2 = (1 : Int32) then
        bd1 (oK w x0 1 1) fun _ =>
        bd1 (B_X1_tenant_2 x0 x1 w) fun a5 =>
        bd1 (oI w a5 8 11 1) fun v6 =>
        some v6
      else
        if x2 = (2 : Int32) then
          bd1 (oK w x0 1 1) fun _ =>
          bd1 (B_X1_tenant_2 x0 x1 w) fun a7 =>
          bd1 (oI w a7 8 11 2) fun v8 =>
          some v8
        else
          if x2 = (3 : Int32) then
            bd1 (oRn w x0 1 1 4) fun a9 =>
            bd1 (oRn w a9 4 4 5) fun a10 =>
            bd1 (aI w a10 40 x1) fun v11 =>
            some v11
          else
            if x2 = (4 : Int32) then
              bd1 (oRn w x0 1 1 4) fun a12 =>
              bd1 (oRn w a12 4 4 0) fun a13 =>
              bd1 (aI w a13 40 x1) fun v14 =>
              some v14
            else
              if x2 = (5 : Int32) then
                bd1 (oRn w x0 1 1 4) fun a15 =>
                bd1 (oRn w a15 4 4 1) fun a16 =>
                bd1 (aI w a16 40 x1) fun v17 =>
                some v17
              else
                if x2 = (6 : Int32) then
                  bd1 (oRn w x0 1 1 4) fun a18 =>
                  bd1 (oRn w a18 4 4 2) fun a19 =>
                  bd1 (aI w a19 40 x1) fun v20 =>
                  some v20
                else
                  if x2 = (7 : Int32) then
                    bd1 (oRn w x0 1 1 4) fun a21 =>
                    bd1 (oRn w a21 4 4 3) fun a22 =>
                    bd1 (aI w a22 40 x1) fun v23 =>
                    some v23
                  else
                    if x2 = (8 : Int32) then
                      bd1 (oRn w x0 1 1 4) fun a24 =>
                      bd1 (oRn w a24 4 4 4) fun a25 =>
                      bd1 (aI w a25 40 x1) fun v26 =>
                      some v26
                    else
                      if x2 = (9 : Int32) then
                        bd1 (oRn w x0 1 1 4) fun a27 =>
                        bd1 (oI w a27 4 4 7) fun v28 =>
                        if (B_X1_isIn v28 x1) = 0 then
                          some (0 : Int32)
                        else
                          some (1 : Int32)
                      else
                        some (-1 : Int32)
set_option maxRecDepth 100000 in
set_option maxHeartbeats 4000000 in
theorem met_B_X1_tenant (l : Launch) (E : gE) (A : Nat → Prop) (LC LS : Nat)  (x0 : Nat) (x1 : Int32) (x2 : Int32) (w : GS) (res : Int32) (h : B_X1_tenant x0 x1 x2 w = some res) : Met l yX1_tenant (ws_ yX1_tenant cX1_tenant 3 (Option.some Jvm.ClassFile.FieldType.int)) (gRoom 4 85 LC LS w) (gPc E A LC LS [.ref x0, .int x1, .int x2] w) (gQi E A LC LS res w) (LC - gZ w) (LS - gN w) A := by
  refine gMet (by decide) rfl (Nat.le_of_ble_eq_true rfl) ?_
  intro p e s m below meth c R S hr hlocks hin2 X Z hF hL H ls hw hl
  replace hl : lv_has ls 3 [(0, .ref x0), (1, .int x1), (2, .int x2)] := hl
  unfold B_X1_tenant at h
  refine lv_aload_n S.1 S.2.1 dX1_tenant_0 rfl (lv_at hl 0 rfl) ?_
  refine lv_iload_n S.1 S.2.1 dX1_tenant_1 rfl (lv_at hl 1 rfl) ?_
  obtain ⟨hrc, h⟩ := oK1 h
  refine gcVri (As := [.int x1]) (rest := []) S X Z hw (b := x0) h (fun u h1 => met_B_X1_isTenant l E A LC LS x0 x1 w u h1) (cb_X1_159 S.2.2.2.2 rfl rfl ⟨Nat.le_trans (Nat.le_of_ble_eq_true rfl : 2 + 1 ≤ 4) hF, Nat.le_trans (Nat.le_of_ble_eq_true rfl : 8 + (2 + 11) + 40 ≤ 85) hL⟩) (g_recv X hw (ci := 0) rfl (gcell_1 hrc)) rfl hl.1 rfl (lv_room (Nat.le_of_ble_eq_true rfl)) dX1_tenant_2 (fun r1 H locs h hw => ?_)
  refine lv_if_ne (tgt := 10) S.1 S.2.1 dX1_tenant_5 rfl (fun c2 => ?_) (fun c2 => ?_)
  · replace h := if_f c2 h
    refine lv_iload_n S.1 S.2.1 dX1_tenant_10 rfl (lv_at hl 2 rfl) ?_
    by_cases e0 : x2 = (0 : Int32)
    · replace h := if_t e0 h
      refine lv_tableIn (tgt := 64) S.1 S.2.1 dX1_tenant_11 (by rw [e0]; decide) (by rw [e0]; decide) (by rw [e0]; rfl) rfl ?_
      refine lv_aload_n S.1 S.2.1 dX1_tenant_64 rfl (lv_at hl 0 rfl) ?_
      refine lv_iload_n S.1 S.2.1 dX1_tenant_65 rfl (lv_at hl 1 rfl) ?_
      obtain ⟨hrc, h⟩ := oK1 h
      refine gcVrr (As := [.int x1]) (rest := []) S X Z hw (b := x0) h (fun u h1 => met_B_X1_tenant_2 l E A LC LS x0 x1 w u h1) (cb_X1_166 S.2.2.2.2 rfl rfl ⟨Nat.le_trans (Nat.le_of_ble_eq_true rfl : 3 + 1 ≤ 4) hF, Nat.le_trans (Nat.le_of_ble_eq_true rfl : 8 + (2 + 11) + 64 ≤ 85) hL⟩) (g_recv X hw (ci := 0) rfl (gcell_1 hrc)) rfl hl.1 rfl (lv_room (Nat.le_of_ble_eq_true rfl)) dX1_tenant_66 (fun a3 H locs h hw => ?_)
      refine dv_X1_234  (rest := []) S X Z hw h (fun u h1 => dm_kind l E A LC LS a3 w u h1) ⟨Nat.le_trans (Nat.le_of_ble_eq_true rfl : 0 + 1 ≤ 4) hF, Nat.le_trans (Nat.le_of_ble_eq_true rfl : 8 + (1 + 11) + 0 ≤ 85) hL⟩ hl.1 rfl (lv_room (Nat.le_of_ble_eq_true rfl)) dX1_tenant_69 (fun r4 H locs h hw => ?_)
      exact g_iret S Z hr hlocks hw ⟨so1 h, rfl⟩ dX1_tenant_72
    · replace h := if_f e0 h
      by_cases e1 : x2 = (1 : Int32)
      · replace h := if_t e1 h
        refine lv_tableIn (tgt := 73) S.1 S.2.1 dX1_tenant_11 (by rw [e1]; decide) (by rw [e1]; decide) (by rw [e1]; rfl) rfl ?_
        refine lv_aload_n S.1 S.2.1 dX1_tenant_73 rfl (lv_at hl 0 rfl) ?_
        refine lv_iload_n S.1 S.2.1 dX1_tenant_74 rfl (lv_at hl 1 rfl) ?_
        obtain ⟨hrc, h⟩ := oK1 h
        refine gcVrr (As := [.int x1]) (rest := []) S X Z hw (b := x0) h (fun u h1 => met_B_X1_tenant_2 l E A LC LS x0 x1 w u h1) (cb_X1_166 S.2.2.2.2 rfl rfl ⟨Nat.le_trans (Nat.le_of_ble_eq_true rfl : 3 + 1 ≤ 4) hF, Nat.le_trans (Nat.le_of_ble_eq_true rfl : 8 + (2 + 11) + 64 ≤ 85) hL⟩) (g_recv X hw (ci := 0) rfl (gcell_1 hrc)) rfl hl.1 rfl (lv_room (Nat.le_of_ble_eq_true rfl)) dX1_tenant_75 (fun a5 H locs h hw => ?_)
        refine ggX1_264 S X hw dX1_tenant_78 h (fun v6 h => ?_)
        exact g_iret S Z hr hlocks hw ⟨so1 h, rfl⟩ dX1_tenant_81
      · replace h := if_f e1 h
        by_cases e2 : x2 = (2 : Int32)
        · replace h := if_t e2 h
          refine lv_tableIn (tgt := 82) S.1 S.2.1 dX1_tenant_11 (by rw [e2]; decide) (by rw [e2]; decide) (by rw [e2]; rfl) rfl ?_
          refine lv_aload_n S.1 S.2.1 dX1_tenant_82 rfl (lv_at hl 0 rfl) ?_
          refine lv_iload_n S.1 S.2.1 dX1_tenant_83 rfl (lv_at hl 1 rfl) ?_
          obtain ⟨hrc, h⟩ := oK1 h
          refine gcVrr (As := [.int x1]) (rest := []) S X Z hw (b := x0) h (fun u h1 => met_B_X1_tenant_2 l E A LC LS x0 x1 w u h1) (cb_X1_166 S.2.2.2.2 rfl rfl ⟨Nat.le_trans (Nat.le_of_ble_eq_true rfl : 3 + 1 ≤ 4) hF, Nat.le_trans (Nat.le_of_ble_eq_true rfl : 8 + (2 + 11) + 64 ≤ 85) hL⟩) (g_recv X hw (ci := 0) rfl (gcell_1 hrc)) rfl hl.1 rfl (lv_room (Nat.le_of_ble_eq_true rfl)) dX1_tenant_84 (fun a7 H locs h hw => ?_)
          refine ggX1_267 S X hw dX1_tenant_87 h (fun v8 h => ?_)
          exact g_iret S Z hr hlocks hw ⟨so1 h, rfl⟩ dX1_tenant_90
        · replace h := if_f e2 h
          by_cases e3 : x2 = (3 : Int32)
          · replace h := if_t e3 h
            refine lv_tableIn (tgt := 91) S.1 S.2.1 dX1_tenant_11 (by rw [e3]; decide) (by rw [e3]; decide) (by rw [e3]; rfl) rfl ?_
            refine lv_aload_n S.1 S.2.1 dX1_tenant_91 rfl (lv_at hl 0 rfl) ?_
            refine ggX1_51 S X hw dX1_tenant_92 h (fun a9 h => ?_)
            refine ggX1_243 S X hw dX1_tenant_95 h (fun a10 h => ?_)
            refine lv_iload_n S.1 S.2.1 dX1_tenant_98 rfl (lv_at hl 1 rfl) ?_
            refine gald40 S X hw dX1_tenant_99 h (fun v11 h => ?_)
            exact g_iret S Z hr hlocks hw ⟨so1 h, rfl⟩ dX1_tenant_100
          · replace h := if_f e3 h
            by_cases e4 : x2 = (4 : Int32)
            · replace h := if_t e4 h
              refine lv_tableIn (tgt := 101) S.1 S.2.1 dX1_tenant_11 (by rw [e4]; decide) (by rw [e4]; decide) (by rw [e4]; rfl) rfl ?_
              refine lv_aload_n S.1 S.2.1 dX1_tenant_101 rfl (lv_at hl 0 rfl) ?_
              refine ggX1_51 S X hw dX1_tenant_102 h (fun a12 h => ?_)
              refine ggX1_176 S X hw dX1_tenant_105 h (fun a13 h => ?_)
              refine lv_iload_n S.1 S.2.1 dX1_tenant_108 rfl (lv_at hl 1 rfl) ?_
              refine gald40 S X hw dX1_tenant_109 h (fun v14 h => ?_)
              exact g_iret S Z hr hlocks hw ⟨so1 h, rfl⟩ dX1_tenant_110
            · replace h := if_f e4 h
              by_cases e5 : x2 = (5 : Int32)
              · replace h := if_t e5 h
                refine lv_tableIn (tgt := 111) S.1 S.2.1 dX1_tenant_11 (by rw [e5]; decide) (by rw [e5]; decide) (by rw [e5]; rfl) rfl ?_
                refine lv_aload_n S.1 S.2.1 dX1_tenant_111 rfl (lv_at hl 0 rfl) ?_
                refine ggX1_51 S X hw dX1_tenant_112 h (fun a15 h => ?_)
                refine ggX1_173 S X hw dX1_tenant_115 h (fun a16 h => ?_)
                refine lv_iload_n S.1 S.2.1 dX1_tenant_118 rfl (lv_at hl 1 rfl) ?_
                refine gald40 S X hw dX1_tenant_119 h (fun v17 h => ?_)
                exact g_iret S Z hr hlocks hw ⟨so1 h, rfl⟩ dX1_tenant_120
              · replace h := if_f e5 h
                by_cases e6 : x2 = (6 : Int32)
                · replace h := if_t e6 h
                  refine lv_tableIn (tgt := 121) S.1 S.2.1 dX1_tenant_11 (by rw [e6]; decide) (by rw [e6]; decide) (by rw [e6]; rfl) rfl ?_
                  refine lv_aload_n S.1 S.2.1 dX1_tenant_121 rfl (lv_at hl 0 rfl) ?_
                  refine ggX1_51 S X hw dX1_tenant_122 h (fun a18 h => ?_)
                  refine ggX1_185 S X hw dX1_tenant_125 h (fun a19 h => ?_)
                  refine lv_iload_n S.1 S.2.1 dX1_tenant_128 rfl (lv_at hl 1 rfl) ?_
                  refine gald40 S X hw dX1_tenant_129 h (fun v20 h => ?_)
                  exact g_iret S Z hr hlocks hw ⟨so1 h, rfl⟩ dX1_tenant_130
                · replace h := if_f e6 h
                  by_cases e7 : x2 = (7 : Int32)
                  · replace h := if_t e7 h
                    refine lv_tableIn (tgt := 131) S.1 S.2.1 dX1_tenant_11 (by rw [e7]; decide) (by rw [e7]; decide) (by rw [e7]; rfl) rfl ?_
                    refine lv_aload_n S.1 S.2.1 dX1_tenant_131 rfl (lv_at hl 0 rfl) ?_
                    refine ggX1_51 S X hw dX1_tenant_132 h (fun a21 h => ?_)
                    refine ggX1_270 S X hw dX1_tenant_135 h (fun a22 h => ?_)
                    refine lv_iload_n S.1 S.2.1 dX1_tenant_138 rfl (lv_at hl 1 rfl) ?_
                    refine gald40 S X hw dX1_tenant_139 h (fun v23 h => ?_)
                    exact g_iret S Z hr hlocks hw ⟨so1 h, rfl⟩ dX1_tenant_140
                  · replace h := if_f e7 h
                    by_cases e8 : x2 = (8 : Int32)
                    · replace h := if_t e8 h
                      refine lv_tableIn (tgt := 141) S.1 S.2.1 dX1_tenant_11 (by rw [e8]; decide) (by rw [e8]; decide) (by rw [e8]; rfl) rfl ?_
                      refine lv_aload_n S.1 S.2.1 dX1_tenant_141 rfl (lv_at hl 0 rfl) ?_
                      refine ggX1_51 S X hw dX1_tenant_142 h (fun a24 h => ?_)
                      refine ggX1_199 S X hw dX1_tenant_145 h (fun a25 h => ?_)
                      refine lv_iload_n S.1 S.2.1 dX1_tenant_148 rfl (lv_at hl 1 rfl) ?_
                      refine gald40 S X hw dX1_tenant_149 h (fun v26 h => ?_)
                      exact g_iret S Z hr hlocks hw ⟨so1 h, rfl⟩ dX1_tenant_150
                    · replace h := if_f e8 h
                      by_cases e9 : x2 = (9 : Int32)
                      · replace h := if_t e9 h
                        refine lv_tableIn (tgt := 151) S.1 S.2.1 dX1_tenant_11 (by rw [e9]; decide) (by rw [e9]; decide) (by rw [e9]; rfl) rfl ?_
                        refine lv_aload_n S.1 S.2.1 dX1_tenant_151 rfl (lv_at hl 0 rfl) ?_
                        refine ggX1_51 S X hw dX1_tenant_152 h (fun a27 h => ?_)
                        refine ggX1_249 S X hw dX1_tenant_155 h (fun v28 h => ?_)
                        refine lv_iload_n S.1 S.2.1 dX1_tenant_158 rfl (lv_at hl 1 rfl) ?_
                        refine gcSti (As := [.int v28, .int x1]) (rest := []) S X Z hw (met_B_X1_isIn l E A LC LS v28 x1 w _ rfl) (cb_X1_252 S.2.2.2.2 rfl rfl ⟨Nat.le_trans (Nat.le_of_ble_eq_true rfl : 0 + 1 ≤ 4) hF, Nat.le_trans (Nat.le_of_ble_eq_true rfl : 8 + (2 + 11) + 0 ≤ 85) hL⟩) rfl hl.1 rfl (lv_room (Nat.le_of_ble_eq_true rfl)) dX1_tenant_159 (fun H locs hw => ?_)
                        refine lv_if_eq (tgt := 169) S.1 S.2.1 dX1_tenant_162 rfl (fun c29 => ?_) (fun c29 => ?_)
                        · replace h := if_t c29 h
                          refine lv_iconst (v := 0) S.1 S.2.1 dX1_tenant_169 rfl ?_
                          exact g_iret S Z hr hlocks hw ⟨so1 h, rfl⟩ dX1_tenant_170
                        · replace h := if_f c29 h
                          refine lv_iconst (v := 1) S.1 S.2.1 dX1_tenant_165 rfl ?_
                          refine lv_goto (tgt := 170) S.1 S.2.1 dX1_tenant_166 rfl ?_
                          exact g_iret S Z hr hlocks hw ⟨so1 h, rfl⟩ dX1_tenant_170
                      · replace h := if_f e9 h
                        refine lv_tableOut (tgt := 171) S.1 S.2.1 dX1_tenant_11 (by have z0 := ne_toInt e0 (j := 0) rfl; have z1 := ne_toInt e1 (j := 1) rfl; have z2 := ne_toInt e2 (j := 2) rfl; have z3 := ne_toInt e3 (j := 3) rfl; have z4 := ne_toInt e4 (j := 4) rfl; have z5 := ne_toInt e5 (j := 5) rfl; have z6 := ne_toInt e6 (j := 6) rfl; have z7 := ne_toInt e7 (j := 7) rfl; have z8 := ne_toInt e8 (j := 8) rfl; have z9 := ne_toInt e9 (j := 9) rfl; omega) rfl ?_
                        refine lv_iconst (v := -1) S.1 S.2.1 dX1_tenant_171 rfl ?_
                        exact g_iret S Z hr hlocks hw ⟨so1 h, rfl⟩ dX1_tenant_172
  · replace h := if_t c2 h
    refine lv_iconst (v := -1) S.1 S.2.1 dX1_tenant_8 rfl ?_
    exact g_iret S Z hr hlocks hw ⟨so1 h, rfl⟩ dX1_tenant_9
def B_X4_isIn (x0 : Nat) (x1 : Int32) (w : GS) : Option Int32 :=
  bd1 (oRn w x0 4 4 0) fun a1 =>
  bd1 (aI w a1 40 x1) fun v2 =>
  if v2 < 0 then
    some (0 : Int32)
  else
    some (1 : Int32)
set_option maxRecDepth 100000 in
set_option maxHeartbeats 4000000 in
theorem met_B_X4_isIn (l : Launch) (E : gE) (A : Nat → Prop) (LC LS : Nat)  (x0 : Nat) (x1 : Int32) (w : GS) (res : Int32) (h : B_X4_isIn x0 x1 w = some res) : Met l yX4_isIn (ws_ yX4_isIn cX4_isIn 2 (Option.some Jvm.ClassFile.FieldType.boolean)) (gRoom 0 0 LC LS w) (gPc E A LC LS [.ref x0, .int x1] w) (gQi E A LC LS res w) (LC - gZ w) (LS - gN w) A := by
  refine gMet (by decide) rfl (Nat.le_of_ble_eq_true rfl) ?_
  intro p e s m below meth c R S hr hlocks hin2 X Z hF hL H ls hw hl
  replace hl : lv_has ls 2 [(0, .ref x0), (1, .int x1)] := hl
  unfold B_X4_isIn at h
  refine lv_aload_n S.1 S.2.1 dX4_isIn_0 rfl (lv_at hl 0 rfl) ?_
  refine ggX4_9 S X hw dX4_isIn_1 h (fun a1 h => ?_)
  refine lv_iload_n S.1 S.2.1 dX4_isIn_4 rfl (lv_at hl 1 rfl) ?_
  refine gald40 S X hw dX4_isIn_5 h (fun v2 h => ?_)
  refine lv_if_lt (tgt := 13) S.1 S.2.1 dX4_isIn_6 rfl (fun c3 => ?_) (fun c3 => ?_)
  · replace h := if_t c3 h
    refine lv_iconst (v := 0) S.1 S.2.1 dX4_isIn_13 rfl ?_
    exact g_zret S Z hr hlocks hw rfl ⟨so1 h, rfl⟩ dX4_isIn_14
  · replace h := if_f c3 h
    refine lv_iconst (v := 1) S.1 S.2.1 dX4_isIn_9 rfl ?_
    refine lv_goto (tgt := 14) S.1 S.2.1 dX4_isIn_10 rfl ?_
    exact g_zret S Z hr hlocks hw rfl ⟨so1 h, rfl⟩ dX4_isIn_14
theorem cb_X1_163 {R : Room} {s : State} {args : Array Value} {rm : Room} {mc ms : Nat} (hts : ∀ w ∈ lw_all, w.before args s = true) (hc : rm.cells = mc) (hs : rm.slots = ms) (hR : rm.frames + 1 ≤ R.frames ∧ 8 + (2 + 11) + rm.locals ≤ R.locals) : CallW R s args RX1 RX4 163 yX4_isIn cX4_isIn 2 (Option.some Jvm.ClassFile.FieldType.boolean) (ws_ yX4_isIn cX4_isIn 2 (Option.some Jvm.ClassFile.FieldType.boolean)) rm mc ms 1 := cwV 1 hts (lw_V q1333 q1334 q1335 q141 q1336) rfl hc hs (by decide +kernel) hR
def B_X1_isHome (x0 : Nat) (x1 : Int32) (w : GS) : Option Int32 :=
  bd1 (oK w x0 1 1) fun _ =>
  bd1 (B_X1_isTenant x0 x1 w) fun r1 =>
  if r1 = 0 then
    some (0 : Int32)
  else
    bd1 (oRn w x0 1 1 4) fun a3 =>
    bd1 (oK w a3 4 4) fun _ =>
    bd1 (B_X4_isIn a3 x1 w) fun r4 =>
    if r4 = 0 then
      some (0 : Int32)
    else
      some (1 : Int32)
set_option maxRecDepth 100000 in
set_option maxHeartbeats 4000000 in
theorem met_B_X1_isHome (l : Launch) (E : gE) (A : Nat → Prop) (LC LS : Nat)  (x0 : Nat) (x1 : Int32) (w : GS) (res : Int32) (h : B_X1_isHome x0 x1 w = some res) : Met l yX1_isHome (ws_ yX1_isHome cX1_isHome 2 (Option.some Jvm.ClassFile.FieldType.boolean)) (gRoom 3 61 LC LS w) (gPc E A LC LS [.ref x0, .int x1] w) (gQi E A LC LS res w) (LC - gZ w) (LS - gN w) A := by
  refine gMet (by decide) rfl (Nat.le_of_ble_eq_true rfl) ?_
  intro p e s m below meth c R S hr hlocks hin2 X Z hF hL H ls hw hl
  replace hl : lv_has ls 2 [(0, .ref x0), (1, .int x1)] := hl
  unfold B_X1_isHome at h
  refine lv_aload_n S.1 S.2.1 dX1_isHome_0 rfl (lv_at hl 0 rfl) ?_
  refine lv_iload_n S.1 S.2.1 dX1_isHome_1 rfl (lv_at hl 1 rfl) ?_
  obtain ⟨hrc, h⟩ := oK1 h
  refine gcVri (As := [.int x1]) (rest := []) S X Z hw (b := x0) h (fun u h1 => met_B_X1_isTenant l E A LC LS x0 x1 w u h1) (cb_X1_159 S.2.2.2.2 rfl rfl ⟨Nat.le_trans (Nat.le_of_ble_eq_true rfl : 2 + 1 ≤ 3) hF, Nat.le_trans (Nat.le_of_ble_eq_true rfl : 8 + (2 + 11) + 40 ≤ 61) hL⟩) (g_recv X hw (ci := 0) rfl (gcell_1 hrc)) rfl hl.1 rfl (lv_room (Nat.le_of_ble_eq_true rfl)) dX1_isHome_2 (fun r1 H locs h hw => ?_)
  refine lv_if_eq (tgt := 23) S.1 S.2.1 dX1_isHome_5 rfl (fun c2 => ?_) (fun c2 => ?_)
  · replace h := if_t c2 h
    refine lv_iconst (v := 0) S.1 S.2.1 dX1_isHome_23 rfl ?_
    exact g_zret S Z hr hlocks hw rfl ⟨so1 h, rfl⟩ dX1_isHome_24
  · replace h := if_f c2 h
    refine lv_aload_n S.1 S.2.1 dX1_isHome_8 rfl (lv_at hl 0 rfl) ?_
    refine ggX1_51 S X hw dX1_isHome_9 h (fun a3 h => ?_)
    refine lv_iload_n S.1 S.2.1 dX1_isHome_12 rfl (lv_at hl 1 rfl) ?_
    obtain ⟨hrc, h⟩ := oK1 h
    refine gcVri (As := [.int x1]) (rest := []) S X Z hw (b := a3) h (fun u h1 => met_B_X4_isIn l E A LC LS a3 x1 w u h1) (cb_X1_163 S.2.2.2.2 rfl rfl ⟨Nat.le_trans (Nat.le_of_ble_eq_true rfl : 0 + 1 ≤ 3) hF, Nat.le_trans (Nat.le_of_ble_eq_true rfl : 8 + (2 + 11) + 0 ≤ 61) hL⟩) (g_recv X hw (ci := 3) rfl (gcell_4 hrc)) rfl hl.1 rfl (lv_room (Nat.le_of_ble_eq_true rfl)) dX1_isHome_13 (fun r4 H locs h hw => ?_)
    refine lv_if_eq (tgt := 23) S.1 S.2.1 dX1_isHome_16 rfl (fun c5 => ?_) (fun c5 => ?_)
    · replace h := if_t c5 h
      refine lv_iconst (v := 0) S.1 S.2.1 dX1_isHome_23 rfl ?_
      exact g_zret S Z hr hlocks hw rfl ⟨so1 h, rfl⟩ dX1_isHome_24
    · replace h := if_f c5 h
      refine lv_iconst (v := 1) S.1 S.2.1 dX1_isHome_19 rfl ?_
      refine lv_goto (tgt := 24) S.1 S.2.1 dX1_isHome_20 rfl ?_
      exact g_zret S Z hr hlocks hw rfl ⟨so1 h, rfl⟩ dX1_isHome_24
theorem cb_X4_63 {R : Room} {s : State} {args : Array Value} {rm : Room} {mc ms : Nat} (hts : ∀ w ∈ lw_all, w.before args s = true) (hc : rm.cells = mc) (hs : rm.slots = ms) (hR : rm.frames + 1 ≤ R.frames ∧ 8 + (2 + 11) + rm.locals ≤ R.locals) : CallW R s args RX4 RX4 63 yX4_isIn cX4_isIn 2 (Option.some Jvm.ClassFile.FieldType.boolean) (ws_ yX4_isIn cX4_isIn 2 (Option.some Jvm.ClassFile.FieldType.boolean)) rm mc ms 1 := cwV 1 hts (lw_V q1359 q1334 q1335 q141 q1336) rfl hc hs (by decide +kernel) hR
def B_X4_in_p4 : Nat → Nat → Int32 → Int32 → GS → Option Int32
  | 0, _, _, _, _ => none
  | n + 1, x0, x1, x2, w =>
    if (6 : Int32) ≤ x2 then
      some x1
    else
      bd1 (oK w x0 4 4) fun _ =>
      bd1 (B_X4_isIn x0 x2 w) fun r2 =>
      if r2 = 0 then
        (B_X4_in_p4 n) x0 x1 (x2 + (1 : Int32)) w
      else
        bdp (x1 ||| ((1 : Int32) <<< (x2 &&& 31))) fun y4 =>
        (B_X4_in_p4 n) x0 y4 (x2 + (1 : Int32)) w
def B_X4_in (x0 : Nat) (w : GS) : Option Int32 :=
  B_X4_in_p4 FU x0 (0 : Int32) (0 : Int32) w
set_option maxRecDepth 100000 in
set_option maxHeartbeats 4000000 in
theorem wk_B_X4_in_p4 {p : Program} {l : Launch} {e : Env} {R : Room} {s : State} {m : MethodId} {args : Array Value} {below : List Frame} {meth : Method} {c : Code} {E : gE} {A : Nat → Prop} {LC LS : Nat} (S : CallFix p m c cX4_in 3 s args lw_all RX4) (X : gCtx E A s) (Z : gRm R s LC LS) (hF : 1 ≤ R.frames) (hL : 21 ≤ R.locals) (hr : meth.sig.returnType = (Option.some Jvm.ClassFile.FieldType.int)) (hlocks : meth.locks = false) {res : Int32}  : ∀ n : Nat, ∀ (x0 : Nat) (x1 : Int32) (x2 : Int32) (w : GS) (H : Heap) (locs : List Loc) (ls : Array Slot), B_X4_in_p4 n x0 x1 x2 w = some res → gH E A LC LS s w H locs → lv_has ls 3 [(0, .ref x0), (1, .int x1), (2, .int x2)] → W p l e R s m args below meth c H locs (H.size - s.heap.size) (tot H - tot s.heap) (MQ below (gQi E A LC LS res w) args s R.cells R.slots A) (F0 m 4 ls []) := by
  intro n
  induction n with
  | zero => intro x0 x1 x2 w H locs ls h; cases (show (none : Option Int32) = some res from h)
  | succ n ih =>
    intro x0 x1 x2 w H locs ls h hw hl
    rw [B_X4_in_p4] at h
    refine lv_iload_n S.1 S.2.1 dX4_in_4 rfl (lv_at hl 2 rfl) ?_
    refine lv_bipush (v := 6) S.1 S.2.1 dX4_in_5 rfl ?_
    refine lv_icmp_ge (tgt := 30) S.1 S.2.1 dX4_in_7 rfl (fun c1 => ?_) (fun c1 => ?_)
    · replace h := if_t c1 h
      refine lv_iload_n S.1 S.2.1 dX4_in_30 rfl (lv_at hl 1 rfl) ?_
      exact g_iret S Z hr hlocks hw ⟨so1 h, rfl⟩ dX4_in_31
    · replace h := if_f c1 h
      refine lv_aload_n S.1 S.2.1 dX4_in_10 rfl (lv_at hl 0 rfl) ?_
      refine lv_iload_n S.1 S.2.1 dX4_in_11 rfl (lv_at hl 2 rfl) ?_
      obtain ⟨hrc, h⟩ := oK1 h
      refine gcVri (As := [.int x2]) (rest := []) S X Z hw (b := x0) h (fun u h1 => met_B_X4_isIn l E A LC LS x0 x2 w u h1) (cb_X4_63 S.2.2.2.2 rfl rfl ⟨Nat.le_trans (Nat.le_of_ble_eq_true rfl : 0 + 1 ≤ 1) hF, Nat.le_trans (Nat.le_of_ble_eq_true rfl : 8 + (2 + 11) + 0 ≤ 21) hL⟩) (g_recv X hw (ci := 3) rfl (gcell_4 hrc)) rfl hl.1 rfl (lv_room (Nat.le_of_ble_eq_true rfl)) dX4_in_12 (fun r2 H locs h hw => ?_)
      refine lv_if_eq (tgt := 24) S.1 S.2.1 dX4_in_15 rfl (fun c3 => ?_) (fun c3 => ?_)
      · replace h := if_t c3 h
        refine lv_iinc (v := x2 + (1 : Int32)) (lv' := [(2, .int (x2 + (1 : Int32))), (0, .ref x0), (1, .int x1)]) S.1 S.2.1 dX4_in_24 hl (k := 2) rfl rfl (by decide) rfl (fun ls hl => ?_)
        refine lv_goto (tgt := 4) S.1 S.2.1 dX4_in_27 rfl ?_
        exact ih _ _ _ _ _ _ _ h hw (lv_sub hl [1, 2, 0] rfl)
      · replace h := if_f c3 h
        refine lv_iload_n S.1 S.2.1 dX4_in_18 rfl (lv_at hl 1 rfl) ?_
        refine lv_iconst (v := 1) S.1 S.2.1 dX4_in_19 rfl ?_
        refine lv_iload_n S.1 S.2.1 dX4_in_20 rfl (lv_at hl 2 rfl) ?_
        refine lv_ishl S.1 S.2.1 dX4_in_21 ?_
        refine lv_ior S.1 S.2.1 dX4_in_22 ?_
        refine lv_topi (fun y4 ey => ?_)
        replace h := bdp_e ey h
        refine lv_istore_n (lv' := [(1, .int y4), (0, .ref x0), (2, .int x2)]) S.1 S.2.1 dX4_in_23 rfl hl (by decide) rfl (fun ls hl => ?_)
        refine lv_iinc (v := x2 + (1 : Int32)) (lv' := [(2, .int (x2 + (1 : Int32))), (1, .int y4), (0, .ref x0)]) S.1 S.2.1 dX4_in_24 hl (k := 2) rfl rfl (by decide) rfl (fun ls hl => ?_)
        refine lv_goto (tgt := 4) S.1 S.2.1 dX4_in_27 rfl ?_
        exact ih _ _ _ _ _ _ _ h hw (lv_sub hl [2, 1, 0] rfl)
set_option maxRecDepth 100000 in
set_option maxHeartbeats 4000000 in
theorem met_B_X4_in (l : Launch) (E : gE) (A : Nat → Prop) (LC LS : Nat)  (x0 : Nat) (w : GS) (res : Int32) (h : B_X4_in x0 w = some res) : Met l yX4_in (ws_ yX4_in cX4_in 3 (Option.some Jvm.ClassFile.FieldType.int)) (gRoom 1 21 LC LS w) (gPc E A LC LS [.ref x0] w) (gQi E A LC LS res w) (LC - gZ w) (LS - gN w) A := by
  refine gMet (by decide) rfl (Nat.le_of_ble_eq_true rfl) ?_
  intro p e s m below meth c R S hr hlocks hin2 X Z hF hL H ls hw hl
  replace hl : lv_has ls 3 [(0, .ref x0)] := hl
  unfold B_X4_in at h
  refine lv_iconst (v := 0) S.1 S.2.1 dX4_in_0 rfl ?_
  refine lv_istore_n (lv' := [(1, .int (0 : Int32)), (0, .ref x0)]) S.1 S.2.1 dX4_in_1 rfl hl (by decide) rfl (fun ls hl => ?_)
  refine lv_iconst (v := 0) S.1 S.2.1 dX4_in_2 rfl ?_
  refine lv_istore_n (lv' := [(2, .int (0 : Int32)), (1, .int (0 : Int32)), (0, .ref x0)]) S.1 S.2.1 dX4_in_3 rfl hl (by decide) rfl (fun ls hl => ?_)
  exact wk_B_X4_in_p4 S X Z hF hL hr hlocks  FU _ _ _ _ _ _ _ h hw (lv_sub hl [2, 1, 0] rfl)
section
variable {p : Program} {l : Launch} {e : Env} {R : Room} {s : State} {m : MethodId} {args : Array Value} {below : List Frame} {meth : Method} {c : Code} {H : Heap} {locs : List Loc} {cells slots : Nat} {Q : State → Prop}
variable {cc : ByteArray} {nL pc : Nat} {ls : Array Slot} {rest : List Value} {A : Nat → Prop} {E : gE} {LC LS : Nat} {g : GS} {a : Nat} {β : Type} {r : β}
theorem dv_X1_170 {b : Nat} {F : Int32 → Option β} {o : Option (Int32)} {st : List Value} (S : CallFix p m c cc nL s args lw_all RX1) (X : gCtx E A s) (Z : gRm R s LC LS) (hw : gH E A LC LS s g H locs) (h : bd1 o F = some r) (hM : ∀ u, o = some u → vt_rest l E A LC LS b g u) (hR : 0 + 1 ≤ R.frames ∧ 8 + (1 + 11) + (0) ≤ R.locals) (hz : ls.size = nL) (hst : st = ([].reverse ++ .ref b :: rest)) (hrm : 2 * (F0 m pc ls st).monitorRoom + (rest.map fun v => v.category).sum ≤ 8) (hd : decode cc pc = .ok (.invokevirtual 170, 3)) (kk : ∀ (v : Int32) (H : Heap) (locs : List Loc), F v = some r → gH E A LC LS s g H locs → W p l e R s m args below meth c H locs (H.size - s.heap.size) (tot H - tot s.heap) Q (F0 m (pc + 3) ls (.int v :: rest))) : W p l e R s m args below meth c H locs (H.size - s.heap.size) (tot H - tot s.heap) Q (F0 m pc ls st) := by
  obtain ⟨u, h1, h2⟩ := bd1_some h
  have hm := hM u h1
  unfold vt_rest at hm
  rcases hm with ⟨ht, hm⟩ | ⟨ht, hm⟩ | ⟨ht, hm⟩ | ⟨ht, hm⟩
  · have cw : va_CU R s args RX1 RX8 "PulseRent$Tenant" 170 yX8_rest yX8_rest cX8_rest 1 (Option.some Jvm.ClassFile.FieldType.int) (ws_ yX8_rest cX8_rest 1 (Option.some Jvm.ClassFile.FieldType.int)) (gRoom (0) (0) LC LS g) (LC - gZ g) (LS - gN g) 0 := va_cwU 0 S.2.2.2.2 (lw_app (by intro w hw; simp only [List.mem_cons, List.not_mem_nil, or_false] at hw; rcases hw with e | e | e | e | e <;> rw [e]; exact q1345; exact q1348; exact q1347; exact q1346; exact q160) (lw_meth q1354)) rfl rfl rfl rfl (by decide +kernel) ⟨hR.1, Nat.le_trans (Nat.add_le_add_right (Nat.le_of_ble_eq_true rfl : 8 + (1 + 11) ≤ 8 + (1 + 11)) _) hR.2⟩
    exact gcHri (As := []) (rest := rest) S X Z hw h (fun u1 e1 => by rw [h1] at e1; cases e1; exact hm) cw (g_recv X hw (ci := 7) rfl (gcell_8 ht)) rfl hz hst hrm hd kk
  · have cw : va_CU R s args RX1 RX9 "PulseRent$Tenant" 170 yX8_rest yX8_rest cX8_rest 1 (Option.some Jvm.ClassFile.FieldType.int) (ws_ yX8_rest cX8_rest 1 (Option.some Jvm.ClassFile.FieldType.int)) (gRoom (0) (0) LC LS g) (LC - gZ g) (LS - gN g) 0 := va_cwU 0 S.2.2.2.2 (lw_app (by intro w hw; simp only [List.mem_cons, List.not_mem_nil, or_false] at hw; rcases hw with e | e | e | e | e <;> rw [e]; exact q1345; exact q1348; exact q1349; exact q1346; exact q160) (lw_meth q1354)) rfl rfl rfl rfl (by decide +kernel) ⟨hR.1, Nat.le_trans (Nat.add_le_add_right (Nat.le_of_ble_eq_true rfl : 8 + (1 + 11) ≤ 8 + (1 + 11)) _) hR.2⟩
    exact gcHri (As := []) (rest := rest) S X Z hw h (fun u1 e1 => by rw [h1] at e1; cases e1; exact hm) cw (g_recv X hw (ci := 8) rfl (gcell_9 ht)) rfl hz hst hrm hd kk
  · have cw : va_CU R s args RX1 RX10 "PulseRent$Tenant" 170 yX8_rest yX8_rest cX8_rest 1 (Option.some Jvm.ClassFile.FieldType.int) (ws_ yX8_rest cX8_rest 1 (Option.some Jvm.ClassFile.FieldType.int)) (gRoom (0) (0) LC LS g) (LC - gZ g) (LS - gN g) 0 := va_cwU 0 S.2.2.2.2 (lw_app (by intro w hw; simp only [List.mem_cons, List.not_mem_nil, or_false] at hw; rcases hw with e | e | e | e | e <;> rw [e]; exact q1345; exact q1348; exact q1350; exact q1346; exact q160) (lw_meth q1354)) rfl rfl rfl rfl (by decide +kernel) ⟨hR.1, Nat.le_trans (Nat.add_le_add_right (Nat.le_of_ble_eq_true rfl : 8 + (1 + 11) ≤ 8 + (1 + 11)) _) hR.2⟩
    exact gcHri (As := []) (rest := rest) S X Z hw h (fun u1 e1 => by rw [h1] at e1; cases e1; exact hm) cw (g_recv X hw (ci := 9) rfl (gcell_10 ht)) rfl hz hst hrm hd kk
  · have cw : va_CU R s args RX1 RX11 "PulseRent$Tenant" 170 yX8_rest yX11_rest cX11_rest 1 (Option.some Jvm.ClassFile.FieldType.int) (ws_ yX11_rest cX11_rest 1 (Option.some Jvm.ClassFile.FieldType.int)) (gRoom (0) (0) LC LS g) (LC - gZ g) (LS - gN g) 0 := va_cwO 0 S.2.2.2.2 (lw_app (by intro w hw; simp only [List.mem_cons, List.not_mem_nil, or_false] at hw; rcases hw with e | e | e | e | e | e <;> rw [e]; exact q1345; exact q1348; exact q1346; exact q1351; exact q1352; exact q163) (lw_meth q1353)) rfl rfl rfl q1354 (by decide +kernel) ⟨hR.1, Nat.le_trans (Nat.add_le_add_right (Nat.le_of_ble_eq_true rfl : 8 + (1 + 11) ≤ 8 + (1 + 11)) _) hR.2⟩
    exact gcHri (As := []) (rest := rest) S X Z hw h (fun u1 e1 => by rw [h1] at e1; cases e1; exact hm) cw (g_recv X hw (ci := 10) rfl (gcell_11 ht)) rfl hz hst hrm hd kk
end
theorem cb_X1_191 {R : Room} {s : State} {args : Array Value} {rm : Room} {mc ms : Nat} (hts : ∀ w ∈ lw_all, w.before args s = true) (hc : rm.cells = mc) (hs : rm.slots = ms) (hR : rm.frames + 1 ≤ R.frames ∧ 8 + (3 + 11) + rm.locals ≤ R.locals) : CallW R s args RX1 RX4 191 yX4_in cX4_in 3 (Option.some Jvm.ClassFile.FieldType.int) (ws_ yX4_in cX4_in 3 (Option.some Jvm.ClassFile.FieldType.int)) rm mc ms 0 := cwV 0 hts (lw_V q1355 q1356 q1357 q141 q1358) rfl hc hs (by decide +kernel) hR
def B_X1_pulse_2_p66 (x5 : Int32) (w : GS) : Option Int32 :=
  some (if x5 < (240 : Int32) then x5 else (240 : Int32))
def B_X1_pulse_2_p50 (x1 : Nat) (x4 : Nat) (x5 : Int32) (w : GS) : Option Int32 :=
  bd1 (oI w x4 8 11 5) fun v13 =>
  bd1 (oK w x1 4 4) fun _ =>
  bd1 (B_X4_in x1 w) fun r14 =>
  if (v13 &&& r14) = 0 then
    B_X1_pulse_2_p66 x5 w
  else
    B_X1_pulse_2_p66 (x5 + (8 : Int32)) w
def B_X1_pulse_2 (x0 : Nat) (x1 : Nat) (x2 : Int32) (x3 : Int32) (w : GS) : Option Int32 :=
  bd1 (oK w x0 1 1) fun _ =>
  bd1 (B_X1_tenant_2 x0 x2 w) fun a1 =>
  bd1 (V_rest a1 w) fun r2 =>
  bd1 (oRn w x1 4 4 1) fun a3 =>
  bd1 (aI w a3 40 x2) fun v4 =>
  bd1 (oRn w x1 4 4 0) fun a5 =>
  bd1 (aI w a5 40 x2) fun v6 =>
  bd1 (oK w x0 1 1) fun _ =>
  bd1 (B_X1_room_2 x0 v6 w) fun a7 =>
  bd1 (oI w a7 7 7 2) fun v8 =>
  bdp ((r2 + v4) + v8) fun y9 =>
  bd1 (oRn w x1 4 4 2) fun a10 =>
  bd1 (aI w a10 40 x2) fun v11 =>
  if v11 ≤ 0 then
    B_X1_pulse_2_p50 x1 a1 y9 w
  else
    bdp (y9 + x3) fun y16 =>
    B_X1_pulse_2_p50 x1 a1 y16 w
set_option maxRecDepth 100000 in
set_option maxHeartbeats 4000000 in
theorem wk_B_X1_pulse_2_p66 {p : Program} {l : Launch} {e : Env} {R : Room} {s : State} {m : MethodId} {args : Array Value} {below : List Frame} {meth : Method} {c : Code} {E : gE} {A : Nat → Prop} {LC LS : Nat} (S : CallFix p m c cX1_pulse_2 6 s args lw_all RX1) (X : gCtx E A s) (Z : gRm R s LC LS) (hF : 4 ≤ R.frames) (hL : 85 ≤ R.locals) (hr : meth.sig.returnType = (Option.some Jvm.ClassFile.FieldType.int)) (hlocks : meth.locks = false) {res : Int32}  : ∀ (x5 : Int32) (w : GS) (H : Heap) (locs : List Loc) (ls : Array Slot), B_X1_pulse_2_p66 x5 w = some res → gH E A LC LS s w H locs → lv_has ls 6 [(5, .int x5)] → W p l e R s m args below meth c H locs (H.size - s.heap.size) (tot H - tot s.heap) (MQ below (gQi E A LC LS res w) args s R.cells R.slots A) (F0 m 66 ls []) := by
  intro x5 w H locs ls h hw hl
  unfold B_X1_pulse_2_p66 at h
  refine lv_sipush (v := 240) S.1 S.2.1 dX1_pulse_2_66 rfl ?_
  refine lv_iload S.1 S.2.1 dX1_pulse_2_69 (lv_at hl 0 rfl) ?_
  refine va_mmin (x := (240 : Int32)) (y := x5) (rest := []) S.1 S.2.1 (S.2.2.1.trans hl.1.symm) S.2.2.2.1 (S.2.2.2.2 _ q1360) (S.2.2.2.2 _ q509) (S.2.2.2.2 _ q147) (S.2.2.2.2 _ q510) (Nat.le_trans (Nat.le_of_ble_eq_true rfl) hF) (Nat.le_trans (Nat.le_of_ble_eq_true rfl : (([] : List Value).map fun v : Value => v.category).sum + 13 ≤ 21) (Nat.le_trans (Nat.le_of_ble_eq_true rfl) hL)) (gRm_le Z hw).1 (gRm_le Z hw).2 dX1_pulse_2_71 ?_
  exact g_iret S Z hr hlocks hw ⟨so1 h, rfl⟩ dX1_pulse_2_74
set_option maxRecDepth 100000 in
set_option maxHeartbeats 4000000 in
theorem wk_B_X1_pulse_2_p50 {p : Program} {l : Launch} {e : Env} {R : Room} {s : State} {m : MethodId} {args : Array Value} {below : List Frame} {meth : Method} {c : Code} {E : gE} {A : Nat → Prop} {LC LS : Nat} (S : CallFix p m c cX1_pulse_2 6 s args lw_all RX1) (X : gCtx E A s) (Z : gRm R s LC LS) (hF : 4 ≤ R.frames) (hL : 85 ≤ R.locals) (hr : meth.sig.returnType = (Option.some Jvm.ClassFile.FieldType.int)) (hlocks : meth.locks = false) {res : Int32}  : ∀ (x1 : Nat) (x4 : Nat) (x5 : Int32) (w : GS) (H : Heap) (locs : List Loc) (ls : Array Slot), B_X1_pulse_2_p50 x1 x4 x5 w = some res → gH E A LC LS s w H locs → lv_has ls 6 [(1, .ref x1), (4, .ref x4), (5, .int x5)] → W p l e R s m args below meth c H locs (H.size - s.heap.size) (tot H - tot s.heap) (MQ below (gQi E A LC LS res w) args s R.cells R.slots A) (F0 m 50 ls []) := by
  intro x1 x4 x5 w H locs ls h hw hl
  unfold B_X1_pulse_2_p50 at h
  refine lv_aload S.1 S.2.1 dX1_pulse_2_50 (lv_at hl 1 rfl) ?_
  refine ggX1_188 S X hw dX1_pulse_2_52 h (fun v13 h => ?_)
  refine lv_aload_n S.1 S.2.1 dX1_pulse_2_55 rfl (lv_at hl 0 rfl) ?_
  obtain ⟨hrc, h⟩ := oK1 h
  refine gcVri (As := []) (rest := [.int v13]) S X Z hw (b := x1) h (fun u h1 => met_B_X4_in l E A LC LS x1 w u h1) (cb_X1_191 S.2.2.2.2 rfl rfl ⟨Nat.le_trans (Nat.le_of_ble_eq_true rfl : 1 + 1 ≤ 4) hF, Nat.le_trans (Nat.le_of_ble_eq_true rfl : 8 + (3 + 11) + 21 ≤ 85) hL⟩) (g_recv X hw (ci := 3) rfl (gcell_4 hrc)) rfl hl.1 rfl (lv_room (Nat.le_of_ble_eq_true rfl)) dX1_pulse_2_56 (fun r14 H locs h hw => ?_)
  refine lv_iand S.1 S.2.1 dX1_pulse_2_59 ?_
  refine lv_if_eq (tgt := 66) S.1 S.2.1 dX1_pulse_2_60 rfl (fun c15 => ?_) (fun c15 => ?_)
  · replace h := if_t c15 h
    exact wk_B_X1_pulse_2_p66 S X Z hF hL hr hlocks  _ _ _ _ _ h hw (lv_sub hl [2] rfl)
  · replace h := if_f c15 h
    refine lv_iinc (v := x5 + (8 : Int32)) (lv' := [(5, .int (x5 + (8 : Int32))), (1, .ref x1), (4, .ref x4)]) S.1 S.2.1 dX1_pulse_2_63 hl (k := 2) rfl rfl (by decide) rfl (fun ls hl => ?_)
    exact wk_B_X1_pulse_2_p66 S X Z hF hL hr hlocks  _ _ _ _ _ h hw (lv_sub hl [0] rfl)
set_option maxRecDepth 100000 in
set_option maxHeartbeats 4000000 in
theorem met_B_X1_pulse_2 (l : Launch) (E : gE) (A : Nat → Prop) (LC LS : Nat)  (x0 : Nat) (x1 : Nat) (x2 : Int32) (x3 : Int32) (w : GS) (res : Int32) (h : B_X1_pulse_2 x0 x1 x2 x3 w = some res) : Met l yX1_pulse_2 (ws_ yX1_pulse_2 cX1_pulse_2 6 (Option.some Jvm.ClassFile.FieldType.int)) (gRoom 4 85 LC LS w) (gPc E A LC LS [.ref x0, .ref x1, .int x2, .int x3] w) (gQi E A LC LS res w) (LC - gZ w) (LS - gN w) A := by
  refine gMet (by decide) rfl (Nat.le_of_ble_eq_true rfl) ?_
  intro p e s m below meth c R S hr hlocks hin2 X Z hF hL H ls hw hl
  replace hl : lv_has ls 6 [(0, .ref x0), (1, .ref x1), (2, .int x2), (3, .int x3)] := hl
  unfold B_X1_pulse_2 at h
  refine lv_aload_n S.1 S.2.1 dX1_pulse_2_0 rfl (lv_at hl 0 rfl) ?_
  refine lv_iload_n S.1 S.2.1 dX1_pulse_2_1 rfl (lv_at hl 2 rfl) ?_
  obtain ⟨hrc, h⟩ := oK1 h
  refine gcVrr (As := [.int x2]) (rest := []) S X Z hw (b := x0) h (fun u h1 => met_B_X1_tenant_2 l E A LC LS x0 x2 w u h1) (cb_X1_166 S.2.2.2.2 rfl rfl ⟨Nat.le_trans (Nat.le_of_ble_eq_true rfl : 3 + 1 ≤ 4) hF, Nat.le_trans (Nat.le_of_ble_eq_true rfl : 8 + (2 + 11) + 64 ≤ 85) hL⟩) (g_recv X hw (ci := 0) rfl (gcell_1 hrc)) rfl hl.1 rfl (lv_room (Nat.le_of_ble_eq_true rfl)) dX1_pulse_2_2 (fun a1 H locs h hw => ?_)
  refine lv_astore (lv' := [(4, .ref a1), (0, .ref x0), (1, .ref x1), (2, .int x2), (3, .int x3)]) S.1 S.2.1 dX1_pulse_2_5 hl (by decide) rfl (fun ls hl => ?_)
  refine lv_aload S.1 S.2.1 dX1_pulse_2_7 (lv_at hl 0 rfl) ?_
  refine dv_X1_170  (rest := []) S X Z hw h (fun u h1 => dm_rest l E A LC LS a1 w u h1) ⟨Nat.le_trans (Nat.le_of_ble_eq_true rfl : 0 + 1 ≤ 4) hF, Nat.le_trans (Nat.le_of_ble_eq_true rfl : 8 + (1 + 11) + 0 ≤ 85) hL⟩ hl.1 rfl (lv_room (Nat.le_of_ble_eq_true rfl)) dX1_pulse_2_9 (fun r2 H locs h hw => ?_)
  refine lv_aload_n S.1 S.2.1 dX1_pulse_2_12 rfl (lv_at hl 2 rfl) ?_
  refine ggX1_173 S X hw dX1_pulse_2_13 h (fun a3 h => ?_)
  refine lv_iload_n S.1 S.2.1 dX1_pulse_2_16 rfl (lv_at hl 3 rfl) ?_
  refine gald40 S X hw dX1_pulse_2_17 h (fun v4 h => ?_)
  refine lv_iadd S.1 S.2.1 dX1_pulse_2_18 ?_
  refine lv_aload_n S.1 S.2.1 dX1_pulse_2_19 rfl (lv_at hl 1 rfl) ?_
  refine lv_aload_n S.1 S.2.1 dX1_pulse_2_20 rfl (lv_at hl 2 rfl) ?_
  refine ggX1_176 S X hw dX1_pulse_2_21 h (fun a5 h => ?_)
  refine lv_iload_n S.1 S.2.1 dX1_pulse_2_24 rfl (lv_at hl 3 rfl) ?_
  refine gald40 S X hw dX1_pulse_2_25 h (fun v6 h => ?_)
  obtain ⟨hrc, h⟩ := oK1 h
  refine gcVrr (As := [.int v6]) (rest := [.int (r2 + v4)]) S X Z hw (b := x0) h (fun u h1 => met_B_X1_room_2 l E A LC LS x0 v6 w u h1) (cb_X1_179 S.2.2.2.2 rfl rfl ⟨Nat.le_trans (Nat.le_of_ble_eq_true rfl : 3 + 1 ≤ 4) hF, Nat.le_trans (Nat.le_of_ble_eq_true rfl : 8 + (2 + 11) + 64 ≤ 85) hL⟩) (g_recv X hw (ci := 0) rfl (gcell_1 hrc)) rfl hl.1 rfl (lv_room (Nat.le_of_ble_eq_true rfl)) dX1_pulse_2_26 (fun a7 H locs h hw => ?_)
  refine ggX1_182 S X hw dX1_pulse_2_29 h (fun v8 h => ?_)
  refine lv_iadd S.1 S.2.1 dX1_pulse_2_32 ?_
  refine lv_topi (fun y9 ey => ?_)
  replace h := bdp_e ey h
  refine lv_istore (lv' := [(5, .int y9), (4, .ref a1), (0, .ref x0), (1, .ref x1), (2, .int x2), (3, .int x3)]) S.1 S.2.1 dX1_pulse_2_33 hl (by decide) rfl (fun ls hl => ?_)
  refine lv_aload_n S.1 S.2.1 dX1_pulse_2_35 rfl (lv_at hl 3 rfl) ?_
  refine ggX1_185 S X hw dX1_pulse_2_36 h (fun a10 h => ?_)
  refine lv_iload_n S.1 S.2.1 dX1_pulse_2_39 rfl (lv_at hl 4 rfl) ?_
  refine gald40 S X hw dX1_pulse_2_40 h (fun v11 h => ?_)
  refine lv_if_le (tgt := 50) S.1 S.2.1 dX1_pulse_2_41 rfl (fun c12 => ?_) (fun c12 => ?_)
  · replace h := if_t c12 h
    exact wk_B_X1_pulse_2_p50 S X Z hF hL hr hlocks  _ _ _ _ _ _ _ h hw (lv_sub hl [3, 1, 0] rfl)
  · replace h := if_f c12 h
    refine lv_iload S.1 S.2.1 dX1_pulse_2_44 (lv_at hl 0 rfl) ?_
    refine lv_iload_n S.1 S.2.1 dX1_pulse_2_46 rfl (lv_at hl 5 rfl) ?_
    refine lv_iadd S.1 S.2.1 dX1_pulse_2_47 ?_
    refine lv_topi (fun y16 ey => ?_)
    replace h := bdp_e ey h
    refine lv_istore (lv' := [(5, .int y16), (4, .ref a1), (0, .ref x0), (1, .ref x1), (2, .int x2), (3, .int x3)]) S.1 S.2.1 dX1_pulse_2_48 hl (by decide) rfl (fun ls hl => ?_)
    exact wk_B_X1_pulse_2_p50 S X Z hF hL hr hlocks  _ _ _ _ _ _ _ h hw (lv_sub hl [3, 1, 0] rfl)
theorem cb_X1_273 {R : Room} {s : State} {args : Array Value} {rm : Room} {mc ms : Nat} (hts : ∀ w ∈ lw_all, w.before args s = true) (hc : rm.cells = mc) (hs : rm.slots = ms) (hR : rm.frames + 1 ≤ R.frames ∧ 8 + (2 + 11) + rm.locals ≤ R.locals) : CallW R s args RX1 RX1 273 yX1_isHome cX1_isHome 2 (Option.some Jvm.ClassFile.FieldType.boolean) (ws_ yX1_isHome cX1_isHome 2 (Option.some Jvm.ClassFile.FieldType.boolean)) rm mc ms 1 := cwV 1 hts (lw_V q1329 q1331 qs36 q135 q1332) rfl hc hs (by decide +kernel) hR
theorem cb_X1_210 {R : Room} {s : State} {args : Array Value} {rm : Room} {mc ms : Nat} (hts : ∀ w ∈ lw_all, w.before args s = true) (hc : rm.cells = mc) (hs : rm.slots = ms) (hR : rm.frames + 1 ≤ R.frames ∧ 8 + (1 + 11) + rm.locals ≤ R.locals) : CallW R s args RX1 RX3 210 yX3_brew cX3_brew 1 (Option.some Jvm.ClassFile.FieldType.int) (ws_ yX3_brew cX3_brew 1 (Option.some Jvm.ClassFile.FieldType.int)) rm mc ms 0 := cwV 0 hts (lw_V q1337 q1338 q1339 q137 q1340) rfl hc hs (by decide +kernel) hR
theorem cb_X1_202 {R : Room} {s : State} {args : Array Value} {rm : Room} {mc ms : Nat} (hts : ∀ w ∈ lw_all, w.before args s = true) (hc : rm.cells = mc) (hs : rm.slots = ms) (hR : rm.frames + 1 ≤ R.frames ∧ 8 + (6 + 11) + rm.locals ≤ R.locals) : CallW R s args RX1 RX1 202 yX1_pulse_2 cX1_pulse_2 6 (Option.some Jvm.ClassFile.FieldType.int) (ws_ yX1_pulse_2 cX1_pulse_2 6 (Option.some Jvm.ClassFile.FieldType.int)) rm mc ms 3 := cwV 3 hts (lw_V q1341 q1343 qs37 q135 q1344) rfl hc hs (by decide +kernel) hR
def B_X1_pulse (x0 : Nat) (x1 : Int32) (w : GS) : Option Int32 :=
  bd1 (oK w x0 1 1) fun _ =>
  bd1 (B_X1_isHome x0 x1 w) fun r1 =>
  if r1 = 0 then
    some (-1 : Int32)
  else
    bd1 (oRn w x0 1 1 4) fun a3 =>
    bd1 (oRn w x0 1 1 2) fun a4 =>
    bd1 (oK w a4 3 3) fun _ =>
    bd1 (B_X3_brew a4 w) fun r5 =>
    bd1 (oK w x0 1 1) fun _ =>
    bd1 (B_X1_pulse_2 x0 a3 x1 r5 w) fun r6 =>
    some r6
set_option maxRecDepth 100000 in
set_option maxHeartbeats 4000000 in
theorem met_B_X1_pulse (l : Launch) (E : gE) (A : Nat → Prop) (LC LS : Nat)  (x0 : Nat) (x1 : Int32) (w : GS) (res : Int32) (h : B_X1_pulse x0 x1 w = some res) : Met l yX1_pulse (ws_ yX1_pulse cX1_pulse 2 (Option.some Jvm.ClassFile.FieldType.int)) (gRoom 5 110 LC LS w) (gPc E A LC LS [.ref x0, .int x1] w) (gQi E A LC LS res w) (LC - gZ w) (LS - gN w) A := by
  refine gMet (by decide) rfl (Nat.le_of_ble_eq_true rfl) ?_
  intro p e s m below meth c R S hr hlocks hin2 X Z hF hL H ls hw hl
  replace hl : lv_has ls 2 [(0, .ref x0), (1, .int x1)] := hl
  unfold B_X1_pulse at h
  refine lv_aload_n S.1 S.2.1 dX1_pulse_0 rfl (lv_at hl 0 rfl) ?_
  refine lv_iload_n S.1 S.2.1 dX1_pulse_1 rfl (lv_at hl 1 rfl) ?_
  obtain ⟨hrc, h⟩ := oK1 h
  refine gcVri (As := [.int x1]) (rest := []) S X Z hw (b := x0) h (fun u h1 => met_B_X1_isHome l E A LC LS x0 x1 w u h1) (cb_X1_273 S.2.2.2.2 rfl rfl ⟨Nat.le_trans (Nat.le_of_ble_eq_true rfl : 3 + 1 ≤ 5) hF, Nat.le_trans (Nat.le_of_ble_eq_true rfl : 8 + (2 + 11) + 61 ≤ 110) hL⟩) (g_recv X hw (ci := 0) rfl (gcell_1 hrc)) rfl hl.1 rfl (lv_room (Nat.le_of_ble_eq_true rfl)) dX1_pulse_2 (fun r1 H locs h hw => ?_)
  refine lv_if_eq (tgt := 27) S.1 S.2.1 dX1_pulse_5 rfl (fun c2 => ?_) (fun c2 => ?_)
  · replace h := if_t c2 h
    refine lv_iconst (v := -1) S.1 S.2.1 dX1_pulse_27 rfl ?_
    exact g_iret S Z hr hlocks hw ⟨so1 h, rfl⟩ dX1_pulse_28
  · replace h := if_f c2 h
    refine lv_aload_n S.1 S.2.1 dX1_pulse_8 rfl (lv_at hl 0 rfl) ?_
    refine lv_aload_n S.1 S.2.1 dX1_pulse_9 rfl (lv_at hl 0 rfl) ?_
    refine ggX1_51 S X hw dX1_pulse_10 h (fun a3 h => ?_)
    refine lv_iload_n S.1 S.2.1 dX1_pulse_13 rfl (lv_at hl 1 rfl) ?_
    refine lv_aload_n S.1 S.2.1 dX1_pulse_14 rfl (lv_at hl 0 rfl) ?_
    refine ggX1_35 S X hw dX1_pulse_15 h (fun a4 h => ?_)
    obtain ⟨hrc, h⟩ := oK1 h
    refine gcVri (As := []) (rest := [.int x1, .ref a3, .ref x0]) S X Z hw (b := a4) h (fun u h1 => met_B_X3_brew l E A LC LS a4 w u h1) (cb_X1_210 S.2.2.2.2 rfl rfl ⟨Nat.le_trans (Nat.le_of_ble_eq_true rfl : 0 + 1 ≤ 5) hF, Nat.le_trans (Nat.le_of_ble_eq_true rfl : 8 + (1 + 11) + 0 ≤ 110) hL⟩) (g_recv X hw (ci := 2) rfl (gcell_3 hrc)) rfl hl.1 rfl (lv_room (Nat.le_of_ble_eq_true rfl)) dX1_pulse_18 (fun r5 H locs h hw => ?_)
    obtain ⟨hrc, h⟩ := oK1 h
    refine gcVri (As := [.ref a3, .int x1, .int r5]) (rest := []) S X Z hw (b := x0) h (fun u h1 => met_B_X1_pulse_2 l E A LC LS x0 a3 x1 r5 w u h1) (cb_X1_202 S.2.2.2.2 rfl rfl ⟨Nat.le_trans (Nat.le_of_ble_eq_true rfl : 4 + 1 ≤ 5) hF, Nat.le_trans (Nat.le_of_ble_eq_true rfl : 8 + (6 + 11) + 85 ≤ 110) hL⟩) (g_recv X hw (ci := 0) rfl (gcell_1 hrc)) rfl hl.1 rfl (lv_room (Nat.le_of_ble_eq_true rfl)) dX1_pulse_21 (fun r6 H locs h hw => ?_)
    refine lv_goto (tgt := 28) S.1 S.2.1 dX1_pulse_24 rfl ?_
    exact g_iret S Z hr hlocks hw ⟨so1 h, rfl⟩ dX1_pulse_28
def B_X4_init (x0 : Nat) (w : GS) : Option GS :=
  bd1 (onA w 40 (6 : Int32)) fun w1 =>
  bd1 (pR w1 x0 4 4 0 (some (gZ w))) fun w2 =>
  bd1 (onA w2 40 (6 : Int32)) fun w3 =>
  bd1 (pR w3 x0 4 4 1 (some (gZ w2))) fun w4 =>
  bd1 (onA w4 40 (6 : Int32)) fun w5 =>
  bd1 (pR w5 x0 4 4 2 (some (gZ w4))) fun w6 =>
  bd1 (onA w6 40 (6 : Int32)) fun w7 =>
  bd1 (pR w7 x0 4 4 3 (some (gZ w6))) fun w8 =>
  bd1 (onA w8 40 (6 : Int32)) fun w9 =>
  bd1 (pR w9 x0 4 4 4 (some (gZ w8))) fun w10 =>
  bd1 (onA w10 40 (6 : Int32)) fun w11 =>
  bd1 (pR w11 x0 4 4 5 (some (gZ w10))) fun w12 =>
  some w12
set_option maxRecDepth 100000 in
set_option maxHeartbeats 4000000 in
theorem met_B_X4_init (l : Launch) (E : gE) (A : Nat → Prop) (LC LS : Nat)  (x0 : Nat) (w : GS) (res : GS) (h : B_X4_init x0 w = some res) : Met l yX4_init (ws_ yX4_init cX4_init 1 (Option.none : Option Jvm.ClassFile.FieldType)) (gRoom 1 20 LC LS w) (gPc E A LC LS [.ref x0] w) (gQv E A LC LS res) (LC - gZ w) (LS - gN w) A := by
  refine gMet (by decide) rfl (Nat.le_of_ble_eq_true rfl) ?_
  intro p e s m below meth c R S hr hlocks hin2 X Z hF hL H ls hw hl
  replace hl : lv_has ls 1 [(0, .ref x0)] := hl
  unfold B_X4_init at h
  replace hin2 : meth.name = "<init>" := hin2
  refine lv_aload_n S.1 S.2.1 dX4_init_0 rfl (lv_at hl 0 rfl) ?_
  refine W.objInit S.1 S.2.1 S.2.2.2.1 (S.2.2.2.2 _ q303) (S.2.2.2.2 _ q186) (S.2.2.2.2 _ q187) rfl (by rw [S.2.2.1]; exact hl.1) rfl dX4_init_1 (Nat.le_trans (Nat.le_of_ble_eq_true rfl) hF) (Nat.le_trans (Nat.add_le_add_right (lv_room (st := []) (Nat.le_of_ble_eq_true rfl)) 12) (Nat.le_trans (Nat.le_of_ble_eq_true rfl) hL)) ?_
  refine W.eq (g2 := F0 m 4 ls []) rfl ?_
  refine lv_aload_n S.1 S.2.1 dX4_init_4 rfl (lv_at hl 0 rfl) ?_
  refine lv_bipush (v := 6) S.1 S.2.1 dX4_init_5 rfl ?_
  refine gna_int S X hw Z dX4_init_7 h (fun w1 H h hw => ?_)
  refine gpX4_9 (v := some (gZ w)) S X hw hin2 dX4_init_9 h (fun w2 H locs h hw => ?_)
  refine lv_aload_n S.1 S.2.1 dX4_init_12 rfl (lv_at hl 0 rfl) ?_
  refine lv_bipush (v := 6) S.1 S.2.1 dX4_init_13 rfl ?_
  refine gna_int S X hw Z dX4_init_15 h (fun w3 H h hw => ?_)
  refine gpX4_15 (v := some (gZ w2)) S X hw hin2 dX4_init_17 h (fun w4 H locs h hw => ?_)
  refine lv_aload_n S.1 S.2.1 dX4_init_20 rfl (lv_at hl 0 rfl) ?_
  refine lv_bipush (v := 6) S.1 S.2.1 dX4_init_21 rfl ?_
  refine gna_int S X hw Z dX4_init_23 h (fun w5 H h hw => ?_)
  refine gpX4_18 (v := some (gZ w4)) S X hw hin2 dX4_init_25 h (fun w6 H locs h hw => ?_)
  refine lv_aload_n S.1 S.2.1 dX4_init_28 rfl (lv_at hl 0 rfl) ?_
  refine lv_bipush (v := 6) S.1 S.2.1 dX4_init_29 rfl ?_
  refine gna_int S X hw Z dX4_init_31 h (fun w7 H h hw => ?_)
  refine gpX4_21 (v := some (gZ w6)) S X hw hin2 dX4_init_33 h (fun w8 H locs h hw => ?_)
  refine lv_aload_n S.1 S.2.1 dX4_init_36 rfl (lv_at hl 0 rfl) ?_
  refine lv_bipush (v := 6) S.1 S.2.1 dX4_init_37 rfl ?_
  refine gna_int S X hw Z dX4_init_39 h (fun w9 H h hw => ?_)
  refine gpX4_24 (v := some (gZ w8)) S X hw hin2 dX4_init_41 h (fun w10 H locs h hw => ?_)
  refine lv_aload_n S.1 S.2.1 dX4_init_44 rfl (lv_at hl 0 rfl) ?_
  refine lv_bipush (v := 6) S.1 S.2.1 dX4_init_45 rfl ?_
  refine gna_int S X hw Z dX4_init_47 h (fun w11 H h hw => ?_)
  refine gpX4_27 (v := some (gZ w10)) S X hw hin2 dX4_init_49 h (fun w12 H locs h hw => ?_)
  exact g_vret S Z hr hlocks hw (so1 h) dX4_init_52
def B_X1_copies_p2 : Nat → Nat → Nat → Int32 → GS → Option GS
  | 0, _, _, _, _ => none
  | n + 1, x0, x1, x2, w =>
    bd1 (aLen w x1 40) fun v1 =>
    if v1 ≤ x2 then
      some w
    else
      bd1 (aI w x0 40 x2) fun v3 =>
      bd1 (xI w x1 40 x2 v3) fun w4 =>
      (B_X1_copies_p2 n) x0 x1 (x2 + (1 : Int32)) w4
def B_X1_copies (x0 : Nat) (x1 : Nat) (w : GS) : Option GS :=
  B_X1_copies_p2 FU x0 x1 (0 : Int32) w
set_option maxRecDepth 100000 in
set_option maxHeartbeats 4000000 in
theorem wk_B_X1_copies_p2 {p : Program} {l : Launch} {e : Env} {R : Room} {s : State} {m : MethodId} {args : Array Value} {below : List Frame} {meth : Method} {c : Code} {E : gE} {A : Nat → Prop} {LC LS : Nat} (S : CallFix p m c cX1_copies 3 s args lw_all RX1) (X : gCtx E A s) (Z : gRm R s LC LS) (hF : 0 ≤ R.frames) (hL : 0 ≤ R.locals) (hr : meth.sig.returnType = (Option.none : Option Jvm.ClassFile.FieldType)) (hlocks : meth.locks = false) {res : GS}  : ∀ n : Nat, ∀ (x0 : Nat) (x1 : Nat) (x2 : Int32) (w : GS) (H : Heap) (locs : List Loc) (ls : Array Slot), B_X1_copies_p2 n x0 x1 x2 w = some res → gH E A LC LS s w H locs → lv_has ls 3 [(0, .ref x0), (1, .ref x1), (2, .int x2)] → W p l e R s m args below meth c H locs (H.size - s.heap.size) (tot H - tot s.heap) (MQ below (gQv E A LC LS res) args s R.cells R.slots A) (F0 m 2 ls []) := by
  intro n
  induction n with
  | zero => intro x0 x1 x2 w H locs ls h; cases (show (none : Option GS) = some res from h)
  | succ n ih =>
    intro x0 x1 x2 w H locs ls h hw hl
    rw [B_X1_copies_p2] at h
    refine lv_iload_n S.1 S.2.1 dX1_copies_2 rfl (lv_at hl 2 rfl) ?_
    refine lv_aload_n S.1 S.2.1 dX1_copies_3 rfl (lv_at hl 1 rfl) ?_
    refine galen40 S X hw dX1_copies_4 h (fun v1 h => ?_)
    refine lv_icmp_ge (tgt := 20) S.1 S.2.1 dX1_copies_5 rfl (fun c2 => ?_) (fun c2 => ?_)
    · replace h := if_t c2 h
      exact g_vret S Z hr hlocks hw (so1 h) dX1_copies_20
    · replace h := if_f c2 h
      refine lv_aload_n S.1 S.2.1 dX1_copies_8 rfl (lv_at hl 1 rfl) ?_
      refine lv_iload_n S.1 S.2.1 dX1_copies_9 rfl (lv_at hl 2 rfl) ?_
      refine lv_aload_n S.1 S.2.1 dX1_copies_10 rfl (lv_at hl 0 rfl) ?_
      refine lv_iload_n S.1 S.2.1 dX1_copies_11 rfl (lv_at hl 2 rfl) ?_
      refine gald40 S X hw dX1_copies_12 h (fun v3 h => ?_)
      refine gast40 S X hw dX1_copies_13 h (fun w4 H locs h hw => ?_)
      refine lv_iinc (v := x2 + (1 : Int32)) (lv' := [(2, .int (x2 + (1 : Int32))), (0, .ref x0), (1, .ref x1)]) S.1 S.2.1 dX1_copies_14 hl (k := 2) rfl rfl (by decide) rfl (fun ls hl => ?_)
      refine lv_goto (tgt := 2) S.1 S.2.1 dX1_copies_17 rfl ?_
      exact ih _ _ _ _ _ _ _ h hw (lv_sub hl [1, 2, 0] rfl)
set_option maxRecDepth 100000 in
set_option maxHeartbeats 4000000 in
theorem met_B_X1_copies (l : Launch) (E : gE) (A : Nat → Prop) (LC LS : Nat)  (x0 : Nat) (x1 : Nat) (w : GS) (res : GS) (h : B_X1_copies x0 x1 w = some res) : Met l yX1_copies (ws_ yX1_copies cX1_copies 3 (Option.none : Option Jvm.ClassFile.FieldType)) (gRoom 0 0 LC LS w) (gPc E A LC LS [.ref x0, .ref x1] w) (gQv E A LC LS res) (LC - gZ w) (LS - gN w) A := by
  refine gMet (by decide) rfl (Nat.le_of_ble_eq_true rfl) ?_
  intro p e s m below meth c R S hr hlocks hin2 X Z hF hL H ls hw hl
  replace hl : lv_has ls 3 [(0, .ref x0), (1, .ref x1)] := hl
  unfold B_X1_copies at h
  refine lv_iconst (v := 0) S.1 S.2.1 dX1_copies_0 rfl ?_
  refine lv_istore_n (lv' := [(2, .int (0 : Int32)), (0, .ref x0), (1, .ref x1)]) S.1 S.2.1 dX1_copies_1 rfl hl (by decide) rfl (fun ls hl => ?_)
  exact wk_B_X1_copies_p2 S X Z hF hL hr hlocks  FU _ _ _ _ _ _ _ h hw (lv_sub hl [1, 2, 0] rfl)
theorem cb_X4_30 {R : Room} {s : State} {args : Array Value} {rm : Room} {mc ms : Nat} (hts : ∀ w ∈ lw_all, w.before args s = true) (hN : gNw s) (hc : rm.cells = mc) (hs : rm.slots = ms) (hR : rm.frames + 1 ≤ R.frames ∧ 8 + (3 + 11) + rm.locals ≤ R.locals) : va_CN R s args RX4 30 yX1_copies "PulseRent" cX1_copies 3 (Option.none : Option Jvm.ClassFile.FieldType) (ws_ yX1_copies cX1_copies 3 (Option.none : Option Jvm.ClassFile.FieldType)) rm mc ms 2 ∧ (Cond.static yX1_copies).before args s = true ∧ True := ⟨va_cnB 2 hts (lw_meth q1375) rfl hc hs (hN _ q1373 rfl) (hts _ q135) (by decide +kernel) hR, hts _ q1374, trivial⟩
def B_X4_be (x0 : Nat) (x1 : Nat) (w : GS) : Option GS :=
  bd1 (oRn w x1 4 4 0) fun a1 =>
  bd1 (oRn w x0 4 4 0) fun a2 =>
  bd1 (B_X1_copies a1 a2 w) fun w3 =>
  bd1 (oRn w3 x1 4 4 1) fun a4 =>
  bd1 (oRn w3 x0 4 4 1) fun a5 =>
  bd1 (B_X1_copies a4 a5 w3) fun w6 =>
  bd1 (oRn w6 x1 4 4 2) fun a7 =>
  bd1 (oRn w6 x0 4 4 2) fun a8 =>
  bd1 (B_X1_copies a7 a8 w6) fun w9 =>
  bd1 (oRn w9 x1 4 4 3) fun a10 =>
  bd1 (oRn w9 x0 4 4 3) fun a11 =>
  bd1 (B_X1_copies a10 a11 w9) fun w12 =>
  bd1 (oRn w12 x1 4 4 4) fun a13 =>
  bd1 (oRn w12 x0 4 4 4) fun a14 =>
  bd1 (B_X1_copies a13 a14 w12) fun w15 =>
  bd1 (oRn w15 x1 4 4 5) fun a16 =>
  bd1 (oRn w15 x0 4 4 5) fun a17 =>
  bd1 (B_X1_copies a16 a17 w15) fun w18 =>
  bd1 (oI w18 x1 4 4 6) fun v19 =>
  bd1 (pI w18 x0 4 4 6 v19) fun w20 =>
  bd1 (oI w20 x1 4 4 7) fun v21 =>
  bd1 (pI w20 x0 4 4 7 v21) fun w22 =>
  some w22
set_option maxRecDepth 100000 in
set_option maxHeartbeats 4000000 in
theorem met_B_X4_be (l : Launch) (E : gE) (A : Nat → Prop) (LC LS : Nat)  (x0 : Nat) (x1 : Nat) (w : GS) (res : GS) (h : B_X4_be x0 x1 w = some res) : Met l yX4_be (ws_ yX4_be cX4_be 2 (Option.none : Option Jvm.ClassFile.FieldType)) (gRoom 1 22 LC LS w) (gPc E A LC LS [.ref x0, .ref x1] w) (gQv E A LC LS res) (LC - gZ w) (LS - gN w) A := by
  refine gMet (by decide) rfl (Nat.le_of_ble_eq_true rfl) ?_
  intro p e s m below meth c R S hr hlocks hin2 X Z hF hL H ls hw hl
  replace hl : lv_has ls 2 [(0, .ref x0), (1, .ref x1)] := hl
  unfold B_X4_be at h
  refine lv_aload_n S.1 S.2.1 dX4_be_0 rfl (lv_at hl 1 rfl) ?_
  refine ggX4_9 S X hw dX4_be_1 h (fun a1 h => ?_)
  refine lv_aload_n S.1 S.2.1 dX4_be_4 rfl (lv_at hl 0 rfl) ?_
  refine ggX4_9 S X hw dX4_be_5 h (fun a2 h => ?_)
  refine gcSNv (As := [.ref a1, .ref a2]) (rest := []) S X Z hw h (fun u h1 => met_B_X1_copies l E A LC LS a1 a2 w u h1) (cb_X4_30 S.2.2.2.2 X.2.2.2.2.2.1 rfl rfl ⟨Nat.le_trans (Nat.le_of_ble_eq_true rfl : 0 + 1 ≤ 1) hF, Nat.le_trans (Nat.le_of_ble_eq_true rfl : 8 + (3 + 11) + 0 ≤ 22) hL⟩) rfl hl.1 rfl (lv_room (Nat.le_of_ble_eq_true rfl)) dX4_be_8 (fun w3 H locs h hw => ?_)
  refine lv_aload_n S.1 S.2.1 dX4_be_11 rfl (lv_at hl 1 rfl) ?_
  refine ggX4_15 S X hw dX4_be_12 h (fun a4 h => ?_)
  refine lv_aload_n S.1 S.2.1 dX4_be_15 rfl (lv_at hl 0 rfl) ?_
  refine ggX4_15 S X hw dX4_be_16 h (fun a5 h => ?_)
  refine gcSNv (As := [.ref a4, .ref a5]) (rest := []) S X Z hw h (fun u h1 => met_B_X1_copies l E A LC LS a4 a5 w3 u h1) (cb_X4_30 S.2.2.2.2 X.2.2.2.2.2.1 rfl rfl ⟨Nat.le_trans (Nat.le_of_ble_eq_true rfl : 0 + 1 ≤ 1) hF, Nat.le_trans (Nat.le_of_ble_eq_true rfl : 8 + (3 + 11) + 0 ≤ 22) hL⟩) rfl hl.1 rfl (lv_room (Nat.le_of_ble_eq_true rfl)) dX4_be_19 (fun w6 H locs h hw => ?_)
  refine lv_aload_n S.1 S.2.1 dX4_be_22 rfl (lv_at hl 1 rfl) ?_
  refine ggX4_18 S X hw dX4_be_23 h (fun a7 h => ?_)
  refine lv_aload_n S.1 S.2.1 dX4_be_26 rfl (lv_at hl 0 rfl) ?_
  refine ggX4_18 S X hw dX4_be_27 h (fun a8 h => ?_)
  refine gcSNv (As := [.ref a7, .ref a8]) (rest := []) S X Z hw h (fun u h1 => met_B_X1_copies l E A LC LS a7 a8 w6 u h1) (cb_X4_30 S.2.2.2.2 X.2.2.2.2.2.1 rfl rfl ⟨Nat.le_trans (Nat.le_of_ble_eq_true rfl : 0 + 1 ≤ 1) hF, Nat.le_trans (Nat.le_of_ble_eq_true rfl : 8 + (3 + 11) + 0 ≤ 22) hL⟩) rfl hl.1 rfl (lv_room (Nat.le_of_ble_eq_true rfl)) dX4_be_30 (fun w9 H locs h hw => ?_)
  refine lv_aload_n S.1 S.2.1 dX4_be_33 rfl (lv_at hl 1 rfl) ?_
  refine ggX4_21 S X hw dX4_be_34 h (fun a10 h => ?_)
  refine lv_aload_n S.1 S.2.1 dX4_be_37 rfl (lv_at hl 0 rfl) ?_
  refine ggX4_21 S X hw dX4_be_38 h (fun a11 h => ?_)
  refine gcSNv (As := [.ref a10, .ref a11]) (rest := []) S X Z hw h (fun u h1 => met_B_X1_copies l E A LC LS a10 a11 w9 u h1) (cb_X4_30 S.2.2.2.2 X.2.2.2.2.2.1 rfl rfl ⟨Nat.le_trans (Nat.le_of_ble_eq_true rfl : 0 + 1 ≤ 1) hF, Nat.le_trans (Nat.le_of_ble_eq_true rfl : 8 + (3 + 11) + 0 ≤ 22) hL⟩) rfl hl.1 rfl (lv_room (Nat.le_of_ble_eq_true rfl)) dX4_be_41 (fun w12 H locs h hw => ?_)
  refine lv_aload_n S.1 S.2.1 dX4_be_44 rfl (lv_at hl 1 rfl) ?_
  refine ggX4_24 S X hw dX4_be_45 h (fun a13 h => ?_)
  refine lv_aload_n S.1 S.2.1 dX4_be_48 rfl (lv_at hl 0 rfl) ?_
  refine ggX4_24 S X hw dX4_be_49 h (fun a14 h => ?_)
  refine gcSNv (As := [.ref a13, .ref a14]) (rest := []) S X Z hw h (fun u h1 => met_B_X1_copies l E A LC LS a13 a14 w12 u h1) (cb_X4_30 S.2.2.2.2 X.2.2.2.2.2.1 rfl rfl ⟨Nat.le_trans (Nat.le_of_ble_eq_true rfl : 0 + 1 ≤ 1) hF, Nat.le_trans (Nat.le_of_ble_eq_true rfl : 8 + (3 + 11) + 0 ≤ 22) hL⟩) rfl hl.1 rfl (lv_room (Nat.le_of_ble_eq_true rfl)) dX4_be_52 (fun w15 H locs h hw => ?_)
  refine lv_aload_n S.1 S.2.1 dX4_be_55 rfl (lv_at hl 1 rfl) ?_
  refine ggX4_27 S X hw dX4_be_56 h (fun a16 h => ?_)
  refine lv_aload_n S.1 S.2.1 dX4_be_59 rfl (lv_at hl 0 rfl) ?_
  refine ggX4_27 S X hw dX4_be_60 h (fun a17 h => ?_)
  refine gcSNv (As := [.ref a16, .ref a17]) (rest := []) S X Z hw h (fun u h1 => met_B_X1_copies l E A LC LS a16 a17 w15 u h1) (cb_X4_30 S.2.2.2.2 X.2.2.2.2.2.1 rfl rfl ⟨Nat.le_trans (Nat.le_of_ble_eq_true rfl : 0 + 1 ≤ 1) hF, Nat.le_trans (Nat.le_of_ble_eq_true rfl : 8 + (3 + 11) + 0 ≤ 22) hL⟩) rfl hl.1 rfl (lv_room (Nat.le_of_ble_eq_true rfl)) dX4_be_63 (fun w18 H locs h hw => ?_)
  refine lv_aload_n S.1 S.2.1 dX4_be_66 rfl (lv_at hl 0 rfl) ?_
  refine lv_aload_n S.1 S.2.1 dX4_be_67 rfl (lv_at hl 1 rfl) ?_
  refine ggX4_34 S X hw dX4_be_68 h (fun v19 h => ?_)
  refine gpX4_34 S X hw dX4_be_71 h (fun w20 H locs h hw => ?_)
  refine lv_aload_n S.1 S.2.1 dX4_be_74 rfl (lv_at hl 0 rfl) ?_
  refine lv_aload_n S.1 S.2.1 dX4_be_75 rfl (lv_at hl 1 rfl) ?_
  refine ggX4_38 S X hw dX4_be_76 h (fun v21 h => ?_)
  refine gpX4_38 S X hw dX4_be_79 h (fun w22 H locs h hw => ?_)
  exact g_vret S Z hr hlocks hw (so1 h) dX4_be_82
theorem cb_X1_50 {R : Room} {s : State} {args : Array Value} {rm : Room} {mc ms : Nat} (hts : ∀ w ∈ lw_all, w.before args s = true) (hN : gNw s) (hc : rm.cells = mc) (hs : rm.slots = ms) (hR : rm.frames + 1 ≤ R.frames ∧ 8 + (1 + 11) + rm.locals ≤ R.locals) : va_CN R s args RX1 50 yX4_init "PulseRent" cX4_init 1 none (ws_ yX4_init cX4_init 1 (Option.none : Option Jvm.ClassFile.FieldType)) rm mc ms 0 ∧ yX4_init.name = "<init>" ∧ (Cond.instanceMethod yX4_init).before args s = true := ⟨va_cnB 0 hts (lw_meth q302) rfl hc hs (hN _ q300 rfl) (hts _ q141) (by decide +kernel) hR, rfl, hts _ q301⟩
theorem cb_X1_276 {R : Room} {s : State} {args : Array Value} {rm : Room} {mc ms : Nat} (hts : ∀ w ∈ lw_all, w.before args s = true) (hc : rm.cells = mc) (hs : rm.slots = ms) (hR : rm.frames + 1 ≤ R.frames ∧ 8 + (2 + 11) + rm.locals ≤ R.locals) : CallW R s args RX1 RX4 276 yX4_be cX4_be 2 (Option.none : Option Jvm.ClassFile.FieldType) (ws_ yX4_be cX4_be 2 (Option.none : Option Jvm.ClassFile.FieldType)) rm mc ms 1 := cwV 1 hts (lw_V q1369 q1370 q1371 q141 q1372) rfl hc hs (by decide +kernel) hR
def B_X1_keeps_p92 (x0 : Nat) (w : GS) : Option GS :=
  bd1 (oRn w x0 1 1 8) fun a11 =>
  bd1 (oI w x0 1 1 9) fun v12 =>
  bd1 (pI w x0 1 1 9 (v12 + (1 : Int32))) fun w13 =>
  bd1 (aRn w13 a11 45 v12) fun a14 =>
  bd1 (oRn w13 x0 1 1 4) fun a15 =>
  bd1 (oK w13 a14 4 4) fun _ =>
  bd1 (B_X4_be a14 a15 w13) fun w16 =>
  some w16
def B_X1_keeps_p64 (x0 : Nat) (w : GS) : Option GS :=
  bd1 (oRn w x0 1 1 8) fun a3 =>
  bd1 (oI w x0 1 1 9) fun v4 =>
  bd1 (aR w a3 45 v4) fun a5 =>
  bq a5 (
    bd1 (oRn w x0 1 1 8) fun a6 =>
    bd1 (oI w x0 1 1 9) fun v7 =>
    bd1 (onw w 4 0 8) fun w8 =>
    bd1 (B_X4_init (gZ w) w8) fun w9 =>
    bd1 (oK w9 (gZ w) 4 4) fun _ =>
    bd1 (xR w9 a6 45 v7 (some (gZ w))) fun w10 =>
    B_X1_keeps_p92 x0 w10) fun _ =>
  B_X1_keeps_p92 x0 w
def B_X1_keeps_p18 : Nat → Nat → Nat → Int32 → GS → Option GS
  | 0, _, _, _, _ => none
  | n + 1, x0, x1, x2, w =>
    if (16 : Int32) ≤ (x2 + (1 : Int32)) then
      bd1 (oRn w x0 1 1 8) fun a20 =>
      bd1 (oK w x1 4 4) fun _ =>
      bd1 (xR w a20 45 (15 : Int32) (some x1)) fun w21 =>
      bd1 (oI w21 x0 1 1 9) fun v22 =>
      bd1 (pI w21 x0 1 1 9 (v22 - (1 : Int32))) fun w23 =>
      B_X1_keeps_p64 x0 w23
    else
      bd1 (oRn w x0 1 1 8) fun a24 =>
      bd1 (oRn w x0 1 1 8) fun a25 =>
      bd1 (aRn w a25 45 (x2 + (1 : Int32))) fun a26 =>
      bd1 (oK w a26 4 4) fun _ =>
      bd1 (xR w a24 45 x2 (some a26)) fun w27 =>
      (B_X1_keeps_p18 n) x0 x1 (x2 + (1 : Int32)) w27
def B_X1_keeps (x0 : Nat) (w : GS) : Option GS :=
  bd1 (oI w x0 1 1 9) fun v1 =>
  if v1 = (16 : Int32) then
    bd1 (oRn w x0 1 1 8) fun a17 =>
    bd1 (aRn w a17 45 (0 : Int32)) fun a18 =>
    B_X1_keeps_p18 FU x0 a18 (0 : Int32) w
  else
    B_X1_keeps_p64 x0 w
set_option maxRecDepth 100000 in
set_option maxHeartbeats 4000000 in
theorem wk_B_X1_keeps_p92 {p : Program} {l : Launch} {e : Env} {R : Room} {s : State} {m : MethodId} {args : Array Value} {below : List Frame} {meth : Method} {c : Code} {E : gE} {A : Nat → Prop} {LC LS : Nat} (S : CallFix p m c cX1_keeps 3 s args lw_all RX1) (X : gCtx E A s) (Z : gRm R s LC LS) (hF : 2 ≤ R.frames) (hL : 43 ≤ R.locals) (hr : meth.sig.returnType = (Option.none : Option Jvm.ClassFile.FieldType)) (hlocks : meth.locks = false) {res : GS}  : ∀ (x0 : Nat) (w : GS) (H : Heap) (locs : List Loc) (ls : Array Slot), B_X1_keeps_p92 x0 w = some res → gH E A LC LS s w H locs → lv_has ls 3 [(0, .ref x0)] → W p l e R s m args below meth c H locs (H.size - s.heap.size) (tot H - tot s.heap) (MQ below (gQv E A LC LS res) args s R.cells R.slots A) (F0 m 92 ls []) := by
  intro x0 w H locs ls h hw hl
  unfold B_X1_keeps_p92 at h
  refine lv_aload_n S.1 S.2.1 dX1_keeps_92 rfl (lv_at hl 0 rfl) ?_
  refine ggX1_62 S X hw dX1_keeps_93 h (fun a11 h => ?_)
  refine lv_aload_n S.1 S.2.1 dX1_keeps_96 rfl (lv_at hl 0 rfl) ?_
  refine lv_dup S.1 S.2.1 dX1_keeps_97 rfl ?_
  refine ggX1_126 S X hw dX1_keeps_98 h (fun v12 h => ?_)
  refine lv_dup_x1 S.1 S.2.1 dX1_keeps_101 rfl rfl ?_
  refine lv_iconst (v := 1) S.1 S.2.1 dX1_keeps_102 rfl ?_
  refine lv_iadd S.1 S.2.1 dX1_keeps_103 ?_
  refine gpX1_126 S X hw dX1_keeps_104 h (fun w13 H locs h hw => ?_)
  refine gald45 S X hw dX1_keeps_107 h (fun a14 h => ?_)
  refine lv_aload_n S.1 S.2.1 dX1_keeps_108 rfl (lv_at hl 0 rfl) ?_
  refine ggX1_51 S X hw dX1_keeps_109 h (fun a15 h => ?_)
  obtain ⟨hrc, h⟩ := oK1 h
  refine gcVv (As := [.ref a15]) (rest := []) S X Z hw (b := a14) h (fun u h1 => met_B_X4_be l E A LC LS a14 a15 w13 u h1) (cb_X1_276 S.2.2.2.2 rfl rfl ⟨Nat.le_trans (Nat.le_of_ble_eq_true rfl : 1 + 1 ≤ 2) hF, Nat.le_trans (Nat.le_of_ble_eq_true rfl : 8 + (2 + 11) + 22 ≤ 43) hL⟩) (g_recv X hw (ci := 3) rfl (gcell_4 hrc)) rfl hl.1 rfl (lv_room (Nat.le_of_ble_eq_true rfl)) dX1_keeps_112 (fun w16 H locs h hw => ?_)
  exact g_vret S Z hr hlocks hw (so1 h) dX1_keeps_115
set_option maxRecDepth 100000 in
set_option maxHeartbeats 4000000 in
theorem wk_B_X1_keeps_p64 {p : Program} {l : Launch} {e : Env} {R : Room} {s : State} {m : MethodId} {args : Array Value} {below : List Frame} {meth : Method} {c : Code} {E : gE} {A : Nat → Prop} {LC LS : Nat} (S : CallFix p m c cX1_keeps 3 s args lw_all RX1) (X : gCtx E A s) (Z : gRm R s LC LS) (hF : 2 ≤ R.frames) (hL : 43 ≤ R.locals) (hr : meth.sig.returnType = (Option.none : Option Jvm.ClassFile.FieldType)) (hlocks : meth.locks = false) {res : GS}  : ∀ (x0 : Nat) (w : GS) (H : Heap) (locs : List Loc) (ls : Array Slot), B_X1_keeps_p64 x0 w = some res → gH E A LC LS s w H locs → lv_has ls 3 [(0, .ref x0)] → W p l e R s m args below meth c H locs (H.size - s.heap.size) (tot H - tot s.heap) (MQ below (gQv E A LC LS res) args s R.cells R.slots A) (F0 m 64 ls []) := by
  intro x0 w H locs ls h hw hl
  unfold B_X1_keeps_p64 at h
  refine lv_aload_n S.1 S.2.1 dX1_keeps_64 rfl (lv_at hl 0 rfl) ?_
  refine ggX1_62 S X hw dX1_keeps_65 h (fun a3 h => ?_)
  refine lv_aload_n S.1 S.2.1 dX1_keeps_68 rfl (lv_at hl 0 rfl) ?_
  refine ggX1_126 S X hw dX1_keeps_69 h (fun v4 h => ?_)
  refine gald45q S X hw dX1_keeps_72 h (fun a5 h => ?_)
  refine g_ifnonnull (tgt := 92) S.1 S.2.1 dX1_keeps_73 rfl h (fun h => ?_) (fun _ h => ?_)
  · refine lv_aload_n S.1 S.2.1 dX1_keeps_76 rfl (lv_at hl 0 rfl) ?_
    refine ggX1_62 S X hw dX1_keeps_77 h (fun a6 h => ?_)
    refine lv_aload_n S.1 S.2.1 dX1_keeps_80 rfl (lv_at hl 0 rfl) ?_
    refine ggX1_126 S X hw dX1_keeps_81 h (fun v7 h => ?_)
    refine gnX1_48 S X Z hw dX1_keeps_84 h (fun w8 H h hw => ?_)
    refine lv_dup S.1 S.2.1 dX1_keeps_87 rfl ?_
    refine gcINv (As := []) (rest := [.ref (gZ w), .int v7, .ref a6]) S X Z hw (b := (gZ w)) h (fun u h1 => met_B_X4_init l E A LC LS (gZ w) w8 u h1) (cb_X1_50 S.2.2.2.2 X.2.2.2.2.2.1 rfl rfl ⟨Nat.le_trans (Nat.le_of_ble_eq_true rfl : 1 + 1 ≤ 2) hF, Nat.le_trans (Nat.le_of_ble_eq_true rfl : 8 + (1 + 11) + 20 ≤ 43) hL⟩) rfl hl.1 rfl (lv_room (Nat.le_of_ble_eq_true rfl)) dX1_keeps_88 (fun w9 H locs h hw => ?_)
    refine gast45c S X hw dX1_keeps_91 h (fun w10 H locs h hw => ?_)
    exact wk_B_X1_keeps_p92 S X Z hF hL hr hlocks  _ _ _ _ _ h hw (lv_sub hl [0] rfl)
  · exact wk_B_X1_keeps_p92 S X Z hF hL hr hlocks  _ _ _ _ _ h hw (lv_sub hl [0] rfl)
set_option maxRecDepth 100000 in
set_option maxHeartbeats 4000000 in
theorem wk_B_X1_keeps_p18 {p : Program} {l : Launch} {e : Env} {R : Room} {s : State} {m : MethodId} {args : Array Value} {below : List Frame} {meth : Method} {c : Code} {E : gE} {A : Nat → Prop} {LC LS : Nat} (S : CallFix p m c cX1_keeps 3 s args lw_all RX1) (X : gCtx E A s) (Z : gRm R s LC LS) (hF : 2 ≤ R.frames) (hL : 43 ≤ R.locals) (hr : meth.sig.returnType = (Option.none : Option Jvm.ClassFile.FieldType)) (hlocks : meth.locks = false) {res : GS}  : ∀ n : Nat, ∀ (x0 : Nat) (x1 : Nat) (x2 : Int32) (w : GS) (H : Heap) (locs : List Loc) (ls : Array Slot), B_X1_keeps_p18 n x0 x1 x2 w = some res → gH E A LC LS s w H locs → lv_has ls 3 [(0, .ref x0), (1, .ref x1), (2, .int x2)] → W p l e R s m args below meth c H locs (H.size - s.heap.size) (tot H - tot s.heap) (MQ below (gQv E A LC LS res) args s R.cells R.slots A) (F0 m 18 ls []) := by
  intro n
  induction n with
  | zero => intro x0 x1 x2 w H locs ls h; cases (show (none : Option GS) = some res from h)
  | succ n ih =>
    intro x0 x1 x2 w H locs ls h hw hl
    rw [B_X1_keeps_p18] at h
    refine lv_iload_n S.1 S.2.1 dX1_keeps_18 rfl (lv_at hl 2 rfl) ?_
    refine lv_iconst (v := 1) S.1 S.2.1 dX1_keeps_19 rfl ?_
    refine lv_iadd S.1 S.2.1 dX1_keeps_20 ?_
    refine lv_bipush (v := 16) S.1 S.2.1 dX1_keeps_21 rfl ?_
    refine lv_icmp_ge (tgt := 46) S.1 S.2.1 dX1_keeps_23 rfl (fun c19 => ?_) (fun c19 => ?_)
    · replace h := if_t c19 h
      refine lv_aload_n S.1 S.2.1 dX1_keeps_46 rfl (lv_at hl 0 rfl) ?_
      refine ggX1_62 S X hw dX1_keeps_47 h (fun a20 h => ?_)
      refine lv_bipush (v := 15) S.1 S.2.1 dX1_keeps_50 rfl ?_
      refine lv_aload_n S.1 S.2.1 dX1_keeps_52 rfl (lv_at hl 1 rfl) ?_
      refine gast45c S X hw dX1_keeps_53 h (fun w21 H locs h hw => ?_)
      refine lv_aload_n S.1 S.2.1 dX1_keeps_54 rfl (lv_at hl 0 rfl) ?_
      refine lv_dup S.1 S.2.1 dX1_keeps_55 rfl ?_
      refine ggX1_126 S X hw dX1_keeps_56 h (fun v22 h => ?_)
      refine lv_iconst (v := 1) S.1 S.2.1 dX1_keeps_59 rfl ?_
      refine lv_isub S.1 S.2.1 dX1_keeps_60 ?_
      refine gpX1_126 S X hw dX1_keeps_61 h (fun w23 H locs h hw => ?_)
      exact wk_B_X1_keeps_p64 S X Z hF hL hr hlocks  _ _ _ _ _ h hw (lv_sub hl [0] rfl)
    · replace h := if_f c19 h
      refine lv_aload_n S.1 S.2.1 dX1_keeps_26 rfl (lv_at hl 0 rfl) ?_
      refine ggX1_62 S X hw dX1_keeps_27 h (fun a24 h => ?_)
      refine lv_iload_n S.1 S.2.1 dX1_keeps_30 rfl (lv_at hl 2 rfl) ?_
      refine lv_aload_n S.1 S.2.1 dX1_keeps_31 rfl (lv_at hl 0 rfl) ?_
      refine ggX1_62 S X hw dX1_keeps_32 h (fun a25 h => ?_)
      refine lv_iload_n S.1 S.2.1 dX1_keeps_35 rfl (lv_at hl 2 rfl) ?_
      refine lv_iconst (v := 1) S.1 S.2.1 dX1_keeps_36 rfl ?_
      refine lv_iadd S.1 S.2.1 dX1_keeps_37 ?_
      refine gald45 S X hw dX1_keeps_38 h (fun a26 h => ?_)
      refine gast45c S X hw dX1_keeps_39 h (fun w27 H locs h hw => ?_)
      refine lv_iinc (v := x2 + (1 : Int32)) (lv' := [(2, .int (x2 + (1 : Int32))), (0, .ref x0), (1, .ref x1)]) S.1 S.2.1 dX1_keeps_40 hl (k := 2) rfl rfl (by decide) rfl (fun ls hl => ?_)
      refine lv_goto (tgt := 18) S.1 S.2.1 dX1_keeps_43 rfl ?_
      exact ih _ _ _ _ _ _ _ h hw (lv_sub hl [1, 2, 0] rfl)
set_option maxRecDepth 100000 in
set_option maxHeartbeats 4000000 in
theorem met_B_X1_keeps (l : Launch) (E : gE) (A : Nat → Prop) (LC LS : Nat)  (x0 : Nat) (w : GS) (res : GS) (h : B_X1_keeps x0 w = some res) : Met l yX1_keeps (ws_ yX1_keeps cX1_keeps 3 (Option.none : Option Jvm.ClassFile.FieldType)) (gRoom 2 43 LC LS w) (gPc E A LC LS [.ref x0] w) (gQv E A LC LS res) (LC - gZ w) (LS - gN w) A := by
  refine gMet (by decide) rfl (Nat.le_of_ble_eq_true rfl) ?_
  intro p e s m below meth c R S hr hlocks hin2 X Z hF hL H ls hw hl
  replace hl : lv_has ls 3 [(0, .ref x0)] := hl
  unfold B_X1_keeps at h
  refine lv_aload_n S.1 S.2.1 dX1_keeps_0 rfl (lv_at hl 0 rfl) ?_
  refine ggX1_126 S X hw dX1_keeps_1 h (fun v1 h => ?_)
  refine lv_bipush (v := 16) S.1 S.2.1 dX1_keeps_4 rfl ?_
  refine lv_icmp_ne (tgt := 64) S.1 S.2.1 dX1_keeps_6 rfl (fun c2 => ?_) (fun c2 => ?_)
  · replace h := if_f c2 h
    exact wk_B_X1_keeps_p64 S X Z hF hL hr hlocks  _ _ _ _ _ h hw (lv_sub hl [0] rfl)
  · replace h := if_t c2 h
    refine lv_aload_n S.1 S.2.1 dX1_keeps_9 rfl (lv_at hl 0 rfl) ?_
    refine ggX1_62 S X hw dX1_keeps_10 h (fun a17 h => ?_)
    refine lv_iconst (v := 0) S.1 S.2.1 dX1_keeps_13 rfl ?_
    refine gald45 S X hw dX1_keeps_14 h (fun a18 h => ?_)
    refine lv_astore_n (lv' := [(1, .ref a18), (0, .ref x0)]) S.1 S.2.1 dX1_keeps_15 rfl hl (by decide) rfl (fun ls hl => ?_)
    refine lv_iconst (v := 0) S.1 S.2.1 dX1_keeps_16 rfl ?_
    refine lv_istore_n (lv' := [(2, .int (0 : Int32)), (1, .ref a18), (0, .ref x0)]) S.1 S.2.1 dX1_keeps_17 rfl hl (by decide) rfl (fun ls hl => ?_)
    exact wk_B_X1_keeps_p18 S X Z hF hL hr hlocks  FU _ _ _ _ _ _ _ h hw (lv_sub hl [2, 1, 0] rfl)
section
variable {p : Program} {l : Launch} {e : Env} {R : Room} {s : State} {m : MethodId} {args : Array Value} {below : List Frame} {meth : Method} {c : Code} {H : Heap} {locs : List Loc} {cells slots : Nat} {Q : State → Prop}
variable {cc : ByteArray} {nL pc : Nat} {ls : Array Slot} {rest : List Value} {A : Nat → Prop} {E : gE} {LC LS : Nat} {g : GS} {a : Nat} {β : Type} {r : β}
theorem dv_X1_280 {b : Nat} {x1 : Int32} {F : Int32 → Option β} {o : Option (Int32)} {st : List Value} (S : CallFix p m c cc nL s args lw_all RX1) (X : gCtx E A s) (Z : gRm R s LC LS) (hw : gH E A LC LS s g H locs) (h : bd1 o F = some r) (hM : ∀ u, o = some u → vt_climbs l E A LC LS b x1 g u) (hR : 0 + 1 ≤ R.frames ∧ 8 + (2 + 11) + (0) ≤ R.locals) (hz : ls.size = nL) (hst : st = ([.int x1].reverse ++ .ref b :: rest)) (hrm : 2 * (F0 m pc ls st).monitorRoom + (rest.map fun v => v.category).sum ≤ 8) (hd : decode cc pc = .ok (.invokevirtual 280, 3)) (kk : ∀ (v : Int32) (H : Heap) (locs : List Loc), F v = some r → gH E A LC LS s g H locs → W p l e R s m args below meth c H locs (H.size - s.heap.size) (tot H - tot s.heap) Q (F0 m (pc + 3) ls (.int v :: rest))) : W p l e R s m args below meth c H locs (H.size - s.heap.size) (tot H - tot s.heap) Q (F0 m pc ls st) := by
  obtain ⟨u, h1, h2⟩ := bd1_some h
  have hm := hM u h1
  unfold vt_climbs at hm
  rcases hm with ⟨ht, hm⟩ | ⟨ht, hm⟩ | ⟨ht, hm⟩ | ⟨ht, hm⟩
  · have cw : va_CU R s args RX1 RX8 "PulseRent$Tenant" 280 yX8_climbs yX8_climbs cX8_climbs 2 (Option.some Jvm.ClassFile.FieldType.int) (ws_ yX8_climbs cX8_climbs 2 (Option.some Jvm.ClassFile.FieldType.int)) (gRoom (0) (0) LC LS g) (LC - gZ g) (LS - gN g) 1 := va_cwU 1 S.2.2.2.2 (lw_app (by intro w hw; simp only [List.mem_cons, List.not_mem_nil, or_false] at hw; rcases hw with e | e | e | e | e <;> rw [e]; exact q1380; exact q1383; exact q1382; exact q1381; exact q160) (lw_meth q1389)) rfl rfl rfl rfl (by decide +kernel) ⟨hR.1, Nat.le_trans (Nat.add_le_add_right (Nat.le_of_ble_eq_true rfl : 8 + (2 + 11) ≤ 8 + (2 + 11)) _) hR.2⟩
    exact gcHri (As := [.int x1]) (rest := rest) S X Z hw h (fun u1 e1 => by rw [h1] at e1; cases e1; exact hm) cw (g_recv X hw (ci := 7) rfl (gcell_8 ht)) rfl hz hst hrm hd kk
  · have cw : va_CU R s args RX1 RX9 "PulseRent$Tenant" 280 yX8_climbs yX8_climbs cX8_climbs 2 (Option.some Jvm.ClassFile.FieldType.int) (ws_ yX8_climbs cX8_climbs 2 (Option.some Jvm.ClassFile.FieldType.int)) (gRoom (0) (0) LC LS g) (LC - gZ g) (LS - gN g) 1 := va_cwU 1 S.2.2.2.2 (lw_app (by intro w hw; simp only [List.mem_cons, List.not_mem_nil, or_false] at hw; rcases hw with e | e | e | e | e <;> rw [e]; exact q1380; exact q1383; exact q1384; exact q1381; exact q160) (lw_meth q1389)) rfl rfl rfl rfl (by decide +kernel) ⟨hR.1, Nat.le_trans (Nat.add_le_add_right (Nat.le_of_ble_eq_true rfl : 8 + (2 + 11) ≤ 8 + (2 + 11)) _) hR.2⟩
    exact gcHri (As := [.int x1]) (rest := rest) S X Z hw h (fun u1 e1 => by rw [h1] at e1; cases e1; exact hm) cw (g_recv X hw (ci := 8) rfl (gcell_9 ht)) rfl hz hst hrm hd kk
  · have cw : va_CU R s args RX1 RX10 "PulseRent$Tenant" 280 yX8_climbs yX10_climbs cX10_climbs 2 (Option.some Jvm.ClassFile.FieldType.int) (ws_ yX10_climbs cX10_climbs 2 (Option.some Jvm.ClassFile.FieldType.int)) (gRoom (0) (0) LC LS g) (LC - gZ g) (LS - gN g) 1 := va_cwO 1 S.2.2.2.2 (lw_app (by intro w hw; simp only [List.mem_cons, List.not_mem_nil, or_false] at hw; rcases hw with e | e | e | e | e | e <;> rw [e]; exact q1380; exact q1383; exact q1381; exact q1385; exact q1386; exact q162) (lw_meth q1387)) rfl rfl rfl q1389 (by decide +kernel) ⟨hR.1, Nat.le_trans (Nat.add_le_add_right (Nat.le_of_ble_eq_true rfl : 8 + (2 + 11) ≤ 8 + (2 + 11)) _) hR.2⟩
    exact gcHri (As := [.int x1]) (rest := rest) S X Z hw h (fun u1 e1 => by rw [h1] at e1; cases e1; exact hm) cw (g_recv X hw (ci := 9) rfl (gcell_10 ht)) rfl hz hst hrm hd kk
  · have cw : va_CU R s args RX1 RX11 "PulseRent$Tenant" 280 yX8_climbs yX8_climbs cX8_climbs 2 (Option.some Jvm.ClassFile.FieldType.int) (ws_ yX8_climbs cX8_climbs 2 (Option.some Jvm.ClassFile.FieldType.int)) (gRoom (0) (0) LC LS g) (LC - gZ g) (LS - gN g) 1 := va_cwU 1 S.2.2.2.2 (lw_app (by intro w hw; simp only [List.mem_cons, List.not_mem_nil, or_false] at hw; rcases hw with e | e | e | e | e <;> rw [e]; exact q1380; exact q1383; exact q1388; exact q1381; exact q160) (lw_meth q1389)) rfl rfl rfl rfl (by decide +kernel) ⟨hR.1, Nat.le_trans (Nat.add_le_add_right (Nat.le_of_ble_eq_true rfl : 8 + (2 + 11) ≤ 8 + (2 + 11)) _) hR.2⟩
    exact gcHri (As := [.int x1]) (rest := rest) S X Z hw h (fun u1 e1 => by rw [h1] at e1; cases e1; exact hm) cw (g_recv X hw (ci := 10) rfl (gcell_11 ht)) rfl hz hst hrm hd kk
end
def B_X1_climbs (x0 : Nat) (x1 : Nat) (x2 : Int32) (w : GS) : Option GS :=
  bd1 (oRn w x1 4 4 1) fun a1 =>
  bd1 (aI w a1 40 x2) fun v2 =>
  bd1 (oK w x0 1 1) fun _ =>
  bd1 (B_X1_tenant_2 x0 x2 w) fun a3 =>
  bd1 (oRn w x1 4 4 0) fun a4 =>
  bd1 (aI w a4 40 x2) fun v5 =>
  bd1 (oK w x0 1 1) fun _ =>
  bd1 (B_X1_room_2 x0 v5 w) fun a6 =>
  bd1 (oI w a6 7 7 1) fun v7 =>
  bd1 (V_climbs a3 v7 w) fun r8 =>
  bd1 (xI w a1 40 x2 (v2 + r8)) fun w9 =>
  some w9
set_option maxRecDepth 100000 in
set_option maxHeartbeats 4000000 in
theorem met_B_X1_climbs (l : Launch) (E : gE) (A : Nat → Prop) (LC LS : Nat)  (x0 : Nat) (x1 : Nat) (x2 : Int32) (w : GS) (res : GS) (h : B_X1_climbs x0 x1 x2 w = some res) : Met l yX1_climbs (ws_ yX1_climbs cX1_climbs 3 (Option.none : Option Jvm.ClassFile.FieldType)) (gRoom 4 85 LC LS w) (gPc E A LC LS [.ref x0, .ref x1, .int x2] w) (gQv E A LC LS res) (LC - gZ w) (LS - gN w) A := by
  refine gMet (by decide) rfl (Nat.le_of_ble_eq_true rfl) ?_
  intro p e s m below meth c R S hr hlocks hin2 X Z hF hL H ls hw hl
  replace hl : lv_has ls 3 [(0, .ref x0), (1, .ref x1), (2, .int x2)] := hl
  unfold B_X1_climbs at h
  refine lv_aload_n S.1 S.2.1 dX1_climbs_0 rfl (lv_at hl 1 rfl) ?_
  refine ggX1_173 S X hw dX1_climbs_1 h (fun a1 h => ?_)
  refine lv_iload_n S.1 S.2.1 dX1_climbs_4 rfl (lv_at hl 2 rfl) ?_
  refine lv_dup2_11 S.1 S.2.1 dX1_climbs_5 rfl rfl ?_
  refine gald40 S X hw dX1_climbs_6 h (fun v2 h => ?_)
  refine lv_aload_n S.1 S.2.1 dX1_climbs_7 rfl (lv_at hl 0 rfl) ?_
  refine lv_iload_n S.1 S.2.1 dX1_climbs_8 rfl (lv_at hl 2 rfl) ?_
  obtain ⟨hrc, h⟩ := oK1 h
  refine gcVrr (As := [.int x2]) (rest := [.int v2, .int x2, .ref a1]) S X Z hw (b := x0) h (fun u h1 => met_B_X1_tenant_2 l E A LC LS x0 x2 w u h1) (cb_X1_166 S.2.2.2.2 rfl rfl ⟨Nat.le_trans (Nat.le_of_ble_eq_true rfl : 3 + 1 ≤ 4) hF, Nat.le_trans (Nat.le_of_ble_eq_true rfl : 8 + (2 + 11) + 64 ≤ 85) hL⟩) (g_recv X hw (ci := 0) rfl (gcell_1 hrc)) rfl hl.1 rfl (lv_room (Nat.le_of_ble_eq_true rfl)) dX1_climbs_9 (fun a3 H locs h hw => ?_)
  refine lv_aload_n S.1 S.2.1 dX1_climbs_12 rfl (lv_at hl 0 rfl) ?_
  refine lv_aload_n S.1 S.2.1 dX1_climbs_13 rfl (lv_at hl 1 rfl) ?_
  refine ggX1_176 S X hw dX1_climbs_14 h (fun a4 h => ?_)
  refine lv_iload_n S.1 S.2.1 dX1_climbs_17 rfl (lv_at hl 2 rfl) ?_
  refine gald40 S X hw dX1_climbs_18 h (fun v5 h => ?_)
  obtain ⟨hrc, h⟩ := oK1 h
  refine gcVrr (As := [.int v5]) (rest := [.ref a3, .int v2, .int x2, .ref a1]) S X Z hw (b := x0) h (fun u h1 => met_B_X1_room_2 l E A LC LS x0 v5 w u h1) (cb_X1_179 S.2.2.2.2 rfl rfl ⟨Nat.le_trans (Nat.le_of_ble_eq_true rfl : 3 + 1 ≤ 4) hF, Nat.le_trans (Nat.le_of_ble_eq_true rfl : 8 + (2 + 11) + 64 ≤ 85) hL⟩) (g_recv X hw (ci := 0) rfl (gcell_1 hrc)) rfl hl.1 rfl (lv_room (Nat.le_of_ble_eq_true rfl)) dX1_climbs_19 (fun a6 H locs h hw => ?_)
  refine ggX1_258 S X hw dX1_climbs_22 h (fun v7 h => ?_)
  refine dv_X1_280  (rest := [.int v2, .int x2, .ref a1]) S X Z hw h (fun u h1 => dm_climbs l E A LC LS a3 v7 w u h1) ⟨Nat.le_trans (Nat.le_of_ble_eq_true rfl : 0 + 1 ≤ 4) hF, Nat.le_trans (Nat.le_of_ble_eq_true rfl : 8 + (2 + 11) + 0 ≤ 85) hL⟩ hl.1 rfl (lv_room (Nat.le_of_ble_eq_true rfl)) dX1_climbs_25 (fun r8 H locs h hw => ?_)
  refine lv_iadd S.1 S.2.1 dX1_climbs_28 ?_
  refine gast40 S X hw dX1_climbs_29 h (fun w9 H locs h hw => ?_)
  exact g_vret S Z hr hlocks hw (so1 h) dX1_climbs_30
