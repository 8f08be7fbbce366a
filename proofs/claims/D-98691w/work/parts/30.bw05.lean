/-! walks over the plain heap, printed by gen/bgen.py -/
set_option maxRecDepth 100000
def B_X3_brew (x0 : Nat) (w : GS) : Option Int32 :=
  bd1 (oI w x0 3 3 3) fun v1 =>
  if 0 ≤ v1 then
    bd1 (oI w x0 3 3 3) fun v3 =>
    some v3
  else
    some (20 : Int32)
set_option maxRecDepth 100000 in
set_option maxHeartbeats 4000000 in
theorem met_B_X3_brew (l : Launch) (E : gE) (A : Nat → Prop) (LC LS : Nat)  (x0 : Nat) (w : GS) (res : Int32) (h : B_X3_brew x0 w = some res) : Met l yX3_brew (ws_ yX3_brew cX3_brew 1 (Option.some Jvm.ClassFile.FieldType.int)) (gRoom 0 0 LC LS w) (gPc E A LC LS [.ref x0] w) (gQi E A LC LS res w) (LC - gZ w) (LS - gN w) A := by
  refine gMet (by decide) rfl (Nat.le_of_ble_eq_true rfl) ?_
  intro p e s m below meth c R S hr hlocks hin2 X Z hF hL H ls hw hl
  replace hl : lv_has ls 1 [(0, .ref x0)] := hl
  unfold B_X3_brew at h
  refine lv_aload_n S.1 S.2.1 dX3_brew_0 rfl (lv_at hl 0 rfl) ?_
  refine ggX3_26 S X hw dX3_brew_1 h (fun v1 h => ?_)
  refine lv_if_ge (tgt := 12) S.1 S.2.1 dX3_brew_4 rfl (fun c2 => ?_) (fun c2 => ?_)
  · replace h := if_t c2 h
    refine lv_aload_n S.1 S.2.1 dX3_brew_12 rfl (lv_at hl 0 rfl) ?_
    refine ggX3_26 S X hw dX3_brew_13 h (fun v3 h => ?_)
    exact g_iret S Z hr hlocks hw ⟨so1 h, rfl⟩ dX3_brew_16
  · replace h := if_f c2 h
    refine lv_bipush (v := 20) S.1 S.2.1 dX3_brew_7 rfl ?_
    refine lv_goto (tgt := 16) S.1 S.2.1 dX3_brew_9 rfl ?_
    exact g_iret S Z hr hlocks hw ⟨so1 h, rfl⟩ dX3_brew_16
def B_X3_every (x0 : Nat) (w : GS) : Option Int32 :=
  bd1 (oI w x0 3 3 5) fun v1 =>
  if 0 ≤ v1 then
    bd1 (oI w x0 3 3 5) fun v3 =>
    some v3
  else
    some (1 : Int32)
set_option maxRecDepth 100000 in
set_option maxHeartbeats 4000000 in
theorem met_B_X3_every (l : Launch) (E : gE) (A : Nat → Prop) (LC LS : Nat)  (x0 : Nat) (w : GS) (res : Int32) (h : B_X3_every x0 w = some res) : Met l yX3_every (ws_ yX3_every cX3_every 1 (Option.some Jvm.ClassFile.FieldType.int)) (gRoom 0 0 LC LS w) (gPc E A LC LS [.ref x0] w) (gQi E A LC LS res w) (LC - gZ w) (LS - gN w) A := by
  refine gMet (by decide) rfl (Nat.le_of_ble_eq_true rfl) ?_
  intro p e s m below meth c R S hr hlocks hin2 X Z hF hL H ls hw hl
  replace hl : lv_has ls 1 [(0, .ref x0)] := hl
  unfold B_X3_every at h
  refine lv_aload_n S.1 S.2.1 dX3_every_0 rfl (lv_at hl 0 rfl) ?_
  refine ggX3_33 S X hw dX3_every_1 h (fun v1 h => ?_)
  refine lv_if_ge (tgt := 11) S.1 S.2.1 dX3_every_4 rfl (fun c2 => ?_) (fun c2 => ?_)
  · replace h := if_t c2 h
    refine lv_aload_n S.1 S.2.1 dX3_every_11 rfl (lv_at hl 0 rfl) ?_
    refine ggX3_33 S X hw dX3_every_12 h (fun v3 h => ?_)
    exact g_iret S Z hr hlocks hw ⟨so1 h, rfl⟩ dX3_every_15
  · replace h := if_f c2 h
    refine lv_iconst (v := 1) S.1 S.2.1 dX3_every_7 rfl ?_
    refine lv_goto (tgt := 15) S.1 S.2.1 dX3_every_8 rfl ?_
    exact g_iret S Z hr hlocks hw ⟨so1 h, rfl⟩ dX3_every_15
def B_X8_kind (x0 : Nat) (w : GS) : Option Int32 :=
  some (0 : Int32)
set_option maxRecDepth 100000 in
set_option maxHeartbeats 4000000 in
theorem met_B_X8_kind (l : Launch) (E : gE) (A : Nat → Prop) (LC LS : Nat)  (x0 : Nat) (w : GS) (res : Int32) (h : B_X8_kind x0 w = some res) : Met l yX8_kind (ws_ yX8_kind cX8_kind 1 (Option.some Jvm.ClassFile.FieldType.int)) (gRoom 0 0 LC LS w) (gPc E A LC LS [.ref x0] w) (gQi E A LC LS res w) (LC - gZ w) (LS - gN w) A := by
  refine gMet (by decide) rfl (Nat.le_of_ble_eq_true rfl) ?_
  intro p e s m below meth c R S hr hlocks hin2 X Z hF hL H ls hw hl
  replace hl : lv_has ls 1 [(0, .ref x0)] := hl
  unfold B_X8_kind at h
  refine lv_iconst (v := 0) S.1 S.2.1 dX8_kind_0 rfl ?_
  exact g_iret S Z hr hlocks hw ⟨so1 h, rfl⟩ dX8_kind_1
def B_X9_kind (x0 : Nat) (w : GS) : Option Int32 :=
  some (1 : Int32)
set_option maxRecDepth 100000 in
set_option maxHeartbeats 4000000 in
theorem met_B_X9_kind (l : Launch) (E : gE) (A : Nat → Prop) (LC LS : Nat)  (x0 : Nat) (w : GS) (res : Int32) (h : B_X9_kind x0 w = some res) : Met l yX9_kind (ws_ yX9_kind cX9_kind 1 (Option.some Jvm.ClassFile.FieldType.int)) (gRoom 0 0 LC LS w) (gPc E A LC LS [.ref x0] w) (gQi E A LC LS res w) (LC - gZ w) (LS - gN w) A := by
  refine gMet (by decide) rfl (Nat.le_of_ble_eq_true rfl) ?_
  intro p e s m below meth c R S hr hlocks hin2 X Z hF hL H ls hw hl
  replace hl : lv_has ls 1 [(0, .ref x0)] := hl
  unfold B_X9_kind at h
  refine lv_iconst (v := 1) S.1 S.2.1 dX9_kind_0 rfl ?_
  exact g_iret S Z hr hlocks hw ⟨so1 h, rfl⟩ dX9_kind_1
def B_X10_kind (x0 : Nat) (w : GS) : Option Int32 :=
  some (2 : Int32)
set_option maxRecDepth 100000 in
set_option maxHeartbeats 4000000 in
theorem met_B_X10_kind (l : Launch) (E : gE) (A : Nat → Prop) (LC LS : Nat)  (x0 : Nat) (w : GS) (res : Int32) (h : B_X10_kind x0 w = some res) : Met l yX10_kind (ws_ yX10_kind cX10_kind 1 (Option.some Jvm.ClassFile.FieldType.int)) (gRoom 0 0 LC LS w) (gPc E A LC LS [.ref x0] w) (gQi E A LC LS res w) (LC - gZ w) (LS - gN w) A := by
  refine gMet (by decide) rfl (Nat.le_of_ble_eq_true rfl) ?_
  intro p e s m below meth c R S hr hlocks hin2 X Z hF hL H ls hw hl
  replace hl : lv_has ls 1 [(0, .ref x0)] := hl
  unfold B_X10_kind at h
  refine lv_iconst (v := 2) S.1 S.2.1 dX10_kind_0 rfl ?_
  exact g_iret S Z hr hlocks hw ⟨so1 h, rfl⟩ dX10_kind_1
def B_X11_kind (x0 : Nat) (w : GS) : Option Int32 :=
  some (3 : Int32)
set_option maxRecDepth 100000 in
set_option maxHeartbeats 4000000 in
theorem met_B_X11_kind (l : Launch) (E : gE) (A : Nat → Prop) (LC LS : Nat)  (x0 : Nat) (w : GS) (res : Int32) (h : B_X11_kind x0 w = some res) : Met l yX11_kind (ws_ yX11_kind cX11_kind 1 (Option.some Jvm.ClassFile.FieldType.int)) (gRoom 0 0 LC LS w) (gPc E A LC LS [.ref x0] w) (gQi E A LC LS res w) (LC - gZ w) (LS - gN w) A := by
  refine gMet (by decide) rfl (Nat.le_of_ble_eq_true rfl) ?_
  intro p e s m below meth c R S hr hlocks hin2 X Z hF hL H ls hw hl
  replace hl : lv_has ls 1 [(0, .ref x0)] := hl
  unfold B_X11_kind at h
  refine lv_iconst (v := 3) S.1 S.2.1 dX11_kind_0 rfl ?_
  exact g_iret S Z hr hlocks hw ⟨so1 h, rfl⟩ dX11_kind_1
def V_kind (x0 : Nat) (w : GS) : Option (Int32) := if (gK w x0).1 = 8 then B_X8_kind x0 w else if (gK w x0).1 = 9 then B_X9_kind x0 w else if (gK w x0).1 = 10 then B_X10_kind x0 w else if (gK w x0).1 = 11 then B_X11_kind x0 w else none
def vt_kind (l : Launch) (E : gE) (A : Nat → Prop) (LC LS : Nat) (x0 : Nat) (w : GS) (u : Int32) : Prop :=
  ((gK w x0).1 = 8 ∧ Met l yX8_kind (ws_ yX8_kind cX8_kind 1 (Option.some Jvm.ClassFile.FieldType.int)) (gRoom 0 0 LC LS w) (gPc E A LC LS [.ref x0] w) (gQi E A LC LS u w) (LC - gZ w) (LS - gN w) A) ∨
  ((gK w x0).1 = 9 ∧ Met l yX9_kind (ws_ yX9_kind cX9_kind 1 (Option.some Jvm.ClassFile.FieldType.int)) (gRoom 0 0 LC LS w) (gPc E A LC LS [.ref x0] w) (gQi E A LC LS u w) (LC - gZ w) (LS - gN w) A) ∨
  ((gK w x0).1 = 10 ∧ Met l yX10_kind (ws_ yX10_kind cX10_kind 1 (Option.some Jvm.ClassFile.FieldType.int)) (gRoom 0 0 LC LS w) (gPc E A LC LS [.ref x0] w) (gQi E A LC LS u w) (LC - gZ w) (LS - gN w) A) ∨
  ((gK w x0).1 = 11 ∧ Met l yX11_kind (ws_ yX11_kind cX11_kind 1 (Option.some Jvm.ClassFile.FieldType.int)) (gRoom 0 0 LC LS w) (gPc E A LC LS [.ref x0] w) (gQi E A LC LS u w) (LC - gZ w) (LS - gN w) A)
theorem dm_kind (l : Launch) (E : gE) (A : Nat → Prop) (LC LS : Nat) (x0 : Nat) (w : GS) (u : Int32) (h : V_kind x0 w = some u) : vt_kind l E A LC LS x0 w u := by
  unfold V_kind at h
  unfold vt_kind
  by_cases t8 : (gK w x0).1 = 8
  · rw [if_pos t8] at h; exact Or.inl ⟨t8, met_B_X8_kind l E A LC LS x0 w u h⟩
  rw [if_neg t8] at h
  by_cases t9 : (gK w x0).1 = 9
  · rw [if_pos t9] at h; exact Or.inr (Or.inl ⟨t9, met_B_X9_kind l E A LC LS x0 w u h⟩)
  rw [if_neg t9] at h
  by_cases t10 : (gK w x0).1 = 10
  · rw [if_pos t10] at h; exact Or.inr (Or.inr (Or.inl ⟨t10, met_B_X10_kind l E A LC LS x0 w u h⟩))
  rw [if_neg t10] at h
  by_cases t11 : (gK w x0).1 = 11
  · rw [if_pos t11] at h; exact Or.inr (Or.inr (Or.inr (⟨t11, met_B_X11_kind l E A LC LS x0 w u h⟩)))
  rw [if_neg t11] at h
  cases h
def B_X8_rest (x0 : Nat) (w : GS) : Option Int32 :=
  bd1 (oI w x0 8 11 1) fun v1 =>
  some v1
set_option maxRecDepth 100000 in
set_option maxHeartbeats 4000000 in
theorem met_B_X8_rest (l : Launch) (E : gE) (A : Nat → Prop) (LC LS : Nat)  (x0 : Nat) (w : GS) (res : Int32) (h : B_X8_rest x0 w = some res) : Met l yX8_rest (ws_ yX8_rest cX8_rest 1 (Option.some Jvm.ClassFile.FieldType.int)) (gRoom 0 0 LC LS w) (gPc E A LC LS [.ref x0] w) (gQi E A LC LS res w) (LC - gZ w) (LS - gN w) A := by
  refine gMet (by decide) rfl (Nat.le_of_ble_eq_true rfl) ?_
  intro p e s m below meth c R S hr hlocks hin2 X Z hF hL H ls hw hl
  replace hl : lv_has ls 1 [(0, .ref x0)] := hl
  unfold B_X8_rest at h
  refine lv_aload_n S.1 S.2.1 dX8_rest_0 rfl (lv_at hl 0 rfl) ?_
  refine ggX8_19 S X hw dX8_rest_1 h (fun v1 h => ?_)
  exact g_iret S Z hr hlocks hw ⟨so1 h, rfl⟩ dX8_rest_4
def B_X11_rest (x0 : Nat) (w : GS) : Option Int32 :=
  bd1 (oI w x0 11 11 1) fun v1 =>
  some (v1 + (20 : Int32))
set_option maxRecDepth 100000 in
set_option maxHeartbeats 4000000 in
theorem met_B_X11_rest (l : Launch) (E : gE) (A : Nat → Prop) (LC LS : Nat)  (x0 : Nat) (w : GS) (res : Int32) (h : B_X11_rest x0 w = some res) : Met l yX11_rest (ws_ yX11_rest cX11_rest 1 (Option.some Jvm.ClassFile.FieldType.int)) (gRoom 0 0 LC LS w) (gPc E A LC LS [.ref x0] w) (gQi E A LC LS res w) (LC - gZ w) (LS - gN w) A := by
  refine gMet (by decide) rfl (Nat.le_of_ble_eq_true rfl) ?_
  intro p e s m below meth c R S hr hlocks hin2 X Z hF hL H ls hw hl
  replace hl : lv_has ls 1 [(0, .ref x0)] := hl
  unfold B_X11_rest at h
  refine lv_aload_n S.1 S.2.1 dX11_rest_0 rfl (lv_at hl 0 rfl) ?_
  refine ggX11_9 S X hw dX11_rest_1 h (fun v1 h => ?_)
  refine lv_bipush (v := 20) S.1 S.2.1 dX11_rest_4 rfl ?_
  refine lv_iadd S.1 S.2.1 dX11_rest_6 ?_
  exact g_iret S Z hr hlocks hw ⟨so1 h, rfl⟩ dX11_rest_7
def V_rest (x0 : Nat) (w : GS) : Option (Int32) := if (gK w x0).1 = 8 then B_X8_rest x0 w else if (gK w x0).1 = 9 then B_X8_rest x0 w else if (gK w x0).1 = 10 then B_X8_rest x0 w else if (gK w x0).1 = 11 then B_X11_rest x0 w else none
def vt_rest (l : Launch) (E : gE) (A : Nat → Prop) (LC LS : Nat) (x0 : Nat) (w : GS) (u : Int32) : Prop :=
  ((gK w x0).1 = 8 ∧ Met l yX8_rest (ws_ yX8_rest cX8_rest 1 (Option.some Jvm.ClassFile.FieldType.int)) (gRoom 0 0 LC LS w) (gPc E A LC LS [.ref x0] w) (gQi E A LC LS u w) (LC - gZ w) (LS - gN w) A) ∨
  ((gK w x0).1 = 9 ∧ Met l yX8_rest (ws_ yX8_rest cX8_rest 1 (Option.some Jvm.ClassFile.FieldType.int)) (gRoom 0 0 LC LS w) (gPc E A LC LS [.ref x0] w) (gQi E A LC LS u w) (LC - gZ w) (LS - gN w) A) ∨
  ((gK w x0).1 = 10 ∧ Met l yX8_rest (ws_ yX8_rest cX8_rest 1 (Option.some Jvm.ClassFile.FieldType.int)) (gRoom 0 0 LC LS w) (gPc E A LC LS [.ref x0] w) (gQi E A LC LS u w) (LC - gZ w) (LS - gN w) A) ∨
  ((gK w x0).1 = 11 ∧ Met l yX11_rest (ws_ yX11_rest cX11_rest 1 (Option.some Jvm.ClassFile.FieldType.int)) (gRoom 0 0 LC LS w) (gPc E A LC LS [.ref x0] w) (gQi E A LC LS u w) (LC - gZ w) (LS - gN w) A)
theorem dm_rest (l : Launch) (E : gE) (A : Nat → Prop) (LC LS : Nat) (x0 : Nat) (w : GS) (u : Int32) (h : V_rest x0 w = some u) : vt_rest l E A LC LS x0 w u := by
  unfold V_rest at h
  unfold vt_rest
  by_cases t8 : (gK w x0).1 = 8
  · rw [if_pos t8] at h; exact Or.inl ⟨t8, met_B_X8_rest l E A LC LS x0 w u h⟩
  rw [if_neg t8] at h
  by_cases t9 : (gK w x0).1 = 9
  · rw [if_pos t9] at h; exact Or.inr (Or.inl ⟨t9, met_B_X8_rest l E A LC LS x0 w u h⟩)
  rw [if_neg t9] at h
  by_cases t10 : (gK w x0).1 = 10
  · rw [if_pos t10] at h; exact Or.inr (Or.inr (Or.inl ⟨t10, met_B_X8_rest l E A LC LS x0 w u h⟩))
  rw [if_neg t10] at h
  by_cases t11 : (gK w x0).1 = 11
  · rw [if_pos t11] at h; exact Or.inr (Or.inr (Or.inr (⟨t11, met_B_X11_rest l E A LC LS x0 w u h⟩)))
  rw [if_neg t11] at h
  cases h
def B_X8_climbs (x0 : Nat) (x1 : Int32) (w : GS) : Option Int32 :=
  some x1
set_option maxRecDepth 100000 in
set_option maxHeartbeats 4000000 in
theorem met_B_X8_climbs (l : Launch) (E : gE) (A : Nat → Prop) (LC LS : Nat)  (x0 : Nat) (x1 : Int32) (w : GS) (res : Int32) (h : B_X8_climbs x0 x1 w = some res) : Met l yX8_climbs (ws_ yX8_climbs cX8_climbs 2 (Option.some Jvm.ClassFile.FieldType.int)) (gRoom 0 0 LC LS w) (gPc E A LC LS [.ref x0, .int x1] w) (gQi E A LC LS res w) (LC - gZ w) (LS - gN w) A := by
  refine gMet (by decide) rfl (Nat.le_of_ble_eq_true rfl) ?_
  intro p e s m below meth c R S hr hlocks hin2 X Z hF hL H ls hw hl
  replace hl : lv_has ls 2 [(0, .ref x0), (1, .int x1)] := hl
  unfold B_X8_climbs at h
  refine lv_iload_n S.1 S.2.1 dX8_climbs_0 rfl (lv_at hl 1 rfl) ?_
  exact g_iret S Z hr hlocks hw ⟨so1 h, rfl⟩ dX8_climbs_1
def B_X10_climbs (x0 : Nat) (x1 : Int32) (w : GS) : Option Int32 :=
  some (x1 / (2 : Int32))
set_option maxRecDepth 100000 in
set_option maxHeartbeats 4000000 in
theorem met_B_X10_climbs (l : Launch) (E : gE) (A : Nat → Prop) (LC LS : Nat)  (x0 : Nat) (x1 : Int32) (w : GS) (res : Int32) (h : B_X10_climbs x0 x1 w = some res) : Met l yX10_climbs (ws_ yX10_climbs cX10_climbs 2 (Option.some Jvm.ClassFile.FieldType.int)) (gRoom 0 0 LC LS w) (gPc E A LC LS [.ref x0, .int x1] w) (gQi E A LC LS res w) (LC - gZ w) (LS - gN w) A := by
  refine gMet (by decide) rfl (Nat.le_of_ble_eq_true rfl) ?_
  intro p e s m below meth c R S hr hlocks hin2 X Z hF hL H ls hw hl
  replace hl : lv_has ls 2 [(0, .ref x0), (1, .int x1)] := hl
  unfold B_X10_climbs at h
  refine lv_iload_n S.1 S.2.1 dX10_climbs_0 rfl (lv_at hl 1 rfl) ?_
  refine lv_iconst (v := 2) S.1 S.2.1 dX10_climbs_1 rfl ?_
  refine lv_idiv S.1 S.2.1 dX10_climbs_2 (by decide) ?_
  exact g_iret S Z hr hlocks hw ⟨so1 h, rfl⟩ dX10_climbs_3
def V_climbs (x0 : Nat) (x1 : Int32) (w : GS) : Option (Int32) := if (gK w x0).1 = 8 then B_X8_climbs x0 x1 w else if (gK w x0).1 = 9 then B_X8_climbs x0 x1 w else if (gK w x0).1 = 10 then B_X10_climbs x0 x1 w else if (gK w x0).1 = 11 then B_X8_climbs x0 x1 w else none
def vt_climbs (l : Launch) (E : gE) (A : Nat → Prop) (LC LS : Nat) (x0 : Nat) (x1 : Int32) (w : GS) (u : Int32) : Prop :=
  ((gK w x0).1 = 8 ∧ Met l yX8_climbs (ws_ yX8_climbs cX8_climbs 2 (Option.some Jvm.ClassFile.FieldType.int)) (gRoom 0 0 LC LS w) (gPc E A LC LS [.ref x0, .int x1] w) (gQi E A LC LS u w) (LC - gZ w) (LS - gN w) A) ∨
  ((gK w x0).1 = 9 ∧ Met l yX8_climbs (ws_ yX8_climbs cX8_climbs 2 (Option.some Jvm.ClassFile.FieldType.int)) (gRoom 0 0 LC LS w) (gPc E A LC LS [.ref x0, .int x1] w) (gQi E A LC LS u w) (LC - gZ w) (LS - gN w) A) ∨
  ((gK w x0).1 = 10 ∧ Met l yX10_climbs (ws_ yX10_climbs cX10_climbs 2 (Option.some Jvm.ClassFile.FieldType.int)) (gRoom 0 0 LC LS w) (gPc E A LC LS [.ref x0, .int x1] w) (gQi E A LC LS u w) (LC - gZ w) (LS - gN w) A) ∨
  ((gK w x0).1 = 11 ∧ Met l yX8_climbs (ws_ yX8_climbs cX8_climbs 2 (Option.some Jvm.ClassFile.FieldType.int)) (gRoom 0 0 LC LS w) (gPc E A LC LS [.ref x0, .int x1] w) (gQi E A LC LS u w) (LC - gZ w) (LS - gN w) A)
theorem dm_climbs (l : Launch) (E : gE) (A : Nat → Prop) (LC LS : Nat) (x0 : Nat) (x1 : Int32) (w : GS) (u : Int32) (h : V_climbs x0 x1 w = some u) : vt_climbs l E A LC LS x0 x1 w u := by
  unfold V_climbs at h
  unfold vt_climbs
  by_cases t8 : (gK w x0).1 = 8
  · rw [if_pos t8] at h; exact Or.inl ⟨t8, met_B_X8_climbs l E A LC LS x0 x1 w u h⟩
  rw [if_neg t8] at h
  by_cases t9 : (gK w x0).1 = 9
  · rw [if_pos t9] at h; exact Or.inr (Or.inl ⟨t9, met_B_X8_climbs l E A LC LS x0 x1 w u h⟩)
  rw [if_neg t9] at h
  by_cases t10 : (gK w x0).1 = 10
  · rw [if_pos t10] at h; exact Or.inr (Or.inr (Or.inl ⟨t10, met_B_X10_climbs l E A LC LS x0 x1 w u h⟩))
  rw [if_neg t10] at h
  by_cases t11 : (gK w x0).1 = 11
  · rw [if_pos t11] at h; exact Or.inr (Or.inr (Or.inr (⟨t11, met_B_X8_climbs l E A LC LS x0 x1 w u h⟩)))
  rw [if_neg t11] at h
  cases h
def B_X8_settles (x0 : Nat) (x1 : Int32) (w : GS) : Option Int32 :=
  some (x1 / (2 : Int32))
set_option maxRecDepth 100000 in
set_option maxHeartbeats 4000000 in
theorem met_B_X8_settles (l : Launch) (E : gE) (A : Nat → Prop) (LC LS : Nat)  (x0 : Nat) (x1 : Int32) (w : GS) (res : Int32) (h : B_X8_settles x0 x1 w = some res) : Met l yX8_settles (ws_ yX8_settles cX8_settles 2 (Option.some Jvm.ClassFile.FieldType.int)) (gRoom 0 0 LC LS w) (gPc E A LC LS [.ref x0, .int x1] w) (gQi E A LC LS res w) (LC - gZ w) (LS - gN w) A := by
  refine gMet (by decide) rfl (Nat.le_of_ble_eq_true rfl) ?_
  intro p e s m below meth c R S hr hlocks hin2 X Z hF hL H ls hw hl
  replace hl : lv_has ls 2 [(0, .ref x0), (1, .int x1)] := hl
  unfold B_X8_settles at h
  refine lv_iload_n S.1 S.2.1 dX8_settles_0 rfl (lv_at hl 1 rfl) ?_
  refine lv_iconst (v := 2) S.1 S.2.1 dX8_settles_1 rfl ?_
  refine lv_idiv S.1 S.2.1 dX8_settles_2 (by decide) ?_
  exact g_iret S Z hr hlocks hw ⟨so1 h, rfl⟩ dX8_settles_3
def B_X9_settles (x0 : Nat) (x1 : Int32) (w : GS) : Option Int32 :=
  some (x1 / (4 : Int32))
set_option maxRecDepth 100000 in
set_option maxHeartbeats 4000000 in
theorem met_B_X9_settles (l : Launch) (E : gE) (A : Nat → Prop) (LC LS : Nat)  (x0 : Nat) (x1 : Int32) (w : GS) (res : Int32) (h : B_X9_settles x0 x1 w = some res) : Met l yX9_settles (ws_ yX9_settles cX9_settles 2 (Option.some Jvm.ClassFile.FieldType.int)) (gRoom 0 0 LC LS w) (gPc E A LC LS [.ref x0, .int x1] w) (gQi E A LC LS res w) (LC - gZ w) (LS - gN w) A := by
  refine gMet (by decide) rfl (Nat.le_of_ble_eq_true rfl) ?_
  intro p e s m below meth c R S hr hlocks hin2 X Z hF hL H ls hw hl
  replace hl : lv_has ls 2 [(0, .ref x0), (1, .int x1)] := hl
  unfold B_X9_settles at h
  refine lv_iload_n S.1 S.2.1 dX9_settles_0 rfl (lv_at hl 1 rfl) ?_
  refine lv_iconst (v := 4) S.1 S.2.1 dX9_settles_1 rfl ?_
  refine lv_idiv S.1 S.2.1 dX9_settles_2 (by decide) ?_
  exact g_iret S Z hr hlocks hw ⟨so1 h, rfl⟩ dX9_settles_3
def V_settles (x0 : Nat) (x1 : Int32) (w : GS) : Option (Int32) := if (gK w x0).1 = 8 then B_X8_settles x0 x1 w else if (gK w x0).1 = 9 then B_X9_settles x0 x1 w else if (gK w x0).1 = 10 then B_X8_settles x0 x1 w else if (gK w x0).1 = 11 then B_X8_settles x0 x1 w else none
def vt_settles (l : Launch) (E : gE) (A : Nat → Prop) (LC LS : Nat) (x0 : Nat) (x1 : Int32) (w : GS) (u : Int32) : Prop :=
  ((gK w x0).1 = 8 ∧ Met l yX8_settles (ws_ yX8_settles cX8_settles 2 (Option.some Jvm.ClassFile.FieldType.int)) (gRoom 0 0 LC LS w) (gPc E A LC LS [.ref x0, .int x1] w) (gQi E A LC LS u w) (LC - gZ w) (LS - gN w) A) ∨
  ((gK w x0).1 = 9 ∧ Met l yX9_settles (ws_ yX9_settles cX9_settles 2 (Option.some Jvm.ClassFile.FieldType.int)) (gRoom 0 0 LC LS w) (gPc E A LC LS [.ref x0, .int x1] w) (gQi E A LC LS u w) (LC - gZ w) (LS - gN w) A) ∨
  ((gK w x0).1 = 10 ∧ Met l yX8_settles (ws_ yX8_settles cX8_settles 2 (Option.some Jvm.ClassFile.FieldType.int)) (gRoom 0 0 LC LS w) (gPc E A LC LS [.ref x0, .int x1] w) (gQi E A LC LS u w) (LC - gZ w) (LS - gN w) A) ∨
  ((gK w x0).1 = 11 ∧ Met l yX8_settles (ws_ yX8_settles cX8_settles 2 (Option.some Jvm.ClassFile.FieldType.int)) (gRoom 0 0 LC LS w) (gPc E A LC LS [.ref x0, .int x1] w) (gQi E A LC LS u w) (LC - gZ w) (LS - gN w) A)
theorem dm_settles (l : Launch) (E : gE) (A : Nat → Prop) (LC LS : Nat) (x0 : Nat) (x1 : Int32) (w : GS) (u : Int32) (h : V_settles x0 x1 w = some u) : vt_settles l E A LC LS x0 x1 w u := by
  unfold V_settles at h
  unfold vt_settles
  by_cases t8 : (gK w x0).1 = 8
  · rw [if_pos t8] at h; exact Or.inl ⟨t8, met_B_X8_settles l E A LC LS x0 x1 w u h⟩
  rw [if_neg t8] at h
  by_cases t9 : (gK w x0).1 = 9
  · rw [if_pos t9] at h; exact Or.inr (Or.inl ⟨t9, met_B_X9_settles l E A LC LS x0 x1 w u h⟩)
  rw [if_neg t9] at h
  by_cases t10 : (gK w x0).1 = 10
  · rw [if_pos t10] at h; exact Or.inr (Or.inr (Or.inl ⟨t10, met_B_X8_settles l E A LC LS x0 x1 w u h⟩))
  rw [if_neg t10] at h
  by_cases t11 : (gK w x0).1 = 11
  · rw [if_pos t11] at h; exact Or.inr (Or.inr (Or.inr (⟨t11, met_B_X8_settles l E A LC LS x0 x1 w u h⟩)))
  rw [if_neg t11] at h
  cases h
def B_X8_mayLack (x0 : Nat) (w : GS) : Option Int32 :=
  some (0 : Int32)
set_option maxRecDepth 100000 in
set_option maxHeartbeats 4000000 in
theorem met_B_X8_mayLack (l : Launch) (E : gE) (A : Nat → Prop) (LC LS : Nat)  (x0 : Nat) (w : GS) (res : Int32) (h : B_X8_mayLack x0 w = some res) : Met l yX8_mayLack (ws_ yX8_mayLack cX8_mayLack 1 (Option.some Jvm.ClassFile.FieldType.int)) (gRoom 0 0 LC LS w) (gPc E A LC LS [.ref x0] w) (gQi E A LC LS res w) (LC - gZ w) (LS - gN w) A := by
  refine gMet (by decide) rfl (Nat.le_of_ble_eq_true rfl) ?_
  intro p e s m below meth c R S hr hlocks hin2 X Z hF hL H ls hw hl
  replace hl : lv_has ls 1 [(0, .ref x0)] := hl
  unfold B_X8_mayLack at h
  refine lv_iconst (v := 0) S.1 S.2.1 dX8_mayLack_0 rfl ?_
  exact g_iret S Z hr hlocks hw ⟨so1 h, rfl⟩ dX8_mayLack_1
def B_X11_mayLack (x0 : Nat) (w : GS) : Option Int32 :=
  some (99 : Int32)
set_option maxRecDepth 100000 in
set_option maxHeartbeats 4000000 in
theorem met_B_X11_mayLack (l : Launch) (E : gE) (A : Nat → Prop) (LC LS : Nat)  (x0 : Nat) (w : GS) (res : Int32) (h : B_X11_mayLack x0 w = some res) : Met l yX11_mayLack (ws_ yX11_mayLack cX11_mayLack 1 (Option.some Jvm.ClassFile.FieldType.int)) (gRoom 0 0 LC LS w) (gPc E A LC LS [.ref x0] w) (gQi E A LC LS res w) (LC - gZ w) (LS - gN w) A := by
  refine gMet (by decide) rfl (Nat.le_of_ble_eq_true rfl) ?_
  intro p e s m below meth c R S hr hlocks hin2 X Z hF hL H ls hw hl
  replace hl : lv_has ls 1 [(0, .ref x0)] := hl
  unfold B_X11_mayLack at h
  refine lv_bipush (v := 99) S.1 S.2.1 dX11_mayLack_0 rfl ?_
  exact g_iret S Z hr hlocks hw ⟨so1 h, rfl⟩ dX11_mayLack_2
def V_mayLack (x0 : Nat) (w : GS) : Option (Int32) := if (gK w x0).1 = 8 then B_X8_mayLack x0 w else if (gK w x0).1 = 9 then B_X8_mayLack x0 w else if (gK w x0).1 = 10 then B_X8_mayLack x0 w else if (gK w x0).1 = 11 then B_X11_mayLack x0 w else none
def vt_mayLack (l : Launch) (E : gE) (A : Nat → Prop) (LC LS : Nat) (x0 : Nat) (w : GS) (u : Int32) : Prop :=
  ((gK w x0).1 = 8 ∧ Met l yX8_mayLack (ws_ yX8_mayLack cX8_mayLack 1 (Option.some Jvm.ClassFile.FieldType.int)) (gRoom 0 0 LC LS w) (gPc E A LC LS [.ref x0] w) (gQi E A LC LS u w) (LC - gZ w) (LS - gN w) A) ∨
  ((gK w x0).1 = 9 ∧ Met l yX8_mayLack (ws_ yX8_mayLack cX8_mayLack 1 (Option.some Jvm.ClassFile.FieldType.int)) (gRoom 0 0 LC LS w) (gPc E A LC LS [.ref x0] w) (gQi E A LC LS u w) (LC - gZ w) (LS - gN w) A) ∨
  ((gK w x0).1 = 10 ∧ Met l yX8_mayLack (ws_ yX8_mayLack cX8_mayLack 1 (Option.some Jvm.ClassFile.FieldType.int)) (gRoom 0 0 LC LS w) (gPc E A LC LS [.ref x0] w) (gQi E A LC LS u w) (LC - gZ w) (LS - gN w) A) ∨
  ((gK w x0).1 = 11 ∧ Met l yX11_mayLack (ws_ yX11_mayLack cX11_mayLack 1 (Option.some Jvm.ClassFile.FieldType.int)) (gRoom 0 0 LC LS w) (gPc E A LC LS [.ref x0] w) (gQi E A LC LS u w) (LC - gZ w) (LS - gN w) A)
theorem dm_mayLack (l : Launch) (E : gE) (A : Nat → Prop) (LC LS : Nat) (x0 : Nat) (w : GS) (u : Int32) (h : V_mayLack x0 w = some u) : vt_mayLack l E A LC LS x0 w u := by
  unfold V_mayLack at h
  unfold vt_mayLack
  by_cases t8 : (gK w x0).1 = 8
  · rw [if_pos t8] at h; exact Or.inl ⟨t8, met_B_X8_mayLack l E A LC LS x0 w u h⟩
  rw [if_neg t8] at h
  by_cases t9 : (gK w x0).1 = 9
  · rw [if_pos t9] at h; exact Or.inr (Or.inl ⟨t9, met_B_X8_mayLack l E A LC LS x0 w u h⟩)
  rw [if_neg t9] at h
  by_cases t10 : (gK w x0).1 = 10
  · rw [if_pos t10] at h; exact Or.inr (Or.inr (Or.inl ⟨t10, met_B_X8_mayLack l E A LC LS x0 w u h⟩))
  rw [if_neg t10] at h
  by_cases t11 : (gK w x0).1 = 11
  · rw [if_pos t11] at h; exact Or.inr (Or.inr (Or.inr (⟨t11, met_B_X11_mayLack l E A LC LS x0 w u h⟩)))
  rw [if_neg t11] at h
  cases h
def B_X8_wish (x0 : Nat) (x1 : Nat) (w : GS) : Option Int32 :=
  bd1 (oI w x1 7 7 2) fun v1 =>
  bd1 (oI w x1 7 7 1) fun v2 =>
  bd1 (oI w x1 7 7 3) fun v3 =>
  some ((((-v1) * (3 : Int32)) - v2) - v3)
set_option maxRecDepth 100000 in
set_option maxHeartbeats 4000000 in
theorem met_B_X8_wish (l : Launch) (E : gE) (A : Nat → Prop) (LC LS : Nat)  (x0 : Nat) (x1 : Nat) (w : GS) (res : Int32) (h : B_X8_wish x0 x1 w = some res) : Met l yX8_wish (ws_ yX8_wish cX8_wish 2 (Option.some Jvm.ClassFile.FieldType.int)) (gRoom 0 0 LC LS w) (gPc E A LC LS [.ref x0, .ref x1] w) (gQi E A LC LS res w) (LC - gZ w) (LS - gN w) A := by
  refine gMet (by decide) rfl (Nat.le_of_ble_eq_true rfl) ?_
  intro p e s m below meth c R S hr hlocks hin2 X Z hF hL H ls hw hl
  replace hl : lv_has ls 2 [(0, .ref x0), (1, .ref x1)] := hl
  unfold B_X8_wish at h
  refine lv_aload_n S.1 S.2.1 dX8_wish_0 rfl (lv_at hl 1 rfl) ?_
  refine ggX8_22 S X hw dX8_wish_1 h (fun v1 h => ?_)
  refine lv_ineg S.1 S.2.1 dX8_wish_4 ?_
  refine lv_iconst (v := 3) S.1 S.2.1 dX8_wish_5 rfl ?_
  refine lv_imul S.1 S.2.1 dX8_wish_6 ?_
  refine lv_aload_n S.1 S.2.1 dX8_wish_7 rfl (lv_at hl 1 rfl) ?_
  refine ggX8_27 S X hw dX8_wish_8 h (fun v2 h => ?_)
  refine lv_isub S.1 S.2.1 dX8_wish_11 ?_
  refine lv_aload_n S.1 S.2.1 dX8_wish_12 rfl (lv_at hl 1 rfl) ?_
  refine ggX8_30 S X hw dX8_wish_13 h (fun v3 h => ?_)
  refine lv_isub S.1 S.2.1 dX8_wish_16 ?_
  exact g_iret S Z hr hlocks hw ⟨so1 h, rfl⟩ dX8_wish_17
def B_X10_wish (x0 : Nat) (x1 : Nat) (w : GS) : Option Int32 :=
  bd1 (oI w x1 7 7 2) fun v1 =>
  bd1 (oI w x1 7 7 3) fun v2 =>
  some (((-v1) * (3 : Int32)) - v2)
set_option maxRecDepth 100000 in
set_option maxHeartbeats 4000000 in
theorem met_B_X10_wish (l : Launch) (E : gE) (A : Nat → Prop) (LC LS : Nat)  (x0 : Nat) (x1 : Nat) (w : GS) (res : Int32) (h : B_X10_wish x0 x1 w = some res) : Met l yX10_wish (ws_ yX10_wish cX10_wish 2 (Option.some Jvm.ClassFile.FieldType.int)) (gRoom 0 0 LC LS w) (gPc E A LC LS [.ref x0, .ref x1] w) (gQi E A LC LS res w) (LC - gZ w) (LS - gN w) A := by
  refine gMet (by decide) rfl (Nat.le_of_ble_eq_true rfl) ?_
  intro p e s m below meth c R S hr hlocks hin2 X Z hF hL H ls hw hl
  replace hl : lv_has ls 2 [(0, .ref x0), (1, .ref x1)] := hl
  unfold B_X10_wish at h
  refine lv_aload_n S.1 S.2.1 dX10_wish_0 rfl (lv_at hl 1 rfl) ?_
  refine ggX10_7 S X hw dX10_wish_1 h (fun v1 h => ?_)
  refine lv_ineg S.1 S.2.1 dX10_wish_4 ?_
  refine lv_iconst (v := 3) S.1 S.2.1 dX10_wish_5 rfl ?_
  refine lv_imul S.1 S.2.1 dX10_wish_6 ?_
  refine lv_aload_n S.1 S.2.1 dX10_wish_7 rfl (lv_at hl 1 rfl) ?_
  refine ggX10_13 S X hw dX10_wish_8 h (fun v2 h => ?_)
  refine lv_isub S.1 S.2.1 dX10_wish_11 ?_
  exact g_iret S Z hr hlocks hw ⟨so1 h, rfl⟩ dX10_wish_12
def V_wish (x0 : Nat) (x1 : Nat) (w : GS) : Option (Int32) := if (gK w x0).1 = 8 then B_X8_wish x0 x1 w else if (gK w x0).1 = 9 then B_X8_wish x0 x1 w else if (gK w x0).1 = 10 then B_X10_wish x0 x1 w else if (gK w x0).1 = 11 then B_X8_wish x0 x1 w else none
def vt_wish (l : Launch) (E : gE) (A : Nat → Prop) (LC LS : Nat) (x0 : Nat) (x1 : Nat) (w : GS) (u : Int32) : Prop :=
  ((gK w x0).1 = 8 ∧ Met l yX8_wish (ws_ yX8_wish cX8_wish 2 (Option.some Jvm.ClassFile.FieldType.int)) (gRoom 0 0 LC LS w) (gPc E A LC LS [.ref x0, .ref x1] w) (gQi E A LC LS u w) (LC - gZ w) (LS - gN w) A) ∨
  ((gK w x0).1 = 9 ∧ Met l yX8_wish (ws_ yX8_wish cX8_wish 2 (Option.some Jvm.ClassFile.FieldType.int)) (gRoom 0 0 LC LS w) (gPc E A LC LS [.ref x0, .ref x1] w) (gQi E A LC LS u w) (LC - gZ w) (LS - gN w) A) ∨
  ((gK w x0).1 = 10 ∧ Met l yX10_wish (ws_ yX10_wish cX10_wish 2 (Option.some Jvm.ClassFile.FieldType.int)) (gRoom 0 0 LC LS w) (gPc E A LC LS [.ref x0, .ref x1] w) (gQi E A LC LS u w) (LC - gZ w) (LS - gN w) A) ∨
  ((gK w x0).1 = 11 ∧ Met l yX8_wish (ws_ yX8_wish cX8_wish 2 (Option.some Jvm.ClassFile.FieldType.int)) (gRoom 0 0 LC LS w) (gPc E A LC LS [.ref x0, .ref x1] w) (gQi E A LC LS u w) (LC - gZ w) (LS - gN w) A)
theorem dm_wish (l : Launch) (E : gE) (A : Nat → Prop) (LC LS : Nat) (x0 : Nat) (x1 : Nat) (w : GS) (u : Int32) (h : V_wish x0 x1 w = some u) : vt_wish l E A LC LS x0 x1 w u := by
  unfold V_wish at h
  unfold vt_wish
  by_cases t8 : (gK w x0).1 = 8
  · rw [if_pos t8] at h; exact Or.inl ⟨t8, met_B_X8_wish l E A LC LS x0 x1 w u h⟩
  rw [if_neg t8] at h
  by_cases t9 : (gK w x0).1 = 9
  · rw [if_pos t9] at h; exact Or.inr (Or.inl ⟨t9, met_B_X8_wish l E A LC LS x0 x1 w u h⟩)
  rw [if_neg t9] at h
  by_cases t10 : (gK w x0).1 = 10
  · rw [if_pos t10] at h; exact Or.inr (Or.inr (Or.inl ⟨t10, met_B_X10_wish l E A LC LS x0 x1 w u h⟩))
  rw [if_neg t10] at h
  by_cases t11 : (gK w x0).1 = 11
  · rw [if_pos t11] at h; exact Or.inr (Or.inr (Or.inr (⟨t11, met_B_X8_wish l E A LC LS x0 x1 w u h⟩)))
  rw [if_neg t11] at h
  cases h
def vt_worked (l : Launch) (E : gE) (A : Nat → Prop) (LC LS : Nat) (d : Nat) (x0 : Nat) (x1 : Nat) (w : GS) (u : Int32) : Prop :=
  ((gK w x0).1 = 13 ∧ Met l yX14_worked (ws_ yX14_worked cX14_worked 2 (Option.some Jvm.ClassFile.FieldType.int)) (gRoom (d + 1) (30 * d + 30) LC LS w) (gPc E A LC LS [.ref x0, .ref x1] w) (gQi E A LC LS u w) (LC - gZ w) (LS - gN w) A) ∨
  ((gK w x0).1 = 14 ∧ Met l yX15_worked (ws_ yX15_worked cX15_worked 2 (Option.some Jvm.ClassFile.FieldType.int)) (gRoom (d + 1) (30 * d + 30) LC LS w) (gPc E A LC LS [.ref x0, .ref x1] w) (gQi E A LC LS u w) (LC - gZ w) (LS - gN w) A) ∨
  ((gK w x0).1 = 15 ∧ Met l yX16_worked (ws_ yX16_worked cX16_worked 2 (Option.some Jvm.ClassFile.FieldType.int)) (gRoom (d + 1) (30 * d + 30) LC LS w) (gPc E A LC LS [.ref x0, .ref x1] w) (gQi E A LC LS u w) (LC - gZ w) (LS - gN w) A) ∨
  ((gK w x0).1 = 16 ∧ Met l yX17_worked (ws_ yX17_worked cX17_worked 4 (Option.some Jvm.ClassFile.FieldType.int)) (gRoom (d + 1) (30 * d + 30) LC LS w) (gPc E A LC LS [.ref x0, .ref x1] w) (gQi E A LC LS u w) (LC - gZ w) (LS - gN w) A)
def B_X14_worked (wk : Nat → Nat → GS → Option Int32) (x0 : Nat) (x1 : Nat) (w : GS) : Option Int32 :=
  bd1 (oI w x0 13 13 0) fun v1 =>
  some v1
set_option maxRecDepth 100000 in
set_option maxHeartbeats 4000000 in
theorem met_B_X14_worked (l : Launch) (E : gE) (A : Nat → Prop) (LC LS : Nat) {d : Nat} {wk : Nat → Nat → GS → Option Int32} (hwk : ∀ (x0 x1 : Nat) (w : GS) (u : Int32), wk x0 x1 w = some u → vt_worked l E A LC LS d x0 x1 w u) (x0 : Nat) (x1 : Nat) (w : GS) (res : Int32) (h : B_X14_worked wk x0 x1 w = some res) : Met l yX14_worked (ws_ yX14_worked cX14_worked 2 (Option.some Jvm.ClassFile.FieldType.int)) (gRoom (d + 1 + 1) (30 * (d + 1) + 30) LC LS w) (gPc E A LC LS [.ref x0, .ref x1] w) (gQi E A LC LS res w) (LC - gZ w) (LS - gN w) A := by
  refine gMet (by decide) rfl (Nat.le_of_ble_eq_true rfl) ?_
  intro p e s m below meth c R S hr hlocks hin2 X Z hF hL H ls hw hl
  replace hl : lv_has ls 2 [(0, .ref x0), (1, .ref x1)] := hl
  unfold B_X14_worked at h
  refine lv_aload_n S.1 S.2.1 dX14_worked_0 rfl (lv_at hl 0 rfl) ?_
  refine ggX14_7 S X hw dX14_worked_1 h (fun v1 h => ?_)
  exact g_iret S Z hr hlocks hw ⟨so1 h, rfl⟩ dX14_worked_4
def B_X15_worked (wk : Nat → Nat → GS → Option Int32) (x0 : Nat) (x1 : Nat) (w : GS) : Option Int32 :=
  bd1 (oI w x0 14 14 0) fun v1 =>
  bd1 (aI w x1 40 v1) fun v2 =>
  some v2
set_option maxRecDepth 100000 in
set_option maxHeartbeats 4000000 in
theorem met_B_X15_worked (l : Launch) (E : gE) (A : Nat → Prop) (LC LS : Nat) {d : Nat} {wk : Nat → Nat → GS → Option Int32} (hwk : ∀ (x0 x1 : Nat) (w : GS) (u : Int32), wk x0 x1 w = some u → vt_worked l E A LC LS d x0 x1 w u) (x0 : Nat) (x1 : Nat) (w : GS) (res : Int32) (h : B_X15_worked wk x0 x1 w = some res) : Met l yX15_worked (ws_ yX15_worked cX15_worked 2 (Option.some Jvm.ClassFile.FieldType.int)) (gRoom (d + 1 + 1) (30 * (d + 1) + 30) LC LS w) (gPc E A LC LS [.ref x0, .ref x1] w) (gQi E A LC LS res w) (LC - gZ w) (LS - gN w) A := by
  refine gMet (by decide) rfl (Nat.le_of_ble_eq_true rfl) ?_
  intro p e s m below meth c R S hr hlocks hin2 X Z hF hL H ls hw hl
  replace hl : lv_has ls 2 [(0, .ref x0), (1, .ref x1)] := hl
  unfold B_X15_worked at h
  refine lv_aload_n S.1 S.2.1 dX15_worked_0 rfl (lv_at hl 1 rfl) ?_
  refine lv_aload_n S.1 S.2.1 dX15_worked_1 rfl (lv_at hl 0 rfl) ?_
  refine ggX15_7 S X hw dX15_worked_2 h (fun v1 h => ?_)
  refine gald40 S X hw dX15_worked_5 h (fun v2 h => ?_)
  exact g_iret S Z hr hlocks hw ⟨so1 h, rfl⟩ dX15_worked_6
section
variable {p : Program} {l : Launch} {e : Env} {R : Room} {s : State} {m : MethodId} {args : Array Value} {below : List Frame} {meth : Method} {c : Code} {H : Heap} {locs : List Loc} {cells slots : Nat} {Q : State → Prop}
variable {cc : ByteArray} {nL pc : Nat} {ls : Array Slot} {rest : List Value} {A : Nat → Prop} {E : gE} {LC LS : Nat} {g : GS} {a : Nat} {β : Type} {r : β}
theorem dv_X16_13 {d : Nat} {b : Nat} {x1 : Nat} {F : Int32 → Option β} {o : Option (Int32)} {st : List Value} (S : CallFix p m c cc nL s args lw_all RX16) (X : gCtx E A s) (Z : gRm R s LC LS) (hw : gH E A LC LS s g H locs) (h : bd1 o F = some r) (hM : ∀ u, o = some u → vt_worked l E A LC LS d b x1 g u) (hR : d + 1 + 1 ≤ R.frames ∧ 8 + (4 + 11) + (30 * d + 30) ≤ R.locals) (hz : ls.size = nL) (hst : st = ([.ref x1].reverse ++ .ref b :: rest)) (hrm : 2 * (F0 m pc ls st).monitorRoom + (rest.map fun v => v.category).sum ≤ 8) (hd : decode cc pc = .ok (.invokevirtual 13, 3)) (kk : ∀ (v : Int32) (H : Heap) (locs : List Loc), F v = some r → gH E A LC LS s g H locs → W p l e R s m args below meth c H locs (H.size - s.heap.size) (tot H - tot s.heap) Q (F0 m (pc + 3) ls (.int v :: rest))) : W p l e R s m args below meth c H locs (H.size - s.heap.size) (tot H - tot s.heap) Q (F0 m pc ls st) := by
  obtain ⟨u, h1, h2⟩ := bd1_some h
  have hm := hM u h1
  unfold vt_worked at hm
  rcases hm with ⟨ht, hm⟩ | ⟨ht, hm⟩ | ⟨ht, hm⟩ | ⟨ht, hm⟩
  · have cw : va_CU R s args RX16 RX14 "PulseRent$Expression" 13 ⟨"PulseRent$Expression", "worked", "([I)I"⟩ yX14_worked cX14_worked 2 (Option.some Jvm.ClassFile.FieldType.int) (ws_ yX14_worked cX14_worked 2 (Option.some Jvm.ClassFile.FieldType.int)) (gRoom (d + 1) (30 * d + 30) LC LS g) (LC - gZ g) (LS - gN g) 1 := va_cwA 1 S.2.2.2.2 (lw_app (by intro w hw; simp only [List.mem_cons, List.not_mem_nil, or_false] at hw; rcases hw with e | e | e | e | e <;> rw [e]; exact q1460; exact q1450; exact q1454; exact q1455; exact q166) (lw_meth q1456)) rfl rfl rfl (X.2.2.2.2.2.1 _ q1449 rfl) (by decide +kernel) ⟨hR.1, Nat.le_trans (Nat.add_le_add_right (Nat.le_of_ble_eq_true rfl : 8 + (2 + 11) ≤ 8 + (4 + 11)) _) hR.2⟩
    exact gcHri (As := [.ref x1]) (rest := rest) S X Z hw h (fun u1 e1 => by rw [h1] at e1; cases e1; exact hm) cw (g_recv X hw (ci := 12) rfl (gcell_13 ht)) rfl hz hst hrm hd kk
  · have cw : va_CU R s args RX16 RX15 "PulseRent$Expression" 13 ⟨"PulseRent$Expression", "worked", "([I)I"⟩ yX15_worked cX15_worked 2 (Option.some Jvm.ClassFile.FieldType.int) (ws_ yX15_worked cX15_worked 2 (Option.some Jvm.ClassFile.FieldType.int)) (gRoom (d + 1) (30 * d + 30) LC LS g) (LC - gZ g) (LS - gN g) 1 := va_cwA 1 S.2.2.2.2 (lw_app (by intro w hw; simp only [List.mem_cons, List.not_mem_nil, or_false] at hw; rcases hw with e | e | e | e | e <;> rw [e]; exact q1460; exact q1450; exact q1451; exact q1452; exact q167) (lw_meth q1453)) rfl rfl rfl (X.2.2.2.2.2.1 _ q1449 rfl) (by decide +kernel) ⟨hR.1, Nat.le_trans (Nat.add_le_add_right (Nat.le_of_ble_eq_true rfl : 8 + (2 + 11) ≤ 8 + (4 + 11)) _) hR.2⟩
    exact gcHri (As := [.ref x1]) (rest := rest) S X Z hw h (fun u1 e1 => by rw [h1] at e1; cases e1; exact hm) cw (g_recv X hw (ci := 13) rfl (gcell_14 ht)) rfl hz hst hrm hd kk
  · have cw : va_CU R s args RX16 RX16 "PulseRent$Expression" 13 ⟨"PulseRent$Expression", "worked", "([I)I"⟩ yX16_worked cX16_worked 2 (Option.some Jvm.ClassFile.FieldType.int) (ws_ yX16_worked cX16_worked 2 (Option.some Jvm.ClassFile.FieldType.int)) (gRoom (d + 1) (30 * d + 30) LC LS g) (LC - gZ g) (LS - gN g) 1 := va_cwA 1 S.2.2.2.2 (lw_app (by intro w hw; simp only [List.mem_cons, List.not_mem_nil, or_false] at hw; rcases hw with e | e | e | e | e <;> rw [e]; exact q1460; exact q1450; exact q1457; exact q1458; exact q168) (lw_meth q1459)) rfl rfl rfl (X.2.2.2.2.2.1 _ q1449 rfl) (by decide +kernel) ⟨hR.1, Nat.le_trans (Nat.add_le_add_right (Nat.le_of_ble_eq_true rfl : 8 + (2 + 11) ≤ 8 + (4 + 11)) _) hR.2⟩
    exact gcHri (As := [.ref x1]) (rest := rest) S X Z hw h (fun u1 e1 => by rw [h1] at e1; cases e1; exact hm) cw (g_recv X hw (ci := 14) rfl (gcell_15 ht)) rfl hz hst hrm hd kk
  · have cw : va_CU R s args RX16 RX17 "PulseRent$Expression" 13 ⟨"PulseRent$Expression", "worked", "([I)I"⟩ yX17_worked cX17_worked 4 (Option.some Jvm.ClassFile.FieldType.int) (ws_ yX17_worked cX17_worked 4 (Option.some Jvm.ClassFile.FieldType.int)) (gRoom (d + 1) (30 * d + 30) LC LS g) (LC - gZ g) (LS - gN g) 1 := va_cwA 1 S.2.2.2.2 (lw_app (by intro w hw; simp only [List.mem_cons, List.not_mem_nil, or_false] at hw; rcases hw with e | e | e | e | e <;> rw [e]; exact q1460; exact q1450; exact q1464; exact q1461; exact q169) (lw_meth q1462)) rfl rfl rfl (X.2.2.2.2.2.1 _ q1449 rfl) (by decide +kernel) ⟨hR.1, Nat.le_trans (Nat.add_le_add_right (Nat.le_of_ble_eq_true rfl : 8 + (4 + 11) ≤ 8 + (4 + 11)) _) hR.2⟩
    exact gcHri (As := [.ref x1]) (rest := rest) S X Z hw h (fun u1 e1 => by rw [h1] at e1; cases e1; exact hm) cw (g_recv X hw (ci := 15) rfl (gcell_16 ht)) rfl hz hst hrm hd kk
end
def B_X16_worked (wk : Nat → Nat → GS → Option Int32) (x0 : Nat) (x1 : Nat) (w : GS) : Option Int32 :=
  bd1 (oRn w x0 15 15 0) fun a1 =>
  bd1 (wk a1 x1 w) fun r2 =>
  if r2 = 0 then
    some (1 : Int32)
  else
    some (0 : Int32)
set_option maxRecDepth 100000 in
set_option maxHeartbeats 4000000 in
theorem met_B_X16_worked (l : Launch) (E : gE) (A : Nat → Prop) (LC LS : Nat) {d : Nat} {wk : Nat → Nat → GS → Option Int32} (hwk : ∀ (x0 x1 : Nat) (w : GS) (u : Int32), wk x0 x1 w = some u → vt_worked l E A LC LS d x0 x1 w u) (x0 : Nat) (x1 : Nat) (w : GS) (res : Int32) (h : B_X16_worked wk x0 x1 w = some res) : Met l yX16_worked (ws_ yX16_worked cX16_worked 2 (Option.some Jvm.ClassFile.FieldType.int)) (gRoom (d + 1 + 1) (30 * (d + 1) + 30) LC LS w) (gPc E A LC LS [.ref x0, .ref x1] w) (gQi E A LC LS res w) (LC - gZ w) (LS - gN w) A := by
  refine gMet (by decide) rfl (Nat.le_of_ble_eq_true rfl) ?_
  intro p e s m below meth c R S hr hlocks hin2 X Z hF hL H ls hw hl
  replace hl : lv_has ls 2 [(0, .ref x0), (1, .ref x1)] := hl
  unfold B_X16_worked at h
  refine lv_aload_n S.1 S.2.1 dX16_worked_0 rfl (lv_at hl 0 rfl) ?_
  refine ggX16_7 S X hw dX16_worked_1 h (fun a1 h => ?_)
  refine lv_aload_n S.1 S.2.1 dX16_worked_4 rfl (lv_at hl 1 rfl) ?_
  refine dv_X16_13  (rest := []) S X Z hw h (fun u h1 => hwk a1 x1 w u h1) ⟨Nat.le_trans (show d + 1 + 1 ≤ (d + 1) + 1 by omega) hF, Nat.le_trans (show 8 + (4 + 11) + (30 * d + 30) ≤ 30 * (d + 1) + 30 by omega) hL⟩ hl.1 rfl (lv_room (Nat.le_of_ble_eq_true rfl)) dX16_worked_5 (fun r2 H locs h hw => ?_)
  refine lv_if_ne (tgt := 15) S.1 S.2.1 dX16_worked_8 rfl (fun c3 => ?_) (fun c3 => ?_)
  · replace h := if_f c3 h
    refine lv_iconst (v := 0) S.1 S.2.1 dX16_worked_15 rfl ?_
    exact g_iret S Z hr hlocks hw ⟨so1 h, rfl⟩ dX16_worked_16
  · replace h := if_t c3 h
    refine lv_iconst (v := 1) S.1 S.2.1 dX16_worked_11 rfl ?_
    refine lv_goto (tgt := 16) S.1 S.2.1 dX16_worked_12 rfl ?_
    exact g_iret S Z hr hlocks hw ⟨so1 h, rfl⟩ dX16_worked_16
section
variable {p : Program} {l : Launch} {e : Env} {R : Room} {s : State} {m : MethodId} {args : Array Value} {below : List Frame} {meth : Method} {c : Code} {H : Heap} {locs : List Loc} {cells slots : Nat} {Q : State → Prop}
variable {cc : ByteArray} {nL pc : Nat} {ls : Array Slot} {rest : List Value} {A : Nat → Prop} {E : gE} {LC LS : Nat} {g : GS} {a : Nat} {β : Type} {r : β}
theorem dv_X17_20 {d : Nat} {b : Nat} {x1 : Nat} {F : Int32 → Option β} {o : Option (Int32)} {st : List Value} (S : CallFix p m c cc nL s args lw_all RX17) (X : gCtx E A s) (Z : gRm R s LC LS) (hw : gH E A LC LS s g H locs) (h : bd1 o F = some r) (hM : ∀ u, o = some u → vt_worked l E A LC LS d b x1 g u) (hR : d + 1 + 1 ≤ R.frames ∧ 8 + (4 + 11) + (30 * d + 30) ≤ R.locals) (hz : ls.size = nL) (hst : st = ([.ref x1].reverse ++ .ref b :: rest)) (hrm : 2 * (F0 m pc ls st).monitorRoom + (rest.map fun v => v.category).sum ≤ 8) (hd : decode cc pc = .ok (.invokevirtual 20, 3)) (kk : ∀ (v : Int32) (H : Heap) (locs : List Loc), F v = some r → gH E A LC LS s g H locs → W p l e R s m args below meth c H locs (H.size - s.heap.size) (tot H - tot s.heap) Q (F0 m (pc + 3) ls (.int v :: rest))) : W p l e R s m args below meth c H locs (H.size - s.heap.size) (tot H - tot s.heap) Q (F0 m pc ls st) := by
  obtain ⟨u, h1, h2⟩ := bd1_some h
  have hm := hM u h1
  unfold vt_worked at hm
  rcases hm with ⟨ht, hm⟩ | ⟨ht, hm⟩ | ⟨ht, hm⟩ | ⟨ht, hm⟩
  · have cw : va_CU R s args RX17 RX14 "PulseRent$Expression" 20 ⟨"PulseRent$Expression", "worked", "([I)I"⟩ yX14_worked cX14_worked 2 (Option.some Jvm.ClassFile.FieldType.int) (ws_ yX14_worked cX14_worked 2 (Option.some Jvm.ClassFile.FieldType.int)) (gRoom (d + 1) (30 * d + 30) LC LS g) (LC - gZ g) (LS - gN g) 1 := va_cwA 1 S.2.2.2.2 (lw_app (by intro w hw; simp only [List.mem_cons, List.not_mem_nil, or_false] at hw; rcases hw with e | e | e | e | e <;> rw [e]; exact q1463; exact q1450; exact q1454; exact q1455; exact q166) (lw_meth q1456)) rfl rfl rfl (X.2.2.2.2.2.1 _ q1449 rfl) (by decide +kernel) ⟨hR.1, Nat.le_trans (Nat.add_le_add_right (Nat.le_of_ble_eq_true rfl : 8 + (2 + 11) ≤ 8 + (4 + 11)) _) hR.2⟩
    exact gcHri (As := [.ref x1]) (rest := rest) S X Z hw h (fun u1 e1 => by rw [h1] at e1; cases e1; exact hm) cw (g_recv X hw (ci := 12) rfl (gcell_13 ht)) rfl hz hst hrm hd kk
  · have cw : va_CU R s args RX17 RX15 "PulseRent$Expression" 20 ⟨"PulseRent$Expression", "worked", "([I)I"⟩ yX15_worked cX15_worked 2 (Option.some Jvm.ClassFile.FieldType.int) (ws_ yX15_worked cX15_worked 2 (Option.some Jvm.ClassFile.FieldType.int)) (gRoom (d + 1) (30 * d + 30) LC LS g) (LC - gZ g) (LS - gN g) 1 := va_cwA 1 S.2.2.2.2 (lw_app (by intro w hw; simp only [List.mem_cons, List.not_mem_nil, or_false] at hw; rcases hw with e | e | e | e | e <;> rw [e]; exact q1463; exact q1450; exact q1451; exact q1452; exact q167) (lw_meth q1453)) rfl rfl rfl (X.2.2.2.2.2.1 _ q1449 rfl) (by decide +kernel) ⟨hR.1, Nat.le_trans (Nat.add_le_add_right (Nat.le_of_ble_eq_true rfl : 8 + (2 + 11) ≤ 8 + (4 + 11)) _) hR.2⟩
    exact gcHri (As := [.ref x1]) (rest := rest) S X Z hw h (fun u1 e1 => by rw [h1] at e1; cases e1; exact hm) cw (g_recv X hw (ci := 13) rfl (gcell_14 ht)) rfl hz hst hrm hd kk
  · have cw : va_CU R s args RX17 RX16 "PulseRent$Expression" 20 ⟨"PulseRent$Expression", "worked", "([I)I"⟩ yX16_worked cX16_worked 2 (Option.some Jvm.ClassFile.FieldType.int) (ws_ yX16_worked cX16_worked 2 (Option.some Jvm.ClassFile.FieldType.int)) (gRoom (d + 1) (30 * d + 30) LC LS g) (LC - gZ g) (LS - gN g) 1 := va_cwA 1 S.2.2.2.2 (lw_app (by intro w hw; simp only [List.mem_cons, List.not_mem_nil, or_false] at hw; rcases hw with e | e | e | e | e <;> rw [e]; exact q1463; exact q1450; exact q1457; exact q1458; exact q168) (lw_meth q1459)) rfl rfl rfl (X.2.2.2.2.2.1 _ q1449 rfl) (by decide +kernel) ⟨hR.1, Nat.le_trans (Nat.add_le_add_right (Nat.le_of_ble_eq_true rfl : 8 + (2 + 11) ≤ 8 + (4 + 11)) _) hR.2⟩
    exact gcHri (As := [.ref x1]) (rest := rest) S X Z hw h (fun u1 e1 => by rw [h1] at e1; cases e1; exact hm) cw (g_recv X hw (ci := 14) rfl (gcell_15 ht)) rfl hz hst hrm hd kk
  · have cw : va_CU R s args RX17 RX17 "PulseRent$Expression" 20 ⟨"PulseRent$Expression", "worked", "([I)I"⟩ yX17_worked cX17_worked 4 (Option.some Jvm.ClassFile.FieldType.int) (ws_ yX17_worked cX17_worked 4 (Option.some Jvm.ClassFile.FieldType.int)) (gRoom (d + 1) (30 * d + 30) LC LS g) (LC - gZ g) (LS - gN g) 1 := va_cwA 1 S.2.2.2.2 (lw_app (by intro w hw; simp only [List.mem_cons, List.not_mem_nil, or_false] at hw; rcases hw with e | e | e | e | e <;> rw [e]; exact q1463; exact q1450; exact q1464; exact q1461; exact q169) (lw_meth q1462)) rfl rfl rfl (X.2.2.2.2.2.1 _ q1449 rfl) (by decide +kernel) ⟨hR.1, Nat.le_trans (Nat.add_le_add_right (Nat.le_of_ble_eq_true rfl : 8 + (4 + 11) ≤ 8 + (4 + 11)) _) hR.2⟩
    exact gcHri (As := [.ref x1]) (rest := rest) S X Z hw h (fun u1 e1 => by rw [h1] at e1; cases e1; exact hm) cw (g_recv X hw (ci := 15) rfl (gcell_16 ht)) rfl hz hst hrm hd kk
end
def B_X17_worked (wk : Nat → Nat → GS → Option Int32) (x0 : Nat) (x1 : Nat) (w : GS) : Option Int32 :=
  bd1 (oRn w x0 16 16 1) fun a1 =>
  bd1 (wk a1 x1 w) fun r2 =>
  bd1 (oRn w x0 16 16 2) fun a3 =>
  bd1 (wk a3 x1 w) fun r4 =>
  bd1 (oI w x0 16 16 0) fun v5 =>
  if v5 = (38 : Int32) then
    if r2 = 0 then
      some (0 : Int32)
    else
      if r4 = 0 then
        some (0 : Int32)
      else
        some (1 : Int32)
  else
    if v5 = (42 : Int32) then
      some (r2 * r4)
    else
      if v5 = (43 : Int32) then
        some (r2 + r4)
      else
        if v5 = (45 : Int32) then
          some (r2 - r4)
        else
          if v5 = (60 : Int32) then
            if r4 ≤ r2 then
              some (0 : Int32)
            else
              some (1 : Int32)
          else
            if v5 = (61 : Int32) then
              if r2 = r4 then
                some (1 : Int32)
              else
                some (0 : Int32)
            else
              if r2 = 0 then
                if r4 = 0 then
                  some (0 : Int32)
                else
                  some (1 : Int32)
              else
                some (1 : Int32)
set_option maxRecDepth 100000 in
set_option maxHeartbeats 4000000 in
theorem met_B_X17_worked (l : Launch) (E : gE) (A : Nat → Prop) (LC LS : Nat) {d : Nat} {wk : Nat → Nat → GS → Option Int32} (hwk : ∀ (x0 x1 : Nat) (w : GS) (u : Int32), wk x0 x1 w = some u → vt_worked l E A LC LS d x0 x1 w u) (x0 : Nat) (x1 : Nat) (w : GS) (res : Int32) (h : B_X17_worked wk x0 x1 w = some res) : Met l yX17_worked (ws_ yX17_worked cX17_worked 4 (Option.some Jvm.ClassFile.FieldType.int)) (gRoom (d + 1 + 1) (30 * (d + 1) + 30) LC LS w) (gPc E A LC LS [.ref x0, .ref x1] w) (gQi E A LC LS res w) (LC - gZ w) (LS - gN w) A := by
  refine gMet (by decide) rfl (Nat.le_of_ble_eq_true rfl) ?_
  intro p e s m below meth c R S hr hlocks hin2 X Z hF hL H ls hw hl
  replace hl : lv_has ls 4 [(0, .ref x0), (1, .ref x1)] := hl
  unfold B_X17_worked at h
  refine lv_aload_n S.1 S.2.1 dX17_worked_0 rfl (lv_at hl 0 rfl) ?_
  refine ggX17_13 S X hw dX17_worked_1 h (fun a1 h => ?_)
  refine lv_aload_n S.1 S.2.1 dX17_worked_4 rfl (lv_at hl 1 rfl) ?_
  refine dv_X17_20  (rest := []) S X Z hw h (fun u h1 => hwk a1 x1 w u h1) ⟨Nat.le_trans (show d + 1 + 1 ≤ (d + 1) + 1 by omega) hF, Nat.le_trans (show 8 + (4 + 11) + (30 * d + 30) ≤ 30 * (d + 1) + 30 by omega) hL⟩ hl.1 rfl (lv_room (Nat.le_of_ble_eq_true rfl)) dX17_worked_5 (fun r2 H locs h hw => ?_)
  refine lv_istore_n (lv' := [(2, .int r2), (0, .ref x0), (1, .ref x1)]) S.1 S.2.1 dX17_worked_8 rfl hl (by decide) rfl (fun ls hl => ?_)
  refine lv_aload_n S.1 S.2.1 dX17_worked_9 rfl (lv_at hl 1 rfl) ?_
  refine ggX17_17 S X hw dX17_worked_10 h (fun a3 h => ?_)
  refine lv_aload_n S.1 S.2.1 dX17_worked_13 rfl (lv_at hl 2 rfl) ?_
  refine dv_X17_20  (rest := []) S X Z hw h (fun u h1 => hwk a3 x1 w u h1) ⟨Nat.le_trans (show d + 1 + 1 ≤ (d + 1) + 1 by omega) hF, Nat.le_trans (show 8 + (4 + 11) + (30 * d + 30) ≤ 30 * (d + 1) + 30 by omega) hL⟩ hl.1 rfl (lv_room (Nat.le_of_ble_eq_true rfl)) dX17_worked_14 (fun r4 H locs h hw => ?_)
  refine lv_istore_n (lv' := [(3, .int r4), (2, .int r2), (0, .ref x0), (1, .ref x1)]) S.1 S.2.1 dX17_worked_17 rfl hl (by decide) rfl (fun ls hl => ?_)
  refine lv_aload_n S.1 S.2.1 dX17_worked_18 rfl (lv_at hl 2 rfl) ?_
  refine ggX17_7 S X hw dX17_worked_19 h (fun v5 h => ?_)
  by_cases e38 : v5 = (38 : Int32)
  · replace h := if_t e38 h
    refine lv_lookup (off := 92) (tgt := 114) S.1 S.2.1 dX17_worked_22 rfl (by rw [e38]; rfl) rfl ?_
    refine lv_iload_n S.1 S.2.1 dX17_worked_114 rfl (lv_at hl 1 rfl) ?_
    refine lv_if_eq (tgt := 126) S.1 S.2.1 dX17_worked_115 rfl (fun c8 => ?_) (fun c8 => ?_)
    · replace h := if_t c8 h
      refine lv_iconst (v := 0) S.1 S.2.1 dX17_worked_126 rfl ?_
      exact g_iret S Z hr hlocks hw ⟨so1 h, rfl⟩ dX17_worked_127
    · replace h := if_f c8 h
      refine lv_iload_n S.1 S.2.1 dX17_worked_118 rfl (lv_at hl 0 rfl) ?_
      refine lv_if_eq (tgt := 126) S.1 S.2.1 dX17_worked_119 rfl (fun c9 => ?_) (fun c9 => ?_)
      · replace h := if_t c9 h
        refine lv_iconst (v := 0) S.1 S.2.1 dX17_worked_126 rfl ?_
        exact g_iret S Z hr hlocks hw ⟨so1 h, rfl⟩ dX17_worked_127
      · replace h := if_f c9 h
        refine lv_iconst (v := 1) S.1 S.2.1 dX17_worked_122 rfl ?_
        refine lv_goto (tgt := 127) S.1 S.2.1 dX17_worked_123 rfl ?_
        exact g_iret S Z hr hlocks hw ⟨so1 h, rfl⟩ dX17_worked_127
  · replace h := if_f e38 h
    by_cases e42 : v5 = (42 : Int32)
    · replace h := if_t e42 h
      refine lv_lookup (off := 66) (tgt := 88) S.1 S.2.1 dX17_worked_22 rfl (by rw [e42]; rfl) rfl ?_
      refine lv_iload_n S.1 S.2.1 dX17_worked_88 rfl (lv_at hl 1 rfl) ?_
      refine lv_iload_n S.1 S.2.1 dX17_worked_89 rfl (lv_at hl 0 rfl) ?_
      refine lv_imul S.1 S.2.1 dX17_worked_90 ?_
      exact g_iret S Z hr hlocks hw ⟨so1 h, rfl⟩ dX17_worked_91
    · replace h := if_f e42 h
      by_cases e43 : v5 = (43 : Int32)
      · replace h := if_t e43 h
        refine lv_lookup (off := 58) (tgt := 80) S.1 S.2.1 dX17_worked_22 rfl (by rw [e43]; rfl) rfl ?_
        refine lv_iload_n S.1 S.2.1 dX17_worked_80 rfl (lv_at hl 1 rfl) ?_
        refine lv_iload_n S.1 S.2.1 dX17_worked_81 rfl (lv_at hl 0 rfl) ?_
        refine lv_iadd S.1 S.2.1 dX17_worked_82 ?_
        exact g_iret S Z hr hlocks hw ⟨so1 h, rfl⟩ dX17_worked_83
      · replace h := if_f e43 h
        by_cases e45 : v5 = (45 : Int32)
        · replace h := if_t e45 h
          refine lv_lookup (off := 62) (tgt := 84) S.1 S.2.1 dX17_worked_22 rfl (by rw [e45]; rfl) rfl ?_
          refine lv_iload_n S.1 S.2.1 dX17_worked_84 rfl (lv_at hl 1 rfl) ?_
          refine lv_iload_n S.1 S.2.1 dX17_worked_85 rfl (lv_at hl 0 rfl) ?_
          refine lv_isub S.1 S.2.1 dX17_worked_86 ?_
          exact g_iret S Z hr hlocks hw ⟨so1 h, rfl⟩ dX17_worked_87
        · replace h := if_f e45 h
          by_cases e60 : v5 = (60 : Int32)
          · replace h := if_t e60 h
            refine lv_lookup (off := 70) (tgt := 92) S.1 S.2.1 dX17_worked_22 rfl (by rw [e60]; rfl) rfl ?_
            refine lv_iload_n S.1 S.2.1 dX17_worked_92 rfl (lv_at hl 1 rfl) ?_
            refine lv_iload_n S.1 S.2.1 dX17_worked_93 rfl (lv_at hl 0 rfl) ?_
            refine lv_icmp_ge (tgt := 101) S.1 S.2.1 dX17_worked_94 rfl (fun c10 => ?_) (fun c10 => ?_)
            · replace h := if_t c10 h
              refine lv_iconst (v := 0) S.1 S.2.1 dX17_worked_101 rfl ?_
              exact g_iret S Z hr hlocks hw ⟨so1 h, rfl⟩ dX17_worked_102
            · replace h := if_f c10 h
              refine lv_iconst (v := 1) S.1 S.2.1 dX17_worked_97 rfl ?_
              refine lv_goto (tgt := 102) S.1 S.2.1 dX17_worked_98 rfl ?_
              exact g_iret S Z hr hlocks hw ⟨so1 h, rfl⟩ dX17_worked_102
          · replace h := if_f e60 h
            by_cases e61 : v5 = (61 : Int32)
            · replace h := if_t e61 h
              refine lv_lookup (off := 81) (tgt := 103) S.1 S.2.1 dX17_worked_22 rfl (by rw [e61]; rfl) rfl ?_
              refine lv_iload_n S.1 S.2.1 dX17_worked_103 rfl (lv_at hl 1 rfl) ?_
              refine lv_iload_n S.1 S.2.1 dX17_worked_104 rfl (lv_at hl 0 rfl) ?_
              refine lv_icmp_ne (tgt := 112) S.1 S.2.1 dX17_worked_105 rfl (fun c11 => ?_) (fun c11 => ?_)
              · replace h := if_f c11 h
                refine lv_iconst (v := 0) S.1 S.2.1 dX17_worked_112 rfl ?_
                exact g_iret S Z hr hlocks hw ⟨so1 h, rfl⟩ dX17_worked_113
              · replace h := if_t c11 h
                refine lv_iconst (v := 1) S.1 S.2.1 dX17_worked_108 rfl ?_
                refine lv_goto (tgt := 113) S.1 S.2.1 dX17_worked_109 rfl ?_
                exact g_iret S Z hr hlocks hw ⟨so1 h, rfl⟩ dX17_worked_113
            · replace h := if_f e61 h
              refine lv_lookup (off := 106) (tgt := 128) S.1 S.2.1 dX17_worked_22 rfl (by simp [Op.lookupswitch.offset, Ne.symm (ne_toInt e38 (j := 38) rfl), ne_toInt e38 (j := 38) rfl, Ne.symm (ne_toInt e42 (j := 42) rfl), ne_toInt e42 (j := 42) rfl, Ne.symm (ne_toInt e43 (j := 43) rfl), ne_toInt e43 (j := 43) rfl, Ne.symm (ne_toInt e45 (j := 45) rfl), ne_toInt e45 (j := 45) rfl, Ne.symm (ne_toInt e60 (j := 60) rfl), ne_toInt e60 (j := 60) rfl, Ne.symm (ne_toInt e61 (j := 61) rfl), ne_toInt e61 (j := 61) rfl]) rfl ?_
              refine lv_iload_n S.1 S.2.1 dX17_worked_128 rfl (lv_at hl 1 rfl) ?_
              refine lv_if_ne (tgt := 136) S.1 S.2.1 dX17_worked_129 rfl (fun c6 => ?_) (fun c6 => ?_)
              · replace h := if_f c6 h
                refine lv_iconst (v := 1) S.1 S.2.1 dX17_worked_136 rfl ?_
                refine lv_goto (tgt := 141) S.1 S.2.1 dX17_worked_137 rfl ?_
                exact g_iret S Z hr hlocks hw ⟨so1 h, rfl⟩ dX17_worked_141
              · replace h := if_t c6 h
                refine lv_iload_n S.1 S.2.1 dX17_worked_132 rfl (lv_at hl 0 rfl) ?_
                refine lv_if_eq (tgt := 140) S.1 S.2.1 dX17_worked_133 rfl (fun c7 => ?_) (fun c7 => ?_)
                · replace h := if_t c7 h
                  refine lv_iconst (v := 0) S.1 S.2.1 dX17_worked_140 rfl ?_
                  exact g_iret S Z hr hlocks hw ⟨so1 h, rfl⟩ dX17_worked_141
                · replace h := if_f c7 h
                  refine lv_iconst (v := 1) S.1 S.2.1 dX17_worked_136 rfl ?_
                  refine lv_goto (tgt := 141) S.1 S.2.1 dX17_worked_137 rfl ?_
                  exact g_iret S Z hr hlocks hw ⟨so1 h, rfl⟩ dX17_worked_141
def V_worked : Nat → Nat → Nat → GS → Option Int32
  | 0 => fun _ _ _ => none
  | d + 1 => fun x0 x1 w => if (gK w x0).1 = 13 then B_X14_worked (V_worked d) x0 x1 w else if (gK w x0).1 = 14 then B_X15_worked (V_worked d) x0 x1 w else if (gK w x0).1 = 15 then B_X16_worked (V_worked d) x0 x1 w else if (gK w x0).1 = 16 then B_X17_worked (V_worked d) x0 x1 w else none
theorem dm_worked (l : Launch) (E : gE) (A : Nat → Prop) (LC LS : Nat) : ∀ (d : Nat) (x0 x1 : Nat) (w : GS) (u : Int32), V_worked d x0 x1 w = some u → vt_worked l E A LC LS d x0 x1 w u := by
  intro d
  induction d with
  | zero => intro x0 x1 w u h; cases (show (none : Option Int32) = some u from h)
  | succ d ih =>
    intro x0 x1 w u h
    replace h : (if (gK w x0).1 = 13 then B_X14_worked (V_worked d) x0 x1 w else if (gK w x0).1 = 14 then B_X15_worked (V_worked d) x0 x1 w else if (gK w x0).1 = 15 then B_X16_worked (V_worked d) x0 x1 w else if (gK w x0).1 = 16 then B_X17_worked (V_worked d) x0 x1 w else none) = some u := h
    unfold vt_worked
    by_cases t13 : (gK w x0).1 = 13
    · rw [if_pos t13] at h; exact Or.inl ⟨t13, met_B_X14_worked l E A LC LS ih x0 x1 w u h⟩
    rw [if_neg t13] at h
    by_cases t14 : (gK w x0).1 = 14
    · rw [if_pos t14] at h; exact Or.inr (Or.inl ⟨t14, met_B_X15_worked l E A LC LS ih x0 x1 w u h⟩)
    rw [if_neg t14] at h
    by_cases t15 : (gK w x0).1 = 15
    · rw [if_pos t15] at h; exact Or.inr (Or.inr (Or.inl ⟨t15, met_B_X16_worked l E A LC LS ih x0 x1 w u h⟩))
    rw [if_neg t15] at h
    by_cases t16 : (gK w x0).1 = 16
    · rw [if_pos t16] at h; exact Or.inr (Or.inr (Or.inr (⟨t16, met_B_X17_worked l E A LC LS ih x0 x1 w u h⟩)))
    rw [if_neg t16] at h
    cases h
def B_J17_bitCount (x0 : Int32) : Int32 :=
  bdp (x0 - (((x0.toUInt32 >>> ((1 : Int32).toUInt32 &&& Int32.toUInt32 31)).toInt32) &&& (1431655765 : Int32))) fun y1 =>
  bdp ((y1 &&& (858993459 : Int32)) + (((y1.toUInt32 >>> ((2 : Int32).toUInt32 &&& Int32.toUInt32 31)).toInt32) &&& (858993459 : Int32))) fun y2 =>
  bdp ((y2 + ((y2.toUInt32 >>> ((4 : Int32).toUInt32 &&& Int32.toUInt32 31)).toInt32)) &&& (252645135 : Int32)) fun y3 =>
  bdp (y3 + ((y3.toUInt32 >>> ((8 : Int32).toUInt32 &&& Int32.toUInt32 31)).toInt32)) fun y4 =>
  bdp (y4 + ((y4.toUInt32 >>> ((16 : Int32).toUInt32 &&& Int32.toUInt32 31)).toInt32)) fun y5 =>
  y5 &&& (63 : Int32)
set_option maxRecDepth 100000 in
set_option maxHeartbeats 4000000 in
theorem met_B_J17_bitCount (l : Launch) (E : gE) (A : Nat → Prop) (LC LS : Nat)  (x0 : Int32) (w : GS) (res : Int32) (h : B_J17_bitCount x0 = res) : Met l yJ17_bitCount (ws_ yJ17_bitCount cJ17_bitCount 1 (Option.some Jvm.ClassFile.FieldType.int)) (gRoom 0 0 LC LS w) (gPc E A LC LS [.int x0] w) (gQi E A LC LS res w) (LC - gZ w) (LS - gN w) A := by
  refine gMet (by decide) rfl (Nat.le_of_ble_eq_true rfl) ?_
  intro p e s m below meth c R S hr hlocks hin2 X Z hF hL H ls hw hl
  replace hl : lv_has ls 1 [(0, .int x0)] := hl
  unfold B_J17_bitCount at h
  refine lv_iload_n S.1 S.2.1 dJ17_bitCount_0 rfl (lv_at hl 0 rfl) ?_
  refine lv_iload_n S.1 S.2.1 dJ17_bitCount_1 rfl (lv_at hl 0 rfl) ?_
  refine lv_iconst (v := 1) S.1 S.2.1 dJ17_bitCount_2 rfl ?_
  refine lv_iushr S.1 S.2.1 dJ17_bitCount_3 rfl ?_
  refine lv_ldcw (v := 1431655765) S.1 S.2.1 S.2.2.2.1 (S.2.2.2.2 _ q1524) dJ17_bitCount_4 ?_
  refine lv_iand S.1 S.2.1 dJ17_bitCount_7 ?_
  refine lv_isub S.1 S.2.1 dJ17_bitCount_8 ?_
  refine lv_topi (fun y1 ey => ?_)
  replace h := bdp_e ey h
  refine lv_istore_n (lv' := [(0, .int y1)]) S.1 S.2.1 dJ17_bitCount_9 rfl hl (by decide) rfl (fun ls hl => ?_)
  refine lv_iload_n S.1 S.2.1 dJ17_bitCount_10 rfl (lv_at hl 0 rfl) ?_
  refine lv_ldcw (v := 858993459) S.1 S.2.1 S.2.2.2.1 (S.2.2.2.2 _ q1525) dJ17_bitCount_11 ?_
  refine lv_iand S.1 S.2.1 dJ17_bitCount_14 ?_
  refine lv_iload_n S.1 S.2.1 dJ17_bitCount_15 rfl (lv_at hl 0 rfl) ?_
  refine lv_iconst (v := 2) S.1 S.2.1 dJ17_bitCount_16 rfl ?_
  refine lv_iushr S.1 S.2.1 dJ17_bitCount_17 rfl ?_
  refine lv_ldcw (v := 858993459) S.1 S.2.1 S.2.2.2.1 (S.2.2.2.2 _ q1525) dJ17_bitCount_18 ?_
  refine lv_iand S.1 S.2.1 dJ17_bitCount_21 ?_
  refine lv_iadd S.1 S.2.1 dJ17_bitCount_22 ?_
  refine lv_topi (fun y2 ey => ?_)
  replace h := bdp_e ey h
  refine lv_istore_n (lv' := [(0, .int y2)]) S.1 S.2.1 dJ17_bitCount_23 rfl hl (by decide) rfl (fun ls hl => ?_)
  refine lv_iload_n S.1 S.2.1 dJ17_bitCount_24 rfl (lv_at hl 0 rfl) ?_
  refine lv_iload_n S.1 S.2.1 dJ17_bitCount_25 rfl (lv_at hl 0 rfl) ?_
  refine lv_iconst (v := 4) S.1 S.2.1 dJ17_bitCount_26 rfl ?_
  refine lv_iushr S.1 S.2.1 dJ17_bitCount_27 rfl ?_
  refine lv_iadd S.1 S.2.1 dJ17_bitCount_28 ?_
  refine lv_ldcw (v := 252645135) S.1 S.2.1 S.2.2.2.1 (S.2.2.2.2 _ q1526) dJ17_bitCount_29 ?_
  refine lv_iand S.1 S.2.1 dJ17_bitCount_32 ?_
  refine lv_topi (fun y3 ey => ?_)
  replace h := bdp_e ey h
  refine lv_istore_n (lv' := [(0, .int y3)]) S.1 S.2.1 dJ17_bitCount_33 rfl hl (by decide) rfl (fun ls hl => ?_)
  refine lv_iload_n S.1 S.2.1 dJ17_bitCount_34 rfl (lv_at hl 0 rfl) ?_
  refine lv_iload_n S.1 S.2.1 dJ17_bitCount_35 rfl (lv_at hl 0 rfl) ?_
  refine lv_bipush (v := 8) S.1 S.2.1 dJ17_bitCount_36 rfl ?_
  refine lv_iushr S.1 S.2.1 dJ17_bitCount_38 rfl ?_
  refine lv_iadd S.1 S.2.1 dJ17_bitCount_39 ?_
  refine lv_topi (fun y4 ey => ?_)
  replace h := bdp_e ey h
  refine lv_istore_n (lv' := [(0, .int y4)]) S.1 S.2.1 dJ17_bitCount_40 rfl hl (by decide) rfl (fun ls hl => ?_)
  refine lv_iload_n S.1 S.2.1 dJ17_bitCount_41 rfl (lv_at hl 0 rfl) ?_
  refine lv_iload_n S.1 S.2.1 dJ17_bitCount_42 rfl (lv_at hl 0 rfl) ?_
  refine lv_bipush (v := 16) S.1 S.2.1 dJ17_bitCount_43 rfl ?_
  refine lv_iushr S.1 S.2.1 dJ17_bitCount_45 rfl ?_
  refine lv_iadd S.1 S.2.1 dJ17_bitCount_46 ?_
  refine lv_topi (fun y5 ey => ?_)
  replace h := bdp_e ey h
  refine lv_istore_n (lv' := [(0, .int y5)]) S.1 S.2.1 dJ17_bitCount_47 rfl hl (by decide) rfl (fun ls hl => ?_)
  refine lv_iload_n S.1 S.2.1 dJ17_bitCount_48 rfl (lv_at hl 0 rfl) ?_
  refine lv_bipush (v := 63) S.1 S.2.1 dJ17_bitCount_49 rfl ?_
  refine lv_iand S.1 S.2.1 dJ17_bitCount_51 ?_
  exact g_iret S Z hr hlocks hw ⟨h, rfl⟩ dJ17_bitCount_52
def B_X1_feed_p74 (k3 : Nat → Int64 → Int64 → Int64 → Int32 → GS → Option (Int32 × GS)) (x0 : Nat) (x1 : Int64) (x3 : Int64) (x5 : Int64) (x7 : Int32) (x8 : Int32) (w : GS) : Option (Int32 × GS) :=
  bd1 (oI w x0 1 1 7) fun v7 =>
  if (1000 : Int32) ≤ v7 then
    k3 x0 x1 x3 x5 (x7 + (1 : Int32)) w
  else
    bd1 (oRn w x0 1 1 0) fun a9 =>
    bd1 (oI w x0 1 1 7) fun v10 =>
    bd1 (pI w x0 1 1 7 (v10 + (1 : Int32))) fun w11 =>
    bd1 (xI w11 a9 41 v10 (x8.toInt8.toInt32.toInt8.toInt32)) fun w12 =>
    k3 x0 x1 x3 x5 (x7 + (1 : Int32)) w12
def B_X1_feed_p34 (k3 : Nat → Int64 → Int64 → Int64 → Int32 → GS → Option (Int32 × GS)) (x0 : Nat) (x1 : Int64) (x3 : Int64) (x5 : Int64) (x7 : Int32) (t0 : Int64) (w : GS) : Option (Int32 × GS) :=
  bdp (((t0 >>> (((56 : Int32) - ((8 : Int32) * (x7 - x7 / (8 : Int32) * (8 : Int32)))).toInt64 &&& 63)).toInt32) &&& (255 : Int32)) fun y5 =>
  if y5 = (10 : Int32) then
    B_X1_feed_p74 k3 x0 x1 x3 x5 x7 y5 w
  else
    if y5 < (32 : Int32) then
      k3 x0 x1 x3 x5 (x7 + (1 : Int32)) w
    else
      if (126 : Int32) < y5 then
        k3 x0 x1 x3 x5 (x7 + (1 : Int32)) w
      else
        B_X1_feed_p74 k3 x0 x1 x3 x5 x7 y5 w
def B_X1_feed_p3 : Nat → Nat → Int64 → Int64 → Int64 → Int32 → GS → Option (Int32 × GS)
  | 0, _, _, _, _, _, _ => none
  | n + 1, x0, x1, x3, x5, x7, w =>
    if (24 : Int32) ≤ x7 then
      bd1 (oI w x0 1 1 7) fun v2 =>
      some (v2, w)
    else
      if (8 : Int32) ≤ x7 then
        if (16 : Int32) ≤ x7 then
          B_X1_feed_p34 (B_X1_feed_p3 n) x0 x1 x3 x5 x7 x5 w
        else
          B_X1_feed_p34 (B_X1_feed_p3 n) x0 x1 x3 x5 x7 x3 w
      else
        B_X1_feed_p34 (B_X1_feed_p3 n) x0 x1 x3 x5 x7 x1 w
def B_X1_feed (x0 : Nat) (x1 : Int64) (x3 : Int64) (x5 : Int64) (w : GS) : Option (Int32 × GS) :=
  B_X1_feed_p3 FU x0 x1 x3 x5 (0 : Int32) w
set_option maxRecDepth 100000 in
set_option maxHeartbeats 4000000 in
theorem wk_B_X1_feed_p74 {p : Program} {l : Launch} {e : Env} {R : Room} {s : State} {m : MethodId} {args : Array Value} {below : List Frame} {meth : Method} {c : Code} {E : gE} {A : Nat → Prop} {LC LS : Nat} (S : CallFix p m c cX1_feed 9 s args lw_all RX1) (X : gCtx E A s) (Z : gRm R s LC LS) (hF : 0 ≤ R.frames) (hL : 0 ≤ R.locals) (hr : meth.sig.returnType = (Option.some Jvm.ClassFile.FieldType.int)) (hlocks : meth.locks = false) {res : Int32 × GS}  {k3 : Nat → Int64 → Int64 → Int64 → Int32 → GS → Option (Int32 × GS)} (hk3 : ∀ (x0 : Nat) (x1 : Int64) (x3 : Int64) (x5 : Int64) (x7 : Int32) (w : GS) (H : Heap) (locs : List Loc) (ls : Array Slot), k3 x0 x1 x3 x5 x7 w = some res → gH E A LC LS s w H locs → lv_has ls 9 [(0, .ref x0), (1, .long x1), (3, .long x3), (5, .long x5), (7, .int x7)] → W p l e R s m args below meth c H locs (H.size - s.heap.size) (tot H - tot s.heap) (MQ below (gQi E A LC LS res.1 res.2) args s R.cells R.slots A) (F0 m 3 ls [])) : ∀ (x0 : Nat) (x1 : Int64) (x3 : Int64) (x5 : Int64) (x7 : Int32) (x8 : Int32) (w : GS) (H : Heap) (locs : List Loc) (ls : Array Slot), B_X1_feed_p74 k3 x0 x1 x3 x5 x7 x8 w = some res → gH E A LC LS s w H locs → lv_has ls 9 [(0, .ref x0), (1, .long x1), (3, .long x3), (5, .long x5), (7, .int x7), (8, .int x8)] → W p l e R s m args below meth c H locs (H.size - s.heap.size) (tot H - tot s.heap) (MQ below (gQi E A LC LS res.1 res.2) args s R.cells R.slots A) (F0 m 74 ls []) := by
  intro x0 x1 x3 x5 x7 x8 w H locs ls h hw hl
  unfold B_X1_feed_p74 at h
  refine lv_aload_n S.1 S.2.1 dX1_feed_74 rfl (lv_at hl 0 rfl) ?_
  refine ggX1_105 S X hw dX1_feed_75 h (fun v7 h => ?_)
  refine lv_sipush (v := 1000) S.1 S.2.1 dX1_feed_78 rfl ?_
  refine lv_icmp_ge (tgt := 103) S.1 S.2.1 dX1_feed_81 rfl (fun c8 => ?_) (fun c8 => ?_)
  · replace h := if_t c8 h
    refine lv_iinc (v := x7 + (1 : Int32)) (lv' := [(7, .int (x7 + (1 : Int32))), (0, .ref x0), (1, .long x1), (3, .long x3), (5, .long x5), (8, .int x8)]) S.1 S.2.1 dX1_feed_103 hl (k := 4) rfl rfl (by decide) rfl (fun ls hl => ?_)
    refine lv_goto (tgt := 3) S.1 S.2.1 dX1_feed_106 rfl ?_
    exact hk3 _ _ _ _ _ _ _ _ _ h hw (lv_sub hl [1, 2, 3, 4, 0] rfl)
  · replace h := if_f c8 h
    refine lv_aload_n S.1 S.2.1 dX1_feed_84 rfl (lv_at hl 0 rfl) ?_
    refine ggX1_21 S X hw dX1_feed_85 h (fun a9 h => ?_)
    refine lv_aload_n S.1 S.2.1 dX1_feed_88 rfl (lv_at hl 0 rfl) ?_
    refine lv_dup S.1 S.2.1 dX1_feed_89 rfl ?_
    refine ggX1_105 S X hw dX1_feed_90 h (fun v10 h => ?_)
    refine lv_dup_x1 S.1 S.2.1 dX1_feed_93 rfl rfl ?_
    refine lv_iconst (v := 1) S.1 S.2.1 dX1_feed_94 rfl ?_
    refine lv_iadd S.1 S.2.1 dX1_feed_95 ?_
    refine gpX1_105 S X hw dX1_feed_96 h (fun w11 H locs h hw => ?_)
    refine lv_iload S.1 S.2.1 dX1_feed_99 (lv_at hl 5 rfl) ?_
    refine lv_i2b S.1 S.2.1 dX1_feed_101 rfl ?_
    refine gast41 S X hw dX1_feed_102 h (fun w12 H locs h hw => ?_)
    refine lv_iinc (v := x7 + (1 : Int32)) (lv' := [(7, .int (x7 + (1 : Int32))), (0, .ref x0), (1, .long x1), (3, .long x3), (5, .long x5), (8, .int x8)]) S.1 S.2.1 dX1_feed_103 hl (k := 4) rfl rfl (by decide) rfl (fun ls hl => ?_)
    refine lv_goto (tgt := 3) S.1 S.2.1 dX1_feed_106 rfl ?_
    exact hk3 _ _ _ _ _ _ _ _ _ h hw (lv_sub hl [1, 2, 3, 4, 0] rfl)
set_option maxRecDepth 100000 in
set_option maxHeartbeats 4000000 in
theorem wk_B_X1_feed_p34 {p : Program} {l : Launch} {e : Env} {R : Room} {s : State} {m : MethodId} {args : Array Value} {below : List Frame} {meth : Method} {c : Code} {E : gE} {A : Nat → Prop} {LC LS : Nat} (S : CallFix p m c cX1_feed 9 s args lw_all RX1) (X : gCtx E A s) (Z : gRm R s LC LS) (hF : 0 ≤ R.frames) (hL : 0 ≤ R.locals) (hr : meth.sig.returnType = (Option.some Jvm.ClassFile.FieldType.int)) (hlocks : meth.locks = false) {res : Int32 × GS}  {k3 : Nat → Int64 → Int64 → Int64 → Int32 → GS → Option (Int32 × GS)} (hk3 : ∀ (x0 : Nat) (x1 : Int64) (x3 : Int64) (x5 : Int64) (x7 : Int32) (w : GS) (H : Heap) (locs : List Loc) (ls : Array Slot), k3 x0 x1 x3 x5 x7 w = some res → gH E A LC LS s w H locs → lv_has ls 9 [(0, .ref x0), (1, .long x1), (3, .long x3), (5, .long x5), (7, .int x7)] → W p l e R s m args below meth c H locs (H.size - s.heap.size) (tot H - tot s.heap) (MQ below (gQi E A LC LS res.1 res.2) args s R.cells R.slots A) (F0 m 3 ls [])) : ∀ (x0 : Nat) (x1 : Int64) (x3 : Int64) (x5 : Int64) (x7 : Int32) (t0 : Int64) (w : GS) (H : Heap) (locs : List Loc) (ls : Array Slot), B_X1_feed_p34 k3 x0 x1 x3 x5 x7 t0 w = some res → gH E A LC LS s w H locs → lv_has ls 9 [(0, .ref x0), (1, .long x1), (3, .long x3), (5, .long x5), (7, .int x7)] → W p l e R s m args below meth c H locs (H.size - s.heap.size) (tot H - tot s.heap) (MQ below (gQi E A LC LS res.1 res.2) args s R.cells R.slots A) (F0 m 34 ls [.long t0]) := by
  intro x0 x1 x3 x5 x7 t0 w H locs ls h hw hl
  unfold B_X1_feed_p34 at h
  refine lv_bipush (v := 56) S.1 S.2.1 dX1_feed_34 rfl ?_
  refine lv_bipush (v := 8) S.1 S.2.1 dX1_feed_36 rfl ?_
  refine lv_iload S.1 S.2.1 dX1_feed_38 (lv_at hl 4 rfl) ?_
  refine lv_bipush (v := 8) S.1 S.2.1 dX1_feed_40 rfl ?_
  refine lv_irem S.1 S.2.1 dX1_feed_42 (by decide) ?_
  refine lv_imul S.1 S.2.1 dX1_feed_43 ?_
  refine lv_isub S.1 S.2.1 dX1_feed_44 ?_
  refine lv_lshr S.1 S.2.1 dX1_feed_45 rfl ?_
  refine lv_l2i S.1 S.2.1 dX1_feed_46 rfl ?_
  refine lv_sipush (v := 255) S.1 S.2.1 dX1_feed_47 rfl ?_
  refine lv_iand S.1 S.2.1 dX1_feed_50 ?_
  refine lv_topi (fun y5 ey => ?_)
  replace h := bdp_e ey h
  refine lv_istore (lv' := [(8, .int y5), (0, .ref x0), (1, .long x1), (3, .long x3), (5, .long x5), (7, .int x7)]) S.1 S.2.1 dX1_feed_51 hl (by decide) rfl (fun ls hl => ?_)
  refine lv_iload S.1 S.2.1 dX1_feed_53 (lv_at hl 0 rfl) ?_
  refine lv_bipush (v := 10) S.1 S.2.1 dX1_feed_55 rfl ?_
  refine lv_icmp_eq (tgt := 74) S.1 S.2.1 dX1_feed_57 rfl (fun c6 => ?_) (fun c6 => ?_)
  · replace h := if_t c6 h
    exact wk_B_X1_feed_p74 S X Z hF hL hr hlocks  hk3 _ _ _ _ _ _ _ _ _ _ h hw (lv_sub hl [1, 2, 3, 4, 5, 0] rfl)
  · replace h := if_f c6 h
    refine lv_iload S.1 S.2.1 dX1_feed_60 (lv_at hl 0 rfl) ?_
    refine lv_bipush (v := 32) S.1 S.2.1 dX1_feed_62 rfl ?_
    refine lv_icmp_lt (tgt := 103) S.1 S.2.1 dX1_feed_64 rfl (fun c13 => ?_) (fun c13 => ?_)
    · replace h := if_t c13 h
      refine lv_iinc (v := x7 + (1 : Int32)) (lv' := [(7, .int (x7 + (1 : Int32))), (8, .int y5), (0, .ref x0), (1, .long x1), (3, .long x3), (5, .long x5)]) S.1 S.2.1 dX1_feed_103 hl (k := 5) rfl rfl (by decide) rfl (fun ls hl => ?_)
      refine lv_goto (tgt := 3) S.1 S.2.1 dX1_feed_106 rfl ?_
      exact hk3 _ _ _ _ _ _ _ _ _ h hw (lv_sub hl [2, 3, 4, 5, 0] rfl)
    · replace h := if_f c13 h
      refine lv_iload S.1 S.2.1 dX1_feed_67 (lv_at hl 0 rfl) ?_
      refine lv_bipush (v := 126) S.1 S.2.1 dX1_feed_69 rfl ?_
      refine lv_icmp_gt (tgt := 103) S.1 S.2.1 dX1_feed_71 rfl (fun c14 => ?_) (fun c14 => ?_)
      · replace h := if_t c14 h
        refine lv_iinc (v := x7 + (1 : Int32)) (lv' := [(7, .int (x7 + (1 : Int32))), (8, .int y5), (0, .ref x0), (1, .long x1), (3, .long x3), (5, .long x5)]) S.1 S.2.1 dX1_feed_103 hl (k := 5) rfl rfl (by decide) rfl (fun ls hl => ?_)
        refine lv_goto (tgt := 3) S.1 S.2.1 dX1_feed_106 rfl ?_
        exact hk3 _ _ _ _ _ _ _ _ _ h hw (lv_sub hl [2, 3, 4, 5, 0] rfl)
      · replace h := if_f c14 h
        exact wk_B_X1_feed_p74 S X Z hF hL hr hlocks  hk3 _ _ _ _ _ _ _ _ _ _ h hw (lv_sub hl [1, 2, 3, 4, 5, 0] rfl)
set_option maxRecDepth 100000 in
set_option maxHeartbeats 4000000 in
theorem wk_B_X1_feed_p3 {p : Program} {l : Launch} {e : Env} {R : Room} {s : State} {m : MethodId} {args : Array Value} {below : List Frame} {meth : Method} {c : Code} {E : gE} {A : Nat → Prop} {LC LS : Nat} (S : CallFix p m c cX1_feed 9 s args lw_all RX1) (X : gCtx E A s) (Z : gRm R s LC LS) (hF : 0 ≤ R.frames) (hL : 0 ≤ R.locals) (hr : meth.sig.returnType = (Option.some Jvm.ClassFile.FieldType.int)) (hlocks : meth.locks = false) {res : Int32 × GS}  : ∀ n : Nat, ∀ (x0 : Nat) (x1 : Int64) (x3 : Int64) (x5 : Int64) (x7 : Int32) (w : GS) (H : Heap) (locs : List Loc) (ls : Array Slot), B_X1_feed_p3 n x0 x1 x3 x5 x7 w = some res → gH E A LC LS s w H locs → lv_has ls 9 [(0, .ref x0), (1, .long x1), (3, .long x3), (5, .long x5), (7, .int x7)] → W p l e R s m args below meth c H locs (H.size - s.heap.size) (tot H - tot s.heap) (MQ below (gQi E A LC LS res.1 res.2) args s R.cells R.slots A) (F0 m 3 ls []) := by
  intro n
  induction n with
  | zero => intro x0 x1 x3 x5 x7 w H locs ls h; cases (show (none : Option (Int32 × GS)) = some res from h)
  | succ n ih =>
    intro x0 x1 x3 x5 x7 w H locs ls h hw hl
    rw [B_X1_feed_p3] at h
    refine lv_iload S.1 S.2.1 dX1_feed_3 (lv_at hl 4 rfl) ?_
    refine lv_bipush (v := 24) S.1 S.2.1 dX1_feed_5 rfl ?_
    refine lv_icmp_ge (tgt := 109) S.1 S.2.1 dX1_feed_7 rfl (fun c1 => ?_) (fun c1 => ?_)
    · replace h := if_t c1 h
      refine lv_aload_n S.1 S.2.1 dX1_feed_109 rfl (lv_at hl 0 rfl) ?_
      refine ggX1_105 S X hw dX1_feed_110 h (fun v2 h => ?_)
      exact g_iret S Z hr hlocks hw (so2 h) dX1_feed_113
    · replace h := if_f c1 h
      refine lv_iload S.1 S.2.1 dX1_feed_10 (lv_at hl 4 rfl) ?_
      refine lv_bipush (v := 8) S.1 S.2.1 dX1_feed_12 rfl ?_
      refine lv_icmp_ge (tgt := 21) S.1 S.2.1 dX1_feed_14 rfl (fun c3 => ?_) (fun c3 => ?_)
      · replace h := if_t c3 h
        refine lv_iload S.1 S.2.1 dX1_feed_21 (lv_at hl 4 rfl) ?_
        refine lv_bipush (v := 16) S.1 S.2.1 dX1_feed_23 rfl ?_
        refine lv_icmp_ge (tgt := 32) S.1 S.2.1 dX1_feed_25 rfl (fun c4 => ?_) (fun c4 => ?_)
        · replace h := if_t c4 h
          refine lv_lload S.1 S.2.1 dX1_feed_32 (lv_at hl 3 rfl) ?_
          exact wk_B_X1_feed_p34 S X Z hF hL hr hlocks  ih _ _ _ _ _ _ _ _ _ _ h hw (lv_sub hl [0, 1, 2, 3, 4] rfl)
        · replace h := if_f c4 h
          refine lv_lload_n S.1 S.2.1 dX1_feed_28 rfl (lv_at hl 2 rfl) ?_
          refine lv_goto (tgt := 34) S.1 S.2.1 dX1_feed_29 rfl ?_
          exact wk_B_X1_feed_p34 S X Z hF hL hr hlocks  ih _ _ _ _ _ _ _ _ _ _ h hw (lv_sub hl [0, 1, 2, 3, 4] rfl)
      · replace h := if_f c3 h
        refine lv_lload_n S.1 S.2.1 dX1_feed_17 rfl (lv_at hl 1 rfl) ?_
        refine lv_goto (tgt := 34) S.1 S.2.1 dX1_feed_18 rfl ?_
        exact wk_B_X1_feed_p34 S X Z hF hL hr hlocks  ih _ _ _ _ _ _ _ _ _ _ h hw (lv_sub hl [0, 1, 2, 3, 4] rfl)
set_option maxRecDepth 100000 in
set_option maxHeartbeats 4000000 in
theorem met_B_X1_feed (l : Launch) (E : gE) (A : Nat → Prop) (LC LS : Nat)  (x0 : Nat) (x1 : Int64) (x3 : Int64) (x5 : Int64) (w : GS) (res : Int32 × GS) (h : B_X1_feed x0 x1 x3 x5 w = some res) : Met l yX1_feed (ws_ yX1_feed cX1_feed 9 (Option.some Jvm.ClassFile.FieldType.int)) (gRoom 0 0 LC LS w) (gPc E A LC LS [.ref x0, .long x1, .long x3, .long x5] w) (gQi E A LC LS res.1 res.2) (LC - gZ w) (LS - gN w) A := by
  refine gMet (by decide) rfl (Nat.le_of_ble_eq_true rfl) ?_
  intro p e s m below meth c R S hr hlocks hin2 X Z hF hL H ls hw hl
  replace hl : lv_has ls 9 [(0, .ref x0), (1, .long x1), (3, .long x3), (5, .long x5)] := hl
  unfold B_X1_feed at h
  refine lv_iconst (v := 0) S.1 S.2.1 dX1_feed_0 rfl ?_
  refine lv_istore (lv' := [(7, .int (0 : Int32)), (0, .ref x0), (1, .long x1), (3, .long x3), (5, .long x5)]) S.1 S.2.1 dX1_feed_1 hl (by decide) rfl (fun ls hl => ?_)
  exact wk_B_X1_feed_p3 S X Z hF hL hr hlocks  FU _ _ _ _ _ _ _ _ _ h hw (lv_sub hl [1, 2, 3, 4, 0] rfl)
theorem cb_X1_109 {R : Room} {s : State} {args : Array Value} {rm : Room} {mc ms : Nat} (hts : ∀ w ∈ lw_all, w.before args s = true) (hc : rm.cells = mc) (hs : rm.slots = ms) (hR : rm.frames + 1 ≤ R.frames ∧ 8 + (3 + 11) + rm.locals ≤ R.locals) : CallW R s args RX1 RX2 109 yX2_begin cX2_begin 3 (Option.none : Option Jvm.ClassFile.FieldType) (ws_ yX2_begin cX2_begin 3 (Option.none : Option Jvm.ClassFile.FieldType)) rm mc ms 2 := cwV 2 hts (lw_V q458 q459 q460 q136 q461) rfl hc hs (by decide +kernel) hR
def B_X1_reads (x0 : Nat) (w : GS) : Option GS :=
  bd1 (oRn w x0 1 1 1) fun a1 =>
  bd1 (oRn w x0 1 1 0) fun a2 =>
  bd1 (oI w x0 1 1 7) fun v3 =>
  bd1 (oK w a1 2 2) fun _ =>
  bd1 (B_X2_begin a1 a2 v3 w) fun w4 =>
  bd1 (pI w4 x0 1 1 7 (0 : Int32)) fun w5 =>
  some w5
set_option maxRecDepth 100000 in
set_option maxHeartbeats 4000000 in
theorem met_B_X1_reads (l : Launch) (E : gE) (A : Nat → Prop) (LC LS : Nat)  (x0 : Nat) (w : GS) (res : GS) (h : B_X1_reads x0 w = some res) : Met l yX1_reads (ws_ yX1_reads cX1_reads 1 (Option.none : Option Jvm.ClassFile.FieldType)) (gRoom 6 133 LC LS w) (gPc E A LC LS [.ref x0] w) (gQv E A LC LS res) (LC - gZ w) (LS - gN w) A := by
  refine gMet (by decide) rfl (Nat.le_of_ble_eq_true rfl) ?_
  intro p e s m below meth c R S hr hlocks hin2 X Z hF hL H ls hw hl
  replace hl : lv_has ls 1 [(0, .ref x0)] := hl
  unfold B_X1_reads at h
  refine lv_aload_n S.1 S.2.1 dX1_reads_0 rfl (lv_at hl 0 rfl) ?_
  refine ggX1_28 S X hw dX1_reads_1 h (fun a1 h => ?_)
  refine lv_aload_n S.1 S.2.1 dX1_reads_4 rfl (lv_at hl 0 rfl) ?_
  refine ggX1_21 S X hw dX1_reads_5 h (fun a2 h => ?_)
  refine lv_aload_n S.1 S.2.1 dX1_reads_8 rfl (lv_at hl 0 rfl) ?_
  refine ggX1_105 S X hw dX1_reads_9 h (fun v3 h => ?_)
  obtain ⟨hrc, h⟩ := oK1 h
  refine gcVv (As := [.ref a2, .int v3]) (rest := []) S X Z hw (b := a1) h (fun u h1 => met_B_X2_begin l E A LC LS a1 a2 v3 w u h1) (cb_X1_109 S.2.2.2.2 rfl rfl ⟨Nat.le_trans (Nat.le_of_ble_eq_true rfl : 5 + 1 ≤ 6) hF, Nat.le_trans (Nat.le_of_ble_eq_true rfl : 8 + (3 + 11) + 111 ≤ 133) hL⟩) (g_recv X hw (ci := 1) rfl (gcell_2 hrc)) rfl hl.1 rfl (lv_room (Nat.le_of_ble_eq_true rfl)) dX1_reads_12 (fun w4 H locs h hw => ?_)
  refine lv_aload_n S.1 S.2.1 dX1_reads_15 rfl (lv_at hl 0 rfl) ?_
  refine lv_iconst (v := 0) S.1 S.2.1 dX1_reads_16 rfl ?_
  refine gpX1_105 S X hw dX1_reads_17 h (fun w5 H locs h hw => ?_)
  exact g_vret S Z hr hlocks hw (so1 h) dX1_reads_20
theorem cb_X1_136 {R : Room} {s : State} {args : Array Value} {rm : Room} {mc ms : Nat} (hts : ∀ w ∈ lw_all, w.before args s = true) (hc : rm.cells = mc) (hs : rm.slots = ms) (hR : rm.frames + 1 ≤ R.frames ∧ 8 + (1 + 11) + rm.locals ≤ R.locals) : CallW R s args RX1 RJ2 136 yJ2_size cJ2_size 1 (Option.some Jvm.ClassFile.FieldType.int) (ws_ yJ2_size cJ2_size 1 (Option.some Jvm.ClassFile.FieldType.int)) rm mc ms 0 := cwV 0 hts (lw_V q1279 q350 q351 q140 q352) rfl hc hs (by decide +kernel) hR
def B_X1_rooms (x0 : Nat) (w : GS) : Option Int32 :=
  bd1 (oRn w x0 1 1 2) fun a1 =>
  bd1 (oRn w a1 3 3 0) fun a2 =>
  bd1 (oK w a2 23 23) fun _ =>
  bd1 (B_J2_size a2 w) fun r3 =>
  some r3
set_option maxRecDepth 100000 in
set_option maxHeartbeats 4000000 in
theorem met_B_X1_rooms (l : Launch) (E : gE) (A : Nat → Prop) (LC LS : Nat)  (x0 : Nat) (w : GS) (res : Int32) (h : B_X1_rooms x0 w = some res) : Met l yX1_rooms (ws_ yX1_rooms cX1_rooms 1 (Option.some Jvm.ClassFile.FieldType.int)) (gRoom 1 20 LC LS w) (gPc E A LC LS [.ref x0] w) (gQi E A LC LS res w) (LC - gZ w) (LS - gN w) A := by
  refine gMet (by decide) rfl (Nat.le_of_ble_eq_true rfl) ?_
  intro p e s m below meth c R S hr hlocks hin2 X Z hF hL H ls hw hl
  replace hl : lv_has ls 1 [(0, .ref x0)] := hl
  unfold B_X1_rooms at h
  refine lv_aload_n S.1 S.2.1 dX1_rooms_0 rfl (lv_at hl 0 rfl) ?_
  refine ggX1_35 S X hw dX1_rooms_1 h (fun a1 h => ?_)
  refine ggX1_133 S X hw dX1_rooms_4 h (fun a2 h => ?_)
  obtain ⟨hrc, h⟩ := oK1 h
  refine gcVri (As := []) (rest := []) S X Z hw (b := a2) h (fun u h1 => met_B_J2_size l E A LC LS a2 w u h1) (cb_X1_136 S.2.2.2.2 rfl rfl ⟨Nat.le_trans (Nat.le_of_ble_eq_true rfl : 0 + 1 ≤ 1) hF, Nat.le_trans (Nat.le_of_ble_eq_true rfl : 8 + (1 + 11) + 0 ≤ 20) hL⟩) (g_recv X hw (ci := 22) rfl (gcell_23 hrc)) rfl hl.1 rfl (lv_room (Nat.le_of_ble_eq_true rfl)) dX1_rooms_7 (fun r3 H locs h hw => ?_)
  exact g_iret S Z hr hlocks hw ⟨so1 h, rfl⟩ dX1_rooms_10
def B_X1_in (x0 : Int32) (x1 : Int32) (x2 : Int32) : Int32 :=
  if x0 < x1 then
    (0 : Int32)
  else
    if x2 < x0 then
      (0 : Int32)
    else
      (1 : Int32)
set_option maxRecDepth 100000 in
set_option maxHeartbeats 4000000 in
theorem met_B_X1_in (l : Launch) (E : gE) (A : Nat → Prop) (LC LS : Nat)  (x0 : Int32) (x1 : Int32) (x2 : Int32) (w : GS) (res : Int32) (h : B_X1_in x0 x1 x2 = res) : Met l yX1_in (ws_ yX1_in cX1_in 3 (Option.some Jvm.ClassFile.FieldType.boolean)) (gRoom 0 0 LC LS w) (gPc E A LC LS [.int x0, .int x1, .int x2] w) (gQi E A LC LS res w) (LC - gZ w) (LS - gN w) A := by
  refine gMet (by decide) rfl (Nat.le_of_ble_eq_true rfl) ?_
  intro p e s m below meth c R S hr hlocks hin2 X Z hF hL H ls hw hl
  replace hl : lv_has ls 3 [(0, .int x0), (1, .int x1), (2, .int x2)] := hl
  unfold B_X1_in at h
  refine lv_iload_n S.1 S.2.1 dX1_in_0 rfl (lv_at hl 0 rfl) ?_
  refine lv_iload_n S.1 S.2.1 dX1_in_1 rfl (lv_at hl 1 rfl) ?_
  refine lv_icmp_lt (tgt := 14) S.1 S.2.1 dX1_in_2 rfl (fun c1 => ?_) (fun c1 => ?_)
  · replace h := if_t c1 h
    refine lv_iconst (v := 0) S.1 S.2.1 dX1_in_14 rfl ?_
    exact g_zret S Z hr hlocks hw rfl ⟨h, rfl⟩ dX1_in_15
  · replace h := if_f c1 h
    refine lv_iload_n S.1 S.2.1 dX1_in_5 rfl (lv_at hl 0 rfl) ?_
    refine lv_iload_n S.1 S.2.1 dX1_in_6 rfl (lv_at hl 2 rfl) ?_
    refine lv_icmp_gt (tgt := 14) S.1 S.2.1 dX1_in_7 rfl (fun c2 => ?_) (fun c2 => ?_)
    · replace h := if_t c2 h
      refine lv_iconst (v := 0) S.1 S.2.1 dX1_in_14 rfl ?_
      exact g_zret S Z hr hlocks hw rfl ⟨h, rfl⟩ dX1_in_15
    · replace h := if_f c2 h
      refine lv_iconst (v := 1) S.1 S.2.1 dX1_in_10 rfl ?_
      refine lv_goto (tgt := 15) S.1 S.2.1 dX1_in_11 rfl ?_
      exact g_zret S Z hr hlocks hw rfl ⟨h, rfl⟩ dX1_in_15
theorem cb_X1_151 {R : Room} {s : State} {args : Array Value} {rm : Room} {mc ms : Nat} (hts : ∀ w ∈ lw_all, w.before args s = true) (hc : rm.cells = mc) (hs : rm.slots = ms) (hR : rm.frames + 1 ≤ R.frames ∧ 8 + (1 + 11) + rm.locals ≤ R.locals) : CallW R s args RX1 RX1 151 yX1_rooms cX1_rooms 1 (Option.some Jvm.ClassFile.FieldType.int) (ws_ yX1_rooms cX1_rooms 1 (Option.some Jvm.ClassFile.FieldType.int)) rm mc ms 0 := cwV 0 hts (lw_V q1275 q1277 qs30 q135 q1278) rfl hc hs (by decide +kernel) hR
theorem cb_X1_153 {R : Room} {s : State} {args : Array Value} {rm : Room} {mc ms : Nat} (hts : ∀ w ∈ lw_all, w.before args s = true) (hc : rm.cells = mc) (hs : rm.slots = ms) (hR : rm.frames + 1 ≤ R.frames ∧ 8 + (3 + 11) + rm.locals ≤ R.locals) : CallB R s args RX1 153 yX1_in cX1_in 3 (Option.some Jvm.ClassFile.FieldType.boolean) (ws_ yX1_in cX1_in 3 (Option.some Jvm.ClassFile.FieldType.boolean)) rm mc ms 3 ∧ (Cond.static yX1_in).before args s = true := va_cwS 3 hts (lw_S q1280 q1281 q135 q1282) rfl hc hs (by decide +kernel) hR
def B_X1_isRoom (x0 : Nat) (x1 : Int32) (w : GS) : Option Int32 :=
  bd1 (oK w x0 1 1) fun _ =>
  bd1 (B_X1_rooms x0 w) fun r1 =>
  zb (B_X1_in x1 (0 : Int32) (r1 - (1 : Int32))) (some (B_X1_in x1 (0 : Int32) (r1 - (1 : Int32))))
set_option maxRecDepth 100000 in
set_option maxHeartbeats 4000000 in
theorem met_B_X1_isRoom (l : Launch) (E : gE) (A : Nat → Prop) (LC LS : Nat)  (x0 : Nat) (x1 : Int32) (w : GS) (res : Int32) (h : B_X1_isRoom x0 x1 w = some res) : Met l yX1_isRoom (ws_ yX1_isRoom cX1_isRoom 2 (Option.some Jvm.ClassFile.FieldType.boolean)) (gRoom 2 40 LC LS w) (gPc E A LC LS [.ref x0, .int x1] w) (gQi E A LC LS res w) (LC - gZ w) (LS - gN w) A := by
  refine gMet (by decide) rfl (Nat.le_of_ble_eq_true rfl) ?_
  intro p e s m below meth c R S hr hlocks hin2 X Z hF hL H ls hw hl
  replace hl : lv_has ls 2 [(0, .ref x0), (1, .int x1)] := hl
  unfold B_X1_isRoom at h
  refine lv_iload_n S.1 S.2.1 dX1_isRoom_0 rfl (lv_at hl 1 rfl) ?_
  refine lv_iconst (v := 0) S.1 S.2.1 dX1_isRoom_1 rfl ?_
  refine lv_aload_n S.1 S.2.1 dX1_isRoom_2 rfl (lv_at hl 0 rfl) ?_
  obtain ⟨hrc, h⟩ := oK1 h
  refine gcVri (As := []) (rest := [.int (0 : Int32), .int x1]) S X Z hw (b := x0) h (fun u h1 => met_B_X1_rooms l E A LC LS x0 w u h1) (cb_X1_151 S.2.2.2.2 rfl rfl ⟨Nat.le_trans (Nat.le_of_ble_eq_true rfl : 1 + 1 ≤ 2) hF, Nat.le_trans (Nat.le_of_ble_eq_true rfl : 8 + (1 + 11) + 20 ≤ 40) hL⟩) (g_recv X hw (ci := 0) rfl (gcell_1 hrc)) rfl hl.1 rfl (lv_room (Nat.le_of_ble_eq_true rfl)) dX1_isRoom_3 (fun r1 H locs h hw => ?_)
  refine lv_iconst (v := 1) S.1 S.2.1 dX1_isRoom_6 rfl ?_
  refine lv_isub S.1 S.2.1 dX1_isRoom_7 ?_
  refine gcSti (As := [.int x1, .int (0 : Int32), .int (r1 - (1 : Int32))]) (rest := []) S X Z hw (met_B_X1_in l E A LC LS x1 (0 : Int32) (r1 - (1 : Int32)) w _ rfl) (cb_X1_153 S.2.2.2.2 rfl rfl ⟨Nat.le_trans (Nat.le_of_ble_eq_true rfl : 0 + 1 ≤ 2) hF, Nat.le_trans (Nat.le_of_ble_eq_true rfl : 8 + (3 + 11) + 0 ≤ 40) hL⟩) rfl hl.1 rfl (lv_room (Nat.le_of_ble_eq_true rfl)) dX1_isRoom_8 (fun H locs hw => ?_)
  exact g_zret S Z hr hlocks hw (by rcases (zb_some h).1 with e | e <;> rw [e] <;> rfl) ⟨so1 (zb_some h).2, rfl⟩ dX1_isRoom_11
theorem cb_X1_140 {R : Room} {s : State} {args : Array Value} {rm : Room} {mc ms : Nat} (hts : ∀ w ∈ lw_all, w.before args s = true) (hc : rm.cells = mc) (hs : rm.slots = ms) (hR : rm.frames + 1 ≤ R.frames ∧ 8 + (2 + 11) + rm.locals ≤ R.locals) : CallW R s args RX1 RJ2 140 yJ2_get cJ2_get 2 (Option.some (Jvm.ClassFile.FieldType.object "java/lang/Object")) (ws_ yJ2_get cJ2_get 2 (Option.some (Jvm.ClassFile.FieldType.object "java/lang/Object"))) rm mc ms 1 := cwV 1 hts (lw_V q1287 q354 q355 q140 q356) rfl hc hs (by decide +kernel) hR
def B_X1_room_2 (x0 : Nat) (x1 : Int32) (w : GS) : Option Nat :=
  bd1 (oRn w x0 1 1 2) fun a1 =>
  bd1 (oRn w a1 3 3 0) fun a2 =>
  bd1 (oK w a2 23 23) fun _ =>
  bd1 (B_J2_get a2 x1 w) fun a3 =>
  bd1 (oK w a3 7 7) fun _ =>
  some a3
set_option maxRecDepth 100000 in
set_option maxHeartbeats 4000000 in
theorem met_B_X1_room_2 (l : Launch) (E : gE) (A : Nat → Prop) (LC LS : Nat)  (x0 : Nat) (x1 : Int32) (w : GS) (res : Nat) (h : B_X1_room_2 x0 x1 w = some res) : Met l yX1_room_2 (ws_ yX1_room_2 cX1_room_2 2 (Option.some (Jvm.ClassFile.FieldType.object "PulseRent$Room"))) (gRoom 3 64 LC LS w) (gPc E A LC LS [.ref x0, .int x1] w) (gQr E A LC LS res w) (LC - gZ w) (LS - gN w) A := by
  refine gMet (by decide) rfl (Nat.le_of_ble_eq_true rfl) ?_
  intro p e s m below meth c R S hr hlocks hin2 X Z hF hL H ls hw hl
  replace hl : lv_has ls 2 [(0, .ref x0), (1, .int x1)] := hl
  unfold B_X1_room_2 at h
  refine lv_aload_n S.1 S.2.1 dX1_room_2_0 rfl (lv_at hl 0 rfl) ?_
  refine ggX1_35 S X hw dX1_room_2_1 h (fun a1 h => ?_)
  refine ggX1_133 S X hw dX1_room_2_4 h (fun a2 h => ?_)
  refine lv_iload_n S.1 S.2.1 dX1_room_2_7 rfl (lv_at hl 1 rfl) ?_
  obtain ⟨hrc, h⟩ := oK1 h
  refine gcVrr (As := [.int x1]) (rest := []) S X Z hw (b := a2) h (fun u h1 => met_B_J2_get l E A LC LS a2 x1 w u h1) (cb_X1_140 S.2.2.2.2 rfl rfl ⟨Nat.le_trans (Nat.le_of_ble_eq_true rfl : 2 + 1 ≤ 3) hF, Nat.le_trans (Nat.le_of_ble_eq_true rfl : 8 + (2 + 11) + 43 ≤ 64) hL⟩) (g_recv X hw (ci := 22) rfl (gcell_23 hrc)) rfl hl.1 rfl (lv_room (Nat.le_of_ble_eq_true rfl)) dX1_room_2_8 (fun a3 H locs h hw => ?_)
  refine gckX1_144 S X hw dX1_room_2_11 h (fun _ h => ?_)
  exact g_aret S Z hr (Or.inl ⟨_, rfl⟩) hlocks hw ⟨so1 h, rfl⟩ dX1_room_2_14
def B_X1_tenants (x0 : Nat) (w : GS) : Option Int32 :=
  bd1 (oRn w x0 1 1 2) fun a1 =>
  bd1 (oRn w a1 3 3 1) fun a2 =>
  bd1 (oK w a2 23 23) fun _ =>
  bd1 (B_J2_size a2 w) fun r3 =>
  some r3
set_option maxRecDepth 100000 in
set_option maxHeartbeats 4000000 in
theorem met_B_X1_tenants (l : Launch) (E : gE) (A : Nat → Prop) (LC LS : Nat)  (x0 : Nat) (w : GS) (res : Int32) (h : B_X1_tenants x0 w = some res) : Met l yX1_tenants (ws_ yX1_tenants cX1_tenants 1 (Option.some Jvm.ClassFile.FieldType.int)) (gRoom 1 20 LC LS w) (gPc E A LC LS [.ref x0] w) (gQi E A LC LS res w) (LC - gZ w) (LS - gN w) A := by
  refine gMet (by decide) rfl (Nat.le_of_ble_eq_true rfl) ?_
  intro p e s m below meth c R S hr hlocks hin2 X Z hF hL H ls hw hl
  replace hl : lv_has ls 1 [(0, .ref x0)] := hl
  unfold B_X1_tenants at h
  refine lv_aload_n S.1 S.2.1 dX1_tenants_0 rfl (lv_at hl 0 rfl) ?_
  refine ggX1_35 S X hw dX1_tenants_1 h (fun a1 h => ?_)
  refine ggX1_146 S X hw dX1_tenants_4 h (fun a2 h => ?_)
  obtain ⟨hrc, h⟩ := oK1 h
  refine gcVri (As := []) (rest := []) S X Z hw (b := a2) h (fun u h1 => met_B_J2_size l E A LC LS a2 w u h1) (cb_X1_136 S.2.2.2.2 rfl rfl ⟨Nat.le_trans (Nat.le_of_ble_eq_true rfl : 0 + 1 ≤ 1) hF, Nat.le_trans (Nat.le_of_ble_eq_true rfl : 8 + (1 + 11) + 0 ≤ 20) hL⟩) (g_recv X hw (ci := 22) rfl (gcell_23 hrc)) rfl hl.1 rfl (lv_room (Nat.le_of_ble_eq_true rfl)) dX1_tenants_7 (fun r3 H locs h hw => ?_)
  exact g_iret S Z hr hlocks hw ⟨so1 h, rfl⟩ dX1_tenants_10
theorem cb_X1_157 {R : Room} {s : State} {args : Array Value} {rm : Room} {mc ms : Nat} (hts : ∀ w ∈ lw_all, w.before args s = true) (hc : rm.cells = mc) (hs : rm.slots = ms) (hR : rm.frames + 1 ≤ R.frames ∧ 8 + (1 + 11) + rm.locals ≤ R.locals) : CallW R s args RX1 RX1 157 yX1_tenants cX1_tenants 1 (Option.some Jvm.ClassFile.FieldType.int) (ws_ yX1_tenants cX1_tenants 1 (Option.some Jvm.ClassFile.FieldType.int)) rm mc ms 0 := cwV 0 hts (lw_V q1293 q1295 qs33 q135 q1296) rfl hc hs (by decide +kernel) hR
def B_X1_whoIn_p2 : Nat → Nat → Nat → Int32 → Int32 → GS → Option Int32
  | 0, _, _, _, _, _ => none
  | n + 1, x0, x1, x2, x3, w =>
    bd1 (oK w x0 1 1) fun _ =>
    bd1 (B_X1_tenants x0 w) fun r1 =>
    if r1 ≤ x3 then
      some (-1 : Int32)
    else
      bd1 (oRn w x1 4 4 0) fun a3 =>
      bd1 (aI w a3 40 x3) fun v4 =>
      if v4 = x2 then
        some x3
      else
        (B_X1_whoIn_p2 n) x0 x1 x2 (x3 + (1 : Int32)) w
def B_X1_whoIn (x0 : Nat) (x1 : Nat) (x2 : Int32) (w : GS) : Option Int32 :=
  B_X1_whoIn_p2 FU x0 x1 x2 (0 : Int32) w
set_option maxRecDepth 100000 in
set_option maxHeartbeats 4000000 in
theorem wk_B_X1_whoIn_p2 {p : Program} {l : Launch} {e : Env} {R : Room} {s : State} {m : MethodId} {args : Array Value} {below : List Frame} {meth : Method} {c : Code} {E : gE} {A : Nat → Prop} {LC LS : Nat} (S : CallFix p m c cX1_whoIn 4 s args lw_all RX1) (X : gCtx E A s) (Z : gRm R s LC LS) (hF : 2 ≤ R.frames) (hL : 40 ≤ R.locals) (hr : meth.sig.returnType = (Option.some Jvm.ClassFile.FieldType.int)) (hlocks : meth.locks = false) {res : Int32}  : ∀ n : Nat, ∀ (x0 : Nat) (x1 : Nat) (x2 : Int32) (x3 : Int32) (w : GS) (H : Heap) (locs : List Loc) (ls : Array Slot), B_X1_whoIn_p2 n x0 x1 x2 x3 w = some res → gH E A LC LS s w H locs → lv_has ls 4 [(0, .ref x0), (1, .ref x1), (2, .int x2), (3, .int x3)] → W p l e R s m args below meth c H locs (H.size - s.heap.size) (tot H - tot s.heap) (MQ below (gQi E A LC LS res w) args s R.cells R.slots A) (F0 m 2 ls []) := by
  intro n
  induction n with
  | zero => intro x0 x1 x2 x3 w H locs ls h; cases (show (none : Option Int32) = some res from h)
  | succ n ih =>
    intro x0 x1 x2 x3 w H locs ls h hw hl
    rw [B_X1_whoIn_p2] at h
    refine lv_iload_n S.1 S.2.1 dX1_whoIn_2 rfl (lv_at hl 3 rfl) ?_
    refine lv_aload_n S.1 S.2.1 dX1_whoIn_3 rfl (lv_at hl 0 rfl) ?_
    obtain ⟨hrc, h⟩ := oK1 h
    refine gcVri (As := []) (rest := [.int x3]) S X Z hw (b := x0) h (fun u h1 => met_B_X1_tenants l E A LC LS x0 w u h1) (cb_X1_157 S.2.2.2.2 rfl rfl ⟨Nat.le_trans (Nat.le_of_ble_eq_true rfl : 1 + 1 ≤ 2) hF, Nat.le_trans (Nat.le_of_ble_eq_true rfl : 8 + (1 + 11) + 20 ≤ 40) hL⟩) (g_recv X hw (ci := 0) rfl (gcell_1 hrc)) rfl hl.1 rfl (lv_room (Nat.le_of_ble_eq_true rfl)) dX1_whoIn_4 (fun r1 H locs h hw => ?_)
    refine lv_icmp_ge (tgt := 28) S.1 S.2.1 dX1_whoIn_7 rfl (fun c2 => ?_) (fun c2 => ?_)
    · replace h := if_t c2 h
      refine lv_iconst (v := -1) S.1 S.2.1 dX1_whoIn_28 rfl ?_
      exact g_iret S Z hr hlocks hw ⟨so1 h, rfl⟩ dX1_whoIn_29
    · replace h := if_f c2 h
      refine lv_aload_n S.1 S.2.1 dX1_whoIn_10 rfl (lv_at hl 1 rfl) ?_
      refine ggX1_176 S X hw dX1_whoIn_11 h (fun a3 h => ?_)
      refine lv_iload_n S.1 S.2.1 dX1_whoIn_14 rfl (lv_at hl 3 rfl) ?_
      refine gald40 S X hw dX1_whoIn_15 h (fun v4 h => ?_)
      refine lv_iload_n S.1 S.2.1 dX1_whoIn_16 rfl (lv_at hl 2 rfl) ?_
      refine lv_icmp_ne (tgt := 22) S.1 S.2.1 dX1_whoIn_17 rfl (fun c5 => ?_) (fun c5 => ?_)
      · replace h := if_f c5 h
        refine lv_iinc (v := x3 + (1 : Int32)) (lv' := [(3, .int (x3 + (1 : Int32))), (0, .ref x0), (1, .ref x1), (2, .int x2)]) S.1 S.2.1 dX1_whoIn_22 hl (k := 3) rfl rfl (by decide) rfl (fun ls hl => ?_)
        refine lv_goto (tgt := 2) S.1 S.2.1 dX1_whoIn_25 rfl ?_
        exact ih _ _ _ _ _ _ _ _ h hw (lv_sub hl [1, 2, 3, 0] rfl)
      · replace h := if_t c5 h
        refine lv_iload_n S.1 S.2.1 dX1_whoIn_20 rfl (lv_at hl 3 rfl) ?_
        exact g_iret S Z hr hlocks hw ⟨so1 h, rfl⟩ dX1_whoIn_21
set_option maxRecDepth 100000 in
set_option maxHeartbeats 4000000 in
theorem met_B_X1_whoIn (l : Launch) (E : gE) (A : Nat → Prop) (LC LS : Nat)  (x0 : Nat) (x1 : Nat) (x2 : Int32) (w : GS) (res : Int32) (h : B_X1_whoIn x0 x1 x2 w = some res) : Met l yX1_whoIn (ws_ yX1_whoIn cX1_whoIn 4 (Option.some Jvm.ClassFile.FieldType.int)) (gRoom 2 40 LC LS w) (gPc E A LC LS [.ref x0, .ref x1, .int x2] w) (gQi E A LC LS res w) (LC - gZ w) (LS - gN w) A := by
  refine gMet (by decide) rfl (Nat.le_of_ble_eq_true rfl) ?_
  intro p e s m below meth c R S hr hlocks hin2 X Z hF hL H ls hw hl
  replace hl : lv_has ls 4 [(0, .ref x0), (1, .ref x1), (2, .int x2)] := hl
  unfold B_X1_whoIn at h
  refine lv_iconst (v := 0) S.1 S.2.1 dX1_whoIn_0 rfl ?_
  refine lv_istore_n (lv' := [(3, .int (0 : Int32)), (0, .ref x0), (1, .ref x1), (2, .int x2)]) S.1 S.2.1 dX1_whoIn_1 rfl hl (by decide) rfl (fun ls hl => ?_)
  exact wk_B_X1_whoIn_p2 S X Z hF hL hr hlocks  FU _ _ _ _ _ _ _ _ h hw (lv_sub hl [1, 2, 3, 0] rfl)
