def TX20 : u_T := fun _ => ("PulseRent$Noon", "none", "I", false)
abbrev vwCl : List vw_C := [(RX1, TX1, 25), (RX2, TX2, 9), (RX3, TX3, 8), (RX4, TX4, 8), (RX5, TX5, 40), (RX6, TX6, 7), (RX7, TX7, 4), (RX8, TX8, 6), (RX9, TX9, 6), (RX10, TX10, 6), (RX11, TX11, 6), (RX12, TX12, 4), (RX14, TX14, 1), (RX15, TX15, 1), (RX16, TX16, 1), (RX17, TX17, 3), (RX19, TX19, 1), (RX21, TX21, 1), (RX22, TX22, 2), (RX23, TX23, 1), (RX24, TX24, 2), (RX25, TX25, 4), (RJ2, TJ2, 3), (RJ5, TJ5, 4), (RJ10, TJ10, 5), (RJ14, TJ14, 4), (RJ18, TJ18, 6), (RX20, TX20, 0)]
/-! the Model: plain state, world, rows (printed by gen/mkit.py) -/
set_option maxRecDepth 100000

abbrev MS : Type := (Nat → Nat → Int32) × (Nat → Nat → Int64)
def rI (w : MS) (k i : Nat) : Int32 := w.1 k i
def rL (w : MS) (k i : Nat) : Int64 := w.2 k i
def wI (w : MS) (k i : Nat) (v : Int32) : MS := (va_up w.1 k (upd (w.1 k) i v), w.2)
def wL (w : MS) (k i : Nat) (v : Int64) : MS := (w.1, va_up w.2 k (vp_updL (w.2 k) i v))
def bd1 {α β : Type} (o : Option α) (k : α → Option β) : Option β := match o with
  | none => none
  | some a => k a
def bd2 {α β γ : Type} (o : Option (α × β)) (k : α → β → Option γ) : Option γ := match o with
  | none => none
  | some (a, b) => k a b
def bdp {α β : Type} (a : α) (k : α → β) : β := k a
def zb {α : Type} (v : Int32) (k : Option α) : Option α := if v = 0 ∨ v = 1 then k else none
def rA (w : MS) (k n : Nat) (i : Int32) : Option Int32 := if i < 0 ∨ n ≤ i.toNatClampNeg then none else some (rI w k i.toNatClampNeg)
def rAL (w : MS) (k n : Nat) (i : Int32) : Option Int64 := if i < 0 ∨ n ≤ i.toNatClampNeg then none else some (rL w k i.toNatClampNeg)
def wA (w : MS) (k n : Nat) (i : Int32) (v : Int32) : Option MS := if i < 0 ∨ n ≤ i.toNatClampNeg then none else some (wI w k i.toNatClampNeg v)
def wAL (w : MS) (k n : Nat) (i : Int32) (v : Int64) : Option MS := if i < 0 ∨ n ≤ i.toNatClampNeg then none else some (wL w k i.toNatClampNeg v)
def o_idiv (a b : Int32) : Option Int32 := if b = 0 then none else some (a / b)
def o_irem (a b : Int32) : Option Int32 := if b = 0 then none else some (a - a / b * b)
def o_ldiv (a b : Int64) : Option Int64 := if b = 0 then none else some (a / b)
def o_lrem (a b : Int64) : Option Int64 := if b = 0 then none else some (a - a / b * b)
abbrev FU : Nat := 5000
theorem bd1_some {α β : Type} {o : Option α} {k : α → Option β} {r : β} (h : bd1 o k = some r) : ∃ a, o = some a ∧ k a = some r := by
  cases o with
  | none => cases h
  | some a => exact ⟨a, rfl, h⟩
theorem bd2_some {α β γ : Type} {o : Option (α × β)} {k : α → β → Option γ} {r : γ} (h : bd2 o k = some r) : ∃ a b, o = some (a, b) ∧ k a b = some r := by
  cases o with
  | none => cases h
  | some q => exact ⟨q.1, q.2, rfl, h⟩
theorem bdp_e {α β : Type} {a y : α} {k : α → β} {r : β} (e : y = a) (h : bdp a k = r) : k y = r := by rw [e]; exact h
theorem zb_some {α : Type} {v : Int32} {k : Option α} {r : α} (h : zb v k = some r) : (v = 0 ∨ v = 1) ∧ k = some r := by
  unfold zb at h
  by_cases c : v = 0 ∨ v = 1
  · rw [if_pos c] at h; exact ⟨c, h⟩
  · rw [if_neg c] at h; cases h
theorem if_t {α : Type} {c : Prop} {d : Decidable c} {a b r : α} (hc : c) (h : (@ite α c d a b) = r) : a = r := by rw [if_pos hc] at h; exact h
theorem if_f {α : Type} {c : Prop} {d : Decidable c} {a b r : α} (hc : ¬ c) (h : (@ite α c d a b) = r) : b = r := by rw [if_neg hc] at h; exact h
theorem so1 {α : Type} {a b : α} (h : some a = some b) : a = b := Option.some.inj h
theorem so2 {α β : Type} {a : α} {c : β} {b : α × β} (h : some (a, c) = some b) : a = b.1 ∧ c = b.2 := by cases h; exact ⟨rfl, rfl⟩
theorem rA_some {w : MS} {k n : Nat} {i v : Int32} (h : rA w k n i = some v) : ¬ (i < 0 ∨ n ≤ i.toNatClampNeg) ∧ rI w k i.toNatClampNeg = v := by
  unfold rA at h
  by_cases c : i < 0 ∨ n ≤ i.toNatClampNeg
  · rw [if_pos c] at h; cases h
  · rw [if_neg c] at h; exact ⟨c, so1 h⟩
theorem rAL_some {w : MS} {k n : Nat} {i : Int32} {v : Int64} (h : rAL w k n i = some v) : ¬ (i < 0 ∨ n ≤ i.toNatClampNeg) ∧ rL w k i.toNatClampNeg = v := by
  unfold rAL at h
  by_cases c : i < 0 ∨ n ≤ i.toNatClampNeg
  · rw [if_pos c] at h; cases h
  · rw [if_neg c] at h; exact ⟨c, so1 h⟩
theorem wA_some {w u : MS} {k n : Nat} {i v : Int32} (h : wA w k n i v = some u) : ¬ (i < 0 ∨ n ≤ i.toNatClampNeg) ∧ wI w k i.toNatClampNeg v = u := by
  unfold wA at h
  by_cases c : i < 0 ∨ n ≤ i.toNatClampNeg
  · rw [if_pos c] at h; cases h
  · rw [if_neg c] at h; exact ⟨c, so1 h⟩
theorem wAL_some {w u : MS} {k n : Nat} {i : Int32} {v : Int64} (h : wAL w k n i v = some u) : ¬ (i < 0 ∨ n ≤ i.toNatClampNeg) ∧ wL w k i.toNatClampNeg v = u := by
  unfold wAL at h
  by_cases c : i < 0 ∨ n ≤ i.toNatClampNeg
  · rw [if_pos c] at h; cases h
  · rw [if_neg c] at h; exact ⟨c, so1 h⟩
theorem ne_toInt {x a : Int32} {j : Int} (e : ¬ x = a) (hj : a.toInt = j) : x.toInt ≠ j := fun q => e (Int32.toInt_inj.mp (q.trans hj.symm))
theorem o_idiv_some {a b v : Int32} (h : o_idiv a b = some v) : ¬ b = 0 ∧ a / b = v := by
  unfold o_idiv at h
  by_cases c : b = 0
  · rw [if_pos c] at h; cases h
  · rw [if_neg c] at h; exact ⟨c, so1 h⟩
theorem o_irem_some {a b v : Int32} (h : o_irem a b = some v) : ¬ b = 0 ∧ a - a / b * b = v := by
  unfold o_irem at h
  by_cases c : b = 0
  · rw [if_pos c] at h; cases h
  · rw [if_neg c] at h; exact ⟨c, so1 h⟩
theorem o_ldiv_some {a b v : Int64} (h : o_ldiv a b = some v) : ¬ b = 0 ∧ a / b = v := by
  unfold o_ldiv at h
  by_cases c : b = 0
  · rw [if_pos c] at h; cases h
  · rw [if_neg c] at h; exact ⟨c, so1 h⟩
theorem o_lrem_some {a b v : Int64} (h : o_lrem a b = some v) : ¬ b = 0 ∧ a - a / b * b = v := by
  unfold o_lrem at h
  by_cases c : b = 0
  · rw [if_pos c] at h; cases h
  · rw [if_neg c] at h; exact ⟨c, so1 h⟩
abbrev mE : Type := va_G × Nat × (Nat → Nat) × ClassId × ClassId × ClassId
abbrev mM (E : mE) : Nat := E.2.1
abbrev mAr (E : mE) : Nat → Nat := E.2.2.1
def mW (E : mE) (w : MS) : va_W := [(mM E, .inr (4, [.int (w.1 0 0), .ref (mAr E 1), .int (w.1 2 0), .int (w.1 3 0), .ref (mAr E 4), .ref (mAr E 5), .ref (mAr E 6), .int (w.1 7 0), .int (w.1 8 0), .ref (mAr E 9), .ref (mAr E 10), .ref (mAr E 11), .ref (mAr E 12), .int (w.1 13 0), .ref (mAr E 14), .ref (mAr E 15), .ref (mAr E 16), .ref (mAr E 17), .int (w.1 18 0), .int (w.1 19 0), .int (w.1 20 0), .int (w.1 21 0), .ref (mAr E 22), .ref (mAr E 23), .ref (mAr E 24), .ref (mAr E 25), .int (w.1 26 0), .ref (mAr E 27), .int (w.1 28 0), .ref (mAr E 29), .ref (mAr E 30), .int (w.1 31 0), .ref (mAr E 32), .ref (mAr E 33), .ref (mAr E 34), .ref (mAr E 35), .ref (mAr E 36), .int (w.1 37 0), .int (w.1 38 0), .long (w.2 39 0)])), (mAr E 1, .inl (E.2.2.2.1, 1000, .inl (w.1 1))), (mAr E 4, .inl (E.2.2.2.1, 1002, .inl (w.1 4))), (mAr E 5, .inl (E.2.2.2.1, 1002, .inl (w.1 5))), (mAr E 6, .inl (E.2.2.2.2.1, 1002, .inr (.inl (w.2 6)))), (mAr E 9, .inl (E.2.2.2.2.1, 37, .inr (.inl (w.2 9)))), (mAr E 10, .inl (E.2.2.2.1, 240, .inl (w.1 10))), (mAr E 11, .inl (E.2.2.2.1, 2200, .inl (w.1 11))), (mAr E 12, .inl (E.2.2.2.1, 2200, .inl (w.1 12))), (mAr E 14, .inl (E.2.2.2.2.1, 18, .inr (.inl (w.2 14)))), (mAr E 15, .inl (E.2.2.2.2.1, 18, .inr (.inl (w.2 15)))), (mAr E 16, .inl (E.2.2.2.1, 18, .inl (w.1 16))), (mAr E 17, .inl (E.2.2.2.1, 18, .inl (w.1 17))), (mAr E 22, .inl (E.2.2.2.1, 200, .inl (w.1 22))), (mAr E 23, .inl (E.2.2.2.1, 5, .inl (w.1 23))), (mAr E 24, .inl (E.2.2.2.1, 1100, .inl (w.1 24))), (mAr E 25, .inl (E.2.2.2.1, 1288, .inl (w.1 25))), (mAr E 27, .inl (E.2.2.2.2.2, 4, .inl (w.1 27))), (mAr E 29, .inl (E.2.2.2.1, 6, .inl (w.1 29))), (mAr E 30, .inl (E.2.2.2.1, 6, .inl (w.1 30))), (mAr E 32, .inl (E.2.2.2.1, 36, .inl (w.1 32))), (mAr E 33, .inl (E.2.2.2.1, 6, .inl (w.1 33))), (mAr E 34, .inl (E.2.2.2.1, 6, .inl (w.1 34))), (mAr E 35, .inl (E.2.2.2.1, 6, .inl (w.1 35))), (mAr E 36, .inl (E.2.2.2.1, 1446, .inl (w.1 36)))]
def mTy (E : mE) : List (ClassId × FieldType) := [(E.2.2.2.1, .int), (E.2.2.2.2.1, .long), (E.2.2.2.2.2, .boolean)]
def mH (E : mE) (A : Nat → Prop) (s : State) (w : MS) (H : Heap) (locs : List Loc) : Prop := va_K E.1 vwCl (mTy E) s ∧ va_P E.1 vwCl (mW E w) H ∧ va_D A (mW E w) ∧ va_S A s.heap H locs
def mB (E : mE) (A : Nat → Prop) (w : MS) (t : State) : Prop := va_P E.1 vwCl (mW E w) t.heap ∧ va_K E.1 vwCl (mTy E) t ∧ va_D A (mW E w)
def mPc (E : mE) (A : Nat → Prop) (av : List Value) (w : MS) : Array Value → State → Prop := va_Pc av (mB E A w)
def mQv (E : mE) (A : Nat → Prop) (r : MS) := va_Qv (fun u : MS => u = r) (mB E A) A
def mQi (E : mE) (A : Nat → Prop) (r : Int32) (w : MS) := va_Qi (fun (v : Int32) (u : MS) => v = r ∧ u = w) (mB E A) A
def mQl (E : mE) (A : Nat → Prop) (r : Int64) (w : MS) := va_Ql (fun (v : Int64) (u : MS) => v = r ∧ u = w) (mB E A) A
section MK
variable {p : Program} {l : Launch} {e : Env} {R : Room} {s : State} {m : MethodId} {args : Array Value} {below : List Frame} {meth : Method} {c : Code} {H : Heap} {locs : List Loc} {cells slots : Nat} {Q : State → Prop}
variable {cc : ByteArray} {nL pc : Nat} {ls : Array Slot} {rest : List Value} {A : Nat → Prop}
theorem r_idiv {β : Type} {a b : Int32} {F : Int32 → Option β} {r : β} (hx : p.tables.exec = Jvm.exec) (hb : c.code = cc) (hd : decode cc pc = .ok (.idiv, 1)) (h : bd1 (o_idiv a b) F = some r) (kk : ∀ v, F v = some r → W p l e R s m args below meth c H locs cells slots Q (F0 m (pc + 1) ls (.int v :: rest))) : W p l e R s m args below meth c H locs cells slots Q (F0 m pc ls (.int b :: .int a :: rest)) := by
  obtain ⟨v, h1, h2⟩ := bd1_some h
  obtain ⟨n0, e1⟩ := o_idiv_some h1
  subst e1
  exact lv_idiv hx hb hd n0 (kk _ h2)
theorem r_irem {β : Type} {a b : Int32} {F : Int32 → Option β} {r : β} (hx : p.tables.exec = Jvm.exec) (hb : c.code = cc) (hd : decode cc pc = .ok (.irem, 1)) (h : bd1 (o_irem a b) F = some r) (kk : ∀ v, F v = some r → W p l e R s m args below meth c H locs cells slots Q (F0 m (pc + 1) ls (.int v :: rest))) : W p l e R s m args below meth c H locs cells slots Q (F0 m pc ls (.int b :: .int a :: rest)) := by
  obtain ⟨v, h1, h2⟩ := bd1_some h
  obtain ⟨n0, e1⟩ := o_irem_some h1
  subst e1
  exact lv_irem hx hb hd n0 (kk _ h2)
theorem r_ldiv {β : Type} {a b : Int64} {F : Int64 → Option β} {r : β} (hx : p.tables.exec = Jvm.exec) (hb : c.code = cc) (hd : decode cc pc = .ok (.ldiv, 1)) (h : bd1 (o_ldiv a b) F = some r) (kk : ∀ v, F v = some r → W p l e R s m args below meth c H locs cells slots Q (F0 m (pc + 1) ls (.long v :: rest))) : W p l e R s m args below meth c H locs cells slots Q (F0 m pc ls (.long b :: .long a :: rest)) := by
  obtain ⟨v, h1, h2⟩ := bd1_some h
  obtain ⟨n0, e1⟩ := o_ldiv_some h1
  subst e1
  exact lv_ldiv hx hb hd n0 (kk _ h2)
theorem r_lrem {β : Type} {a b : Int64} {F : Int64 → Option β} {r : β} (hx : p.tables.exec = Jvm.exec) (hb : c.code = cc) (hd : decode cc pc = .ok (.lrem, 1)) (h : bd1 (o_lrem a b) F = some r) (kk : ∀ v, F v = some r → W p l e R s m args below meth c H locs cells slots Q (F0 m (pc + 1) ls (.long v :: rest))) : W p l e R s m args below meth c H locs cells slots Q (F0 m pc ls (.long b :: .long a :: rest)) := by
  obtain ⟨v, h1, h2⟩ := bd1_some h
  obtain ⟨n0, e1⟩ := o_lrem_some h1
  subst e1
  exact lv_lrem hx hb hd n0 (kk _ h2)
theorem mg0 {E : mE} {w : MS} (S : CallFix p m c cc nL s args lw_all RX5) (hw : mH E A s w H locs) (hd : decode cc pc = .ok (.getfield 1, 3)) (kk : W p l e R s m args below meth c H locs cells slots Q (F0 m (pc + 3) ls (.int (rI w 0 0) :: rest))) : W p l e R s m args below meth c H locs cells slots Q (F0 m pc ls (.ref (mM E) :: rest)) :=
  va_get (D := E.1) (ci := 4) (C := RX5) (T := TX5) (N := 40) S.1 S.2.1 S.2.2.2.2 in_X5 S.2.2.2.1 hw.1 hw.2.1 0 rfl rfl 0 (by decide) (S.2.2.2.2 _ q1794) (fun _ h9 => h9) rfl hd kk
theorem mp0 {E : mE} {w : MS} {β : Type} {v : Int32} {F : MS → β} {r : β} (S : CallFix p m c cc nL s args lw_all RX5) (hw : mH E A s w H locs) (hd : decode cc pc = .ok (.putfield 1, 3)) (h : bdp (wI w 0 0 v) F = r) (kk : ∀ (w1 : MS) (H : Heap) (locs : List Loc), F w1 = r → mH E A s w1 H locs → W p l e R s m args below meth c H locs cells slots Q (F0 m (pc + 3) ls rest)) : W p l e R s m args below meth c H locs cells slots Q (F0 m pc ls (.int v :: .ref (mM E) :: rest)) :=
  va_put (D := E.1) (ci := 4) (ty := .int) (C := RX5) (T := TX5) (N := 40) S.1 S.2.1 S.2.2.2.2 in_X5 tyX5 tyX5_ok nmX5 S.2.2.2.1 hw.1 hw.2.1 hw.2.2.1 hw.2.2.2 0 rfl rfl 0 (by decide) (S.2.2.2.2 _ q1794) (fun _ h9 => h9) rfl (by decide +kernel) rfl rfl (Nat.le_of_ble_eq_true rfl) hd (fun H1 locs1 hP hD hS => kk (wI w 0 0 v) H1 locs1 h ⟨hw.1, hP, hD, hS⟩)
theorem mg1 {E : mE} {w : MS} (S : CallFix p m c cc nL s args lw_all RX5) (hw : mH E A s w H locs) (hd : decode cc pc = .ok (.getfield 14, 3)) (kk : W p l e R s m args below meth c H locs cells slots Q (F0 m (pc + 3) ls (.ref (mAr E 1) :: rest))) : W p l e R s m args below meth c H locs cells slots Q (F0 m pc ls (.ref (mM E) :: rest)) :=
  va_get (D := E.1) (ci := 4) (C := RX5) (T := TX5) (N := 40) S.1 S.2.1 S.2.2.2.2 in_X5 S.2.2.2.1 hw.1 hw.2.1 0 rfl rfl 1 (by decide) (S.2.2.2.2 _ q1795) (fun _ h9 => h9) rfl hd kk
theorem mg2 {E : mE} {w : MS} (S : CallFix p m c cc nL s args lw_all RX5) (hw : mH E A s w H locs) (hd : decode cc pc = .ok (.getfield 11, 3)) (kk : W p l e R s m args below meth c H locs cells slots Q (F0 m (pc + 3) ls (.int (rI w 2 0) :: rest))) : W p l e R s m args below meth c H locs cells slots Q (F0 m pc ls (.ref (mM E) :: rest)) :=
  va_get (D := E.1) (ci := 4) (C := RX5) (T := TX5) (N := 40) S.1 S.2.1 S.2.2.2.2 in_X5 S.2.2.2.1 hw.1 hw.2.1 0 rfl rfl 2 (by decide) (S.2.2.2.2 _ q1796) (fun _ h9 => h9) rfl hd kk
theorem mp2 {E : mE} {w : MS} {β : Type} {v : Int32} {F : MS → β} {r : β} (S : CallFix p m c cc nL s args lw_all RX5) (hw : mH E A s w H locs) (hd : decode cc pc = .ok (.putfield 11, 3)) (h : bdp (wI w 2 0 v) F = r) (kk : ∀ (w1 : MS) (H : Heap) (locs : List Loc), F w1 = r → mH E A s w1 H locs → W p l e R s m args below meth c H locs cells slots Q (F0 m (pc + 3) ls rest)) : W p l e R s m args below meth c H locs cells slots Q (F0 m pc ls (.int v :: .ref (mM E) :: rest)) :=
  va_put (D := E.1) (ci := 4) (ty := .int) (C := RX5) (T := TX5) (N := 40) S.1 S.2.1 S.2.2.2.2 in_X5 tyX5 tyX5_ok nmX5 S.2.2.2.1 hw.1 hw.2.1 hw.2.2.1 hw.2.2.2 0 rfl rfl 2 (by decide) (S.2.2.2.2 _ q1796) (fun _ h9 => h9) rfl (by decide +kernel) rfl rfl (Nat.le_of_ble_eq_true rfl) hd (fun H1 locs1 hP hD hS => kk (wI w 2 0 v) H1 locs1 h ⟨hw.1, hP, hD, hS⟩)
theorem mg3 {E : mE} {w : MS} (S : CallFix p m c cc nL s args lw_all RX5) (hw : mH E A s w H locs) (hd : decode cc pc = .ok (.getfield 180, 3)) (kk : W p l e R s m args below meth c H locs cells slots Q (F0 m (pc + 3) ls (.int (rI w 3 0) :: rest))) : W p l e R s m args below meth c H locs cells slots Q (F0 m pc ls (.ref (mM E) :: rest)) :=
  va_get (D := E.1) (ci := 4) (C := RX5) (T := TX5) (N := 40) S.1 S.2.1 S.2.2.2.2 in_X5 S.2.2.2.1 hw.1 hw.2.1 0 rfl rfl 3 (by decide) (S.2.2.2.2 _ q1797) (fun _ h9 => h9) rfl hd kk
theorem mp3 {E : mE} {w : MS} {β : Type} {v : Int32} {F : MS → β} {r : β} (S : CallFix p m c cc nL s args lw_all RX5) (hw : mH E A s w H locs) (hd : decode cc pc = .ok (.putfield 180, 3)) (h : bdp (wI w 3 0 v) F = r) (kk : ∀ (w1 : MS) (H : Heap) (locs : List Loc), F w1 = r → mH E A s w1 H locs → W p l e R s m args below meth c H locs cells slots Q (F0 m (pc + 3) ls rest)) : W p l e R s m args below meth c H locs cells slots Q (F0 m pc ls (.int v :: .ref (mM E) :: rest)) :=
  va_put (D := E.1) (ci := 4) (ty := .int) (C := RX5) (T := TX5) (N := 40) S.1 S.2.1 S.2.2.2.2 in_X5 tyX5 tyX5_ok nmX5 S.2.2.2.1 hw.1 hw.2.1 hw.2.2.1 hw.2.2.2 0 rfl rfl 3 (by decide) (S.2.2.2.2 _ q1797) (fun _ h9 => h9) rfl (by decide +kernel) rfl rfl (Nat.le_of_ble_eq_true rfl) hd (fun H1 locs1 hP hD hS => kk (wI w 3 0 v) H1 locs1 h ⟨hw.1, hP, hD, hS⟩)
theorem mg4 {E : mE} {w : MS} (S : CallFix p m c cc nL s args lw_all RX5) (hw : mH E A s w H locs) (hd : decode cc pc = .ok (.getfield 24, 3)) (kk : W p l e R s m args below meth c H locs cells slots Q (F0 m (pc + 3) ls (.ref (mAr E 4) :: rest))) : W p l e R s m args below meth c H locs cells slots Q (F0 m pc ls (.ref (mM E) :: rest)) :=
  va_get (D := E.1) (ci := 4) (C := RX5) (T := TX5) (N := 40) S.1 S.2.1 S.2.2.2.2 in_X5 S.2.2.2.1 hw.1 hw.2.1 0 rfl rfl 4 (by decide) (S.2.2.2.2 _ q1798) (fun _ h9 => h9) rfl hd kk
theorem mg5 {E : mE} {w : MS} (S : CallFix p m c cc nL s args lw_all RX5) (hw : mH E A s w H locs) (hd : decode cc pc = .ok (.getfield 27, 3)) (kk : W p l e R s m args below meth c H locs cells slots Q (F0 m (pc + 3) ls (.ref (mAr E 5) :: rest))) : W p l e R s m args below meth c H locs cells slots Q (F0 m pc ls (.ref (mM E) :: rest)) :=
  va_get (D := E.1) (ci := 4) (C := RX5) (T := TX5) (N := 40) S.1 S.2.1 S.2.2.2.2 in_X5 S.2.2.2.1 hw.1 hw.2.1 0 rfl rfl 5 (by decide) (S.2.2.2.2 _ q1799) (fun _ h9 => h9) rfl hd kk
theorem mg6 {E : mE} {w : MS} (S : CallFix p m c cc nL s args lw_all RX5) (hw : mH E A s w H locs) (hd : decode cc pc = .ok (.getfield 30, 3)) (kk : W p l e R s m args below meth c H locs cells slots Q (F0 m (pc + 3) ls (.ref (mAr E 6) :: rest))) : W p l e R s m args below meth c H locs cells slots Q (F0 m pc ls (.ref (mM E) :: rest)) :=
  va_get (D := E.1) (ci := 4) (C := RX5) (T := TX5) (N := 40) S.1 S.2.1 S.2.2.2.2 in_X5 S.2.2.2.1 hw.1 hw.2.1 0 rfl rfl 6 (by decide) (S.2.2.2.2 _ q1800) (fun _ h9 => h9) rfl hd kk
theorem mg7 {E : mE} {w : MS} (S : CallFix p m c cc nL s args lw_all RX5) (hw : mH E A s w H locs) (hd : decode cc pc = .ok (.getfield 199, 3)) (kk : W p l e R s m args below meth c H locs cells slots Q (F0 m (pc + 3) ls (.int (rI w 7 0) :: rest))) : W p l e R s m args below meth c H locs cells slots Q (F0 m pc ls (.ref (mM E) :: rest)) :=
  va_get (D := E.1) (ci := 4) (C := RX5) (T := TX5) (N := 40) S.1 S.2.1 S.2.2.2.2 in_X5 S.2.2.2.1 hw.1 hw.2.1 0 rfl rfl 7 (by decide) (S.2.2.2.2 _ q1801) (fun _ h9 => h9) rfl hd kk
theorem mp7 {E : mE} {w : MS} {β : Type} {v : Int32} {F : MS → β} {r : β} (S : CallFix p m c cc nL s args lw_all RX5) (hw : mH E A s w H locs) (hd : decode cc pc = .ok (.putfield 199, 3)) (h : bdp (wI w 7 0 v) F = r) (kk : ∀ (w1 : MS) (H : Heap) (locs : List Loc), F w1 = r → mH E A s w1 H locs → W p l e R s m args below meth c H locs cells slots Q (F0 m (pc + 3) ls rest)) : W p l e R s m args below meth c H locs cells slots Q (F0 m pc ls (.int v :: .ref (mM E) :: rest)) :=
  va_put (D := E.1) (ci := 4) (ty := .int) (C := RX5) (T := TX5) (N := 40) S.1 S.2.1 S.2.2.2.2 in_X5 tyX5 tyX5_ok nmX5 S.2.2.2.1 hw.1 hw.2.1 hw.2.2.1 hw.2.2.2 0 rfl rfl 7 (by decide) (S.2.2.2.2 _ q1801) (fun _ h9 => h9) rfl (by decide +kernel) rfl rfl (Nat.le_of_ble_eq_true rfl) hd (fun H1 locs1 hP hD hS => kk (wI w 7 0 v) H1 locs1 h ⟨hw.1, hP, hD, hS⟩)
theorem mg8 {E : mE} {w : MS} (S : CallFix p m c cc nL s args lw_all RX5) (hw : mH E A s w H locs) (hd : decode cc pc = .ok (.getfield 202, 3)) (kk : W p l e R s m args below meth c H locs cells slots Q (F0 m (pc + 3) ls (.int (rI w 8 0) :: rest))) : W p l e R s m args below meth c H locs cells slots Q (F0 m pc ls (.ref (mM E) :: rest)) :=
  va_get (D := E.1) (ci := 4) (C := RX5) (T := TX5) (N := 40) S.1 S.2.1 S.2.2.2.2 in_X5 S.2.2.2.1 hw.1 hw.2.1 0 rfl rfl 8 (by decide) (S.2.2.2.2 _ q1802) (fun _ h9 => h9) rfl hd kk
theorem mp8 {E : mE} {w : MS} {β : Type} {v : Int32} {F : MS → β} {r : β} (S : CallFix p m c cc nL s args lw_all RX5) (hw : mH E A s w H locs) (hd : decode cc pc = .ok (.putfield 202, 3)) (h : bdp (wI w 8 0 v) F = r) (kk : ∀ (w1 : MS) (H : Heap) (locs : List Loc), F w1 = r → mH E A s w1 H locs → W p l e R s m args below meth c H locs cells slots Q (F0 m (pc + 3) ls rest)) : W p l e R s m args below meth c H locs cells slots Q (F0 m pc ls (.int v :: .ref (mM E) :: rest)) :=
  va_put (D := E.1) (ci := 4) (ty := .int) (C := RX5) (T := TX5) (N := 40) S.1 S.2.1 S.2.2.2.2 in_X5 tyX5 tyX5_ok nmX5 S.2.2.2.1 hw.1 hw.2.1 hw.2.2.1 hw.2.2.2 0 rfl rfl 8 (by decide) (S.2.2.2.2 _ q1802) (fun _ h9 => h9) rfl (by decide +kernel) rfl rfl (Nat.le_of_ble_eq_true rfl) hd (fun H1 locs1 hP hD hS => kk (wI w 8 0 v) H1 locs1 h ⟨hw.1, hP, hD, hS⟩)
theorem mg9 {E : mE} {w : MS} (S : CallFix p m c cc nL s args lw_all RX5) (hw : mH E A s w H locs) (hd : decode cc pc = .ok (.getfield 108, 3)) (kk : W p l e R s m args below meth c H locs cells slots Q (F0 m (pc + 3) ls (.ref (mAr E 9) :: rest))) : W p l e R s m args below meth c H locs cells slots Q (F0 m pc ls (.ref (mM E) :: rest)) :=
  va_get (D := E.1) (ci := 4) (C := RX5) (T := TX5) (N := 40) S.1 S.2.1 S.2.2.2.2 in_X5 S.2.2.2.1 hw.1 hw.2.1 0 rfl rfl 9 (by decide) (S.2.2.2.2 _ q1803) (fun _ h9 => h9) rfl hd kk
theorem mg10 {E : mE} {w : MS} (S : CallFix p m c cc nL s args lw_all RX5) (hw : mH E A s w H locs) (hd : decode cc pc = .ok (.getfield 111, 3)) (kk : W p l e R s m args below meth c H locs cells slots Q (F0 m (pc + 3) ls (.ref (mAr E 10) :: rest))) : W p l e R s m args below meth c H locs cells slots Q (F0 m pc ls (.ref (mM E) :: rest)) :=
  va_get (D := E.1) (ci := 4) (C := RX5) (T := TX5) (N := 40) S.1 S.2.1 S.2.2.2.2 in_X5 S.2.2.2.1 hw.1 hw.2.1 0 rfl rfl 10 (by decide) (S.2.2.2.2 _ q1804) (fun _ h9 => h9) rfl hd kk
theorem mg11 {E : mE} {w : MS} (S : CallFix p m c cc nL s args lw_all RX5) (hw : mH E A s w H locs) (hd : decode cc pc = .ok (.getfield 114, 3)) (kk : W p l e R s m args below meth c H locs cells slots Q (F0 m (pc + 3) ls (.ref (mAr E 11) :: rest))) : W p l e R s m args below meth c H locs cells slots Q (F0 m pc ls (.ref (mM E) :: rest)) :=
  va_get (D := E.1) (ci := 4) (C := RX5) (T := TX5) (N := 40) S.1 S.2.1 S.2.2.2.2 in_X5 S.2.2.2.1 hw.1 hw.2.1 0 rfl rfl 11 (by decide) (S.2.2.2.2 _ q1805) (fun _ h9 => h9) rfl hd kk
theorem mg12 {E : mE} {w : MS} (S : CallFix p m c cc nL s args lw_all RX5) (hw : mH E A s w H locs) (hd : decode cc pc = .ok (.getfield 117, 3)) (kk : W p l e R s m args below meth c H locs cells slots Q (F0 m (pc + 3) ls (.ref (mAr E 12) :: rest))) : W p l e R s m args below meth c H locs cells slots Q (F0 m pc ls (.ref (mM E) :: rest)) :=
  va_get (D := E.1) (ci := 4) (C := RX5) (T := TX5) (N := 40) S.1 S.2.1 S.2.2.2.2 in_X5 S.2.2.2.1 hw.1 hw.2.1 0 rfl rfl 12 (by decide) (S.2.2.2.2 _ q1806) (fun _ h9 => h9) rfl hd kk
theorem mg13 {E : mE} {w : MS} (S : CallFix p m c cc nL s args lw_all RX5) (hw : mH E A s w H locs) (hd : decode cc pc = .ok (.getfield 252, 3)) (kk : W p l e R s m args below meth c H locs cells slots Q (F0 m (pc + 3) ls (.int (rI w 13 0) :: rest))) : W p l e R s m args below meth c H locs cells slots Q (F0 m pc ls (.ref (mM E) :: rest)) :=
  va_get (D := E.1) (ci := 4) (C := RX5) (T := TX5) (N := 40) S.1 S.2.1 S.2.2.2.2 in_X5 S.2.2.2.1 hw.1 hw.2.1 0 rfl rfl 13 (by decide) (S.2.2.2.2 _ q1807) (fun _ h9 => h9) rfl hd kk
theorem mp13 {E : mE} {w : MS} {β : Type} {v : Int32} {F : MS → β} {r : β} (S : CallFix p m c cc nL s args lw_all RX5) (hw : mH E A s w H locs) (hd : decode cc pc = .ok (.putfield 252, 3)) (h : bdp (wI w 13 0 v) F = r) (kk : ∀ (w1 : MS) (H : Heap) (locs : List Loc), F w1 = r → mH E A s w1 H locs → W p l e R s m args below meth c H locs cells slots Q (F0 m (pc + 3) ls rest)) : W p l e R s m args below meth c H locs cells slots Q (F0 m pc ls (.int v :: .ref (mM E) :: rest)) :=
  va_put (D := E.1) (ci := 4) (ty := .int) (C := RX5) (T := TX5) (N := 40) S.1 S.2.1 S.2.2.2.2 in_X5 tyX5 tyX5_ok nmX5 S.2.2.2.1 hw.1 hw.2.1 hw.2.2.1 hw.2.2.2 0 rfl rfl 13 (by decide) (S.2.2.2.2 _ q1807) (fun _ h9 => h9) rfl (by decide +kernel) rfl rfl (Nat.le_of_ble_eq_true rfl) hd (fun H1 locs1 hP hD hS => kk (wI w 13 0 v) H1 locs1 h ⟨hw.1, hP, hD, hS⟩)
theorem mg14 {E : mE} {w : MS} (S : CallFix p m c cc nL s args lw_all RX5) (hw : mH E A s w H locs) (hd : decode cc pc = .ok (.getfield 120, 3)) (kk : W p l e R s m args below meth c H locs cells slots Q (F0 m (pc + 3) ls (.ref (mAr E 14) :: rest))) : W p l e R s m args below meth c H locs cells slots Q (F0 m pc ls (.ref (mM E) :: rest)) :=
  va_get (D := E.1) (ci := 4) (C := RX5) (T := TX5) (N := 40) S.1 S.2.1 S.2.2.2.2 in_X5 S.2.2.2.1 hw.1 hw.2.1 0 rfl rfl 14 (by decide) (S.2.2.2.2 _ q1808) (fun _ h9 => h9) rfl hd kk
theorem mg15 {E : mE} {w : MS} (S : CallFix p m c cc nL s args lw_all RX5) (hw : mH E A s w H locs) (hd : decode cc pc = .ok (.getfield 123, 3)) (kk : W p l e R s m args below meth c H locs cells slots Q (F0 m (pc + 3) ls (.ref (mAr E 15) :: rest))) : W p l e R s m args below meth c H locs cells slots Q (F0 m pc ls (.ref (mM E) :: rest)) :=
  va_get (D := E.1) (ci := 4) (C := RX5) (T := TX5) (N := 40) S.1 S.2.1 S.2.2.2.2 in_X5 S.2.2.2.1 hw.1 hw.2.1 0 rfl rfl 15 (by decide) (S.2.2.2.2 _ q1809) (fun _ h9 => h9) rfl hd kk
theorem mg16 {E : mE} {w : MS} (S : CallFix p m c cc nL s args lw_all RX5) (hw : mH E A s w H locs) (hd : decode cc pc = .ok (.getfield 126, 3)) (kk : W p l e R s m args below meth c H locs cells slots Q (F0 m (pc + 3) ls (.ref (mAr E 16) :: rest))) : W p l e R s m args below meth c H locs cells slots Q (F0 m pc ls (.ref (mM E) :: rest)) :=
  va_get (D := E.1) (ci := 4) (C := RX5) (T := TX5) (N := 40) S.1 S.2.1 S.2.2.2.2 in_X5 S.2.2.2.1 hw.1 hw.2.1 0 rfl rfl 16 (by decide) (S.2.2.2.2 _ q1810) (fun _ h9 => h9) rfl hd kk
theorem mg17 {E : mE} {w : MS} (S : CallFix p m c cc nL s args lw_all RX5) (hw : mH E A s w H locs) (hd : decode cc pc = .ok (.getfield 129, 3)) (kk : W p l e R s m args below meth c H locs cells slots Q (F0 m (pc + 3) ls (.ref (mAr E 17) :: rest))) : W p l e R s m args below meth c H locs cells slots Q (F0 m pc ls (.ref (mM E) :: rest)) :=
  va_get (D := E.1) (ci := 4) (C := RX5) (T := TX5) (N := 40) S.1 S.2.1 S.2.2.2.2 in_X5 S.2.2.2.1 hw.1 hw.2.1 0 rfl rfl 17 (by decide) (S.2.2.2.2 _ q1811) (fun _ h9 => h9) rfl hd kk
theorem mg18 {E : mE} {w : MS} (S : CallFix p m c cc nL s args lw_all RX5) (hw : mH E A s w H locs) (hd : decode cc pc = .ok (.getfield 230, 3)) (kk : W p l e R s m args below meth c H locs cells slots Q (F0 m (pc + 3) ls (.int (rI w 18 0) :: rest))) : W p l e R s m args below meth c H locs cells slots Q (F0 m pc ls (.ref (mM E) :: rest)) :=
  va_get (D := E.1) (ci := 4) (C := RX5) (T := TX5) (N := 40) S.1 S.2.1 S.2.2.2.2 in_X5 S.2.2.2.1 hw.1 hw.2.1 0 rfl rfl 18 (by decide) (S.2.2.2.2 _ q1812) (fun _ h9 => h9) rfl hd kk
theorem mp18 {E : mE} {w : MS} {β : Type} {v : Int32} {F : MS → β} {r : β} (S : CallFix p m c cc nL s args lw_all RX5) (hw : mH E A s w H locs) (hd : decode cc pc = .ok (.putfield 230, 3)) (h : bdp (wI w 18 0 v) F = r) (kk : ∀ (w1 : MS) (H : Heap) (locs : List Loc), F w1 = r → mH E A s w1 H locs → W p l e R s m args below meth c H locs cells slots Q (F0 m (pc + 3) ls rest)) : W p l e R s m args below meth c H locs cells slots Q (F0 m pc ls (.int v :: .ref (mM E) :: rest)) :=
  va_put (D := E.1) (ci := 4) (ty := .int) (C := RX5) (T := TX5) (N := 40) S.1 S.2.1 S.2.2.2.2 in_X5 tyX5 tyX5_ok nmX5 S.2.2.2.1 hw.1 hw.2.1 hw.2.2.1 hw.2.2.2 0 rfl rfl 18 (by decide) (S.2.2.2.2 _ q1812) (fun _ h9 => h9) rfl (by decide +kernel) rfl rfl (Nat.le_of_ble_eq_true rfl) hd (fun H1 locs1 hP hD hS => kk (wI w 18 0 v) H1 locs1 h ⟨hw.1, hP, hD, hS⟩)
theorem mg19 {E : mE} {w : MS} (S : CallFix p m c cc nL s args lw_all RX5) (hw : mH E A s w H locs) (hd : decode cc pc = .ok (.getfield 227, 3)) (kk : W p l e R s m args below meth c H locs cells slots Q (F0 m (pc + 3) ls (.int (rI w 19 0) :: rest))) : W p l e R s m args below meth c H locs cells slots Q (F0 m pc ls (.ref (mM E) :: rest)) :=
  va_get (D := E.1) (ci := 4) (C := RX5) (T := TX5) (N := 40) S.1 S.2.1 S.2.2.2.2 in_X5 S.2.2.2.1 hw.1 hw.2.1 0 rfl rfl 19 (by decide) (S.2.2.2.2 _ q1813) (fun _ h9 => h9) rfl hd kk
theorem mp19 {E : mE} {w : MS} {β : Type} {v : Int32} {F : MS → β} {r : β} (S : CallFix p m c cc nL s args lw_all RX5) (hw : mH E A s w H locs) (hd : decode cc pc = .ok (.putfield 227, 3)) (h : bdp (wI w 19 0 v) F = r) (kk : ∀ (w1 : MS) (H : Heap) (locs : List Loc), F w1 = r → mH E A s w1 H locs → W p l e R s m args below meth c H locs cells slots Q (F0 m (pc + 3) ls rest)) : W p l e R s m args below meth c H locs cells slots Q (F0 m pc ls (.int v :: .ref (mM E) :: rest)) :=
  va_put (D := E.1) (ci := 4) (ty := .int) (C := RX5) (T := TX5) (N := 40) S.1 S.2.1 S.2.2.2.2 in_X5 tyX5 tyX5_ok nmX5 S.2.2.2.1 hw.1 hw.2.1 hw.2.2.1 hw.2.2.2 0 rfl rfl 19 (by decide) (S.2.2.2.2 _ q1813) (fun _ h9 => h9) rfl (by decide +kernel) rfl rfl (Nat.le_of_ble_eq_true rfl) hd (fun H1 locs1 hP hD hS => kk (wI w 19 0 v) H1 locs1 h ⟨hw.1, hP, hD, hS⟩)
theorem mg20 {E : mE} {w : MS} (S : CallFix p m c cc nL s args lw_all RX5) (hw : mH E A s w H locs) (hd : decode cc pc = .ok (.getfield 255, 3)) (kk : W p l e R s m args below meth c H locs cells slots Q (F0 m (pc + 3) ls (.int (rI w 20 0) :: rest))) : W p l e R s m args below meth c H locs cells slots Q (F0 m pc ls (.ref (mM E) :: rest)) :=
  va_get (D := E.1) (ci := 4) (C := RX5) (T := TX5) (N := 40) S.1 S.2.1 S.2.2.2.2 in_X5 S.2.2.2.1 hw.1 hw.2.1 0 rfl rfl 20 (by decide) (S.2.2.2.2 _ q1814) (fun _ h9 => h9) rfl hd kk
theorem mp20 {E : mE} {w : MS} {β : Type} {v : Int32} {F : MS → β} {r : β} (S : CallFix p m c cc nL s args lw_all RX5) (hw : mH E A s w H locs) (hd : decode cc pc = .ok (.putfield 255, 3)) (h : bdp (wI w 20 0 v) F = r) (kk : ∀ (w1 : MS) (H : Heap) (locs : List Loc), F w1 = r → mH E A s w1 H locs → W p l e R s m args below meth c H locs cells slots Q (F0 m (pc + 3) ls rest)) : W p l e R s m args below meth c H locs cells slots Q (F0 m pc ls (.int v :: .ref (mM E) :: rest)) :=
  va_put (D := E.1) (ci := 4) (ty := .int) (C := RX5) (T := TX5) (N := 40) S.1 S.2.1 S.2.2.2.2 in_X5 tyX5 tyX5_ok nmX5 S.2.2.2.1 hw.1 hw.2.1 hw.2.2.1 hw.2.2.2 0 rfl rfl 20 (by decide) (S.2.2.2.2 _ q1814) (fun _ h9 => h9) rfl (by decide +kernel) rfl rfl (Nat.le_of_ble_eq_true rfl) hd (fun H1 locs1 hP hD hS => kk (wI w 20 0 v) H1 locs1 h ⟨hw.1, hP, hD, hS⟩)
theorem mg21 {E : mE} {w : MS} (S : CallFix p m c cc nL s args lw_all RX5) (hw : mH E A s w H locs) (hd : decode cc pc = .ok (.getfield 292, 3)) (kk : W p l e R s m args below meth c H locs cells slots Q (F0 m (pc + 3) ls (.int (rI w 21 0) :: rest))) : W p l e R s m args below meth c H locs cells slots Q (F0 m pc ls (.ref (mM E) :: rest)) :=
  va_get (D := E.1) (ci := 4) (C := RX5) (T := TX5) (N := 40) S.1 S.2.1 S.2.2.2.2 in_X5 S.2.2.2.1 hw.1 hw.2.1 0 rfl rfl 21 (by decide) (S.2.2.2.2 _ q1815) (fun _ h9 => h9) rfl hd kk
theorem mp21 {E : mE} {w : MS} {β : Type} {v : Int32} {F : MS → β} {r : β} (S : CallFix p m c cc nL s args lw_all RX5) (hw : mH E A s w H locs) (hd : decode cc pc = .ok (.putfield 292, 3)) (h : bdp (wI w 21 0 v) F = r) (kk : ∀ (w1 : MS) (H : Heap) (locs : List Loc), F w1 = r → mH E A s w1 H locs → W p l e R s m args below meth c H locs cells slots Q (F0 m (pc + 3) ls rest)) : W p l e R s m args below meth c H locs cells slots Q (F0 m pc ls (.int v :: .ref (mM E) :: rest)) :=
  va_put (D := E.1) (ci := 4) (ty := .int) (C := RX5) (T := TX5) (N := 40) S.1 S.2.1 S.2.2.2.2 in_X5 tyX5 tyX5_ok nmX5 S.2.2.2.1 hw.1 hw.2.1 hw.2.2.1 hw.2.2.2 0 rfl rfl 21 (by decide) (S.2.2.2.2 _ q1815) (fun _ h9 => h9) rfl (by decide +kernel) rfl rfl (Nat.le_of_ble_eq_true rfl) hd (fun H1 locs1 hP hD hS => kk (wI w 21 0 v) H1 locs1 h ⟨hw.1, hP, hD, hS⟩)
theorem mg22 {E : mE} {w : MS} (S : CallFix p m c cc nL s args lw_all RX5) (hw : mH E A s w H locs) (hd : decode cc pc = .ok (.getfield 132, 3)) (kk : W p l e R s m args below meth c H locs cells slots Q (F0 m (pc + 3) ls (.ref (mAr E 22) :: rest))) : W p l e R s m args below meth c H locs cells slots Q (F0 m pc ls (.ref (mM E) :: rest)) :=
  va_get (D := E.1) (ci := 4) (C := RX5) (T := TX5) (N := 40) S.1 S.2.1 S.2.2.2.2 in_X5 S.2.2.2.1 hw.1 hw.2.1 0 rfl rfl 22 (by decide) (S.2.2.2.2 _ q1816) (fun _ h9 => h9) rfl hd kk
theorem mg23 {E : mE} {w : MS} (S : CallFix p m c cc nL s args lw_all RX5) (hw : mH E A s w H locs) (hd : decode cc pc = .ok (.getfield 135, 3)) (kk : W p l e R s m args below meth c H locs cells slots Q (F0 m (pc + 3) ls (.ref (mAr E 23) :: rest))) : W p l e R s m args below meth c H locs cells slots Q (F0 m pc ls (.ref (mM E) :: rest)) :=
  va_get (D := E.1) (ci := 4) (C := RX5) (T := TX5) (N := 40) S.1 S.2.1 S.2.2.2.2 in_X5 S.2.2.2.1 hw.1 hw.2.1 0 rfl rfl 23 (by decide) (S.2.2.2.2 _ q1817) (fun _ h9 => h9) rfl hd kk
theorem mg24 {E : mE} {w : MS} (S : CallFix p m c cc nL s args lw_all RX5) (hw : mH E A s w H locs) (hd : decode cc pc = .ok (.getfield 138, 3)) (kk : W p l e R s m args below meth c H locs cells slots Q (F0 m (pc + 3) ls (.ref (mAr E 24) :: rest))) : W p l e R s m args below meth c H locs cells slots Q (F0 m pc ls (.ref (mM E) :: rest)) :=
  va_get (D := E.1) (ci := 4) (C := RX5) (T := TX5) (N := 40) S.1 S.2.1 S.2.2.2.2 in_X5 S.2.2.2.1 hw.1 hw.2.1 0 rfl rfl 24 (by decide) (S.2.2.2.2 _ q1818) (fun _ h9 => h9) rfl hd kk
theorem mg25 {E : mE} {w : MS} (S : CallFix p m c cc nL s args lw_all RX5) (hw : mH E A s w H locs) (hd : decode cc pc = .ok (.getfield 141, 3)) (kk : W p l e R s m args below meth c H locs cells slots Q (F0 m (pc + 3) ls (.ref (mAr E 25) :: rest))) : W p l e R s m args below meth c H locs cells slots Q (F0 m pc ls (.ref (mM E) :: rest)) :=
  va_get (D := E.1) (ci := 4) (C := RX5) (T := TX5) (N := 40) S.1 S.2.1 S.2.2.2.2 in_X5 S.2.2.2.1 hw.1 hw.2.1 0 rfl rfl 25 (by decide) (S.2.2.2.2 _ q1819) (fun _ h9 => h9) rfl hd kk
theorem mg26 {E : mE} {w : MS} (S : CallFix p m c cc nL s args lw_all RX5) (hw : mH E A s w H locs) (hd : decode cc pc = .ok (.getfield 336, 3)) (kk : W p l e R s m args below meth c H locs cells slots Q (F0 m (pc + 3) ls (.int (rI w 26 0) :: rest))) : W p l e R s m args below meth c H locs cells slots Q (F0 m pc ls (.ref (mM E) :: rest)) :=
  va_get (D := E.1) (ci := 4) (C := RX5) (T := TX5) (N := 40) S.1 S.2.1 S.2.2.2.2 in_X5 S.2.2.2.1 hw.1 hw.2.1 0 rfl rfl 26 (by decide) (S.2.2.2.2 _ q1820) (fun _ h9 => h9) rfl hd kk
theorem mp26 {E : mE} {w : MS} {β : Type} {v : Int32} {F : MS → β} {r : β} (S : CallFix p m c cc nL s args lw_all RX5) (hw : mH E A s w H locs) (hd : decode cc pc = .ok (.putfield 336, 3)) (h : bdp (wI w 26 0 v) F = r) (kk : ∀ (w1 : MS) (H : Heap) (locs : List Loc), F w1 = r → mH E A s w1 H locs → W p l e R s m args below meth c H locs cells slots Q (F0 m (pc + 3) ls rest)) : W p l e R s m args below meth c H locs cells slots Q (F0 m pc ls (.int v :: .ref (mM E) :: rest)) :=
  va_put (D := E.1) (ci := 4) (ty := .int) (C := RX5) (T := TX5) (N := 40) S.1 S.2.1 S.2.2.2.2 in_X5 tyX5 tyX5_ok nmX5 S.2.2.2.1 hw.1 hw.2.1 hw.2.2.1 hw.2.2.2 0 rfl rfl 26 (by decide) (S.2.2.2.2 _ q1820) (fun _ h9 => h9) rfl (by decide +kernel) rfl rfl (Nat.le_of_ble_eq_true rfl) hd (fun H1 locs1 hP hD hS => kk (wI w 26 0 v) H1 locs1 h ⟨hw.1, hP, hD, hS⟩)
theorem mg27 {E : mE} {w : MS} (S : CallFix p m c cc nL s args lw_all RX5) (hw : mH E A s w H locs) (hd : decode cc pc = .ok (.getfield 144, 3)) (kk : W p l e R s m args below meth c H locs cells slots Q (F0 m (pc + 3) ls (.ref (mAr E 27) :: rest))) : W p l e R s m args below meth c H locs cells slots Q (F0 m pc ls (.ref (mM E) :: rest)) :=
  va_get (D := E.1) (ci := 4) (C := RX5) (T := TX5) (N := 40) S.1 S.2.1 S.2.2.2.2 in_X5 S.2.2.2.1 hw.1 hw.2.1 0 rfl rfl 27 (by decide) (S.2.2.2.2 _ q1821) (fun _ h9 => h9) rfl hd kk
theorem mg28 {E : mE} {w : MS} (S : CallFix p m c cc nL s args lw_all RX5) (hw : mH E A s w H locs) (hd : decode cc pc = .ok (.getfield 330, 3)) (kk : W p l e R s m args below meth c H locs cells slots Q (F0 m (pc + 3) ls (.int (rI w 28 0) :: rest))) : W p l e R s m args below meth c H locs cells slots Q (F0 m pc ls (.ref (mM E) :: rest)) :=
  va_get (D := E.1) (ci := 4) (C := RX5) (T := TX5) (N := 40) S.1 S.2.1 S.2.2.2.2 in_X5 S.2.2.2.1 hw.1 hw.2.1 0 rfl rfl 28 (by decide) (S.2.2.2.2 _ q1822) (fun _ h9 => h9) rfl hd kk
theorem mp28 {E : mE} {w : MS} {β : Type} {v : Int32} {F : MS → β} {r : β} (S : CallFix p m c cc nL s args lw_all RX5) (hw : mH E A s w H locs) (hd : decode cc pc = .ok (.putfield 330, 3)) (h : bdp (wI w 28 0 v) F = r) (kk : ∀ (w1 : MS) (H : Heap) (locs : List Loc), F w1 = r → mH E A s w1 H locs → W p l e R s m args below meth c H locs cells slots Q (F0 m (pc + 3) ls rest)) : W p l e R s m args below meth c H locs cells slots Q (F0 m pc ls (.int v :: .ref (mM E) :: rest)) :=
  va_put (D := E.1) (ci := 4) (ty := .int) (C := RX5) (T := TX5) (N := 40) S.1 S.2.1 S.2.2.2.2 in_X5 tyX5 tyX5_ok nmX5 S.2.2.2.1 hw.1 hw.2.1 hw.2.2.1 hw.2.2.2 0 rfl rfl 28 (by decide) (S.2.2.2.2 _ q1822) (fun _ h9 => h9) rfl (by decide +kernel) rfl rfl (Nat.le_of_ble_eq_true rfl) hd (fun H1 locs1 hP hD hS => kk (wI w 28 0 v) H1 locs1 h ⟨hw.1, hP, hD, hS⟩)
theorem mg29 {E : mE} {w : MS} (S : CallFix p m c cc nL s args lw_all RX5) (hw : mH E A s w H locs) (hd : decode cc pc = .ok (.getfield 148, 3)) (kk : W p l e R s m args below meth c H locs cells slots Q (F0 m (pc + 3) ls (.ref (mAr E 29) :: rest))) : W p l e R s m args below meth c H locs cells slots Q (F0 m pc ls (.ref (mM E) :: rest)) :=
  va_get (D := E.1) (ci := 4) (C := RX5) (T := TX5) (N := 40) S.1 S.2.1 S.2.2.2.2 in_X5 S.2.2.2.1 hw.1 hw.2.1 0 rfl rfl 29 (by decide) (S.2.2.2.2 _ q1823) (fun _ h9 => h9) rfl hd kk
theorem mg30 {E : mE} {w : MS} (S : CallFix p m c cc nL s args lw_all RX5) (hw : mH E A s w H locs) (hd : decode cc pc = .ok (.getfield 151, 3)) (kk : W p l e R s m args below meth c H locs cells slots Q (F0 m (pc + 3) ls (.ref (mAr E 30) :: rest))) : W p l e R s m args below meth c H locs cells slots Q (F0 m pc ls (.ref (mM E) :: rest)) :=
  va_get (D := E.1) (ci := 4) (C := RX5) (T := TX5) (N := 40) S.1 S.2.1 S.2.2.2.2 in_X5 S.2.2.2.1 hw.1 hw.2.1 0 rfl rfl 30 (by decide) (S.2.2.2.2 _ q1824) (fun _ h9 => h9) rfl hd kk
theorem mg31 {E : mE} {w : MS} (S : CallFix p m c cc nL s args lw_all RX5) (hw : mH E A s w H locs) (hd : decode cc pc = .ok (.getfield 419, 3)) (kk : W p l e R s m args below meth c H locs cells slots Q (F0 m (pc + 3) ls (.int (rI w 31 0) :: rest))) : W p l e R s m args below meth c H locs cells slots Q (F0 m pc ls (.ref (mM E) :: rest)) :=
  va_get (D := E.1) (ci := 4) (C := RX5) (T := TX5) (N := 40) S.1 S.2.1 S.2.2.2.2 in_X5 S.2.2.2.1 hw.1 hw.2.1 0 rfl rfl 31 (by decide) (S.2.2.2.2 _ q1825) (fun _ h9 => h9) rfl hd kk
theorem mp31 {E : mE} {w : MS} {β : Type} {v : Int32} {F : MS → β} {r : β} (S : CallFix p m c cc nL s args lw_all RX5) (hw : mH E A s w H locs) (hd : decode cc pc = .ok (.putfield 419, 3)) (h : bdp (wI w 31 0 v) F = r) (kk : ∀ (w1 : MS) (H : Heap) (locs : List Loc), F w1 = r → mH E A s w1 H locs → W p l e R s m args below meth c H locs cells slots Q (F0 m (pc + 3) ls rest)) : W p l e R s m args below meth c H locs cells slots Q (F0 m pc ls (.int v :: .ref (mM E) :: rest)) :=
  va_put (D := E.1) (ci := 4) (ty := .int) (C := RX5) (T := TX5) (N := 40) S.1 S.2.1 S.2.2.2.2 in_X5 tyX5 tyX5_ok nmX5 S.2.2.2.1 hw.1 hw.2.1 hw.2.2.1 hw.2.2.2 0 rfl rfl 31 (by decide) (S.2.2.2.2 _ q1825) (fun _ h9 => h9) rfl (by decide +kernel) rfl rfl (Nat.le_of_ble_eq_true rfl) hd (fun H1 locs1 hP hD hS => kk (wI w 31 0 v) H1 locs1 h ⟨hw.1, hP, hD, hS⟩)
theorem mg32 {E : mE} {w : MS} (S : CallFix p m c cc nL s args lw_all RX5) (hw : mH E A s w H locs) (hd : decode cc pc = .ok (.getfield 154, 3)) (kk : W p l e R s m args below meth c H locs cells slots Q (F0 m (pc + 3) ls (.ref (mAr E 32) :: rest))) : W p l e R s m args below meth c H locs cells slots Q (F0 m pc ls (.ref (mM E) :: rest)) :=
  va_get (D := E.1) (ci := 4) (C := RX5) (T := TX5) (N := 40) S.1 S.2.1 S.2.2.2.2 in_X5 S.2.2.2.1 hw.1 hw.2.1 0 rfl rfl 32 (by decide) (S.2.2.2.2 _ q1826) (fun _ h9 => h9) rfl hd kk
theorem mg33 {E : mE} {w : MS} (S : CallFix p m c cc nL s args lw_all RX5) (hw : mH E A s w H locs) (hd : decode cc pc = .ok (.getfield 157, 3)) (kk : W p l e R s m args below meth c H locs cells slots Q (F0 m (pc + 3) ls (.ref (mAr E 33) :: rest))) : W p l e R s m args below meth c H locs cells slots Q (F0 m pc ls (.ref (mM E) :: rest)) :=
  va_get (D := E.1) (ci := 4) (C := RX5) (T := TX5) (N := 40) S.1 S.2.1 S.2.2.2.2 in_X5 S.2.2.2.1 hw.1 hw.2.1 0 rfl rfl 33 (by decide) (S.2.2.2.2 _ q1827) (fun _ h9 => h9) rfl hd kk
theorem mg34 {E : mE} {w : MS} (S : CallFix p m c cc nL s args lw_all RX5) (hw : mH E A s w H locs) (hd : decode cc pc = .ok (.getfield 160, 3)) (kk : W p l e R s m args below meth c H locs cells slots Q (F0 m (pc + 3) ls (.ref (mAr E 34) :: rest))) : W p l e R s m args below meth c H locs cells slots Q (F0 m pc ls (.ref (mM E) :: rest)) :=
  va_get (D := E.1) (ci := 4) (C := RX5) (T := TX5) (N := 40) S.1 S.2.1 S.2.2.2.2 in_X5 S.2.2.2.1 hw.1 hw.2.1 0 rfl rfl 34 (by decide) (S.2.2.2.2 _ q1828) (fun _ h9 => h9) rfl hd kk
theorem mg35 {E : mE} {w : MS} (S : CallFix p m c cc nL s args lw_all RX5) (hw : mH E A s w H locs) (hd : decode cc pc = .ok (.getfield 163, 3)) (kk : W p l e R s m args below meth c H locs cells slots Q (F0 m (pc + 3) ls (.ref (mAr E 35) :: rest))) : W p l e R s m args below meth c H locs cells slots Q (F0 m pc ls (.ref (mM E) :: rest)) :=
  va_get (D := E.1) (ci := 4) (C := RX5) (T := TX5) (N := 40) S.1 S.2.1 S.2.2.2.2 in_X5 S.2.2.2.1 hw.1 hw.2.1 0 rfl rfl 35 (by decide) (S.2.2.2.2 _ q1829) (fun _ h9 => h9) rfl hd kk
theorem mg36 {E : mE} {w : MS} (S : CallFix p m c cc nL s args lw_all RX5) (hw : mH E A s w H locs) (hd : decode cc pc = .ok (.getfield 166, 3)) (kk : W p l e R s m args below meth c H locs cells slots Q (F0 m (pc + 3) ls (.ref (mAr E 36) :: rest))) : W p l e R s m args below meth c H locs cells slots Q (F0 m pc ls (.ref (mM E) :: rest)) :=
  va_get (D := E.1) (ci := 4) (C := RX5) (T := TX5) (N := 40) S.1 S.2.1 S.2.2.2.2 in_X5 S.2.2.2.1 hw.1 hw.2.1 0 rfl rfl 36 (by decide) (S.2.2.2.2 _ q1830) (fun _ h9 => h9) rfl hd kk
theorem mg37 {E : mE} {w : MS} (S : CallFix p m c cc nL s args lw_all RX5) (hw : mH E A s w H locs) (hd : decode cc pc = .ok (.getfield 458, 3)) (kk : W p l e R s m args below meth c H locs cells slots Q (F0 m (pc + 3) ls (.int (rI w 37 0) :: rest))) : W p l e R s m args below meth c H locs cells slots Q (F0 m pc ls (.ref (mM E) :: rest)) :=
  va_get (D := E.1) (ci := 4) (C := RX5) (T := TX5) (N := 40) S.1 S.2.1 S.2.2.2.2 in_X5 S.2.2.2.1 hw.1 hw.2.1 0 rfl rfl 37 (by decide) (S.2.2.2.2 _ q1831) (fun _ h9 => h9) rfl hd kk
theorem mp37 {E : mE} {w : MS} {β : Type} {v : Int32} {F : MS → β} {r : β} (S : CallFix p m c cc nL s args lw_all RX5) (hw : mH E A s w H locs) (hd : decode cc pc = .ok (.putfield 458, 3)) (h : bdp (wI w 37 0 v) F = r) (kk : ∀ (w1 : MS) (H : Heap) (locs : List Loc), F w1 = r → mH E A s w1 H locs → W p l e R s m args below meth c H locs cells slots Q (F0 m (pc + 3) ls rest)) : W p l e R s m args below meth c H locs cells slots Q (F0 m pc ls (.int v :: .ref (mM E) :: rest)) :=
  va_put (D := E.1) (ci := 4) (ty := .int) (C := RX5) (T := TX5) (N := 40) S.1 S.2.1 S.2.2.2.2 in_X5 tyX5 tyX5_ok nmX5 S.2.2.2.1 hw.1 hw.2.1 hw.2.2.1 hw.2.2.2 0 rfl rfl 37 (by decide) (S.2.2.2.2 _ q1831) (fun _ h9 => h9) rfl (by decide +kernel) rfl rfl (Nat.le_of_ble_eq_true rfl) hd (fun H1 locs1 hP hD hS => kk (wI w 37 0 v) H1 locs1 h ⟨hw.1, hP, hD, hS⟩)
theorem mg38 {E : mE} {w : MS} (S : CallFix p m c cc nL s args lw_all RX5) (hw : mH E A s w H locs) (hd : decode cc pc = .ok (.getfield 461, 3)) (kk : W p l e R s m args below meth c H locs cells slots Q (F0 m (pc + 3) ls (.int (rI w 38 0) :: rest))) : W p l e R s m args below meth c H locs cells slots Q (F0 m pc ls (.ref (mM E) :: rest)) :=
  va_get (D := E.1) (ci := 4) (C := RX5) (T := TX5) (N := 40) S.1 S.2.1 S.2.2.2.2 in_X5 S.2.2.2.1 hw.1 hw.2.1 0 rfl rfl 38 (by decide) (S.2.2.2.2 _ q1832) (fun _ h9 => h9) rfl hd kk
theorem mp38 {E : mE} {w : MS} {β : Type} {v : Int32} {F : MS → β} {r : β} (S : CallFix p m c cc nL s args lw_all RX5) (hw : mH E A s w H locs) (hd : decode cc pc = .ok (.putfield 461, 3)) (h : bdp (wI w 38 0 v) F = r) (kk : ∀ (w1 : MS) (H : Heap) (locs : List Loc), F w1 = r → mH E A s w1 H locs → W p l e R s m args below meth c H locs cells slots Q (F0 m (pc + 3) ls rest)) : W p l e R s m args below meth c H locs cells slots Q (F0 m pc ls (.int v :: .ref (mM E) :: rest)) :=
  va_put (D := E.1) (ci := 4) (ty := .int) (C := RX5) (T := TX5) (N := 40) S.1 S.2.1 S.2.2.2.2 in_X5 tyX5 tyX5_ok nmX5 S.2.2.2.1 hw.1 hw.2.1 hw.2.2.1 hw.2.2.2 0 rfl rfl 38 (by decide) (S.2.2.2.2 _ q1832) (fun _ h9 => h9) rfl (by decide +kernel) rfl rfl (Nat.le_of_ble_eq_true rfl) hd (fun H1 locs1 hP hD hS => kk (wI w 38 0 v) H1 locs1 h ⟨hw.1, hP, hD, hS⟩)
theorem mg39 {E : mE} {w : MS} (S : CallFix p m c cc nL s args lw_all RX5) (hw : mH E A s w H locs) (hd : decode cc pc = .ok (.getfield 470, 3)) (kk : W p l e R s m args below meth c H locs cells slots Q (F0 m (pc + 3) ls (.long (rL w 39 0) :: rest))) : W p l e R s m args below meth c H locs cells slots Q (F0 m pc ls (.ref (mM E) :: rest)) :=
  va_get (D := E.1) (ci := 4) (C := RX5) (T := TX5) (N := 40) S.1 S.2.1 S.2.2.2.2 in_X5 S.2.2.2.1 hw.1 hw.2.1 0 rfl rfl 39 (by decide) (S.2.2.2.2 _ q1833) (fun _ h9 => h9) rfl hd kk
theorem mp39 {E : mE} {w : MS} {β : Type} {v : Int64} {F : MS → β} {r : β} (S : CallFix p m c cc nL s args lw_all RX5) (hw : mH E A s w H locs) (hd : decode cc pc = .ok (.putfield 470, 3)) (h : bdp (wL w 39 0 v) F = r) (kk : ∀ (w1 : MS) (H : Heap) (locs : List Loc), F w1 = r → mH E A s w1 H locs → W p l e R s m args below meth c H locs cells slots Q (F0 m (pc + 3) ls rest)) : W p l e R s m args below meth c H locs cells slots Q (F0 m pc ls (.long v :: .ref (mM E) :: rest)) :=
  va_put (D := E.1) (ci := 4) (ty := .long) (C := RX5) (T := TX5) (N := 40) S.1 S.2.1 S.2.2.2.2 in_X5 tyX5 tyX5_ok nmX5 S.2.2.2.1 hw.1 hw.2.1 hw.2.2.1 hw.2.2.2 0 rfl rfl 39 (by decide) (S.2.2.2.2 _ q1833) (fun _ h9 => h9) rfl (by decide +kernel) rfl rfl (Nat.le_of_ble_eq_true rfl) hd (fun H1 locs1 hP hD hS => kk (wL w 39 0 v) H1 locs1 h ⟨hw.1, hP, hD, hS⟩)
theorem mlc1 {E : mE} {w : MS} {j : Nat} {i : Int32} (S : CallFix p m c cc nL s args lw_all RX5) (hw : mH E A s w H locs) (hd : decode cc pc = .ok (.iaload, 1)) (hi : ¬ (i < 0 ∨ 1000 ≤ i.toNatClampNeg) ∧ i.toNatClampNeg = j) (kk : W p l e R s m args below meth c H locs cells slots Q (F0 m (pc + 1) ls (.int (rI w 1 j) :: rest))) : W p l e R s m args below meth c H locs cells slots Q (F0 m pc ls (.int i :: .ref (mAr E 1) :: rest)) := by
  obtain ⟨h1, h2⟩ := hi
  subst h2
  exact va_iald (D := E.1) S.1 S.2.1 hw.1 hw.2.1 1 0 rfl rfl h1 hd kk
theorem ml1 {E : mE} {w : MS} {β : Type} {i : Int32} {F : Int32 → Option β} {r : β} (S : CallFix p m c cc nL s args lw_all RX5) (hw : mH E A s w H locs) (hd : decode cc pc = .ok (.iaload, 1)) (h : bd1 (rA w 1 1000 i) F = some r) (kk : ∀ v, F v = some r → W p l e R s m args below meth c H locs cells slots Q (F0 m (pc + 1) ls (.int v :: rest))) : W p l e R s m args below meth c H locs cells slots Q (F0 m pc ls (.int i :: .ref (mAr E 1) :: rest)) := by
  obtain ⟨v, h1, h2⟩ := bd1_some h
  obtain ⟨n0, e1⟩ := rA_some h1
  subst e1
  exact mlc1 S hw hd ⟨n0, rfl⟩ (kk _ h2)
theorem msc1 {E : mE} {w : MS} {β : Type} {j : Nat} {i : Int32} {v : Int32} {F : MS → β} {r : β} (S : CallFix p m c cc nL s args lw_all RX5) (hw : mH E A s w H locs) (hd : decode cc pc = .ok (.iastore, 1)) (hi : ¬ (i < 0 ∨ 1000 ≤ i.toNatClampNeg) ∧ i.toNatClampNeg = j) (h : bdp (wI w 1 j v) F = r) (kk : ∀ (w1 : MS) (H : Heap) (locs : List Loc), F w1 = r → mH E A s w1 H locs → W p l e R s m args below meth c H locs cells slots Q (F0 m (pc + 1) ls rest)) : W p l e R s m args below meth c H locs cells slots Q (F0 m pc ls (.int v :: .int i :: .ref (mAr E 1) :: rest)) := by
  obtain ⟨h1, h2⟩ := hi
  subst h2
  refine va_iast (D := E.1) S.1 S.2.1 hw.1 hw.2.1 hw.2.2.1 hw.2.2.2 1 0 rfl rfl h1 hd (fun H1 locs1 hP hD hS => ?_)
  exact kk (wI w 1 i.toNatClampNeg v) H1 locs1 h ⟨hw.1, hP, hD, hS⟩
theorem ms1 {E : mE} {w : MS} {β : Type} {i : Int32} {v : Int32} {F : MS → Option β} {r : β} (S : CallFix p m c cc nL s args lw_all RX5) (hw : mH E A s w H locs) (hd : decode cc pc = .ok (.iastore, 1)) (h : bd1 (wA w 1 1000 i v) F = some r) (kk : ∀ (w1 : MS) (H : Heap) (locs : List Loc), F w1 = some r → mH E A s w1 H locs → W p l e R s m args below meth c H locs cells slots Q (F0 m (pc + 1) ls rest)) : W p l e R s m args below meth c H locs cells slots Q (F0 m pc ls (.int v :: .int i :: .ref (mAr E 1) :: rest)) := by
  obtain ⟨u, h1, h2⟩ := bd1_some h
  obtain ⟨n0, e1⟩ := wA_some h1
  subst e1
  exact msc1 (F := F) S hw hd ⟨n0, rfl⟩ h2 kk
theorem mlc4 {E : mE} {w : MS} {j : Nat} {i : Int32} (S : CallFix p m c cc nL s args lw_all RX5) (hw : mH E A s w H locs) (hd : decode cc pc = .ok (.iaload, 1)) (hi : ¬ (i < 0 ∨ 1002 ≤ i.toNatClampNeg) ∧ i.toNatClampNeg = j) (kk : W p l e R s m args below meth c H locs cells slots Q (F0 m (pc + 1) ls (.int (rI w 4 j) :: rest))) : W p l e R s m args below meth c H locs cells slots Q (F0 m pc ls (.int i :: .ref (mAr E 4) :: rest)) := by
  obtain ⟨h1, h2⟩ := hi
  subst h2
  exact va_iald (D := E.1) S.1 S.2.1 hw.1 hw.2.1 2 0 rfl rfl h1 hd kk
theorem ml4 {E : mE} {w : MS} {β : Type} {i : Int32} {F : Int32 → Option β} {r : β} (S : CallFix p m c cc nL s args lw_all RX5) (hw : mH E A s w H locs) (hd : decode cc pc = .ok (.iaload, 1)) (h : bd1 (rA w 4 1002 i) F = some r) (kk : ∀ v, F v = some r → W p l e R s m args below meth c H locs cells slots Q (F0 m (pc + 1) ls (.int v :: rest))) : W p l e R s m args below meth c H locs cells slots Q (F0 m pc ls (.int i :: .ref (mAr E 4) :: rest)) := by
  obtain ⟨v, h1, h2⟩ := bd1_some h
  obtain ⟨n0, e1⟩ := rA_some h1
  subst e1
  exact mlc4 S hw hd ⟨n0, rfl⟩ (kk _ h2)
theorem msc4 {E : mE} {w : MS} {β : Type} {j : Nat} {i : Int32} {v : Int32} {F : MS → β} {r : β} (S : CallFix p m c cc nL s args lw_all RX5) (hw : mH E A s w H locs) (hd : decode cc pc = .ok (.iastore, 1)) (hi : ¬ (i < 0 ∨ 1002 ≤ i.toNatClampNeg) ∧ i.toNatClampNeg = j) (h : bdp (wI w 4 j v) F = r) (kk : ∀ (w1 : MS) (H : Heap) (locs : List Loc), F w1 = r → mH E A s w1 H locs → W p l e R s m args below meth c H locs cells slots Q (F0 m (pc + 1) ls rest)) : W p l e R s m args below meth c H locs cells slots Q (F0 m pc ls (.int v :: .int i :: .ref (mAr E 4) :: rest)) := by
  obtain ⟨h1, h2⟩ := hi
  subst h2
  refine va_iast (D := E.1) S.1 S.2.1 hw.1 hw.2.1 hw.2.2.1 hw.2.2.2 2 0 rfl rfl h1 hd (fun H1 locs1 hP hD hS => ?_)
  exact kk (wI w 4 i.toNatClampNeg v) H1 locs1 h ⟨hw.1, hP, hD, hS⟩
theorem ms4 {E : mE} {w : MS} {β : Type} {i : Int32} {v : Int32} {F : MS → Option β} {r : β} (S : CallFix p m c cc nL s args lw_all RX5) (hw : mH E A s w H locs) (hd : decode cc pc = .ok (.iastore, 1)) (h : bd1 (wA w 4 1002 i v) F = some r) (kk : ∀ (w1 : MS) (H : Heap) (locs : List Loc), F w1 = some r → mH E A s w1 H locs → W p l e R s m args below meth c H locs cells slots Q (F0 m (pc + 1) ls rest)) : W p l e R s m args below meth c H locs cells slots Q (F0 m pc ls (.int v :: .int i :: .ref (mAr E 4) :: rest)) := by
  obtain ⟨u, h1, h2⟩ := bd1_some h
  obtain ⟨n0, e1⟩ := wA_some h1
  subst e1
  exact msc4 (F := F) S hw hd ⟨n0, rfl⟩ h2 kk
theorem mlc5 {E : mE} {w : MS} {j : Nat} {i : Int32} (S : CallFix p m c cc nL s args lw_all RX5) (hw : mH E A s w H locs) (hd : decode cc pc = .ok (.iaload, 1)) (hi : ¬ (i < 0 ∨ 1002 ≤ i.toNatClampNeg) ∧ i.toNatClampNeg = j) (kk : W p l e R s m args below meth c H locs cells slots Q (F0 m (pc + 1) ls (.int (rI w 5 j) :: rest))) : W p l e R s m args below meth c H locs cells slots Q (F0 m pc ls (.int i :: .ref (mAr E 5) :: rest)) := by
  obtain ⟨h1, h2⟩ := hi
  subst h2
  exact va_iald (D := E.1) S.1 S.2.1 hw.1 hw.2.1 3 0 rfl rfl h1 hd kk
theorem ml5 {E : mE} {w : MS} {β : Type} {i : Int32} {F : Int32 → Option β} {r : β} (S : CallFix p m c cc nL s args lw_all RX5) (hw : mH E A s w H locs) (hd : decode cc pc = .ok (.iaload, 1)) (h : bd1 (rA w 5 1002 i) F = some r) (kk : ∀ v, F v = some r → W p l e R s m args below meth c H locs cells slots Q (F0 m (pc + 1) ls (.int v :: rest))) : W p l e R s m args below meth c H locs cells slots Q (F0 m pc ls (.int i :: .ref (mAr E 5) :: rest)) := by
  obtain ⟨v, h1, h2⟩ := bd1_some h
  obtain ⟨n0, e1⟩ := rA_some h1
  subst e1
  exact mlc5 S hw hd ⟨n0, rfl⟩ (kk _ h2)
theorem msc5 {E : mE} {w : MS} {β : Type} {j : Nat} {i : Int32} {v : Int32} {F : MS → β} {r : β} (S : CallFix p m c cc nL s args lw_all RX5) (hw : mH E A s w H locs) (hd : decode cc pc = .ok (.iastore, 1)) (hi : ¬ (i < 0 ∨ 1002 ≤ i.toNatClampNeg) ∧ i.toNatClampNeg = j) (h : bdp (wI w 5 j v) F = r) (kk : ∀ (w1 : MS) (H : Heap) (locs : List Loc), F w1 = r → mH E A s w1 H locs → W p l e R s m args below meth c H locs cells slots Q (F0 m (pc + 1) ls rest)) : W p l e R s m args below meth c H locs cells slots Q (F0 m pc ls (.int v :: .int i :: .ref (mAr E 5) :: rest)) := by
  obtain ⟨h1, h2⟩ := hi
  subst h2
  refine va_iast (D := E.1) S.1 S.2.1 hw.1 hw.2.1 hw.2.2.1 hw.2.2.2 3 0 rfl rfl h1 hd (fun H1 locs1 hP hD hS => ?_)
  exact kk (wI w 5 i.toNatClampNeg v) H1 locs1 h ⟨hw.1, hP, hD, hS⟩
theorem ms5 {E : mE} {w : MS} {β : Type} {i : Int32} {v : Int32} {F : MS → Option β} {r : β} (S : CallFix p m c cc nL s args lw_all RX5) (hw : mH E A s w H locs) (hd : decode cc pc = .ok (.iastore, 1)) (h : bd1 (wA w 5 1002 i v) F = some r) (kk : ∀ (w1 : MS) (H : Heap) (locs : List Loc), F w1 = some r → mH E A s w1 H locs → W p l e R s m args below meth c H locs cells slots Q (F0 m (pc + 1) ls rest)) : W p l e R s m args below meth c H locs cells slots Q (F0 m pc ls (.int v :: .int i :: .ref (mAr E 5) :: rest)) := by
  obtain ⟨u, h1, h2⟩ := bd1_some h
  obtain ⟨n0, e1⟩ := wA_some h1
  subst e1
  exact msc5 (F := F) S hw hd ⟨n0, rfl⟩ h2 kk
theorem mlc6 {E : mE} {w : MS} {j : Nat} {i : Int32} (S : CallFix p m c cc nL s args lw_all RX5) (hw : mH E A s w H locs) (hd : decode cc pc = .ok (.laload, 1)) (hi : ¬ (i < 0 ∨ 1002 ≤ i.toNatClampNeg) ∧ i.toNatClampNeg = j) (kk : W p l e R s m args below meth c H locs cells slots Q (F0 m (pc + 1) ls (.long (rL w 6 j) :: rest))) : W p l e R s m args below meth c H locs cells slots Q (F0 m pc ls (.int i :: .ref (mAr E 6) :: rest)) := by
  obtain ⟨h1, h2⟩ := hi
  subst h2
  exact va_lald (D := E.1) S.1 S.2.1 hw.1 hw.2.1 4 1 rfl rfl h1 hd kk
theorem ml6 {E : mE} {w : MS} {β : Type} {i : Int32} {F : Int64 → Option β} {r : β} (S : CallFix p m c cc nL s args lw_all RX5) (hw : mH E A s w H locs) (hd : decode cc pc = .ok (.laload, 1)) (h : bd1 (rAL w 6 1002 i) F = some r) (kk : ∀ v, F v = some r → W p l e R s m args below meth c H locs cells slots Q (F0 m (pc + 1) ls (.long v :: rest))) : W p l e R s m args below meth c H locs cells slots Q (F0 m pc ls (.int i :: .ref (mAr E 6) :: rest)) := by
  obtain ⟨v, h1, h2⟩ := bd1_some h
  obtain ⟨n0, e1⟩ := rAL_some h1
  subst e1
  exact mlc6 S hw hd ⟨n0, rfl⟩ (kk _ h2)
theorem msc6 {E : mE} {w : MS} {β : Type} {j : Nat} {i : Int32} {v : Int64} {F : MS → β} {r : β} (S : CallFix p m c cc nL s args lw_all RX5) (hw : mH E A s w H locs) (hd : decode cc pc = .ok (.lastore, 1)) (hi : ¬ (i < 0 ∨ 1002 ≤ i.toNatClampNeg) ∧ i.toNatClampNeg = j) (h : bdp (wL w 6 j v) F = r) (kk : ∀ (w1 : MS) (H : Heap) (locs : List Loc), F w1 = r → mH E A s w1 H locs → W p l e R s m args below meth c H locs cells slots Q (F0 m (pc + 1) ls rest)) : W p l e R s m args below meth c H locs cells slots Q (F0 m pc ls (.long v :: .int i :: .ref (mAr E 6) :: rest)) := by
  obtain ⟨h1, h2⟩ := hi
  subst h2
  refine va_last (D := E.1) S.1 S.2.1 hw.1 hw.2.1 hw.2.2.1 hw.2.2.2 4 1 rfl rfl h1 hd (fun H1 locs1 hP hD hS => ?_)
  exact kk (wL w 6 i.toNatClampNeg v) H1 locs1 h ⟨hw.1, hP, hD, hS⟩
theorem ms6 {E : mE} {w : MS} {β : Type} {i : Int32} {v : Int64} {F : MS → Option β} {r : β} (S : CallFix p m c cc nL s args lw_all RX5) (hw : mH E A s w H locs) (hd : decode cc pc = .ok (.lastore, 1)) (h : bd1 (wAL w 6 1002 i v) F = some r) (kk : ∀ (w1 : MS) (H : Heap) (locs : List Loc), F w1 = some r → mH E A s w1 H locs → W p l e R s m args below meth c H locs cells slots Q (F0 m (pc + 1) ls rest)) : W p l e R s m args below meth c H locs cells slots Q (F0 m pc ls (.long v :: .int i :: .ref (mAr E 6) :: rest)) := by
  obtain ⟨u, h1, h2⟩ := bd1_some h
  obtain ⟨n0, e1⟩ := wAL_some h1
  subst e1
  exact msc6 (F := F) S hw hd ⟨n0, rfl⟩ h2 kk
theorem mlc9 {E : mE} {w : MS} {j : Nat} {i : Int32} (S : CallFix p m c cc nL s args lw_all RX5) (hw : mH E A s w H locs) (hd : decode cc pc = .ok (.laload, 1)) (hi : ¬ (i < 0 ∨ 37 ≤ i.toNatClampNeg) ∧ i.toNatClampNeg = j) (kk : W p l e R s m args below meth c H locs cells slots Q (F0 m (pc + 1) ls (.long (rL w 9 j) :: rest))) : W p l e R s m args below meth c H locs cells slots Q (F0 m pc ls (.int i :: .ref (mAr E 9) :: rest)) := by
  obtain ⟨h1, h2⟩ := hi
  subst h2
  exact va_lald (D := E.1) S.1 S.2.1 hw.1 hw.2.1 5 1 rfl rfl h1 hd kk
theorem ml9 {E : mE} {w : MS} {β : Type} {i : Int32} {F : Int64 → Option β} {r : β} (S : CallFix p m c cc nL s args lw_all RX5) (hw : mH E A s w H locs) (hd : decode cc pc = .ok (.laload, 1)) (h : bd1 (rAL w 9 37 i) F = some r) (kk : ∀ v, F v = some r → W p l e R s m args below meth c H locs cells slots Q (F0 m (pc + 1) ls (.long v :: rest))) : W p l e R s m args below meth c H locs cells slots Q (F0 m pc ls (.int i :: .ref (mAr E 9) :: rest)) := by
  obtain ⟨v, h1, h2⟩ := bd1_some h
  obtain ⟨n0, e1⟩ := rAL_some h1
  subst e1
  exact mlc9 S hw hd ⟨n0, rfl⟩ (kk _ h2)
theorem msc9 {E : mE} {w : MS} {β : Type} {j : Nat} {i : Int32} {v : Int64} {F : MS → β} {r : β} (S : CallFix p m c cc nL s args lw_all RX5) (hw : mH E A s w H locs) (hd : decode cc pc = .ok (.lastore, 1)) (hi : ¬ (i < 0 ∨ 37 ≤ i.toNatClampNeg) ∧ i.toNatClampNeg = j) (h : bdp (wL w 9 j v) F = r) (kk : ∀ (w1 : MS) (H : Heap) (locs : List Loc), F w1 = r → mH E A s w1 H locs → W p l e R s m args below meth c H locs cells slots Q (F0 m (pc + 1) ls rest)) : W p l e R s m args below meth c H locs cells slots Q (F0 m pc ls (.long v :: .int i :: .ref (mAr E 9) :: rest)) := by
  obtain ⟨h1, h2⟩ := hi
  subst h2
  refine va_last (D := E.1) S.1 S.2.1 hw.1 hw.2.1 hw.2.2.1 hw.2.2.2 5 1 rfl rfl h1 hd (fun H1 locs1 hP hD hS => ?_)
  exact kk (wL w 9 i.toNatClampNeg v) H1 locs1 h ⟨hw.1, hP, hD, hS⟩
theorem ms9 {E : mE} {w : MS} {β : Type} {i : Int32} {v : Int64} {F : MS → Option β} {r : β} (S : CallFix p m c cc nL s args lw_all RX5) (hw : mH E A s w H locs) (hd : decode cc pc = .ok (.lastore, 1)) (h : bd1 (wAL w 9 37 i v) F = some r) (kk : ∀ (w1 : MS) (H : Heap) (locs : List Loc), F w1 = some r → mH E A s w1 H locs → W p l e R s m args below meth c H locs cells slots Q (F0 m (pc + 1) ls rest)) : W p l e R s m args below meth c H locs cells slots Q (F0 m pc ls (.long v :: .int i :: .ref (mAr E 9) :: rest)) := by
  obtain ⟨u, h1, h2⟩ := bd1_some h
  obtain ⟨n0, e1⟩ := wAL_some h1
  subst e1
  exact msc9 (F := F) S hw hd ⟨n0, rfl⟩ h2 kk
theorem mlc10 {E : mE} {w : MS} {j : Nat} {i : Int32} (S : CallFix p m c cc nL s args lw_all RX5) (hw : mH E A s w H locs) (hd : decode cc pc = .ok (.iaload, 1)) (hi : ¬ (i < 0 ∨ 240 ≤ i.toNatClampNeg) ∧ i.toNatClampNeg = j) (kk : W p l e R s m args below meth c H locs cells slots Q (F0 m (pc + 1) ls (.int (rI w 10 j) :: rest))) : W p l e R s m args below meth c H locs cells slots Q (F0 m pc ls (.int i :: .ref (mAr E 10) :: rest)) := by
  obtain ⟨h1, h2⟩ := hi
  subst h2
  exact va_iald (D := E.1) S.1 S.2.1 hw.1 hw.2.1 6 0 rfl rfl h1 hd kk
theorem ml10 {E : mE} {w : MS} {β : Type} {i : Int32} {F : Int32 → Option β} {r : β} (S : CallFix p m c cc nL s args lw_all RX5) (hw : mH E A s w H locs) (hd : decode cc pc = .ok (.iaload, 1)) (h : bd1 (rA w 10 240 i) F = some r) (kk : ∀ v, F v = some r → W p l e R s m args below meth c H locs cells slots Q (F0 m (pc + 1) ls (.int v :: rest))) : W p l e R s m args below meth c H locs cells slots Q (F0 m pc ls (.int i :: .ref (mAr E 10) :: rest)) := by
  obtain ⟨v, h1, h2⟩ := bd1_some h
  obtain ⟨n0, e1⟩ := rA_some h1
  subst e1
  exact mlc10 S hw hd ⟨n0, rfl⟩ (kk _ h2)
theorem msc10 {E : mE} {w : MS} {β : Type} {j : Nat} {i : Int32} {v : Int32} {F : MS → β} {r : β} (S : CallFix p m c cc nL s args lw_all RX5) (hw : mH E A s w H locs) (hd : decode cc pc = .ok (.iastore, 1)) (hi : ¬ (i < 0 ∨ 240 ≤ i.toNatClampNeg) ∧ i.toNatClampNeg = j) (h : bdp (wI w 10 j v) F = r) (kk : ∀ (w1 : MS) (H : Heap) (locs : List Loc), F w1 = r → mH E A s w1 H locs → W p l e R s m args below meth c H locs cells slots Q (F0 m (pc + 1) ls rest)) : W p l e R s m args below meth c H locs cells slots Q (F0 m pc ls (.int v :: .int i :: .ref (mAr E 10) :: rest)) := by
  obtain ⟨h1, h2⟩ := hi
  subst h2
  refine va_iast (D := E.1) S.1 S.2.1 hw.1 hw.2.1 hw.2.2.1 hw.2.2.2 6 0 rfl rfl h1 hd (fun H1 locs1 hP hD hS => ?_)
  exact kk (wI w 10 i.toNatClampNeg v) H1 locs1 h ⟨hw.1, hP, hD, hS⟩
theorem ms10 {E : mE} {w : MS} {β : Type} {i : Int32} {v : Int32} {F : MS → Option β} {r : β} (S : CallFix p m c cc nL s args lw_all RX5) (hw : mH E A s w H locs) (hd : decode cc pc = .ok (.iastore, 1)) (h : bd1 (wA w 10 240 i v) F = some r) (kk : ∀ (w1 : MS) (H : Heap) (locs : List Loc), F w1 = some r → mH E A s w1 H locs → W p l e R s m args below meth c H locs cells slots Q (F0 m (pc + 1) ls rest)) : W p l e R s m args below meth c H locs cells slots Q (F0 m pc ls (.int v :: .int i :: .ref (mAr E 10) :: rest)) := by
  obtain ⟨u, h1, h2⟩ := bd1_some h
  obtain ⟨n0, e1⟩ := wA_some h1
  subst e1
  exact msc10 (F := F) S hw hd ⟨n0, rfl⟩ h2 kk
theorem mlc11 {E : mE} {w : MS} {j : Nat} {i : Int32} (S : CallFix p m c cc nL s args lw_all RX5) (hw : mH E A s w H locs) (hd : decode cc pc = .ok (.iaload, 1)) (hi : ¬ (i < 0 ∨ 2200 ≤ i.toNatClampNeg) ∧ i.toNatClampNeg = j) (kk : W p l e R s m args below meth c H locs cells slots Q (F0 m (pc + 1) ls (.int (rI w 11 j) :: rest))) : W p l e R s m args below meth c H locs cells slots Q (F0 m pc ls (.int i :: .ref (mAr E 11) :: rest)) := by
  obtain ⟨h1, h2⟩ := hi
  subst h2
  exact va_iald (D := E.1) S.1 S.2.1 hw.1 hw.2.1 7 0 rfl rfl h1 hd kk
theorem ml11 {E : mE} {w : MS} {β : Type} {i : Int32} {F : Int32 → Option β} {r : β} (S : CallFix p m c cc nL s args lw_all RX5) (hw : mH E A s w H locs) (hd : decode cc pc = .ok (.iaload, 1)) (h : bd1 (rA w 11 2200 i) F = some r) (kk : ∀ v, F v = some r → W p l e R s m args below meth c H locs cells slots Q (F0 m (pc + 1) ls (.int v :: rest))) : W p l e R s m args below meth c H locs cells slots Q (F0 m pc ls (.int i :: .ref (mAr E 11) :: rest)) := by
  obtain ⟨v, h1, h2⟩ := bd1_some h
  obtain ⟨n0, e1⟩ := rA_some h1
  subst e1
  exact mlc11 S hw hd ⟨n0, rfl⟩ (kk _ h2)
theorem msc11 {E : mE} {w : MS} {β : Type} {j : Nat} {i : Int32} {v : Int32} {F : MS → β} {r : β} (S : CallFix p m c cc nL s args lw_all RX5) (hw : mH E A s w H locs) (hd : decode cc pc = .ok (.iastore, 1)) (hi : ¬ (i < 0 ∨ 2200 ≤ i.toNatClampNeg) ∧ i.toNatClampNeg = j) (h : bdp (wI w 11 j v) F = r) (kk : ∀ (w1 : MS) (H : Heap) (locs : List Loc), F w1 = r → mH E A s w1 H locs → W p l e R s m args below meth c H locs cells slots Q (F0 m (pc + 1) ls rest)) : W p l e R s m args below meth c H locs cells slots Q (F0 m pc ls (.int v :: .int i :: .ref (mAr E 11) :: rest)) := by
  obtain ⟨h1, h2⟩ := hi
  subst h2
  refine va_iast (D := E.1) S.1 S.2.1 hw.1 hw.2.1 hw.2.2.1 hw.2.2.2 7 0 rfl rfl h1 hd (fun H1 locs1 hP hD hS => ?_)
  exact kk (wI w 11 i.toNatClampNeg v) H1 locs1 h ⟨hw.1, hP, hD, hS⟩
theorem ms11 {E : mE} {w : MS} {β : Type} {i : Int32} {v : Int32} {F : MS → Option β} {r : β} (S : CallFix p m c cc nL s args lw_all RX5) (hw : mH E A s w H locs) (hd : decode cc pc = .ok (.iastore, 1)) (h : bd1 (wA w 11 2200 i v) F = some r) (kk : ∀ (w1 : MS) (H : Heap) (locs : List Loc), F w1 = some r → mH E A s w1 H locs → W p l e R s m args below meth c H locs cells slots Q (F0 m (pc + 1) ls rest)) : W p l e R s m args below meth c H locs cells slots Q (F0 m pc ls (.int v :: .int i :: .ref (mAr E 11) :: rest)) := by
  obtain ⟨u, h1, h2⟩ := bd1_some h
  obtain ⟨n0, e1⟩ := wA_some h1
  subst e1
  exact msc11 (F := F) S hw hd ⟨n0, rfl⟩ h2 kk
theorem mlc12 {E : mE} {w : MS} {j : Nat} {i : Int32} (S : CallFix p m c cc nL s args lw_all RX5) (hw : mH E A s w H locs) (hd : decode cc pc = .ok (.iaload, 1)) (hi : ¬ (i < 0 ∨ 2200 ≤ i.toNatClampNeg) ∧ i.toNatClampNeg = j) (kk : W p l e R s m args below meth c H locs cells slots Q (F0 m (pc + 1) ls (.int (rI w 12 j) :: rest))) : W p l e R s m args below meth c H locs cells slots Q (F0 m pc ls (.int i :: .ref (mAr E 12) :: rest)) := by
  obtain ⟨h1, h2⟩ := hi
  subst h2
  exact va_iald (D := E.1) S.1 S.2.1 hw.1 hw.2.1 8 0 rfl rfl h1 hd kk
theorem ml12 {E : mE} {w : MS} {β : Type} {i : Int32} {F : Int32 → Option β} {r : β} (S : CallFix p m c cc nL s args lw_all RX5) (hw : mH E A s w H locs) (hd : decode cc pc = .ok (.iaload, 1)) (h : bd1 (rA w 12 2200 i) F = some r) (kk : ∀ v, F v = some r → W p l e R s m args below meth c H locs cells slots Q (F0 m (pc + 1) ls (.int v :: rest))) : W p l e R s m args below meth c H locs cells slots Q (F0 m pc ls (.int i :: .ref (mAr E 12) :: rest)) := by
  obtain ⟨v, h1, h2⟩ := bd1_some h
  obtain ⟨n0, e1⟩ := rA_some h1
  subst e1
  exact mlc12 S hw hd ⟨n0, rfl⟩ (kk _ h2)
theorem msc12 {E : mE} {w : MS} {β : Type} {j : Nat} {i : Int32} {v : Int32} {F : MS → β} {r : β} (S : CallFix p m c cc nL s args lw_all RX5) (hw : mH E A s w H locs) (hd : decode cc pc = .ok (.iastore, 1)) (hi : ¬ (i < 0 ∨ 2200 ≤ i.toNatClampNeg) ∧ i.toNatClampNeg = j) (h : bdp (wI w 12 j v) F = r) (kk : ∀ (w1 : MS) (H : Heap) (locs : List Loc), F w1 = r → mH E A s w1 H locs → W p l e R s m args below meth c H locs cells slots Q (F0 m (pc + 1) ls rest)) : W p l e R s m args below meth c H locs cells slots Q (F0 m pc ls (.int v :: .int i :: .ref (mAr E 12) :: rest)) := by
  obtain ⟨h1, h2⟩ := hi
  subst h2
  refine va_iast (D := E.1) S.1 S.2.1 hw.1 hw.2.1 hw.2.2.1 hw.2.2.2 8 0 rfl rfl h1 hd (fun H1 locs1 hP hD hS => ?_)
  exact kk (wI w 12 i.toNatClampNeg v) H1 locs1 h ⟨hw.1, hP, hD, hS⟩
theorem ms12 {E : mE} {w : MS} {β : Type} {i : Int32} {v : Int32} {F : MS → Option β} {r : β} (S : CallFix p m c cc nL s args lw_all RX5) (hw : mH E A s w H locs) (hd : decode cc pc = .ok (.iastore, 1)) (h : bd1 (wA w 12 2200 i v) F = some r) (kk : ∀ (w1 : MS) (H : Heap) (locs : List Loc), F w1 = some r → mH E A s w1 H locs → W p l e R s m args below meth c H locs cells slots Q (F0 m (pc + 1) ls rest)) : W p l e R s m args below meth c H locs cells slots Q (F0 m pc ls (.int v :: .int i :: .ref (mAr E 12) :: rest)) := by
  obtain ⟨u, h1, h2⟩ := bd1_some h
  obtain ⟨n0, e1⟩ := wA_some h1
  subst e1
  exact msc12 (F := F) S hw hd ⟨n0, rfl⟩ h2 kk
theorem mlc14 {E : mE} {w : MS} {j : Nat} {i : Int32} (S : CallFix p m c cc nL s args lw_all RX5) (hw : mH E A s w H locs) (hd : decode cc pc = .ok (.laload, 1)) (hi : ¬ (i < 0 ∨ 18 ≤ i.toNatClampNeg) ∧ i.toNatClampNeg = j) (kk : W p l e R s m args below meth c H locs cells slots Q (F0 m (pc + 1) ls (.long (rL w 14 j) :: rest))) : W p l e R s m args below meth c H locs cells slots Q (F0 m pc ls (.int i :: .ref (mAr E 14) :: rest)) := by
  obtain ⟨h1, h2⟩ := hi
  subst h2
  exact va_lald (D := E.1) S.1 S.2.1 hw.1 hw.2.1 9 1 rfl rfl h1 hd kk
theorem ml14 {E : mE} {w : MS} {β : Type} {i : Int32} {F : Int64 → Option β} {r : β} (S : CallFix p m c cc nL s args lw_all RX5) (hw : mH E A s w H locs) (hd : decode cc pc = .ok (.laload, 1)) (h : bd1 (rAL w 14 18 i) F = some r) (kk : ∀ v, F v = some r → W p l e R s m args below meth c H locs cells slots Q (F0 m (pc + 1) ls (.long v :: rest))) : W p l e R s m args below meth c H locs cells slots Q (F0 m pc ls (.int i :: .ref (mAr E 14) :: rest)) := by
  obtain ⟨v, h1, h2⟩ := bd1_some h
  obtain ⟨n0, e1⟩ := rAL_some h1
  subst e1
  exact mlc14 S hw hd ⟨n0, rfl⟩ (kk _ h2)
theorem msc14 {E : mE} {w : MS} {β : Type} {j : Nat} {i : Int32} {v : Int64} {F : MS → β} {r : β} (S : CallFix p m c cc nL s args lw_all RX5) (hw : mH E A s w H locs) (hd : decode cc pc = .ok (.lastore, 1)) (hi : ¬ (i < 0 ∨ 18 ≤ i.toNatClampNeg) ∧ i.toNatClampNeg = j) (h : bdp (wL w 14 j v) F = r) (kk : ∀ (w1 : MS) (H : Heap) (locs : List Loc), F w1 = r → mH E A s w1 H locs → W p l e R s m args below meth c H locs cells slots Q (F0 m (pc + 1) ls rest)) : W p l e R s m args below meth c H locs cells slots Q (F0 m pc ls (.long v :: .int i :: .ref (mAr E 14) :: rest)) := by
  obtain ⟨h1, h2⟩ := hi
  subst h2
  refine va_last (D := E.1) S.1 S.2.1 hw.1 hw.2.1 hw.2.2.1 hw.2.2.2 9 1 rfl rfl h1 hd (fun H1 locs1 hP hD hS => ?_)
  exact kk (wL w 14 i.toNatClampNeg v) H1 locs1 h ⟨hw.1, hP, hD, hS⟩
theorem ms14 {E : mE} {w : MS} {β : Type} {i : Int32} {v : Int64} {F : MS → Option β} {r : β} (S : CallFix p m c cc nL s args lw_all RX5) (hw : mH E A s w H locs) (hd : decode cc pc = .ok (.lastore, 1)) (h : bd1 (wAL w 14 18 i v) F = some r) (kk : ∀ (w1 : MS) (H : Heap) (locs : List Loc), F w1 = some r → mH E A s w1 H locs → W p l e R s m args below meth c H locs cells slots Q (F0 m (pc + 1) ls rest)) : W p l e R s m args below meth c H locs cells slots Q (F0 m pc ls (.long v :: .int i :: .ref (mAr E 14) :: rest)) := by
  obtain ⟨u, h1, h2⟩ := bd1_some h
  obtain ⟨n0, e1⟩ := wAL_some h1
  subst e1
  exact msc14 (F := F) S hw hd ⟨n0, rfl⟩ h2 kk
theorem mlc15 {E : mE} {w : MS} {j : Nat} {i : Int32} (S : CallFix p m c cc nL s args lw_all RX5) (hw : mH E A s w H locs) (hd : decode cc pc = .ok (.laload, 1)) (hi : ¬ (i < 0 ∨ 18 ≤ i.toNatClampNeg) ∧ i.toNatClampNeg = j) (kk : W p l e R s m args below meth c H locs cells slots Q (F0 m (pc + 1) ls (.long (rL w 15 j) :: rest))) : W p l e R s m args below meth c H locs cells slots Q (F0 m pc ls (.int i :: .ref (mAr E 15) :: rest)) := by
  obtain ⟨h1, h2⟩ := hi
  subst h2
  exact va_lald (D := E.1) S.1 S.2.1 hw.1 hw.2.1 10 1 rfl rfl h1 hd kk
theorem ml15 {E : mE} {w : MS} {β : Type} {i : Int32} {F : Int64 → Option β} {r : β} (S : CallFix p m c cc nL s args lw_all RX5) (hw : mH E A s w H locs) (hd : decode cc pc = .ok (.laload, 1)) (h : bd1 (rAL w 15 18 i) F = some r) (kk : ∀ v, F v = some r → W p l e R s m args below meth c H locs cells slots Q (F0 m (pc + 1) ls (.long v :: rest))) : W p l e R s m args below meth c H locs cells slots Q (F0 m pc ls (.int i :: .ref (mAr E 15) :: rest)) := by
  obtain ⟨v, h1, h2⟩ := bd1_some h
  obtain ⟨n0, e1⟩ := rAL_some h1
  subst e1
  exact mlc15 S hw hd ⟨n0, rfl⟩ (kk _ h2)
theorem msc15 {E : mE} {w : MS} {β : Type} {j : Nat} {i : Int32} {v : Int64} {F : MS → β} {r : β} (S : CallFix p m c cc nL s args lw_all RX5) (hw : mH E A s w H locs) (hd : decode cc pc = .ok (.lastore, 1)) (hi : ¬ (i < 0 ∨ 18 ≤ i.toNatClampNeg) ∧ i.toNatClampNeg = j) (h : bdp (wL w 15 j v) F = r) (kk : ∀ (w1 : MS) (H : Heap) (locs : List Loc), F w1 = r → mH E A s w1 H locs → W p l e R s m args below meth c H locs cells slots Q (F0 m (pc + 1) ls rest)) : W p l e R s m args below meth c H locs cells slots Q (F0 m pc ls (.long v :: .int i :: .ref (mAr E 15) :: rest)) := by
  obtain ⟨h1, h2⟩ := hi
  subst h2
  refine va_last (D := E.1) S.1 S.2.1 hw.1 hw.2.1 hw.2.2.1 hw.2.2.2 10 1 rfl rfl h1 hd (fun H1 locs1 hP hD hS => ?_)
  exact kk (wL w 15 i.toNatClampNeg v) H1 locs1 h ⟨hw.1, hP, hD, hS⟩
theorem ms15 {E : mE} {w : MS} {β : Type} {i : Int32} {v : Int64} {F : MS → Option β} {r : β} (S : CallFix p m c cc nL s args lw_all RX5) (hw : mH E A s w H locs) (hd : decode cc pc = .ok (.lastore, 1)) (h : bd1 (wAL w 15 18 i v) F = some r) (kk : ∀ (w1 : MS) (H : Heap) (locs : List Loc), F w1 = some r → mH E A s w1 H locs → W p l e R s m args below meth c H locs cells slots Q (F0 m (pc + 1) ls rest)) : W p l e R s m args below meth c H locs cells slots Q (F0 m pc ls (.long v :: .int i :: .ref (mAr E 15) :: rest)) := by
  obtain ⟨u, h1, h2⟩ := bd1_some h
  obtain ⟨n0, e1⟩ := wAL_some h1
  subst e1
  exact msc15 (F := F) S hw hd ⟨n0, rfl⟩ h2 kk
theorem mlc16 {E : mE} {w : MS} {j : Nat} {i : Int32} (S : CallFix p m c cc nL s args lw_all RX5) (hw : mH E A s w H locs) (hd : decode cc pc = .ok (.iaload, 1)) (hi : ¬ (i < 0 ∨ 18 ≤ i.toNatClampNeg) ∧ i.toNatClampNeg = j) (kk : W p l e R s m args below meth c H locs cells slots Q (F0 m (pc + 1) ls (.int (rI w 16 j) :: rest))) : W p l e R s m args below meth c H locs cells slots Q (F0 m pc ls (.int i :: .ref (mAr E 16) :: rest)) := by
  obtain ⟨h1, h2⟩ := hi
  subst h2
  exact va_iald (D := E.1) S.1 S.2.1 hw.1 hw.2.1 11 0 rfl rfl h1 hd kk
theorem ml16 {E : mE} {w : MS} {β : Type} {i : Int32} {F : Int32 → Option β} {r : β} (S : CallFix p m c cc nL s args lw_all RX5) (hw : mH E A s w H locs) (hd : decode cc pc = .ok (.iaload, 1)) (h : bd1 (rA w 16 18 i) F = some r) (kk : ∀ v, F v = some r → W p l e R s m args below meth c H locs cells slots Q (F0 m (pc + 1) ls (.int v :: rest))) : W p l e R s m args below meth c H locs cells slots Q (F0 m pc ls (.int i :: .ref (mAr E 16) :: rest)) := by
  obtain ⟨v, h1, h2⟩ := bd1_some h
  obtain ⟨n0, e1⟩ := rA_some h1
  subst e1
  exact mlc16 S hw hd ⟨n0, rfl⟩ (kk _ h2)
theorem msc16 {E : mE} {w : MS} {β : Type} {j : Nat} {i : Int32} {v : Int32} {F : MS → β} {r : β} (S : CallFix p m c cc nL s args lw_all RX5) (hw : mH E A s w H locs) (hd : decode cc pc = .ok (.iastore, 1)) (hi : ¬ (i < 0 ∨ 18 ≤ i.toNatClampNeg) ∧ i.toNatClampNeg = j) (h : bdp (wI w 16 j v) F = r) (kk : ∀ (w1 : MS) (H : Heap) (locs : List Loc), F w1 = r → mH E A s w1 H locs → W p l e R s m args below meth c H locs cells slots Q (F0 m (pc + 1) ls rest)) : W p l e R s m args below meth c H locs cells slots Q (F0 m pc ls (.int v :: .int i :: .ref (mAr E 16) :: rest)) := by
  obtain ⟨h1, h2⟩ := hi
  subst h2
  refine va_iast (D := E.1) S.1 S.2.1 hw.1 hw.2.1 hw.2.2.1 hw.2.2.2 11 0 rfl rfl h1 hd (fun H1 locs1 hP hD hS => ?_)
  exact kk (wI w 16 i.toNatClampNeg v) H1 locs1 h ⟨hw.1, hP, hD, hS⟩
theorem ms16 {E : mE} {w : MS} {β : Type} {i : Int32} {v : Int32} {F : MS → Option β} {r : β} (S : CallFix p m c cc nL s args lw_all RX5) (hw : mH E A s w H locs) (hd : decode cc pc = .ok (.iastore, 1)) (h : bd1 (wA w 16 18 i v) F = some r) (kk : ∀ (w1 : MS) (H : Heap) (locs : List Loc), F w1 = some r → mH E A s w1 H locs → W p l e R s m args below meth c H locs cells slots Q (F0 m (pc + 1) ls rest)) : W p l e R s m args below meth c H locs cells slots Q (F0 m pc ls (.int v :: .int i :: .ref (mAr E 16) :: rest)) := by
  obtain ⟨u, h1, h2⟩ := bd1_some h
  obtain ⟨n0, e1⟩ := wA_some h1
  subst e1
  exact msc16 (F := F) S hw hd ⟨n0, rfl⟩ h2 kk
theorem mlc17 {E : mE} {w : MS} {j : Nat} {i : Int32} (S : CallFix p m c cc nL s args lw_all RX5) (hw : mH E A s w H locs) (hd : decode cc pc = .ok (.iaload, 1)) (hi : ¬ (i < 0 ∨ 18 ≤ i.toNatClampNeg) ∧ i.toNatClampNeg = j) (kk : W p l e R s m args below meth c H locs cells slots Q (F0 m (pc + 1) ls (.int (rI w 17 j) :: rest))) : W p l e R s m args below meth c H locs cells slots Q (F0 m pc ls (.int i :: .ref (mAr E 17) :: rest)) := by
  obtain ⟨h1, h2⟩ := hi
  subst h2
  exact va_iald (D := E.1) S.1 S.2.1 hw.1 hw.2.1 12 0 rfl rfl h1 hd kk
theorem ml17 {E : mE} {w : MS} {β : Type} {i : Int32} {F : Int32 → Option β} {r : β} (S : CallFix p m c cc nL s args lw_all RX5) (hw : mH E A s w H locs) (hd : decode cc pc = .ok (.iaload, 1)) (h : bd1 (rA w 17 18 i) F = some r) (kk : ∀ v, F v = some r → W p l e R s m args below meth c H locs cells slots Q (F0 m (pc + 1) ls (.int v :: rest))) : W p l e R s m args below meth c H locs cells slots Q (F0 m pc ls (.int i :: .ref (mAr E 17) :: rest)) := by
  obtain ⟨v, h1, h2⟩ := bd1_some h
  obtain ⟨n0, e1⟩ := rA_some h1
  subst e1
  exact mlc17 S hw hd ⟨n0, rfl⟩ (kk _ h2)
theorem msc17 {E : mE} {w : MS} {β : Type} {j : Nat} {i : Int32} {v : Int32} {F : MS → β} {r : β} (S : CallFix p m c cc nL s args lw_all RX5) (hw : mH E A s w H locs) (hd : decode cc pc = .ok (.iastore, 1)) (hi : ¬ (i < 0 ∨ 18 ≤ i.toNatClampNeg) ∧ i.toNatClampNeg = j) (h : bdp (wI w 17 j v) F = r) (kk : ∀ (w1 : MS) (H : Heap) (locs : List Loc), F w1 = r → mH E A s w1 H locs → W p l e R s m args below meth c H locs cells slots Q (F0 m (pc + 1) ls rest)) : W p l e R s m args below meth c H locs cells slots Q (F0 m pc ls (.int v :: .int i :: .ref (mAr E 17) :: rest)) := by
  obtain ⟨h1, h2⟩ := hi
  subst h2
  refine va_iast (D := E.1) S.1 S.2.1 hw.1 hw.2.1 hw.2.2.1 hw.2.2.2 12 0 rfl rfl h1 hd (fun H1 locs1 hP hD hS => ?_)
  exact kk (wI w 17 i.toNatClampNeg v) H1 locs1 h ⟨hw.1, hP, hD, hS⟩
theorem ms17 {E : mE} {w : MS} {β : Type} {i : Int32} {v : Int32} {F : MS → Option β} {r : β} (S : CallFix p m c cc nL s args lw_all RX5) (hw : mH E A s w H locs) (hd : decode cc pc = .ok (.iastore, 1)) (h : bd1 (wA w 17 18 i v) F = some r) (kk : ∀ (w1 : MS) (H : Heap) (locs : List Loc), F w1 = some r → mH E A s w1 H locs → W p l e R s m args below meth c H locs cells slots Q (F0 m (pc + 1) ls rest)) : W p l e R s m args below meth c H locs cells slots Q (F0 m pc ls (.int v :: .int i :: .ref (mAr E 17) :: rest)) := by
  obtain ⟨u, h1, h2⟩ := bd1_some h
  obtain ⟨n0, e1⟩ := wA_some h1
  subst e1
  exact msc17 (F := F) S hw hd ⟨n0, rfl⟩ h2 kk
theorem mlc22 {E : mE} {w : MS} {j : Nat} {i : Int32} (S : CallFix p m c cc nL s args lw_all RX5) (hw : mH E A s w H locs) (hd : decode cc pc = .ok (.iaload, 1)) (hi : ¬ (i < 0 ∨ 200 ≤ i.toNatClampNeg) ∧ i.toNatClampNeg = j) (kk : W p l e R s m args below meth c H locs cells slots Q (F0 m (pc + 1) ls (.int (rI w 22 j) :: rest))) : W p l e R s m args below meth c H locs cells slots Q (F0 m pc ls (.int i :: .ref (mAr E 22) :: rest)) := by
  obtain ⟨h1, h2⟩ := hi
  subst h2
  exact va_iald (D := E.1) S.1 S.2.1 hw.1 hw.2.1 13 0 rfl rfl h1 hd kk
theorem ml22 {E : mE} {w : MS} {β : Type} {i : Int32} {F : Int32 → Option β} {r : β} (S : CallFix p m c cc nL s args lw_all RX5) (hw : mH E A s w H locs) (hd : decode cc pc = .ok (.iaload, 1)) (h : bd1 (rA w 22 200 i) F = some r) (kk : ∀ v, F v = some r → W p l e R s m args below meth c H locs cells slots Q (F0 m (pc + 1) ls (.int v :: rest))) : W p l e R s m args below meth c H locs cells slots Q (F0 m pc ls (.int i :: .ref (mAr E 22) :: rest)) := by
  obtain ⟨v, h1, h2⟩ := bd1_some h
  obtain ⟨n0, e1⟩ := rA_some h1
  subst e1
  exact mlc22 S hw hd ⟨n0, rfl⟩ (kk _ h2)
theorem msc22 {E : mE} {w : MS} {β : Type} {j : Nat} {i : Int32} {v : Int32} {F : MS → β} {r : β} (S : CallFix p m c cc nL s args lw_all RX5) (hw : mH E A s w H locs) (hd : decode cc pc = .ok (.iastore, 1)) (hi : ¬ (i < 0 ∨ 200 ≤ i.toNatClampNeg) ∧ i.toNatClampNeg = j) (h : bdp (wI w 22 j v) F = r) (kk : ∀ (w1 : MS) (H : Heap) (locs : List Loc), F w1 = r → mH E A s w1 H locs → W p l e R s m args below meth c H locs cells slots Q (F0 m (pc + 1) ls rest)) : W p l e R s m args below meth c H locs cells slots Q (F0 m pc ls (.int v :: .int i :: .ref (mAr E 22) :: rest)) := by
  obtain ⟨h1, h2⟩ := hi
  subst h2
  refine va_iast (D := E.1) S.1 S.2.1 hw.1 hw.2.1 hw.2.2.1 hw.2.2.2 13 0 rfl rfl h1 hd (fun H1 locs1 hP hD hS => ?_)
  exact kk (wI w 22 i.toNatClampNeg v) H1 locs1 h ⟨hw.1, hP, hD, hS⟩
theorem ms22 {E : mE} {w : MS} {β : Type} {i : Int32} {v : Int32} {F : MS → Option β} {r : β} (S : CallFix p m c cc nL s args lw_all RX5) (hw : mH E A s w H locs) (hd : decode cc pc = .ok (.iastore, 1)) (h : bd1 (wA w 22 200 i v) F = some r) (kk : ∀ (w1 : MS) (H : Heap) (locs : List Loc), F w1 = some r → mH E A s w1 H locs → W p l e R s m args below meth c H locs cells slots Q (F0 m (pc + 1) ls rest)) : W p l e R s m args below meth c H locs cells slots Q (F0 m pc ls (.int v :: .int i :: .ref (mAr E 22) :: rest)) := by
  obtain ⟨u, h1, h2⟩ := bd1_some h
  obtain ⟨n0, e1⟩ := wA_some h1
  subst e1
  exact msc22 (F := F) S hw hd ⟨n0, rfl⟩ h2 kk
theorem mlc23 {E : mE} {w : MS} {j : Nat} {i : Int32} (S : CallFix p m c cc nL s args lw_all RX5) (hw : mH E A s w H locs) (hd : decode cc pc = .ok (.iaload, 1)) (hi : ¬ (i < 0 ∨ 5 ≤ i.toNatClampNeg) ∧ i.toNatClampNeg = j) (kk : W p l e R s m args below meth c H locs cells slots Q (F0 m (pc + 1) ls (.int (rI w 23 j) :: rest))) : W p l e R s m args below meth c H locs cells slots Q (F0 m pc ls (.int i :: .ref (mAr E 23) :: rest)) := by
  obtain ⟨h1, h2⟩ := hi
  subst h2
  exact va_iald (D := E.1) S.1 S.2.1 hw.1 hw.2.1 14 0 rfl rfl h1 hd kk
theorem ml23 {E : mE} {w : MS} {β : Type} {i : Int32} {F : Int32 → Option β} {r : β} (S : CallFix p m c cc nL s args lw_all RX5) (hw : mH E A s w H locs) (hd : decode cc pc = .ok (.iaload, 1)) (h : bd1 (rA w 23 5 i) F = some r) (kk : ∀ v, F v = some r → W p l e R s m args below meth c H locs cells slots Q (F0 m (pc + 1) ls (.int v :: rest))) : W p l e R s m args below meth c H locs cells slots Q (F0 m pc ls (.int i :: .ref (mAr E 23) :: rest)) := by
  obtain ⟨v, h1, h2⟩ := bd1_some h
  obtain ⟨n0, e1⟩ := rA_some h1
  subst e1
  exact mlc23 S hw hd ⟨n0, rfl⟩ (kk _ h2)
theorem msc23 {E : mE} {w : MS} {β : Type} {j : Nat} {i : Int32} {v : Int32} {F : MS → β} {r : β} (S : CallFix p m c cc nL s args lw_all RX5) (hw : mH E A s w H locs) (hd : decode cc pc = .ok (.iastore, 1)) (hi : ¬ (i < 0 ∨ 5 ≤ i.toNatClampNeg) ∧ i.toNatClampNeg = j) (h : bdp (wI w 23 j v) F = r) (kk : ∀ (w1 : MS) (H : Heap) (locs : List Loc), F w1 = r → mH E A s w1 H locs → W p l e R s m args below meth c H locs cells slots Q (F0 m (pc + 1) ls rest)) : W p l e R s m args below meth c H locs cells slots Q (F0 m pc ls (.int v :: .int i :: .ref (mAr E 23) :: rest)) := by
  obtain ⟨h1, h2⟩ := hi
  subst h2
  refine va_iast (D := E.1) S.1 S.2.1 hw.1 hw.2.1 hw.2.2.1 hw.2.2.2 14 0 rfl rfl h1 hd (fun H1 locs1 hP hD hS => ?_)
  exact kk (wI w 23 i.toNatClampNeg v) H1 locs1 h ⟨hw.1, hP, hD, hS⟩
theorem ms23 {E : mE} {w : MS} {β : Type} {i : Int32} {v : Int32} {F : MS → Option β} {r : β} (S : CallFix p m c cc nL s args lw_all RX5) (hw : mH E A s w H locs) (hd : decode cc pc = .ok (.iastore, 1)) (h : bd1 (wA w 23 5 i v) F = some r) (kk : ∀ (w1 : MS) (H : Heap) (locs : List Loc), F w1 = some r → mH E A s w1 H locs → W p l e R s m args below meth c H locs cells slots Q (F0 m (pc + 1) ls rest)) : W p l e R s m args below meth c H locs cells slots Q (F0 m pc ls (.int v :: .int i :: .ref (mAr E 23) :: rest)) := by
  obtain ⟨u, h1, h2⟩ := bd1_some h
  obtain ⟨n0, e1⟩ := wA_some h1
  subst e1
  exact msc23 (F := F) S hw hd ⟨n0, rfl⟩ h2 kk
theorem mlc24 {E : mE} {w : MS} {j : Nat} {i : Int32} (S : CallFix p m c cc nL s args lw_all RX5) (hw : mH E A s w H locs) (hd : decode cc pc = .ok (.iaload, 1)) (hi : ¬ (i < 0 ∨ 1100 ≤ i.toNatClampNeg) ∧ i.toNatClampNeg = j) (kk : W p l e R s m args below meth c H locs cells slots Q (F0 m (pc + 1) ls (.int (rI w 24 j) :: rest))) : W p l e R s m args below meth c H locs cells slots Q (F0 m pc ls (.int i :: .ref (mAr E 24) :: rest)) := by
  obtain ⟨h1, h2⟩ := hi
  subst h2
  exact va_iald (D := E.1) S.1 S.2.1 hw.1 hw.2.1 15 0 rfl rfl h1 hd kk
theorem ml24 {E : mE} {w : MS} {β : Type} {i : Int32} {F : Int32 → Option β} {r : β} (S : CallFix p m c cc nL s args lw_all RX5) (hw : mH E A s w H locs) (hd : decode cc pc = .ok (.iaload, 1)) (h : bd1 (rA w 24 1100 i) F = some r) (kk : ∀ v, F v = some r → W p l e R s m args below meth c H locs cells slots Q (F0 m (pc + 1) ls (.int v :: rest))) : W p l e R s m args below meth c H locs cells slots Q (F0 m pc ls (.int i :: .ref (mAr E 24) :: rest)) := by
  obtain ⟨v, h1, h2⟩ := bd1_some h
  obtain ⟨n0, e1⟩ := rA_some h1
  subst e1
  exact mlc24 S hw hd ⟨n0, rfl⟩ (kk _ h2)
theorem msc24 {E : mE} {w : MS} {β : Type} {j : Nat} {i : Int32} {v : Int32} {F : MS → β} {r : β} (S : CallFix p m c cc nL s args lw_all RX5) (hw : mH E A s w H locs) (hd : decode cc pc = .ok (.iastore, 1)) (hi : ¬ (i < 0 ∨ 1100 ≤ i.toNatClampNeg) ∧ i.toNatClampNeg = j) (h : bdp (wI w 24 j v) F = r) (kk : ∀ (w1 : MS) (H : Heap) (locs : List Loc), F w1 = r → mH E A s w1 H locs → W p l e R s m args below meth c H locs cells slots Q (F0 m (pc + 1) ls rest)) : W p l e R s m args below meth c H locs cells slots Q (F0 m pc ls (.int v :: .int i :: .ref (mAr E 24) :: rest)) := by
  obtain ⟨h1, h2⟩ := hi
  subst h2
  refine va_iast (D := E.1) S.1 S.2.1 hw.1 hw.2.1 hw.2.2.1 hw.2.2.2 15 0 rfl rfl h1 hd (fun H1 locs1 hP hD hS => ?_)
  exact kk (wI w 24 i.toNatClampNeg v) H1 locs1 h ⟨hw.1, hP, hD, hS⟩
theorem ms24 {E : mE} {w : MS} {β : Type} {i : Int32} {v : Int32} {F : MS → Option β} {r : β} (S : CallFix p m c cc nL s args lw_all RX5) (hw : mH E A s w H locs) (hd : decode cc pc = .ok (.iastore, 1)) (h : bd1 (wA w 24 1100 i v) F = some r) (kk : ∀ (w1 : MS) (H : Heap) (locs : List Loc), F w1 = some r → mH E A s w1 H locs → W p l e R s m args below meth c H locs cells slots Q (F0 m (pc + 1) ls rest)) : W p l e R s m args below meth c H locs cells slots Q (F0 m pc ls (.int v :: .int i :: .ref (mAr E 24) :: rest)) := by
  obtain ⟨u, h1, h2⟩ := bd1_some h
  obtain ⟨n0, e1⟩ := wA_some h1
  subst e1
  exact msc24 (F := F) S hw hd ⟨n0, rfl⟩ h2 kk
theorem mlc25 {E : mE} {w : MS} {j : Nat} {i : Int32} (S : CallFix p m c cc nL s args lw_all RX5) (hw : mH E A s w H locs) (hd : decode cc pc = .ok (.iaload, 1)) (hi : ¬ (i < 0 ∨ 1288 ≤ i.toNatClampNeg) ∧ i.toNatClampNeg = j) (kk : W p l e R s m args below meth c H locs cells slots Q (F0 m (pc + 1) ls (.int (rI w 25 j) :: rest))) : W p l e R s m args below meth c H locs cells slots Q (F0 m pc ls (.int i :: .ref (mAr E 25) :: rest)) := by
  obtain ⟨h1, h2⟩ := hi
  subst h2
  exact va_iald (D := E.1) S.1 S.2.1 hw.1 hw.2.1 16 0 rfl rfl h1 hd kk
theorem ml25 {E : mE} {w : MS} {β : Type} {i : Int32} {F : Int32 → Option β} {r : β} (S : CallFix p m c cc nL s args lw_all RX5) (hw : mH E A s w H locs) (hd : decode cc pc = .ok (.iaload, 1)) (h : bd1 (rA w 25 1288 i) F = some r) (kk : ∀ v, F v = some r → W p l e R s m args below meth c H locs cells slots Q (F0 m (pc + 1) ls (.int v :: rest))) : W p l e R s m args below meth c H locs cells slots Q (F0 m pc ls (.int i :: .ref (mAr E 25) :: rest)) := by
  obtain ⟨v, h1, h2⟩ := bd1_some h
  obtain ⟨n0, e1⟩ := rA_some h1
  subst e1
  exact mlc25 S hw hd ⟨n0, rfl⟩ (kk _ h2)
theorem msc25 {E : mE} {w : MS} {β : Type} {j : Nat} {i : Int32} {v : Int32} {F : MS → β} {r : β} (S : CallFix p m c cc nL s args lw_all RX5) (hw : mH E A s w H locs) (hd : decode cc pc = .ok (.iastore, 1)) (hi : ¬ (i < 0 ∨ 1288 ≤ i.toNatClampNeg) ∧ i.toNatClampNeg = j) (h : bdp (wI w 25 j v) F = r) (kk : ∀ (w1 : MS) (H : Heap) (locs : List Loc), F w1 = r → mH E A s w1 H locs → W p l e R s m args below meth c H locs cells slots Q (F0 m (pc + 1) ls rest)) : W p l e R s m args below meth c H locs cells slots Q (F0 m pc ls (.int v :: .int i :: .ref (mAr E 25) :: rest)) := by
  obtain ⟨h1, h2⟩ := hi
  subst h2
  refine va_iast (D := E.1) S.1 S.2.1 hw.1 hw.2.1 hw.2.2.1 hw.2.2.2 16 0 rfl rfl h1 hd (fun H1 locs1 hP hD hS => ?_)
  exact kk (wI w 25 i.toNatClampNeg v) H1 locs1 h ⟨hw.1, hP, hD, hS⟩
theorem ms25 {E : mE} {w : MS} {β : Type} {i : Int32} {v : Int32} {F : MS → Option β} {r : β} (S : CallFix p m c cc nL s args lw_all RX5) (hw : mH E A s w H locs) (hd : decode cc pc = .ok (.iastore, 1)) (h : bd1 (wA w 25 1288 i v) F = some r) (kk : ∀ (w1 : MS) (H : Heap) (locs : List Loc), F w1 = some r → mH E A s w1 H locs → W p l e R s m args below meth c H locs cells slots Q (F0 m (pc + 1) ls rest)) : W p l e R s m args below meth c H locs cells slots Q (F0 m pc ls (.int v :: .int i :: .ref (mAr E 25) :: rest)) := by
  obtain ⟨u, h1, h2⟩ := bd1_some h
  obtain ⟨n0, e1⟩ := wA_some h1
  subst e1
  exact msc25 (F := F) S hw hd ⟨n0, rfl⟩ h2 kk
theorem mlc27 {E : mE} {w : MS} {j : Nat} {i : Int32} (S : CallFix p m c cc nL s args lw_all RX5) (hw : mH E A s w H locs) (hd : decode cc pc = .ok (.baload, 1)) (hi : ¬ (i < 0 ∨ 4 ≤ i.toNatClampNeg) ∧ i.toNatClampNeg = j) (kk : W p l e R s m args below meth c H locs cells slots Q (F0 m (pc + 1) ls (.int (rI w 27 j) :: rest))) : W p l e R s m args below meth c H locs cells slots Q (F0 m pc ls (.int i :: .ref (mAr E 27) :: rest)) := by
  obtain ⟨h1, h2⟩ := hi
  subst h2
  exact va_zald (D := E.1) S.1 S.2.1 hw.1 hw.2.1 17 2 rfl rfl h1 hd kk
theorem ml27 {E : mE} {w : MS} {β : Type} {i : Int32} {F : Int32 → Option β} {r : β} (S : CallFix p m c cc nL s args lw_all RX5) (hw : mH E A s w H locs) (hd : decode cc pc = .ok (.baload, 1)) (h : bd1 (rA w 27 4 i) F = some r) (kk : ∀ v, F v = some r → W p l e R s m args below meth c H locs cells slots Q (F0 m (pc + 1) ls (.int v :: rest))) : W p l e R s m args below meth c H locs cells slots Q (F0 m pc ls (.int i :: .ref (mAr E 27) :: rest)) := by
  obtain ⟨v, h1, h2⟩ := bd1_some h
  obtain ⟨n0, e1⟩ := rA_some h1
  subst e1
  exact mlc27 S hw hd ⟨n0, rfl⟩ (kk _ h2)
theorem msc27 {E : mE} {w : MS} {β : Type} {j : Nat} {i : Int32} {v : Int32} {F : MS → β} {r : β} (S : CallFix p m c cc nL s args lw_all RX5) (hw : mH E A s w H locs) (hd : decode cc pc = .ok (.bastore, 1)) (hi : ¬ (i < 0 ∨ 4 ≤ i.toNatClampNeg) ∧ i.toNatClampNeg = j) (hz : vp_nar .boolean v = v) (h : bdp (wI w 27 j v) F = r) (kk : ∀ (w1 : MS) (H : Heap) (locs : List Loc), F w1 = r → mH E A s w1 H locs → W p l e R s m args below meth c H locs cells slots Q (F0 m (pc + 1) ls rest)) : W p l e R s m args below meth c H locs cells slots Q (F0 m pc ls (.int v :: .int i :: .ref (mAr E 27) :: rest)) := by
  obtain ⟨h1, h2⟩ := hi
  subst h2
  refine va_zast (D := E.1) S.1 S.2.1 hw.1 hw.2.1 hw.2.2.1 hw.2.2.2 17 2 rfl rfl h1 hd (fun H1 locs1 hP hD hS => ?_)
  rw [hz] at hP hD; exact kk (wI w 27 i.toNatClampNeg v) H1 locs1 h ⟨hw.1, hP, hD, hS⟩
theorem ms27 {E : mE} {w : MS} {β : Type} {i : Int32} {v : Int32} {F : MS → Option β} {r : β} (S : CallFix p m c cc nL s args lw_all RX5) (hw : mH E A s w H locs) (hd : decode cc pc = .ok (.bastore, 1)) (hz : vp_nar .boolean v = v) (h : bd1 (wA w 27 4 i v) F = some r) (kk : ∀ (w1 : MS) (H : Heap) (locs : List Loc), F w1 = some r → mH E A s w1 H locs → W p l e R s m args below meth c H locs cells slots Q (F0 m (pc + 1) ls rest)) : W p l e R s m args below meth c H locs cells slots Q (F0 m pc ls (.int v :: .int i :: .ref (mAr E 27) :: rest)) := by
  obtain ⟨u, h1, h2⟩ := bd1_some h
  obtain ⟨n0, e1⟩ := wA_some h1
  subst e1
  exact msc27 (F := F) S hw hd ⟨n0, rfl⟩ hz h2 kk
theorem mlc29 {E : mE} {w : MS} {j : Nat} {i : Int32} (S : CallFix p m c cc nL s args lw_all RX5) (hw : mH E A s w H locs) (hd : decode cc pc = .ok (.iaload, 1)) (hi : ¬ (i < 0 ∨ 6 ≤ i.toNatClampNeg) ∧ i.toNatClampNeg = j) (kk : W p l e R s m args below meth c H locs cells slots Q (F0 m (pc + 1) ls (.int (rI w 29 j) :: rest))) : W p l e R s m args below meth c H locs cells slots Q (F0 m pc ls (.int i :: .ref (mAr E 29) :: rest)) := by
  obtain ⟨h1, h2⟩ := hi
  subst h2
  exact va_iald (D := E.1) S.1 S.2.1 hw.1 hw.2.1 18 0 rfl rfl h1 hd kk
theorem ml29 {E : mE} {w : MS} {β : Type} {i : Int32} {F : Int32 → Option β} {r : β} (S : CallFix p m c cc nL s args lw_all RX5) (hw : mH E A s w H locs) (hd : decode cc pc = .ok (.iaload, 1)) (h : bd1 (rA w 29 6 i) F = some r) (kk : ∀ v, F v = some r → W p l e R s m args below meth c H locs cells slots Q (F0 m (pc + 1) ls (.int v :: rest))) : W p l e R s m args below meth c H locs cells slots Q (F0 m pc ls (.int i :: .ref (mAr E 29) :: rest)) := by
  obtain ⟨v, h1, h2⟩ := bd1_some h
  obtain ⟨n0, e1⟩ := rA_some h1
  subst e1
  exact mlc29 S hw hd ⟨n0, rfl⟩ (kk _ h2)
theorem msc29 {E : mE} {w : MS} {β : Type} {j : Nat} {i : Int32} {v : Int32} {F : MS → β} {r : β} (S : CallFix p m c cc nL s args lw_all RX5) (hw : mH E A s w H locs) (hd : decode cc pc = .ok (.iastore, 1)) (hi : ¬ (i < 0 ∨ 6 ≤ i.toNatClampNeg) ∧ i.toNatClampNeg = j) (h : bdp (wI w 29 j v) F = r) (kk : ∀ (w1 : MS) (H : Heap) (locs : List Loc), F w1 = r → mH E A s w1 H locs → W p l e R s m args below meth c H locs cells slots Q (F0 m (pc + 1) ls rest)) : W p l e R s m args below meth c H locs cells slots Q (F0 m pc ls (.int v :: .int i :: .ref (mAr E 29) :: rest)) := by
  obtain ⟨h1, h2⟩ := hi
  subst h2
  refine va_iast (D := E.1) S.1 S.2.1 hw.1 hw.2.1 hw.2.2.1 hw.2.2.2 18 0 rfl rfl h1 hd (fun H1 locs1 hP hD hS => ?_)
  exact kk (wI w 29 i.toNatClampNeg v) H1 locs1 h ⟨hw.1, hP, hD, hS⟩
theorem ms29 {E : mE} {w : MS} {β : Type} {i : Int32} {v : Int32} {F : MS → Option β} {r : β} (S : CallFix p m c cc nL s args lw_all RX5) (hw : mH E A s w H locs) (hd : decode cc pc = .ok (.iastore, 1)) (h : bd1 (wA w 29 6 i v) F = some r) (kk : ∀ (w1 : MS) (H : Heap) (locs : List Loc), F w1 = some r → mH E A s w1 H locs → W p l e R s m args below meth c H locs cells slots Q (F0 m (pc + 1) ls rest)) : W p l e R s m args below meth c H locs cells slots Q (F0 m pc ls (.int v :: .int i :: .ref (mAr E 29) :: rest)) := by
  obtain ⟨u, h1, h2⟩ := bd1_some h
  obtain ⟨n0, e1⟩ := wA_some h1
  subst e1
  exact msc29 (F := F) S hw hd ⟨n0, rfl⟩ h2 kk
theorem mlc30 {E : mE} {w : MS} {j : Nat} {i : Int32} (S : CallFix p m c cc nL s args lw_all RX5) (hw : mH E A s w H locs) (hd : decode cc pc = .ok (.iaload, 1)) (hi : ¬ (i < 0 ∨ 6 ≤ i.toNatClampNeg) ∧ i.toNatClampNeg = j) (kk : W p l e R s m args below meth c H locs cells slots Q (F0 m (pc + 1) ls (.int (rI w 30 j) :: rest))) : W p l e R s m args below meth c H locs cells slots Q (F0 m pc ls (.int i :: .ref (mAr E 30) :: rest)) := by
  obtain ⟨h1, h2⟩ := hi
  subst h2
  exact va_iald (D := E.1) S.1 S.2.1 hw.1 hw.2.1 19 0 rfl rfl h1 hd kk
theorem ml30 {E : mE} {w : MS} {β : Type} {i : Int32} {F : Int32 → Option β} {r : β} (S : CallFix p m c cc nL s args lw_all RX5) (hw : mH E A s w H locs) (hd : decode cc pc = .ok (.iaload, 1)) (h : bd1 (rA w 30 6 i) F = some r) (kk : ∀ v, F v = some r → W p l e R s m args below meth c H locs cells slots Q (F0 m (pc + 1) ls (.int v :: rest))) : W p l e R s m args below meth c H locs cells slots Q (F0 m pc ls (.int i :: .ref (mAr E 30) :: rest)) := by
  obtain ⟨v, h1, h2⟩ := bd1_some h
  obtain ⟨n0, e1⟩ := rA_some h1
  subst e1
  exact mlc30 S hw hd ⟨n0, rfl⟩ (kk _ h2)
theorem msc30 {E : mE} {w : MS} {β : Type} {j : Nat} {i : Int32} {v : Int32} {F : MS → β} {r : β} (S : CallFix p m c cc nL s args lw_all RX5) (hw : mH E A s w H locs) (hd : decode cc pc = .ok (.iastore, 1)) (hi : ¬ (i < 0 ∨ 6 ≤ i.toNatClampNeg) ∧ i.toNatClampNeg = j) (h : bdp (wI w 30 j v) F = r) (kk : ∀ (w1 : MS) (H : Heap) (locs : List Loc), F w1 = r → mH E A s w1 H locs → W p l e R s m args below meth c H locs cells slots Q (F0 m (pc + 1) ls rest)) : W p l e R s m args below meth c H locs cells slots Q (F0 m pc ls (.int v :: .int i :: .ref (mAr E 30) :: rest)) := by
  obtain ⟨h1, h2⟩ := hi
  subst h2
  refine va_iast (D := E.1) S.1 S.2.1 hw.1 hw.2.1 hw.2.2.1 hw.2.2.2 19 0 rfl rfl h1 hd (fun H1 locs1 hP hD hS => ?_)
  exact kk (wI w 30 i.toNatClampNeg v) H1 locs1 h ⟨hw.1, hP, hD, hS⟩
theorem ms30 {E : mE} {w : MS} {β : Type} {i : Int32} {v : Int32} {F : MS → Option β} {r : β} (S : CallFix p m c cc nL s args lw_all RX5) (hw : mH E A s w H locs) (hd : decode cc pc = .ok (.iastore, 1)) (h : bd1 (wA w 30 6 i v) F = some r) (kk : ∀ (w1 : MS) (H : Heap) (locs : List Loc), F w1 = some r → mH E A s w1 H locs → W p l e R s m args below meth c H locs cells slots Q (F0 m (pc + 1) ls rest)) : W p l e R s m args below meth c H locs cells slots Q (F0 m pc ls (.int v :: .int i :: .ref (mAr E 30) :: rest)) := by
  obtain ⟨u, h1, h2⟩ := bd1_some h
  obtain ⟨n0, e1⟩ := wA_some h1
  subst e1
  exact msc30 (F := F) S hw hd ⟨n0, rfl⟩ h2 kk
theorem mlc32 {E : mE} {w : MS} {j : Nat} {i : Int32} (S : CallFix p m c cc nL s args lw_all RX5) (hw : mH E A s w H locs) (hd : decode cc pc = .ok (.iaload, 1)) (hi : ¬ (i < 0 ∨ 36 ≤ i.toNatClampNeg) ∧ i.toNatClampNeg = j) (kk : W p l e R s m args below meth c H locs cells slots Q (F0 m (pc + 1) ls (.int (rI w 32 j) :: rest))) : W p l e R s m args below meth c H locs cells slots Q (F0 m pc ls (.int i :: .ref (mAr E 32) :: rest)) := by
  obtain ⟨h1, h2⟩ := hi
  subst h2
  exact va_iald (D := E.1) S.1 S.2.1 hw.1 hw.2.1 20 0 rfl rfl h1 hd kk
theorem ml32 {E : mE} {w : MS} {β : Type} {i : Int32} {F : Int32 → Option β} {r : β} (S : CallFix p m c cc nL s args lw_all RX5) (hw : mH E A s w H locs) (hd : decode cc pc = .ok (.iaload, 1)) (h : bd1 (rA w 32 36 i) F = some r) (kk : ∀ v, F v = some r → W p l e R s m args below meth c H locs cells slots Q (F0 m (pc + 1) ls (.int v :: rest))) : W p l e R s m args below meth c H locs cells slots Q (F0 m pc ls (.int i :: .ref (mAr E 32) :: rest)) := by
  obtain ⟨v, h1, h2⟩ := bd1_some h
  obtain ⟨n0, e1⟩ := rA_some h1
  subst e1
  exact mlc32 S hw hd ⟨n0, rfl⟩ (kk _ h2)
theorem msc32 {E : mE} {w : MS} {β : Type} {j : Nat} {i : Int32} {v : Int32} {F : MS → β} {r : β} (S : CallFix p m c cc nL s args lw_all RX5) (hw : mH E A s w H locs) (hd : decode cc pc = .ok (.iastore, 1)) (hi : ¬ (i < 0 ∨ 36 ≤ i.toNatClampNeg) ∧ i.toNatClampNeg = j) (h : bdp (wI w 32 j v) F = r) (kk : ∀ (w1 : MS) (H : Heap) (locs : List Loc), F w1 = r → mH E A s w1 H locs → W p l e R s m args below meth c H locs cells slots Q (F0 m (pc + 1) ls rest)) : W p l e R s m args below meth c H locs cells slots Q (F0 m pc ls (.int v :: .int i :: .ref (mAr E 32) :: rest)) := by
  obtain ⟨h1, h2⟩ := hi
  subst h2
  refine va_iast (D := E.1) S.1 S.2.1 hw.1 hw.2.1 hw.2.2.1 hw.2.2.2 20 0 rfl rfl h1 hd (fun H1 locs1 hP hD hS => ?_)
  exact kk (wI w 32 i.toNatClampNeg v) H1 locs1 h ⟨hw.1, hP, hD, hS⟩
theorem ms32 {E : mE} {w : MS} {β : Type} {i : Int32} {v : Int32} {F : MS → Option β} {r : β} (S : CallFix p m c cc nL s args lw_all RX5) (hw : mH E A s w H locs) (hd : decode cc pc = .ok (.iastore, 1)) (h : bd1 (wA w 32 36 i v) F = some r) (kk : ∀ (w1 : MS) (H : Heap) (locs : List Loc), F w1 = some r → mH E A s w1 H locs → W p l e R s m args below meth c H locs cells slots Q (F0 m (pc + 1) ls rest)) : W p l e R s m args below meth c H locs cells slots Q (F0 m pc ls (.int v :: .int i :: .ref (mAr E 32) :: rest)) := by
  obtain ⟨u, h1, h2⟩ := bd1_some h
  obtain ⟨n0, e1⟩ := wA_some h1
  subst e1
  exact msc32 (F := F) S hw hd ⟨n0, rfl⟩ h2 kk
theorem mlc33 {E : mE} {w : MS} {j : Nat} {i : Int32} (S : CallFix p m c cc nL s args lw_all RX5) (hw : mH E A s w H locs) (hd : decode cc pc = .ok (.iaload, 1)) (hi : ¬ (i < 0 ∨ 6 ≤ i.toNatClampNeg) ∧ i.toNatClampNeg = j) (kk : W p l e R s m args below meth c H locs cells slots Q (F0 m (pc + 1) ls (.int (rI w 33 j) :: rest))) : W p l e R s m args below meth c H locs cells slots Q (F0 m pc ls (.int i :: .ref (mAr E 33) :: rest)) := by
  obtain ⟨h1, h2⟩ := hi
  subst h2
  exact va_iald (D := E.1) S.1 S.2.1 hw.1 hw.2.1 21 0 rfl rfl h1 hd kk
theorem ml33 {E : mE} {w : MS} {β : Type} {i : Int32} {F : Int32 → Option β} {r : β} (S : CallFix p m c cc nL s args lw_all RX5) (hw : mH E A s w H locs) (hd : decode cc pc = .ok (.iaload, 1)) (h : bd1 (rA w 33 6 i) F = some r) (kk : ∀ v, F v = some r → W p l e R s m args below meth c H locs cells slots Q (F0 m (pc + 1) ls (.int v :: rest))) : W p l e R s m args below meth c H locs cells slots Q (F0 m pc ls (.int i :: .ref (mAr E 33) :: rest)) := by
  obtain ⟨v, h1, h2⟩ := bd1_some h
  obtain ⟨n0, e1⟩ := rA_some h1
  subst e1
  exact mlc33 S hw hd ⟨n0, rfl⟩ (kk _ h2)
theorem msc33 {E : mE} {w : MS} {β : Type} {j : Nat} {i : Int32} {v : Int32} {F : MS → β} {r : β} (S : CallFix p m c cc nL s args lw_all RX5) (hw : mH E A s w H locs) (hd : decode cc pc = .ok (.iastore, 1)) (hi : ¬ (i < 0 ∨ 6 ≤ i.toNatClampNeg) ∧ i.toNatClampNeg = j) (h : bdp (wI w 33 j v) F = r) (kk : ∀ (w1 : MS) (H : Heap) (locs : List Loc), F w1 = r → mH E A s w1 H locs → W p l e R s m args below meth c H locs cells slots Q (F0 m (pc + 1) ls rest)) : W p l e R s m args below meth c H locs cells slots Q (F0 m pc ls (.int v :: .int i :: .ref (mAr E 33) :: rest)) := by
  obtain ⟨h1, h2⟩ := hi
  subst h2
  refine va_iast (D := E.1) S.1 S.2.1 hw.1 hw.2.1 hw.2.2.1 hw.2.2.2 21 0 rfl rfl h1 hd (fun H1 locs1 hP hD hS => ?_)
  exact kk (wI w 33 i.toNatClampNeg v) H1 locs1 h ⟨hw.1, hP, hD, hS⟩
theorem ms33 {E : mE} {w : MS} {β : Type} {i : Int32} {v : Int32} {F : MS → Option β} {r : β} (S : CallFix p m c cc nL s args lw_all RX5) (hw : mH E A s w H locs) (hd : decode cc pc = .ok (.iastore, 1)) (h : bd1 (wA w 33 6 i v) F = some r) (kk : ∀ (w1 : MS) (H : Heap) (locs : List Loc), F w1 = some r → mH E A s w1 H locs → W p l e R s m args below meth c H locs cells slots Q (F0 m (pc + 1) ls rest)) : W p l e R s m args below meth c H locs cells slots Q (F0 m pc ls (.int v :: .int i :: .ref (mAr E 33) :: rest)) := by
  obtain ⟨u, h1, h2⟩ := bd1_some h
  obtain ⟨n0, e1⟩ := wA_some h1
  subst e1
  exact msc33 (F := F) S hw hd ⟨n0, rfl⟩ h2 kk
theorem mlc34 {E : mE} {w : MS} {j : Nat} {i : Int32} (S : CallFix p m c cc nL s args lw_all RX5) (hw : mH E A s w H locs) (hd : decode cc pc = .ok (.iaload, 1)) (hi : ¬ (i < 0 ∨ 6 ≤ i.toNatClampNeg) ∧ i.toNatClampNeg = j) (kk : W p l e R s m args below meth c H locs cells slots Q (F0 m (pc + 1) ls (.int (rI w 34 j) :: rest))) : W p l e R s m args below meth c H locs cells slots Q (F0 m pc ls (.int i :: .ref (mAr E 34) :: rest)) := by
  obtain ⟨h1, h2⟩ := hi
  subst h2
  exact va_iald (D := E.1) S.1 S.2.1 hw.1 hw.2.1 22 0 rfl rfl h1 hd kk
theorem ml34 {E : mE} {w : MS} {β : Type} {i : Int32} {F : Int32 → Option β} {r : β} (S : CallFix p m c cc nL s args lw_all RX5) (hw : mH E A s w H locs) (hd : decode cc pc = .ok (.iaload, 1)) (h : bd1 (rA w 34 6 i) F = some r) (kk : ∀ v, F v = some r → W p l e R s m args below meth c H locs cells slots Q (F0 m (pc + 1) ls (.int v :: rest))) : W p l e R s m args below meth c H locs cells slots Q (F0 m pc ls (.int i :: .ref (mAr E 34) :: rest)) := by
  obtain ⟨v, h1, h2⟩ := bd1_some h
  obtain ⟨n0, e1⟩ := rA_some h1
  subst e1
  exact mlc34 S hw hd ⟨n0, rfl⟩ (kk _ h2)
theorem msc34 {E : mE} {w : MS} {β : Type} {j : Nat} {i : Int32} {v : Int32} {F : MS → β} {r : β} (S : CallFix p m c cc nL s args lw_all RX5) (hw : mH E A s w H locs) (hd : decode cc pc = .ok (.iastore, 1)) (hi : ¬ (i < 0 ∨ 6 ≤ i.toNatClampNeg) ∧ i.toNatClampNeg = j) (h : bdp (wI w 34 j v) F = r) (kk : ∀ (w1 : MS) (H : Heap) (locs : List Loc), F w1 = r → mH E A s w1 H locs → W p l e R s m args below meth c H locs cells slots Q (F0 m (pc + 1) ls rest)) : W p l e R s m args below meth c H locs cells slots Q (F0 m pc ls (.int v :: .int i :: .ref (mAr E 34) :: rest)) := by
  obtain ⟨h1, h2⟩ := hi
  subst h2
  refine va_iast (D := E.1) S.1 S.2.1 hw.1 hw.2.1 hw.2.2.1 hw.2.2.2 22 0 rfl rfl h1 hd (fun H1 locs1 hP hD hS => ?_)
  exact kk (wI w 34 i.toNatClampNeg v) H1 locs1 h ⟨hw.1, hP, hD, hS⟩
theorem ms34 {E : mE} {w : MS} {β : Type} {i : Int32} {v : Int32} {F : MS → Option β} {r : β} (S : CallFix p m c cc nL s args lw_all RX5) (hw : mH E A s w H locs) (hd : decode cc pc = .ok (.iastore, 1)) (h : bd1 (wA w 34 6 i v) F = some r) (kk : ∀ (w1 : MS) (H : Heap) (locs : List Loc), F w1 = some r → mH E A s w1 H locs → W p l e R s m args below meth c H locs cells slots Q (F0 m (pc + 1) ls rest)) : W p l e R s m args below meth c H locs cells slots Q (F0 m pc ls (.int v :: .int i :: .ref (mAr E 34) :: rest)) := by
  obtain ⟨u, h1, h2⟩ := bd1_some h
  obtain ⟨n0, e1⟩ := wA_some h1
  subst e1
  exact msc34 (F := F) S hw hd ⟨n0, rfl⟩ h2 kk
theorem mlc35 {E : mE} {w : MS} {j : Nat} {i : Int32} (S : CallFix p m c cc nL s args lw_all RX5) (hw : mH E A s w H locs) (hd : decode cc pc = .ok (.iaload, 1)) (hi : ¬ (i < 0 ∨ 6 ≤ i.toNatClampNeg) ∧ i.toNatClampNeg = j) (kk : W p l e R s m args below meth c H locs cells slots Q (F0 m (pc + 1) ls (.int (rI w 35 j) :: rest))) : W p l e R s m args below meth c H locs cells slots Q (F0 m pc ls (.int i :: .ref (mAr E 35) :: rest)) := by
  obtain ⟨h1, h2⟩ := hi
  subst h2
  exact va_iald (D := E.1) S.1 S.2.1 hw.1 hw.2.1 23 0 rfl rfl h1 hd kk
theorem ml35 {E : mE} {w : MS} {β : Type} {i : Int32} {F : Int32 → Option β} {r : β} (S : CallFix p m c cc nL s args lw_all RX5) (hw : mH E A s w H locs) (hd : decode cc pc = .ok (.iaload, 1)) (h : bd1 (rA w 35 6 i) F = some r) (kk : ∀ v, F v = some r → W p l e R s m args below meth c H locs cells slots Q (F0 m (pc + 1) ls (.int v :: rest))) : W p l e R s m args below meth c H locs cells slots Q (F0 m pc ls (.int i :: .ref (mAr E 35) :: rest)) := by
  obtain ⟨v, h1, h2⟩ := bd1_some h
  obtain ⟨n0, e1⟩ := rA_some h1
  subst e1
  exact mlc35 S hw hd ⟨n0, rfl⟩ (kk _ h2)
theorem msc35 {E : mE} {w : MS} {β : Type} {j : Nat} {i : Int32} {v : Int32} {F : MS → β} {r : β} (S : CallFix p m c cc nL s args lw_all RX5) (hw : mH E A s w H locs) (hd : decode cc pc = .ok (.iastore, 1)) (hi : ¬ (i < 0 ∨ 6 ≤ i.toNatClampNeg) ∧ i.toNatClampNeg = j) (h : bdp (wI w 35 j v) F = r) (kk : ∀ (w1 : MS) (H : Heap) (locs : List Loc), F w1 = r → mH E A s w1 H locs → W p l e R s m args below meth c H locs cells slots Q (F0 m (pc + 1) ls rest)) : W p l e R s m args below meth c H locs cells slots Q (F0 m pc ls (.int v :: .int i :: .ref (mAr E 35) :: rest)) := by
  obtain ⟨h1, h2⟩ := hi
  subst h2
  refine va_iast (D := E.1) S.1 S.2.1 hw.1 hw.2.1 hw.2.2.1 hw.2.2.2 23 0 rfl rfl h1 hd (fun H1 locs1 hP hD hS => ?_)
  exact kk (wI w 35 i.toNatClampNeg v) H1 locs1 h ⟨hw.1, hP, hD, hS⟩
theorem ms35 {E : mE} {w : MS} {β : Type} {i : Int32} {v : Int32} {F : MS → Option β} {r : β} (S : CallFix p m c cc nL s args lw_all RX5) (hw : mH E A s w H locs) (hd : decode cc pc = .ok (.iastore, 1)) (h : bd1 (wA w 35 6 i v) F = some r) (kk : ∀ (w1 : MS) (H : Heap) (locs : List Loc), F w1 = some r → mH E A s w1 H locs → W p l e R s m args below meth c H locs cells slots Q (F0 m (pc + 1) ls rest)) : W p l e R s m args below meth c H locs cells slots Q (F0 m pc ls (.int v :: .int i :: .ref (mAr E 35) :: rest)) := by
  obtain ⟨u, h1, h2⟩ := bd1_some h
  obtain ⟨n0, e1⟩ := wA_some h1
  subst e1
  exact msc35 (F := F) S hw hd ⟨n0, rfl⟩ h2 kk
theorem mlc36 {E : mE} {w : MS} {j : Nat} {i : Int32} (S : CallFix p m c cc nL s args lw_all RX5) (hw : mH E A s w H locs) (hd : decode cc pc = .ok (.iaload, 1)) (hi : ¬ (i < 0 ∨ 1446 ≤ i.toNatClampNeg) ∧ i.toNatClampNeg = j) (kk : W p l e R s m args below meth c H locs cells slots Q (F0 m (pc + 1) ls (.int (rI w 36 j) :: rest))) : W p l e R s m args below meth c H locs cells slots Q (F0 m pc ls (.int i :: .ref (mAr E 36) :: rest)) := by
  obtain ⟨h1, h2⟩ := hi
  subst h2
  exact va_iald (D := E.1) S.1 S.2.1 hw.1 hw.2.1 24 0 rfl rfl h1 hd kk
theorem ml36 {E : mE} {w : MS} {β : Type} {i : Int32} {F : Int32 → Option β} {r : β} (S : CallFix p m c cc nL s args lw_all RX5) (hw : mH E A s w H locs) (hd : decode cc pc = .ok (.iaload, 1)) (h : bd1 (rA w 36 1446 i) F = some r) (kk : ∀ v, F v = some r → W p l e R s m args below meth c H locs cells slots Q (F0 m (pc + 1) ls (.int v :: rest))) : W p l e R s m args below meth c H locs cells slots Q (F0 m pc ls (.int i :: .ref (mAr E 36) :: rest)) := by
  obtain ⟨v, h1, h2⟩ := bd1_some h
  obtain ⟨n0, e1⟩ := rA_some h1
  subst e1
  exact mlc36 S hw hd ⟨n0, rfl⟩ (kk _ h2)
theorem msc36 {E : mE} {w : MS} {β : Type} {j : Nat} {i : Int32} {v : Int32} {F : MS → β} {r : β} (S : CallFix p m c cc nL s args lw_all RX5) (hw : mH E A s w H locs) (hd : decode cc pc = .ok (.iastore, 1)) (hi : ¬ (i < 0 ∨ 1446 ≤ i.toNatClampNeg) ∧ i.toNatClampNeg = j) (h : bdp (wI w 36 j v) F = r) (kk : ∀ (w1 : MS) (H : Heap) (locs : List Loc), F w1 = r → mH E A s w1 H locs → W p l e R s m args below meth c H locs cells slots Q (F0 m (pc + 1) ls rest)) : W p l e R s m args below meth c H locs cells slots Q (F0 m pc ls (.int v :: .int i :: .ref (mAr E 36) :: rest)) := by
  obtain ⟨h1, h2⟩ := hi
  subst h2
  refine va_iast (D := E.1) S.1 S.2.1 hw.1 hw.2.1 hw.2.2.1 hw.2.2.2 24 0 rfl rfl h1 hd (fun H1 locs1 hP hD hS => ?_)
  exact kk (wI w 36 i.toNatClampNeg v) H1 locs1 h ⟨hw.1, hP, hD, hS⟩
theorem ms36 {E : mE} {w : MS} {β : Type} {i : Int32} {v : Int32} {F : MS → Option β} {r : β} (S : CallFix p m c cc nL s args lw_all RX5) (hw : mH E A s w H locs) (hd : decode cc pc = .ok (.iastore, 1)) (h : bd1 (wA w 36 1446 i v) F = some r) (kk : ∀ (w1 : MS) (H : Heap) (locs : List Loc), F w1 = some r → mH E A s w1 H locs → W p l e R s m args below meth c H locs cells slots Q (F0 m (pc + 1) ls rest)) : W p l e R s m args below meth c H locs cells slots Q (F0 m pc ls (.int v :: .int i :: .ref (mAr E 36) :: rest)) := by
  obtain ⟨u, h1, h2⟩ := bd1_some h
  obtain ⟨n0, e1⟩ := wA_some h1
  subst e1
  exact msc36 (F := F) S hw hd ⟨n0, rfl⟩ h2 kk
theorem m_iret {E : mE} {w w1 : MS} {v r : Int32} (S : CallFix p m c cc nL s args lw_all RX5) (hr : meth.sig.returnType = some .int) (hlocks : meth.locks = false) (hw : mH E A s w H locs) (hq : v = r ∧ w = w1) (hd : decode cc pc = .ok (.ireturn, 1)) : W p l e R s m args below meth c H locs 0 0 (MQ below (mQi E A r w1) args s 0 0 A) (F0 m pc ls [.int v]) :=
  W.iret (v := v) S.1 S.2.1 hr (fun t ht hW => ⟨⟨v, w, rfl, hq, by rw [ht]; exact hw.2.1, va_K.moved hW.alike hw.1, hw.2.2.1⟩, hw.2.2.2.F ht⟩) hw.2.2.2.2.2 hd hlocks
theorem m_lret {E : mE} {w w1 : MS} {v r : Int64} (S : CallFix p m c cc nL s args lw_all RX5) (hr : meth.sig.returnType = some .long) (hlocks : meth.locks = false) (hw : mH E A s w H locs) (hq : v = r ∧ w = w1) (hd : decode cc pc = .ok (.lreturn, 1)) : W p l e R s m args below meth c H locs 0 0 (MQ below (mQl E A r w1) args s 0 0 A) (F0 m pc ls [.long v]) :=
  W.lret (v := v) S.1 S.2.1 hr (fun t ht hW => ⟨⟨v, w, rfl, hq, by rw [ht]; exact hw.2.1, va_K.moved hW.alike hw.1, hw.2.2.1⟩, hw.2.2.2.F ht⟩) hw.2.2.2.2.2 hd hlocks
theorem m_zret {E : mE} {w w1 : MS} {v r : Int32} (S : CallFix p m c cc nL s args lw_all RX5) (hr : meth.sig.returnType = some .boolean) (hlocks : meth.locks = false) (hw : mH E A s w H locs) (hz : narrow .boolean (.int v) = .int v) (hq : v = r ∧ w = w1) (hd : decode cc pc = .ok (.ireturn, 1)) : W p l e R s m args below meth c H locs 0 0 (MQ below (mQi E A r w1) args s 0 0 A) (F0 m pc ls [.int v]) :=
  W.zret (v := v) S.1 S.2.1 hr hz (fun t ht hW => ⟨⟨v, w, rfl, hq, by rw [ht]; exact hw.2.1, va_K.moved hW.alike hw.1, hw.2.2.1⟩, hw.2.2.2.F ht⟩) hw.2.2.2.2.2 hd hlocks
theorem m_zretn {E : mE} {w w1 : MS} {v r : Int32} (S : CallFix p m c cc nL s args lw_all RX5) (hr : meth.sig.returnType = some .boolean) (hlocks : meth.locks = false) (hw : mH E A s w H locs) (hz : v = 0 ∨ v = 1) (hq : v = r ∧ w = w1) (hd : decode cc pc = .ok (.ireturn, 1)) : W p l e R s m args below meth c H locs 0 0 (MQ below (mQi E A r w1) args s 0 0 A) (F0 m pc ls [.int v]) :=
  m_zret S hr hlocks hw (by rcases hz with e | e <;> rw [e] <;> rfl) hq hd
theorem m_vret {E : mE} {w w1 : MS} (S : CallFix p m c cc nL s args lw_all RX5) (hr : meth.sig.returnType = none) (hlocks : meth.locks = false) (hw : mH E A s w H locs) (hq : w = w1) (hd : decode cc pc = .ok (.return_, 1)) : W p l e R s m args below meth c H locs 0 0 (MQ below (mQv E A w1) args s 0 0 A) (F0 m pc ls []) :=
  W.vret S.1 S.2.1 hr (fun t ht hW => ⟨⟨w, rfl, hq, by rw [ht]; exact hw.2.1, va_K.moved hW.alike hw.1, hw.2.2.1⟩, hw.2.2.2.F ht⟩) hw.2.2.2.2.2 hd hlocks
theorem mPc_blind {E : mE} {w : MS} {av : List Value} : FrameBlind (mPc E A av w) := by
  intro a U g mk q
  obtain ⟨q0, qP, qK, qD⟩ := q
  exact ⟨q0, qP, va_K.moved (u := U) (U := U.calling g mk a) (Vm.Alike.refl U.vm) qK, qD⟩
theorem mPc_pre {E : mE} {w : MS} {av : List Value} (hw : mH E A s w H locs) : PreS s H (mPc E A av w) av :=
  ⟨mPc_blind, fun U hU hW => ⟨rfl, by rw [hU]; exact hw.2.1, va_K.moved hW.alike hw.1, hw.2.2.1⟩⟩
theorem mPc_preV {E : mE} {w : MS} {av : List Value} (hw : mH E A s w H locs) : PreV s H RX5 (mM E) (mPc E A (.ref (mM E) :: av) w) av :=
  ⟨mPc_blind, va_recv hw.1 hw.2.1 (ci := 4) (q0 := 0) rfl rfl, fun U hU hW => ⟨rfl, by rw [hU]; exact hw.2.1, va_K.moved hW.alike hw.1, hw.2.2.1⟩⟩
theorem mB_H {E : mE} {w : MS} {t : State} {H1 : Heap} {locs1 : List Loc} (ht : t.heap = H1) (hvm : s.vm.Alike t.vm) (hB : mB E A w t) (hS : va_S A s.heap H1 locs1) : mH E A s w H1 locs1 := by
  obtain ⟨hP, hK, hD⟩ := hB
  rw [ht] at hP
  exact ⟨va_K.moved hvm.symm hK, hP, hD, hS⟩
theorem mcVv {index maxL n : Nat} {y : MethodName} {bytes : ByteArray} {ret : Option FieldType} {ws : List Cond} {rm : Room} {E : mE} {w : MS} {As : List Value} {st : List Value} {β : Type} {r : β} (S : CallFix p m c cc nL s args lw_all RX5) (hw : mH E A s w H locs) {F : MS → Option β} {o : Option MS} (h : bd1 o F = some r) (hM : ∀ u, o = some u → Met l y ws rm (mPc E A (.ref (mM E) :: As) w) (mQv E A u) 0 0 A) (cw : CallW R s args RX5 RX5 index y bytes maxL ret ws rm 0 0 n) (hn : As.length = n) (hz : ls.size = nL) (hst : st = (As.reverse ++ .ref (mM E) :: rest)) (hrm : 2 * (F0 m pc ls st).monitorRoom + (rest.map fun v => v.category).sum ≤ 8) (hd : decode cc pc = .ok (.invokevirtual index, 3)) (kk : ∀ (w1 : MS) (H : Heap) (locs : List Loc), F w1 = some r → mH E A s w1 H locs → W p l e R s m args below meth c H locs 0 0 Q (F0 m (pc + 3) ls rest)) : W p l e R s m args below meth c H locs 0 0 Q (F0 m pc ls st) := by
  obtain ⟨u, h1, h2⟩ := bd1_some h
  exact va_callv (va_runV (As := As) (rest := rest) S (hM u h1) cw (mPc_preV hw) rfl hn hz hst hrm hd ⟨Nat.zero_le _, Nat.zero_le _⟩) hw.2.2.2 (fun q _ h => h) (fun q h => h) (fun u1 t H1 locs1 ht hvm hw1 hB hz1 hk1 hS => by subst hw1; exact kk _ H1 locs1 h2 (mB_H ht hvm hB hS))
theorem mcVwi {index maxL n : Nat} {y : MethodName} {bytes : ByteArray} {ret : Option FieldType} {ws : List Cond} {rm : Room} {E : mE} {w : MS} {As : List Value} {st : List Value} {β : Type} {r : β} (S : CallFix p m c cc nL s args lw_all RX5) (hw : mH E A s w H locs) {F : Int32 → MS → Option β} {o : Option (Int32 × MS)} (h : bd2 o F = some r) (hM : ∀ u, o = some u → Met l y ws rm (mPc E A (.ref (mM E) :: As) w) (mQi E A u.1 u.2) 0 0 A) (cw : CallW R s args RX5 RX5 index y bytes maxL ret ws rm 0 0 n) (hn : As.length = n) (hz : ls.size = nL) (hst : st = (As.reverse ++ .ref (mM E) :: rest)) (hrm : 2 * (F0 m pc ls st).monitorRoom + (rest.map fun v => v.category).sum ≤ 8) (hd : decode cc pc = .ok (.invokevirtual index, 3)) (kk : ∀ (v : Int32) (w1 : MS) (H : Heap) (locs : List Loc), F v w1 = some r → mH E A s w1 H locs → W p l e R s m args below meth c H locs 0 0 Q (F0 m (pc + 3) ls (.int v :: rest))) : W p l e R s m args below meth c H locs 0 0 Q (F0 m pc ls st) := by
  obtain ⟨v, u, h1, h2⟩ := bd2_some h
  exact va_calli (va_runV (As := As) (rest := rest) S (hM (v, u) h1) cw (mPc_preV hw) rfl hn hz hst hrm hd ⟨Nat.zero_le _, Nat.zero_le _⟩) hw.2.2.2 (fun q _ h => h) (fun q h => h) (fun v1 u1 t H1 locs1 ht hvm hw1 hB hz1 hk1 hS => by obtain ⟨e1, e2⟩ := hw1; subst e1; subst e2; exact kk _ _ H1 locs1 h2 (mB_H ht hvm hB hS))
theorem mcVri {index maxL n : Nat} {y : MethodName} {bytes : ByteArray} {ret : Option FieldType} {ws : List Cond} {rm : Room} {E : mE} {w : MS} {As : List Value} {st : List Value} {β : Type} {r : β} (S : CallFix p m c cc nL s args lw_all RX5) (hw : mH E A s w H locs) {F : Int32 → Option β} {o : Option Int32} (h : bd1 o F = some r) (hM : ∀ u, o = some u → Met l y ws rm (mPc E A (.ref (mM E) :: As) w) (mQi E A u w) 0 0 A) (cw : CallW R s args RX5 RX5 index y bytes maxL ret ws rm 0 0 n) (hn : As.length = n) (hz : ls.size = nL) (hst : st = (As.reverse ++ .ref (mM E) :: rest)) (hrm : 2 * (F0 m pc ls st).monitorRoom + (rest.map fun v => v.category).sum ≤ 8) (hd : decode cc pc = .ok (.invokevirtual index, 3)) (kk : ∀ (v : Int32) (H : Heap) (locs : List Loc), F v = some r → mH E A s w H locs → W p l e R s m args below meth c H locs 0 0 Q (F0 m (pc + 3) ls (.int v :: rest))) : W p l e R s m args below meth c H locs 0 0 Q (F0 m pc ls st) := by
  obtain ⟨v, h1, h2⟩ := bd1_some h
  exact va_calli (va_runV (As := As) (rest := rest) S (hM v h1) cw (mPc_preV hw) rfl hn hz hst hrm hd ⟨Nat.zero_le _, Nat.zero_le _⟩) hw.2.2.2 (fun q _ h => h) (fun q h => h) (fun v1 u1 t H1 locs1 ht hvm hw1 hB hz1 hk1 hS => by obtain ⟨e1, e2⟩ := hw1; subst e1; subst e2; exact kk _ H1 locs1 h2 (mB_H ht hvm hB hS))
theorem mcVti {index maxL n : Nat} {y : MethodName} {bytes : ByteArray} {ret : Option FieldType} {ws : List Cond} {rm : Room} {E : mE} {w : MS} {As : List Value} {st : List Value} (S : CallFix p m c cc nL s args lw_all RX5) (hw : mH E A s w H locs) {v : Int32} (hM : Met l y ws rm (mPc E A (.ref (mM E) :: As) w) (mQi E A v w) 0 0 A) (cw : CallW R s args RX5 RX5 index y bytes maxL ret ws rm 0 0 n) (hn : As.length = n) (hz : ls.size = nL) (hst : st = (As.reverse ++ .ref (mM E) :: rest)) (hrm : 2 * (F0 m pc ls st).monitorRoom + (rest.map fun v => v.category).sum ≤ 8) (hd : decode cc pc = .ok (.invokevirtual index, 3)) (kk : ∀ (H : Heap) (locs : List Loc), mH E A s w H locs → W p l e R s m args below meth c H locs 0 0 Q (F0 m (pc + 3) ls (.int v :: rest))) : W p l e R s m args below meth c H locs 0 0 Q (F0 m pc ls st) := by
  exact va_calli (va_runV (As := As) (rest := rest) S hM cw (mPc_preV hw) rfl hn hz hst hrm hd ⟨Nat.zero_le _, Nat.zero_le _⟩) hw.2.2.2 (fun q _ h => h) (fun q h => h) (fun v1 u1 t H1 locs1 ht hvm hw1 hB hz1 hk1 hS => by obtain ⟨e1, e2⟩ := hw1; subst e1; subst e2; exact kk H1 locs1 (mB_H ht hvm hB hS))
theorem mcVwl {index maxL n : Nat} {y : MethodName} {bytes : ByteArray} {ret : Option FieldType} {ws : List Cond} {rm : Room} {E : mE} {w : MS} {As : List Value} {st : List Value} {β : Type} {r : β} (S : CallFix p m c cc nL s args lw_all RX5) (hw : mH E A s w H locs) {F : Int64 → MS → Option β} {o : Option (Int64 × MS)} (h : bd2 o F = some r) (hM : ∀ u, o = some u → Met l y ws rm (mPc E A (.ref (mM E) :: As) w) (mQl E A u.1 u.2) 0 0 A) (cw : CallW R s args RX5 RX5 index y bytes maxL ret ws rm 0 0 n) (hn : As.length = n) (hz : ls.size = nL) (hst : st = (As.reverse ++ .ref (mM E) :: rest)) (hrm : 2 * (F0 m pc ls st).monitorRoom + (rest.map fun v => v.category).sum ≤ 8) (hd : decode cc pc = .ok (.invokevirtual index, 3)) (kk : ∀ (v : Int64) (w1 : MS) (H : Heap) (locs : List Loc), F v w1 = some r → mH E A s w1 H locs → W p l e R s m args below meth c H locs 0 0 Q (F0 m (pc + 3) ls (.long v :: rest))) : W p l e R s m args below meth c H locs 0 0 Q (F0 m pc ls st) := by
  obtain ⟨v, u, h1, h2⟩ := bd2_some h
  exact va_calll (va_runV (As := As) (rest := rest) S (hM (v, u) h1) cw (mPc_preV hw) rfl hn hz hst hrm hd ⟨Nat.zero_le _, Nat.zero_le _⟩) hw.2.2.2 (fun q _ h => h) (fun q h => h) (fun v1 u1 t H1 locs1 ht hvm hw1 hB hz1 hk1 hS => by obtain ⟨e1, e2⟩ := hw1; subst e1; subst e2; exact kk _ _ H1 locs1 h2 (mB_H ht hvm hB hS))
theorem mcVrl {index maxL n : Nat} {y : MethodName} {bytes : ByteArray} {ret : Option FieldType} {ws : List Cond} {rm : Room} {E : mE} {w : MS} {As : List Value} {st : List Value} {β : Type} {r : β} (S : CallFix p m c cc nL s args lw_all RX5) (hw : mH E A s w H locs) {F : Int64 → Option β} {o : Option Int64} (h : bd1 o F = some r) (hM : ∀ u, o = some u → Met l y ws rm (mPc E A (.ref (mM E) :: As) w) (mQl E A u w) 0 0 A) (cw : CallW R s args RX5 RX5 index y bytes maxL ret ws rm 0 0 n) (hn : As.length = n) (hz : ls.size = nL) (hst : st = (As.reverse ++ .ref (mM E) :: rest)) (hrm : 2 * (F0 m pc ls st).monitorRoom + (rest.map fun v => v.category).sum ≤ 8) (hd : decode cc pc = .ok (.invokevirtual index, 3)) (kk : ∀ (v : Int64) (H : Heap) (locs : List Loc), F v = some r → mH E A s w H locs → W p l e R s m args below meth c H locs 0 0 Q (F0 m (pc + 3) ls (.long v :: rest))) : W p l e R s m args below meth c H locs 0 0 Q (F0 m pc ls st) := by
  obtain ⟨v, h1, h2⟩ := bd1_some h
  exact va_calll (va_runV (As := As) (rest := rest) S (hM v h1) cw (mPc_preV hw) rfl hn hz hst hrm hd ⟨Nat.zero_le _, Nat.zero_le _⟩) hw.2.2.2 (fun q _ h => h) (fun q h => h) (fun v1 u1 t H1 locs1 ht hvm hw1 hB hz1 hk1 hS => by obtain ⟨e1, e2⟩ := hw1; subst e1; subst e2; exact kk _ H1 locs1 h2 (mB_H ht hvm hB hS))
theorem mcVtl {index maxL n : Nat} {y : MethodName} {bytes : ByteArray} {ret : Option FieldType} {ws : List Cond} {rm : Room} {E : mE} {w : MS} {As : List Value} {st : List Value} (S : CallFix p m c cc nL s args lw_all RX5) (hw : mH E A s w H locs) {v : Int64} (hM : Met l y ws rm (mPc E A (.ref (mM E) :: As) w) (mQl E A v w) 0 0 A) (cw : CallW R s args RX5 RX5 index y bytes maxL ret ws rm 0 0 n) (hn : As.length = n) (hz : ls.size = nL) (hst : st = (As.reverse ++ .ref (mM E) :: rest)) (hrm : 2 * (F0 m pc ls st).monitorRoom + (rest.map fun v => v.category).sum ≤ 8) (hd : decode cc pc = .ok (.invokevirtual index, 3)) (kk : ∀ (H : Heap) (locs : List Loc), mH E A s w H locs → W p l e R s m args below meth c H locs 0 0 Q (F0 m (pc + 3) ls (.long v :: rest))) : W p l e R s m args below meth c H locs 0 0 Q (F0 m pc ls st) := by
  exact va_calll (va_runV (As := As) (rest := rest) S hM cw (mPc_preV hw) rfl hn hz hst hrm hd ⟨Nat.zero_le _, Nat.zero_le _⟩) hw.2.2.2 (fun q _ h => h) (fun q h => h) (fun v1 u1 t H1 locs1 ht hvm hw1 hB hz1 hk1 hS => by obtain ⟨e1, e2⟩ := hw1; subst e1; subst e2; exact kk H1 locs1 (mB_H ht hvm hB hS))
theorem mcSv {index maxL n : Nat} {y : MethodName} {bytes : ByteArray} {ret : Option FieldType} {ws : List Cond} {rm : Room} {E : mE} {w : MS} {As : List Value} {st : List Value} {β : Type} {r : β} (S : CallFix p m c cc nL s args lw_all RX5) (hw : mH E A s w H locs) {F : MS → Option β} {o : Option MS} (h : bd1 o F = some r) (hM : ∀ u, o = some u → Met l y ws rm (mPc E A As w) (mQv E A u) 0 0 A) (cw : CallB R s args RX5 index y bytes maxL ret ws rm 0 0 n ∧ (Cond.static y).before args s = true) (hn : As.length = n) (hz : ls.size = nL) (hst : st = (As.reverse ++ rest)) (hrm : 2 * (F0 m pc ls st).monitorRoom + (rest.map fun v => v.category).sum ≤ 8) (hd : decode cc pc = .ok (.invokestatic index, 3)) (kk : ∀ (w1 : MS) (H : Heap) (locs : List Loc), F w1 = some r → mH E A s w1 H locs → W p l e R s m args below meth c H locs 0 0 Q (F0 m (pc + 3) ls rest)) : W p l e R s m args below meth c H locs 0 0 Q (F0 m pc ls st) := by
  obtain ⟨u, h1, h2⟩ := bd1_some h
  exact va_callv (va_runS (As := As) (rest := rest) S (hM u h1) cw (mPc_pre hw) rfl hn hz hst hrm hd ⟨Nat.zero_le _, Nat.zero_le _⟩) hw.2.2.2 (fun q _ h => h) (fun q h => h) (fun u1 t H1 locs1 ht hvm hw1 hB hz1 hk1 hS => by subst hw1; exact kk _ H1 locs1 h2 (mB_H ht hvm hB hS))
theorem mcSwi {index maxL n : Nat} {y : MethodName} {bytes : ByteArray} {ret : Option FieldType} {ws : List Cond} {rm : Room} {E : mE} {w : MS} {As : List Value} {st : List Value} {β : Type} {r : β} (S : CallFix p m c cc nL s args lw_all RX5) (hw : mH E A s w H locs) {F : Int32 → MS → Option β} {o : Option (Int32 × MS)} (h : bd2 o F = some r) (hM : ∀ u, o = some u → Met l y ws rm (mPc E A As w) (mQi E A u.1 u.2) 0 0 A) (cw : CallB R s args RX5 index y bytes maxL ret ws rm 0 0 n ∧ (Cond.static y).before args s = true) (hn : As.length = n) (hz : ls.size = nL) (hst : st = (As.reverse ++ rest)) (hrm : 2 * (F0 m pc ls st).monitorRoom + (rest.map fun v => v.category).sum ≤ 8) (hd : decode cc pc = .ok (.invokestatic index, 3)) (kk : ∀ (v : Int32) (w1 : MS) (H : Heap) (locs : List Loc), F v w1 = some r → mH E A s w1 H locs → W p l e R s m args below meth c H locs 0 0 Q (F0 m (pc + 3) ls (.int v :: rest))) : W p l e R s m args below meth c H locs 0 0 Q (F0 m pc ls st) := by
  obtain ⟨v, u, h1, h2⟩ := bd2_some h
  exact va_calli (va_runS (As := As) (rest := rest) S (hM (v, u) h1) cw (mPc_pre hw) rfl hn hz hst hrm hd ⟨Nat.zero_le _, Nat.zero_le _⟩) hw.2.2.2 (fun q _ h => h) (fun q h => h) (fun v1 u1 t H1 locs1 ht hvm hw1 hB hz1 hk1 hS => by obtain ⟨e1, e2⟩ := hw1; subst e1; subst e2; exact kk _ _ H1 locs1 h2 (mB_H ht hvm hB hS))
theorem mcSri {index maxL n : Nat} {y : MethodName} {bytes : ByteArray} {ret : Option FieldType} {ws : List Cond} {rm : Room} {E : mE} {w : MS} {As : List Value} {st : List Value} {β : Type} {r : β} (S : CallFix p m c cc nL s args lw_all RX5) (hw : mH E A s w H locs) {F : Int32 → Option β} {o : Option Int32} (h : bd1 o F = some r) (hM : ∀ u, o = some u → Met l y ws rm (mPc E A As w) (mQi E A u w) 0 0 A) (cw : CallB R s args RX5 index y bytes maxL ret ws rm 0 0 n ∧ (Cond.static y).before args s = true) (hn : As.length = n) (hz : ls.size = nL) (hst : st = (As.reverse ++ rest)) (hrm : 2 * (F0 m pc ls st).monitorRoom + (rest.map fun v => v.category).sum ≤ 8) (hd : decode cc pc = .ok (.invokestatic index, 3)) (kk : ∀ (v : Int32) (H : Heap) (locs : List Loc), F v = some r → mH E A s w H locs → W p l e R s m args below meth c H locs 0 0 Q (F0 m (pc + 3) ls (.int v :: rest))) : W p l e R s m args below meth c H locs 0 0 Q (F0 m pc ls st) := by
  obtain ⟨v, h1, h2⟩ := bd1_some h
  exact va_calli (va_runS (As := As) (rest := rest) S (hM v h1) cw (mPc_pre hw) rfl hn hz hst hrm hd ⟨Nat.zero_le _, Nat.zero_le _⟩) hw.2.2.2 (fun q _ h => h) (fun q h => h) (fun v1 u1 t H1 locs1 ht hvm hw1 hB hz1 hk1 hS => by obtain ⟨e1, e2⟩ := hw1; subst e1; subst e2; exact kk _ H1 locs1 h2 (mB_H ht hvm hB hS))
theorem mcSti {index maxL n : Nat} {y : MethodName} {bytes : ByteArray} {ret : Option FieldType} {ws : List Cond} {rm : Room} {E : mE} {w : MS} {As : List Value} {st : List Value} (S : CallFix p m c cc nL s args lw_all RX5) (hw : mH E A s w H locs) {v : Int32} (hM : Met l y ws rm (mPc E A As w) (mQi E A v w) 0 0 A) (cw : CallB R s args RX5 index y bytes maxL ret ws rm 0 0 n ∧ (Cond.static y).before args s = true) (hn : As.length = n) (hz : ls.size = nL) (hst : st = (As.reverse ++ rest)) (hrm : 2 * (F0 m pc ls st).monitorRoom + (rest.map fun v => v.category).sum ≤ 8) (hd : decode cc pc = .ok (.invokestatic index, 3)) (kk : ∀ (H : Heap) (locs : List Loc), mH E A s w H locs → W p l e R s m args below meth c H locs 0 0 Q (F0 m (pc + 3) ls (.int v :: rest))) : W p l e R s m args below meth c H locs 0 0 Q (F0 m pc ls st) := by
  exact va_calli (va_runS (As := As) (rest := rest) S hM cw (mPc_pre hw) rfl hn hz hst hrm hd ⟨Nat.zero_le _, Nat.zero_le _⟩) hw.2.2.2 (fun q _ h => h) (fun q h => h) (fun v1 u1 t H1 locs1 ht hvm hw1 hB hz1 hk1 hS => by obtain ⟨e1, e2⟩ := hw1; subst e1; subst e2; exact kk H1 locs1 (mB_H ht hvm hB hS))
theorem mcSwl {index maxL n : Nat} {y : MethodName} {bytes : ByteArray} {ret : Option FieldType} {ws : List Cond} {rm : Room} {E : mE} {w : MS} {As : List Value} {st : List Value} {β : Type} {r : β} (S : CallFix p m c cc nL s args lw_all RX5) (hw : mH E A s w H locs) {F : Int64 → MS → Option β} {o : Option (Int64 × MS)} (h : bd2 o F = some r) (hM : ∀ u, o = some u → Met l y ws rm (mPc E A As w) (mQl E A u.1 u.2) 0 0 A) (cw : CallB R s args RX5 index y bytes maxL ret ws rm 0 0 n ∧ (Cond.static y).before args s = true) (hn : As.length = n) (hz : ls.size = nL) (hst : st = (As.reverse ++ rest)) (hrm : 2 * (F0 m pc ls st).monitorRoom + (rest.map fun v => v.category).sum ≤ 8) (hd : decode cc pc = .ok (.invokestatic index, 3)) (kk : ∀ (v : Int64) (w1 : MS) (H : Heap) (locs : List Loc), F v w1 = some r → mH E A s w1 H locs → W p l e R s m args below meth c H locs 0 0 Q (F0 m (pc + 3) ls (.long v :: rest))) : W p l e R s m args below meth c H locs 0 0 Q (F0 m pc ls st) := by
  obtain ⟨v, u, h1, h2⟩ := bd2_some h
  exact va_calll (va_runS (As := As) (rest := rest) S (hM (v, u) h1) cw (mPc_pre hw) rfl hn hz hst hrm hd ⟨Nat.zero_le _, Nat.zero_le _⟩) hw.2.2.2 (fun q _ h => h) (fun q h => h) (fun v1 u1 t H1 locs1 ht hvm hw1 hB hz1 hk1 hS => by obtain ⟨e1, e2⟩ := hw1; subst e1; subst e2; exact kk _ _ H1 locs1 h2 (mB_H ht hvm hB hS))
theorem mcSrl {index maxL n : Nat} {y : MethodName} {bytes : ByteArray} {ret : Option FieldType} {ws : List Cond} {rm : Room} {E : mE} {w : MS} {As : List Value} {st : List Value} {β : Type} {r : β} (S : CallFix p m c cc nL s args lw_all RX5) (hw : mH E A s w H locs) {F : Int64 → Option β} {o : Option Int64} (h : bd1 o F = some r) (hM : ∀ u, o = some u → Met l y ws rm (mPc E A As w) (mQl E A u w) 0 0 A) (cw : CallB R s args RX5 index y bytes maxL ret ws rm 0 0 n ∧ (Cond.static y).before args s = true) (hn : As.length = n) (hz : ls.size = nL) (hst : st = (As.reverse ++ rest)) (hrm : 2 * (F0 m pc ls st).monitorRoom + (rest.map fun v => v.category).sum ≤ 8) (hd : decode cc pc = .ok (.invokestatic index, 3)) (kk : ∀ (v : Int64) (H : Heap) (locs : List Loc), F v = some r → mH E A s w H locs → W p l e R s m args below meth c H locs 0 0 Q (F0 m (pc + 3) ls (.long v :: rest))) : W p l e R s m args below meth c H locs 0 0 Q (F0 m pc ls st) := by
  obtain ⟨v, h1, h2⟩ := bd1_some h
  exact va_calll (va_runS (As := As) (rest := rest) S (hM v h1) cw (mPc_pre hw) rfl hn hz hst hrm hd ⟨Nat.zero_le _, Nat.zero_le _⟩) hw.2.2.2 (fun q _ h => h) (fun q h => h) (fun v1 u1 t H1 locs1 ht hvm hw1 hB hz1 hk1 hS => by obtain ⟨e1, e2⟩ := hw1; subst e1; subst e2; exact kk _ H1 locs1 h2 (mB_H ht hvm hB hS))
theorem mcStl {index maxL n : Nat} {y : MethodName} {bytes : ByteArray} {ret : Option FieldType} {ws : List Cond} {rm : Room} {E : mE} {w : MS} {As : List Value} {st : List Value} (S : CallFix p m c cc nL s args lw_all RX5) (hw : mH E A s w H locs) {v : Int64} (hM : Met l y ws rm (mPc E A As w) (mQl E A v w) 0 0 A) (cw : CallB R s args RX5 index y bytes maxL ret ws rm 0 0 n ∧ (Cond.static y).before args s = true) (hn : As.length = n) (hz : ls.size = nL) (hst : st = (As.reverse ++ rest)) (hrm : 2 * (F0 m pc ls st).monitorRoom + (rest.map fun v => v.category).sum ≤ 8) (hd : decode cc pc = .ok (.invokestatic index, 3)) (kk : ∀ (H : Heap) (locs : List Loc), mH E A s w H locs → W p l e R s m args below meth c H locs 0 0 Q (F0 m (pc + 3) ls (.long v :: rest))) : W p l e R s m args below meth c H locs 0 0 Q (F0 m pc ls st) := by
  exact va_calll (va_runS (As := As) (rest := rest) S hM cw (mPc_pre hw) rfl hn hz hst hrm hd ⟨Nat.zero_le _, Nat.zero_le _⟩) hw.2.2.2 (fun q _ h => h) (fun q h => h) (fun v1 u1 t H1 locs1 ht hvm hw1 hB hz1 hk1 hS => by obtain ⟨e1, e2⟩ := hw1; subst e1; subst e2; exact kk H1 locs1 (mB_H ht hvm hB hS))
end MK
/-- a contract of the Model's method out of the walk of its body -/
theorem mMet {l : Launch} {y : MethodName} {cb : ByteArray} {maxL : Nat} {ret : Option FieldType} {rm : Room} {E : mE} {A : Nat → Prop} {av : List Value} {w : MS} {Qc : Array Value → State → Outcome → State → Prop} (hy : plainName y.cls = true) (hc : y.cls = RX5) (hn : (lg_sl av).length ≤ maxL)
    (body : ∀ (p : Program) (e : Env) (s : State) (m : MethodId) (below : List Frame) (meth : Method) (c : Code), CallFix p m c cb maxL s av.toArray lw_all RX5 → meth.sig.returnType = ret → meth.locks = false → ∀ (H : Heap) (ls : Array Slot), mH E A s w H [] → lv_has ls maxL (lv_args 0 av) → W p l e rm s m av.toArray below meth c H [] 0 0 (MQ below Qc av.toArray s 0 0 A) (F0 m 0 ls [])) :
    Met l y (ws_ y cb maxL ret) rm (mPc E A av w) Qc 0 0 A := by
  refine Met.ofW (cc := cb) (maxL := maxL) (ret := ret) hy rfl ?_
  intro p e s m args below meth c s₁ B hml hv
  obtain ⟨rfl, hP, hK, hD⟩ := hv
  have hl := lv_entry av (n := maxL) hn
  rw [lg_entry_eq]
  generalize (lg_sl av ++ List.replicate (maxL - (lg_sl av).length) Slot.unset).toArray = ls at hl ⊢
  exact body p e s m below meth c ⟨B.exec, B.bytes, hml, by rw [← hc]; exact findClass_of_methodNamed B.named, fun w h => atoms_spec (ws := ws_ y cb maxL ret) B.pre w (List.mem_cons_of_mem _ h)⟩ B.returns B.notSynchronized s.heap ls ⟨hK, hP, hD, va_S.rf⟩ hl
