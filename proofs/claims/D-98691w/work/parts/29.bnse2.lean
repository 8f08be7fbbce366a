/-! B: calls of need, methods that may throw a NoSuchElementException (printed by gen/bnse.py) -/
set_option maxRecDepth 100000
/-- need: goes on, or throws (the heap before it is told) -/
def bdn {α : Type} (v : Int32) (g : GS) (k : Option ((α ⊕ Unit) × GS)) : Option ((α ⊕ Unit) × GS) := if gZ g + 1 ≤ gLC g ∧ gN g + 6 ≤ gLS g then (if v = 0 then some (.inr (), g) else k) else none
def gYi (E : gE) (A : Nat → Prop) (LC LS : Nat) (r : (Int32 ⊕ Unit) × GS) := va_Qi (fun (x : Int32) (u : GS) => r = (.inl x, u)) (fun u t => gB E A LC LS u t.heap) A
def gYX {α : Type} (E : gE) (A : Nat → Prop) (LC LS : Nat) (r : (α ⊕ Unit) × GS) : Addr → String → State → State → Prop := vx_X (fun u : GS => ∃ g : GS, r = (.inr (), g) ∧ gGrown g u) (fun _ En u t => En = NSE ∧ gB E A LC LS u t.heap) A
section BN1
variable {p : Program} {l : Launch} {e : Env} {R : Room} {s : State} {m : MethodId} {args : Array Value} {below : List Frame} {meth : Method} {c : Code} {H : Heap} {locs : List Loc} {cells slots : Nat} {Q : State → Prop}
variable {cc : ByteArray} {nL pc : Nat} {ls : Array Slot} {rest : List Value} {A : Nat → Prop} {E : gE} {LC LS : Nat} {g : GS} {a : Nat} {β : Type} {r : β}
variable {index maxL n f lo : Nat} {y : MethodName} {bytes : ByteArray} {ret : Option FieldType} {ws : List Cond} {As st : List Value} {own : String} {b : Nat}
theorem vx_W.top {fr : JFrame} {q : Addr} (k : H.size ≤ s.heap.size + cells → tot H ≤ tot s.heap + slots → vx_W p l e R s m args below meth c H locs cells slots Q fr q) : vx_W p l e R s m args below meth c H locs cells slots Q fr q := by
  intro T hT X
  have hd := tot_drop X
  have h3 : T.heap.size ≤ s.heap.size + cells := X.same.2.2.1
  have h5 := X.same.2.2.2.2.1
  subst hT
  refine k h3 ?_ T rfl X
  have h5' : ((T.heap.toList.drop s.heap.size).map (·.slots.size)).sum ≤ slots := h5
  have h1 := hd.1
  have h2 := hd.2
  omega
theorem y_iret {v : Int32} {res : (Int32 ⊕ Unit) × GS} (S : CallFix p m c cc nL s args lw_all own) (Z : gRm R s LC LS) (hr : meth.sig.returnType = some .int) (hlocks : meth.locks = false) (hw : gH E A LC LS s g H locs) (hq : (.inl v, g) = res) (hd : decode cc pc = .ok (.ireturn, 1)) : W p l e R s m args below meth c H locs (H.size - s.heap.size) (tot H - tot s.heap) (vx_MQ below (gYi E A LC LS res) (gYX E A LC LS res) args s R.cells R.slots A) (F0 m pc ls [.int v]) := by
  refine W.totle (fun hs ht => vx_ret ?_)
  have z1 := hw.1.1
  exact W.widen (k := R.cells) (n := R.slots) (by rw [Z.1]; omega) (by rw [Z.2]; omega) (W.iret (v := v) S.1 S.2.1 hr (fun t ht hW => ⟨⟨v, g, rfl, hq.symm, (show gB E A LC LS g t.heap by rw [ht]; exact hw.1)⟩, hw.2.F ht⟩) hw.2.2.2 hd hlocks)
theorem gneed {α : Type} {Qc : Array Value → State → Outcome → State → Prop} {res : (α ⊕ Unit) × GS} {v : Int32} {F : Option ((α ⊕ Unit) × GS)} (S : CallFix p m c cc nL s args lw_all RX1) (X : gCtx E A s) (Z : gRm R s LC LS) (hw : gH E A LC LS s g H locs) (hno : ∀ x ∈ c.exceptionTable.toList, False) (hlocks : meth.locks = false) (hst : l.stackTraces = false) (h : bdn v g F = some res) (hF : 11 ≤ R.frames) (hL : 220 ≤ R.locals) (hz : ls.size = nL) (hrm : 2 * (F0 m pc ls (.int v :: rest)).monitorRoom + (rest.map fun v => v.category).sum ≤ 8) (hd : decode cc pc = .ok (.invokestatic 365, 3)) (kk : ∀ (H : Heap) (locs : List Loc), F = some res → gH E A LC LS s g H locs → W p l e R s m args below meth c H locs (H.size - s.heap.size) (tot H - tot s.heap) (vx_MQ below Qc (gYX E A LC LS res) args s R.cells R.slots A) (F0 m (pc + 3) ls rest)) : W p l e R s m args below meth c H locs (H.size - s.heap.size) (tot H - tot s.heap) (vx_MQ below Qc (gYX E A LC LS res) args s R.cells R.slots A) (F0 m pc ls (.int v :: rest)) := by
  refine W.totle (fun hs ht => ?_)
  have z1 := hw.1.1
  have cw : CallB R s args RX1 365 yX1_need cX1_need 1 none (ws_ yX1_need cX1_need 1 none) { frames := 10, cells := 1, slots := 6, locals := 200 } 1 6 1 ∧ (Cond.static yX1_need).before args s = true := va_cwS 1 S.2.2.2.2 (lw_S q1684 q1685 q135 q1686) rfl rfl rfl (by decide +kernel) ⟨hF, hL⟩
  unfold bdn at h
  by_cases c1 : gZ g + 1 ≤ gLC g ∧ gN g + 6 ≤ gLS g
  case neg => rw [if_neg c1] at h; cases h
  rw [if_pos c1] at h
  have hle : (H.size - s.heap.size) + 1 ≤ R.cells ∧ (tot H - tot s.heap) + 6 ≤ R.slots := by rw [Z.1, Z.2]; omega
  exact vx_callv (vx_runS (As := [.int v]) (rest := rest) S (met_need l hst E A LC LS v g) cw (gPc_pre X hw) rfl rfl hz rfl hrm hd hle) hw.2 (fun q _ h => h) (fun q h => h) (fun q _ h => h)
    (fun En ce q9 u1 t H1 locs1 ht1 hvm hw1 hB hz1 hk1 hS hcl1 hv1 hf1 => by
      obtain ⟨e1, e2, e3⟩ := hB
      subst e1
      rw [ht1] at e2 e3
      rw [if_pos hw1.1] at h
      have hres := Option.some.inj h
      refine vx_W.top (fun t1 t2 => ?_)
      have z2 := hw1.2.1
      have hb2 : gB E A LC LS (bump g H1.size (tot H1)) H1 := hw1.2.bump e3 (by omega) (by omega)
      exact vx_out (fun x hx => (hno x hx).elim) hlocks hcl1 hv1 hf1 (fun t ht hW => ⟨bump g H1.size (tot H1), ⟨g, hres.symm, show H1.size ≤ gZ g + 1 by omega, show tot H1 ≤ gN g + 6 by omega, rfl⟩, ⟨rfl, (show gB E A LC LS (bump g H1.size (tot H1)) t.heap by rw [ht]; exact hb2)⟩, hS.F ht⟩) hS.2.2 hle.1 hle.2)
    (fun u1 t H1 locs1 ht1 hvm hw1 hB hz1 hk1 hS => by
      obtain ⟨e1, e2⟩ := hw1
      subst e1
      rw [if_neg e2] at h
      rw [ht1] at hB
      exact W.canon (kk H1 locs1 h ⟨hB, hS⟩))
end BN1
