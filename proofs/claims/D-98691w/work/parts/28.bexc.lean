/-! B: handlers (printed by gen/bexc.py) -/
set_option maxRecDepth 100000
def bdc {α β : Type} (o : Option ((α ⊕ Nat) × GS)) (kx : Nat → GS → Option β) (kn : α → GS → Option β) : Option β := match o with
  | none => none
  | some (.inl a, g) => kn a g
  | some (.inr q, g) => kx q g
theorem bdc_some {α β : Type} {o : Option ((α ⊕ Nat) × GS)} {kx : Nat → GS → Option β} {kn : α → GS → Option β} {r : β} (h : bdc o kx kn = some r) : ∃ u, o = some u ∧ ((∀ a g, u = (.inl a, g) → kn a g = some r) ∧ (∀ q g, u = (.inr q, g) → kx q g = some r)) := by
  match o, h with
  | some (.inl a, g), h => exact ⟨_, rfl, (fun a' g' e => by cases e; exact h), (fun q g' e => by cases e)⟩
  | some (.inr q, g), h => exact ⟨_, rfl, (fun a' g' e => by cases e), (fun q' g' e => by cases e; exact h)⟩
theorem gMetH {l : Launch} {y : MethodName} {cb : ByteArray} {maxL f lo LC LS : Nat} {ret : Option FieldType} {hh : List (Nat × Nat × Nat × Nat)} {E : gE} {A : Nat → Prop} {av : List Value} {g : GS} {own : String} {Qc : Array Value → State → Outcome → State → Prop} {XC : Addr → String → State → State → Prop} (hy : plainName y.cls = true) (hc : y.cls = own) (hn : (lg_sl av).length ≤ maxL)
    (body : ∀ (p : Program) (e : Env) (s : State) (m : MethodId) (below : List Frame) (meth : Method) (c : Code) (R : Room), CallFix p m c cb maxL s av.toArray lw_all own → meth.sig.returnType = ret → meth.locks = false → c.exceptionTable.toList = tableOf hh → gCtx E A s → gRm R s LC LS → f ≤ R.frames → lo ≤ R.locals → ∀ (H : Heap) (ls : Array Slot), gH E A LC LS s g H [] → lv_has ls maxL (lv_args 0 av) → W p l e R s m av.toArray below meth c H [] (H.size - s.heap.size) (tot H - tot s.heap) (vx_MQ below Qc XC av.toArray s R.cells R.slots A) (F0 m 0 ls [])) :
    vx_Met l y (wsW_ y cb maxL ret hh) (gRoom f lo LC LS g) (gPc E A LC LS av g) Qc XC (LC - gZ g) (LS - gN g) A := by
  refine vx_ofWH (cc := cb) (maxL := maxL) (ret := ret) (hh := hh) hy rfl ?_
  intro p e s m args below meth c s₁ B hml hv
  obtain ⟨rfl, hX, hB⟩ := hv
  have hl := lv_entry av (n := maxL) hn
  rw [lg_entry_eq]
  generalize (lg_sl av ++ List.replicate (maxL - (lg_sl av).length) Slot.unset).toArray = ls at hl ⊢
  have hta : c.exceptionTable.toList = tableOf hh := vx_table (x := y) B (atoms_spec (ws := wsW_ y cb maxL ret hh) B.pre _ List.mem_cons_self)
  exact W.canon (body p e s m below meth c (gRoom f lo LC LS g) ⟨B.exec, B.bytes, hml, by rw [← hc]; exact findClass_of_methodNamed B.named, fun w h => atoms_spec (ws := wsW_ y cb maxL ret hh) B.pre w (List.mem_cons_of_mem _ h)⟩ B.returns B.notSynchronized hta hX ⟨by show LC - gZ g = _; rw [hB.1.1], by show LS - gN g = _; rw [hB.1.2.1]⟩ (Nat.le_refl _) (Nat.le_refl _) s.heap ls ⟨hB, va_S.rf⟩ hl)
section BH1
variable {p : Program} {l : Launch} {e : Env} {R : Room} {s : State} {m : MethodId} {args : Array Value} {below : List Frame} {meth : Method} {c : Code} {H : Heap} {locs : List Loc} {cells slots : Nat} {Q : State → Prop}
variable {cc : ByteArray} {nL pc : Nat} {ls : Array Slot} {rest : List Value} {A : Nat → Prop} {E : gE} {LC LS : Nat} {g : GS} {a : Nat} {β : Type} {r : β}
variable {index maxL n f lo : Nat} {y : MethodName} {bytes : ByteArray} {ret : Option FieldType} {ws : List Cond} {As st : List Value} {own : String} {b : Nat}
theorem ghVr {C : String} (S : CallFix p m c cc nL s args lw_all own) (X : gCtx E A s) (Z : gRm R s LC LS) (hw : gH E A LC LS s g H locs) {F : Nat → GS → Option β} {KX : Nat → GS → Option β} {o : Option ((Nat ⊕ Nat) × GS)} (h : bdc o KX F = some r) (hM : ∀ u, o = some u → vx_Met l y ws (gRoom f lo LC LS g) (gPc E A LC LS (.ref b :: As) g) (gXr E A LC LS u) (gXX E A LC LS u) (LC - gZ g) (LS - gN g) A) (cw : CallW R s args own C index y bytes maxL ret ws (gRoom f lo LC LS g) (LC - gZ g) (LS - gN g) n) (hrc : ∃ cell : Cell, H[b]? = some cell ∧ cell.vm.isStatics = false ∧ s.vm.findClass C = some cell.cls) (hn : As.length = n) (hz : ls.size = nL) (hst : st = (As.reverse ++ .ref b :: rest)) (hrm : 2 * (F0 m pc ls st).monitorRoom + (rest.map fun v => v.category).sum ≤ 8) (hd : decode cc pc = .ok (.invokevirtual index, 3)) {x : ExceptionTableEntry} (htab : c.exceptionTable.toList = [x]) (hcov : covers x pc = true) (h0 : x.catchType ≠ 0) (hlink : (Cond.classLink own x.catchType RX6).before args s = true) (kx : ∀ (q : Nat) (g1 : GS) (H : Heap) (locs : List Loc), KX q g1 = some r → gH E A LC LS s g1 H locs → W p l e R s m args below meth c H locs (H.size - s.heap.size) (tot H - tot s.heap) Q (F0 m x.handlerPc ls [.ref q])) (kk : ∀ (v : Nat) (g1 : GS) (H : Heap) (locs : List Loc), F v g1 = some r → gH E A LC LS s g1 H locs → W p l e R s m args below meth c H locs (H.size - s.heap.size) (tot H - tot s.heap) Q (F0 m (pc + 3) ls (.ref v :: rest))) : W p l e R s m args below meth c H locs (H.size - s.heap.size) (tot H - tot s.heap) Q (F0 m pc ls st) := by
  obtain ⟨u, h1, h2, h3⟩ := bdc_some h
  refine W.totle (fun hs ht0 => ?_)
  have ht := ht0
  have hcast : (Cond.castable RX6 RX6).before args s = true := va_Nw.use rfl (X.2.2.2.2.2.1 _ q600 rfl)
  exact vx_callq (vx_runV (As := As) (rest := rest) S (hM u h1) cw (gPc_preV X hw hrc) rfl hn hz hst hrm hd (gRm_call Z hw hs ht)) hw.2 (fun q _ h => h) (fun q h => h) (fun q _ h => h) (fun En ce q9 u1 t H1 locs1 ht hvm hw1 hB hz1 hk1 hS hcl1 hv1 hf1 => by obtain ⟨e1, e2, hB⟩ := hB; subst e2; rw [ht] at hB; exact vx_catch S.2.2.2.1 [] x [] htab (fun z hz => absurd hz List.not_mem_nil) hcov h0 hlink hcast hcl1 hv1 hf1 (W.canon (kx _ _ H1 locs1 (h3 _ _ e1) ⟨hB, hS⟩))) (fun v1 u1 t H1 locs1 ht hvm hw1 hB hz1 hk1 hS => by obtain ⟨a9, e1, e2⟩ := hw1; subst e1; rw [ht] at hB; exact W.canon (kk _ _ H1 locs1 (h2 _ _ e2) ⟨hB, hS⟩))
end BH1
