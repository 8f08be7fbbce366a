/-! B: System.arraycopy, clone, getClass: over the plain heap -/
set_option maxRecDepth 100000
def setRR (g : GS) (a : Nat) (f : Nat → Option Nat) : GS := (g.1, g.2.1, va_up g.2.2.1 a f, g.2.2.2)
def setRI (g : GS) (a : Nat) (f : Nat → Int32) : GS := (g.1, va_up g.2.1 a f, g.2.2)
def elB (g : GS) (o : Option Nat) : Bool := match o with
  | none => true
  | some y => (oEl g y).isSome
def isB (v : Int32) : Bool := decide (v.toInt8.toInt32 = v)
def cpR (g : GS) (a0 : Nat) (sp : Int32) (a : Nat) (dp n : Int32) : Option GS :=
  if ((gK g a0).1 = 43 ∧ (gK g a).1 = 43) ∧ (¬ sp < 0 ∧ ¬ dp < 0 ∧ ¬ n < 0) ∧ (sp.toNatClampNeg + n.toNatClampNeg ≤ (gK g a0).2 ∧ dp.toNatClampNeg + n.toNatClampNeg ≤ (gK g a).2) ∧ (List.range n.toNatClampNeg).all (fun i => elB g (gR g a0 (sp.toNatClampNeg + i))) = true then
    some (setRR g a (va_cpy (fun j => gR g a0 j) (fun j => gR g a j) sp.toNatClampNeg dp.toNatClampNeg n.toNatClampNeg)) else none
def cpB (g : GS) (a0 : Nat) (sp : Int32) (a : Nat) (dp n : Int32) : Option GS :=
  if ((gK g a0).1 = 41 ∧ (gK g a).1 = 41) ∧ (¬ sp < 0 ∧ ¬ dp < 0 ∧ ¬ n < 0) ∧ (sp.toNatClampNeg + n.toNatClampNeg ≤ (gK g a0).2 ∧ dp.toNatClampNeg + n.toNatClampNeg ≤ (gK g a).2) ∧ (List.range n.toNatClampNeg).all (fun i => isB (gI g a0 (sp.toNatClampNeg + i))) = true then
    some (setRI g a (va_cpy (fun j => gI g a0 j) (fun j => gI g a j) sp.toNatClampNeg dp.toNatClampNeg n.toNatClampNeg)) else none
/-- a copy of a byte array -/
def clB (g : GS) (a : Nat) : Option GS :=
  if ((gK g a).1 = 41 ∧ (List.range (gK g a).2).all (fun i => isB (gI g a i)) = true) ∧ (gZ g + 1 ≤ gLC g ∧ gN g + (gK g a).2 ≤ gLS g) then some (setRI (nw g 41 (gK g a).2 (gK g a).2) (gZ g) (fun j => gI g a j)) else none
theorem isB_fit {v : Int32} (h : isB v = true) : fits .byte (.int v) = true := by
  have e : v.toInt8.toInt32 = v := of_decide_eq_true h
  rw [← e]; exact pk_fb v
section BK7
variable {p : Program} {l : Launch} {e : Env} {R : Room} {s : State} {m : MethodId} {args : Array Value} {below : List Frame} {meth : Method} {c : Code} {H : Heap} {locs : List Loc} {cells slots : Nat} {Q : State → Prop}
variable {cc : ByteArray} {nL pc : Nat} {ls : Array Slot} {rest : List Value} {D : va_G} {cl : List vw_C} {A : Nat → Prop} {a : Nat} {tys : List (ClassId × FieldType)}
theorem cl_nn (z : Int32) (hz : ¬ z < 0) : z.toInt = (z.toNatClampNeg : Int) := by
  have hz0 : (0 : Int) ≤ z.toInt := by
    have := Int32.not_lt.mp hz
    simpa using Int32.le_iff_toInt_le.mp this
  show z.toInt = ((z.toInt.toNat : Nat) : Int)
  omega
theorem gb_copyR (hexec : p.tables.exec = Jvm.exec) (hb : c.code = cc) (hml : c.maxLocals = ls.size) {own : String} {index : Nat} (hown : s.vm.findClass own = some m.cls) (hlink : (Cond.methodLink own index arraycopyName).before args s = true) (hnat : (Cond.native arraycopyName).before args s = true) (hstat : (Cond.static arraycopyName).before args s = true) (hini : (Cond.initialized "java/lang/System").before args s = true)
    (hK : va_K D cl tys s) (t0 : Nat) {a0 : Nat} {c0 : ClassId} {n0 n1 : Nat} {f g : Nat → Option Nat} {E0 : String} (ha0 : va_at D cl (a0, .inl (c0, n0, .inr (.inr (.inr (.inr f))))) H) (ha1 : va_at D cl (a, .inl (c0, n1, .inr (.inr (.inr (.inr g))))) H) (ht0 : tys[t0]? = some (c0, .object E0))
    {sp dp n : Int32} (h1 : ¬ sp < 0) (h2 : ¬ dp < 0) (h3 : ¬ n < 0) (h4 : sp.toNatClampNeg + n.toNatClampNeg ≤ n0) (h5 : dp.toNatClampNeg + n.toNatClampNeg ≤ n1) (hel : ∀ i : Nat, i < n.toNatClampNeg → ∀ y : Nat, f (sp.toNatClampNeg + i) = some y → va_Any E0 s H y)
    (hframes : 1 ≤ R.frames) (hlocals : (rest.map fun v => v.category).sum + (nativeFrameWords "java/lang/System" "arraycopy" 5 + 11) ≤ R.locals) (hdg : decode cc pc = .ok (.invokestatic index, 3))
    (kk : ∀ (H1 : Heap) (locs1 : List Loc), va_at D cl (a, .inl (c0, n1, .inr (.inr (.inr (.inr (va_cpy f g sp.toNatClampNeg dp.toNatClampNeg n.toNatClampNeg)))))) H1 → H1.size = H.size → tot H1 = tot H → (∀ q : Nat, q ≠ a → H1[q]? = H[q]?) → (∀ z ∈ locs1, z ∈ locs ∨ z.base = a) → W p l e R s m args below meth c H1 locs1 cells slots Q (F0 m (pc + 3) ls rest)) : W p l e R s m args below meth c H locs cells slots Q (F0 m pc ls (.int n :: .int dp :: .ref a :: .int sp :: .ref a0 :: rest)) := by
  intro T hT X
  have hc0 : H[a0]? = some (vp_cell c0 (n0, .inr (.inr (.inr (.inr f))))) := ha0
  have hc1 : H[a]? = some (vp_cell c0 (n1, .inr (.inr (.inr (.inr g))))) := ha1
  obtain ⟨-, k0, hk0, cm0, hkk0⟩ := (hK.2 t0 _ ht0).1 n0 (fun j => va_rf (f j))
  have hk0' : s.vm.classes[c0]? = some k0 := hk0
  obtain ⟨vm', X', step⟩ := X.arraycopy hexec hown hlink hnat hstat hini (src := a0) (dst := a) (cs := vp_cell c0 (n0, .inr (.inr (.inr (.inr f))))) (cd := vp_cell c0 (n1, .inr (.inr (.inr (.inr g))))) (srcPos := sp) (destPos := dp) (n := n) (by rw [hT]; exact hc0) (by rw [hT]; exact hc1)
    (fun _ h => by cases h) (fun _ h => by cases h) (fun h => by cases h) (fun h => by cases h) hk0' hk0' hkk0 hkk0 rfl h1 h2 h3
    (by rw [cl_nn sp h1, cl_nn n h3]; show ¬ _ > ((arrV c0 n0 (fun j => va_rf (f j))).slots.size : Int); rw [arrV_size]; omega)
    (by rw [cl_nn dp h2, cl_nn n h3]; show ¬ _ > ((arrV c0 n1 (fun j => va_rf (g j))).slots.size : Int); rw [arrV_size]; omega)
    (fun vm₁ hal i hi => by
      have e : (vp_cell c0 (n0, .inr (.inr (.inr (.inr f))))).slots.getD (sp.toNatClampNeg + i) .null = va_rf (f (sp.toNatClampNeg + i)) := by
        show (arrV c0 n0 (fun j => va_rf (f j))).slots.getD _ _ = _
        rw [Array.getD_eq_getD_getElem?, arrV_read _ _ (by omega)]
        rfl
      rw [e]
      cases hy : f (sp.toNatClampNeg + i) with
      | none => exact ⟨rfl, trivial⟩
      | some y =>
        obtain ⟨cellV, g1, g2, ⟨kC, hkC⟩, hasg⟩ := hel i hi y hy
        obtain ⟨kA, comp, r1, r2, r3, -⟩ := (hK.2 t0 _ ht0).2
        cases hk0'.symm.trans r1
        cases hkk0.symm.trans r2
        obtain ⟨kE, hkE, -⟩ := Vm.findClass_spec r3
        obtain ⟨kC', hkC', -⟩ := hal.2.2 _ _ hkC
        obtain ⟨kE', hkE', -⟩ := hal.2.2 _ _ hkE
        refine ⟨rfl, cellV, (show T.heap[y]? = some cellV by rw [hT]; exact g1), (fun q h => by rw [h] at g2; cases g2), ⟨kC', hkC'⟩, ?_, ?_⟩
        · exact ⟨kE', hkE'⟩
        · show vm₁.assignable _ _ = true
          rw [hal.assignable]
          exact hasg _ r3)
    (g := F0 m pc ls (.int n :: .int dp :: .ref a :: .int sp :: .ref a0 :: rest)) rfl (by rw [hml]) (rest := rest) rfl (by rw [hb]; exact hdg) hframes (by show 2 * 0 + _ + _ ≤ _; omega)
  have e1 : copied (vp_cell c0 (n0, .inr (.inr (.inr (.inr f))))) (vp_cell c0 (n1, .inr (.inr (.inr (.inr g))))) sp dp n = vp_cell c0 (n1, .inr (.inr (.inr (.inr (va_cpy f g sp.toNatClampNeg dp.toNatClampNeg n.toNatClampNeg))))) := by
    rw [vp_cell_q, vp_cell_q, vp_cell_q]
    exact va_copied (fun z => va_rf z) c0 c0 f g h4
  rw [e1] at X' step
  have hl : a < H.size := (Array.getElem?_eq_some_iff.mp hc1).1
  have hheap : ((T.setVm vm').setCell a (vp_cell c0 (n1, .inr (.inr (.inr (.inr (va_cpy f g sp.toNatClampNeg dp.toNatClampNeg n.toNatClampNeg))))))).heap = H.setIfInBounds a (vp_cell c0 (n1, .inr (.inr (.inr (.inr (va_cpy f g sp.toNatClampNeg dp.toNatClampNeg n.toNatClampNeg)))))) := by rw [← hT]; rfl
  have oq : ∀ q : Nat, q ≠ a → (H.setIfInBounds a (vp_cell c0 (n1, .inr (.inr (.inr (.inr (va_cpy f g sp.toNatClampNeg dp.toNatClampNeg n.toNatClampNeg)))))))[q]? = H[q]? := fun q hq => by simp [Array.getElem?_setIfInBounds, Ne.symm hq]
  have hat : (H.setIfInBounds a (vp_cell c0 (n1, .inr (.inr (.inr (.inr (va_cpy f g sp.toNatClampNeg dp.toNatClampNeg n.toNatClampNeg)))))))[a]? = some (vp_cell c0 (n1, .inr (.inr (.inr (.inr (va_cpy f g sp.toNatClampNeg dp.toNatClampNeg n.toNatClampNeg)))))) := by simp [Array.getElem?_setIfInBounds, hl]
  obtain ⟨t, a1, b1⟩ := kk _ _ hat (by simp) (tot_put hc1 hat (by rw [vp_cell_q, vp_cell_q, arrV_size, arrV_size]) oq) oq (fun q hq => by
      rcases List.mem_append.mp hq with h | h
      · exact Or.inl h
      · obtain ⟨z, -, hz⟩ := List.mem_map.mp h
        rw [← hz]
        exact Or.inr rfl) _ hheap X'
  exact ⟨t, step t a1, b1⟩
theorem gb_copyB (hexec : p.tables.exec = Jvm.exec) (hb : c.code = cc) (hml : c.maxLocals = ls.size) {own : String} {index : Nat} (hown : s.vm.findClass own = some m.cls) (hlink : (Cond.methodLink own index arraycopyName).before args s = true) (hnat : (Cond.native arraycopyName).before args s = true) (hstat : (Cond.static arraycopyName).before args s = true) (hini : (Cond.initialized "java/lang/System").before args s = true)
    (hK : va_K D cl tys s) (t0 : Nat) {a0 : Nat} {c0 : ClassId} {n0 n1 : Nat} {f g : Nat → Int32} (ha0 : va_at D cl (a0, .inl (c0, n0, .inl f)) H) (ha1 : va_at D cl (a, .inl (c0, n1, .inl g)) H) (ht0 : tys[t0]? = some (c0, .byte))
    {sp dp n : Int32} (h1 : ¬ sp < 0) (h2 : ¬ dp < 0) (h3 : ¬ n < 0) (h4 : sp.toNatClampNeg + n.toNatClampNeg ≤ n0) (h5 : dp.toNatClampNeg + n.toNatClampNeg ≤ n1) (hfit : ∀ i : Nat, i < n.toNatClampNeg → fits .byte (.int (f (sp.toNatClampNeg + i))) = true)
    (hframes : 1 ≤ R.frames) (hlocals : (rest.map fun v => v.category).sum + (nativeFrameWords "java/lang/System" "arraycopy" 5 + 11) ≤ R.locals) (hdg : decode cc pc = .ok (.invokestatic index, 3))
    (kk : ∀ (H1 : Heap) (locs1 : List Loc), va_at D cl (a, .inl (c0, n1, .inl (va_cpy f g sp.toNatClampNeg dp.toNatClampNeg n.toNatClampNeg))) H1 → H1.size = H.size → tot H1 = tot H → (∀ q : Nat, q ≠ a → H1[q]? = H[q]?) → (∀ z ∈ locs1, z ∈ locs ∨ z.base = a) → W p l e R s m args below meth c H1 locs1 cells slots Q (F0 m (pc + 3) ls rest)) : W p l e R s m args below meth c H locs cells slots Q (F0 m pc ls (.int n :: .int dp :: .ref a :: .int sp :: .ref a0 :: rest)) := by
  intro T hT X
  have hc0 : H[a0]? = some (vp_cell c0 (n0, .inl f)) := ha0
  have hc1 : H[a]? = some (vp_cell c0 (n1, .inl g)) := ha1
  obtain ⟨-, k0, hk0, cm0, hkk0⟩ := (hK.2 t0 _ ht0).1 n0 (fun j => .int (f j))
  have hk0' : s.vm.classes[c0]? = some k0 := hk0
  obtain ⟨vm', X', step⟩ := X.arraycopy hexec hown hlink hnat hstat hini (src := a0) (dst := a) (cs := vp_cell c0 (n0, .inl f)) (cd := vp_cell c0 (n1, .inl g)) (srcPos := sp) (destPos := dp) (n := n) (by rw [hT]; exact hc0) (by rw [hT]; exact hc1)
    (fun _ h => by cases h) (fun _ h => by cases h) (fun h => by cases h) (fun h => by cases h) hk0' hk0' hkk0 hkk0 (by simp [refKind]) h1 h2 h3
    (by rw [cl_nn sp h1, cl_nn n h3]; show ¬ _ > ((arrV c0 n0 (fun j => .int (f j))).slots.size : Int); rw [arrV_size]; omega)
    (by rw [cl_nn dp h2, cl_nn n h3]; show ¬ _ > ((arrV c0 n1 (fun j => .int (g j))).slots.size : Int); rw [arrV_size]; omega)
    (fun vm₁ hal i hi => by
      have e : (vp_cell c0 (n0, .inl f)).slots.getD (sp.toNatClampNeg + i) .null = .int (f (sp.toNatClampNeg + i)) := by
        show (arrV c0 n0 (fun j => .int (f j))).slots.getD _ _ = _
        rw [Array.getD_eq_getD_getElem?, arrV_read _ _ (by omega)]
        rfl
      refine ⟨?_, ?_⟩
      · rw [e]
        exact hfit i hi
      · rw [e]
        exact trivial)
    (g := F0 m pc ls (.int n :: .int dp :: .ref a :: .int sp :: .ref a0 :: rest)) rfl (by rw [hml]) (rest := rest) rfl (by rw [hb]; exact hdg) hframes (by show 2 * 0 + _ + _ ≤ _; omega)
  have e1 : copied (vp_cell c0 (n0, .inl f)) (vp_cell c0 (n1, .inl g)) sp dp n = vp_cell c0 (n1, .inl (va_cpy f g sp.toNatClampNeg dp.toNatClampNeg n.toNatClampNeg)) := by
    rw [vp_cell_i, vp_cell_i, vp_cell_i]
    exact va_copied (fun z => .int z) c0 c0 f g h4
  rw [e1] at X' step
  have hl : a < H.size := (Array.getElem?_eq_some_iff.mp hc1).1
  have hheap : ((T.setVm vm').setCell a (vp_cell c0 (n1, .inl (va_cpy f g sp.toNatClampNeg dp.toNatClampNeg n.toNatClampNeg)))).heap = H.setIfInBounds a (vp_cell c0 (n1, .inl (va_cpy f g sp.toNatClampNeg dp.toNatClampNeg n.toNatClampNeg))) := by rw [← hT]; rfl
  have oq : ∀ q : Nat, q ≠ a → (H.setIfInBounds a (vp_cell c0 (n1, .inl (va_cpy f g sp.toNatClampNeg dp.toNatClampNeg n.toNatClampNeg))))[q]? = H[q]? := fun q hq => by simp [Array.getElem?_setIfInBounds, Ne.symm hq]
  have hat : (H.setIfInBounds a (vp_cell c0 (n1, .inl (va_cpy f g sp.toNatClampNeg dp.toNatClampNeg n.toNatClampNeg))))[a]? = some (vp_cell c0 (n1, .inl (va_cpy f g sp.toNatClampNeg dp.toNatClampNeg n.toNatClampNeg))) := by simp [Array.getElem?_setIfInBounds, hl]
  obtain ⟨t, a1, b1⟩ := kk _ _ hat (by simp) (tot_put hc1 hat (by rw [vp_cell_i, vp_cell_i, arrV_size, arrV_size]) oq) oq (fun q hq => by
      rcases List.mem_append.mp hq with h | h
      · exact Or.inl h
      · obtain ⟨z, -, hz⟩ := List.mem_map.mp h
        rw [← hz]
        exact Or.inr rfl) _ hheap X'
  exact ⟨t, step t a1, b1⟩
theorem gb_clone (hexec : p.tables.exec = Jvm.exec) (hb : c.code = cc) (hml : c.maxLocals = ls.size) {own ad : String} {index : Nat} (hown : s.vm.findClass own = some m.cls)
    (hlink : (Cond.methodLink own index ⟨ad, "clone", "()Ljava/lang/Object;"⟩).before args s = true) (hsame : (Cond.sameMethod ad "java/lang/Object" "clone" "()Ljava/lang/Object;").before args s = true)
    (hnat : (Cond.native ⟨"java/lang/Object", "clone", "()Ljava/lang/Object;"⟩).before args s = true) (hinst : (Cond.instanceMethod ⟨"java/lang/Object", "clone", "()Ljava/lang/Object;"⟩).before args s = true)
    (hsel : (Cond.selects ad ⟨ad, "clone", "()Ljava/lang/Object;"⟩ ⟨"java/lang/Object", "clone", "()Ljava/lang/Object;"⟩).before args s = true) (hcl : va_Nw (.castable ad "java/lang/Cloneable") s)
    (hK : va_K D cl tys s) (t0 : Nat) {cA : ClassId} {x : vp_A} {ty : FieldType} (ha : va_at D cl (a, .inl (cA, x)) H) (ht : tys[t0]? = some (cA, ty))
    (hnm : s.vm.findClass ad = some cA) (hfit : ∀ (i : Nat) (v : Value), (vp_cell cA x).slots[i]? = some v → fits ty v = true)
    (hframes : 1 ≤ R.frames) (hlocals : (rest.map fun v => v.category).sum + 14 ≤ R.locals) (hcells : cells + 1 ≤ R.cells) (hslots : slots + x.1 ≤ R.slots) (hdg : decode cc pc = .ok (.invokevirtual index, 3))
    (kk : ∀ (H1 : Heap), va_at D cl (H.size, .inl (cA, x)) H1 → H1.size = H.size + 1 → tot H1 = tot H + x.1 → (∀ q : Nat, q < H.size → H1[q]? = H[q]?) → W p l e R s m args below meth c H1 locs (cells + 1) (slots + x.1) Q (F0 m (pc + 3) ls (.ref H.size :: rest))) : W p l e R s m args below meth c H locs cells slots Q (F0 m pc ls (.ref a :: rest)) := by
  have hsz : (vp_cell cA x).slots.size = x.1 := by
    obtain ⟨n, f | f | f | f | f⟩ := x <;> exact arrV_size _ _ _
  have hvm0 : (vp_cell cA x).vm = .none := by
    obtain ⟨n, f | f | f | f | f⟩ := x <;> rfl
  have hcl0 : (vp_cell cA x).cls = cA := by
    obtain ⟨n, f | f | f | f | f⟩ := x <;> rfl
  have hcellE : ({ cls := (vp_cell cA x).cls, slots := (vp_cell cA x).slots } : Cell) = vp_cell cA x := by
    obtain ⟨n, f | f | f | f | f⟩ := x <;> rfl
  obtain ⟨c0, t0', f1, f2, f3⟩ := Cond.castable_spec (va_Nw.use (A := args) rfl hcl)
  cases hnm.symm.trans f1
  intro T hT X
  have hcellT : T.heap[a]? = some (vp_cell cA x) := by rw [hT]; exact ha
  obtain ⟨-, kA, hkA, comp, hkind⟩ := State.isArrayOf_alike X.warmed.alike ((hK.2 t0 _ ht).1 0 (fun _ => .null))
  obtain ⟨-, kS, hkS, compS, hkindS⟩ := (hK.2 t0 _ ht).1 0 (fun _ => .null)
  obtain ⟨vm', X', st⟩ := X.cloneArray hexec hown hlink hsame hnat hinst hsel (a := a) (cell := vp_cell cA x) hcellT (fun k h => by rw [hvm0] at h; cases h) (by rw [hvm0]; exact fun h => by cases h) (by rw [hcl0]; exact hnm) f2 (by rw [hcl0]; exact f3)
    (fun i v hv => by
      rw [hcl0]
      have hk' : T.vm.classes[cA]? = some kA := hkA
      simpa [State.fitsSlot, State.slotType?, hk', hkind] using hfit i v hv)
    (g := F0 m pc ls (.ref a :: rest)) rfl (by rw [hml]) rfl (by rw [hb]; exact hdg) hframes (by show 2 * 0 + _ + 14 ≤ _; omega) hcells (by rw [hsz]; exact hslots) (hloader := by rw [hcl0]; exact Vm.clonesLoader_of_array hkS hkindS)
  rw [hcellE, hsz] at X'
  generalize hH1 : H.push (vp_cell cA x) = H1
  have z1 : H1.size = H.size + 1 := by rw [← hH1, Array.size_push]
  have e1 : H1[H.size]? = some (vp_cell cA x) := by rw [← hH1, Array.getElem?_push_size]
  have o1 : ∀ q : Nat, q < H.size → H1[q]? = H[q]? := fun q hq => by rw [← hH1, Array.getElem?_push, if_neg (Nat.ne_of_lt hq)]
  obtain ⟨t, b1, b2⟩ := kk H1 e1 z1 (by rw [tot_new e1 z1 o1, hsz]) o1
    ((T.setVm vm').pushCell (vp_cell cA x)) (by rw [← hH1, ← hT]; rfl) X'
  refine ⟨t, st t ?_, b2⟩
  rw [hcellE, hT]
  exact b1
end BK7
section BK8
variable {p : Program} {l : Launch} {e : Env} {R : Room} {s : State} {m : MethodId} {args : Array Value} {below : List Frame} {meth : Method} {c : Code} {H : Heap} {locs : List Loc} {cells slots : Nat} {Q : State → Prop}
variable {cc : ByteArray} {nL pc : Nat} {ls : Array Slot} {rest : List Value} {A : Nat → Prop} {E : gE} {LC LS : Nat} {g : GS} {a a0 : Nat} {β : Type} {r : β} {sp dp n : Int32}
theorem el_any (X : gCtx E A s) (hw : gH E A LC LS s g H locs) {y : Nat} (h : (oEl g y).isSome = true) : va_Any "java/lang/Object" s H y := by
  obtain ⟨v, hv⟩ := Option.isSome_iff_exists.mp h
  obtain ⟨hc, -⟩ := oif hv
  rcases (by omega : (gK g y).1 = 7 ∨ (gK g y).1 = 8 ∨ (gK g y).1 = 9 ∨ (gK g y).1 = 10 ∨ (gK g y).1 = 11 ∨ (gK g y).1 = 12 ∨ (gK g y).1 = 17 ∨ (gK g y).1 = 18 ∨ (gK g y).1 = 19 ∨ (gK g y).1 = 20 ∨ (gK g y).1 = 21 ∨ (gK g y).1 = 22) with ht | ht | ht | ht | ht | ht | ht | ht | ht | ht | ht | ht
  · exact gany_43_7 X hw ht
  · exact gany_43_8 X hw ht
  · exact gany_43_9 X hw ht
  · exact gany_43_10 X hw ht
  · exact gany_43_11 X hw ht
  · exact gany_43_12 X hw ht
  · exact gany_43_17 X hw ht
  · exact gany_43_18 X hw ht
  · exact gany_43_19 X hw ht
  · exact gany_43_20 X hw ht
  · exact gany_43_21 X hw ht
  · exact gany_43_22 X hw ht
theorem gS_many {H1 : Heap} {locs1 : List Loc} (hS : va_S A s.heap H locs) (hz : H1.size = H.size) (ho : ∀ q : Nat, q ≠ a → H1[q]? = H[q]?) (hA : A a) (hl : ∀ z ∈ locs1, z ∈ locs ∨ z.base = a) : va_S A s.heap H1 locs1 := by
  refine ⟨by rw [hz]; exact hS.1, fun q h1 h2 => ?_, fun q hq => ?_⟩
  · rw [ho q (fun e => h2 (by rw [e]; exact hA))]
    exact hS.2.1 q h1 h2
  · rcases hl q hq with h | h
    · exact hS.2.2 q h
    · rw [h]; exact hA
theorem gcopyR {F : GS → Option β} (S : CallFix p m c cc nL s args lw_all RJ16) (X : gCtx E A s) (hw : gH E A LC LS s g H locs) (hz : ls.size = nL) (hF : 1 ≤ R.frames) (hL : 40 ≤ R.locals) (hr : (rest.map fun v => v.category).sum ≤ 8) (hd : decode cc pc = .ok (.invokestatic 150, 3)) (h : bd1 (cpR g a0 sp a dp n) F = some r)
    (kk : ∀ (g1 : GS) (H : Heap) (locs : List Loc), F g1 = some r → gH E A LC LS s g1 H locs → W p l e R s m args below meth c H locs (H.size - s.heap.size) (tot H - tot s.heap) Q (F0 m (pc + 3) ls rest)) : W p l e R s m args below meth c H locs cells slots Q (F0 m pc ls (.int n :: .int dp :: .ref a :: .int sp :: .ref a0 :: rest)) := by
  obtain ⟨g1, h1, h2⟩ := bd1_some h
  obtain ⟨⟨⟨t0, t1⟩, ⟨n1, n2, n3⟩, ⟨n4, n5⟩, hel⟩, h3⟩ := oif h1
  cases h3
  have hc0 := gcell_43 (E := E) t0
  have hc1 := gcell_43 (E := E) t1
  refine gb_copyR (D := eD E) (tys := gTy E) S.1 S.2.1 (S.2.2.1.trans hz.symm) S.2.2.2.1 (S.2.2.2.2 _ q746) (S.2.2.2.2 _ q748) (S.2.2.2.2 _ q747) (S.2.2.2.2 _ q158) X.1 2 (hw.1.2.1 _ _ hc0).1 (hw.1.2.1 _ _ hc1).1 rfl n1 n2 n3 n4 n5 (fun i hi y hy => ?_) hF ?_ hd (fun H1 locs1 e1 z1 t3 o1 l1 => ?_)
  · have h9 := List.all_eq_true.mp hel i (List.mem_range.mpr hi)
    rw [hy] at h9
    exact el_any X hw h9
  · exact Nat.le_trans (Nat.add_le_add_right hr _) (Nat.le_trans (Nat.le_of_ble_eq_true rfl) hL)
  · refine W.canon (kk _ H1 _ h2 ⟨hw.1.set (hw.1.2.1 _ _ hc1).2 e1 ?_ o1 z1 t3 rfl (fun _ _ => rfl) (fun q hq => va_up_ne _ _ hq) (fun _ _ => rfl) rfl (by omega) (by omega), gS_many hw.2 z1 o1 (hw.1.2.1 _ _ hc1).2 l1⟩)
    show gc E (g.1 a) (g.2.1 a) (va_up g.2.2.1 a _ a) (g.2.2.2.1 a) = _
    rw [va_up_self]
    exact gcc_43 t1
theorem gcopyB {F : GS → Option β} (S : CallFix p m c cc nL s args lw_all RJ16) (X : gCtx E A s) (hw : gH E A LC LS s g H locs) (hz : ls.size = nL) (hF : 1 ≤ R.frames) (hL : 40 ≤ R.locals) (hr : (rest.map fun v => v.category).sum ≤ 8) (hd : decode cc pc = .ok (.invokestatic 150, 3)) (h : bd1 (cpB g a0 sp a dp n) F = some r)
    (kk : ∀ (g1 : GS) (H : Heap) (locs : List Loc), F g1 = some r → gH E A LC LS s g1 H locs → W p l e R s m args below meth c H locs (H.size - s.heap.size) (tot H - tot s.heap) Q (F0 m (pc + 3) ls rest)) : W p l e R s m args below meth c H locs cells slots Q (F0 m pc ls (.int n :: .int dp :: .ref a :: .int sp :: .ref a0 :: rest)) := by
  obtain ⟨g1, h1, h2⟩ := bd1_some h
  obtain ⟨⟨⟨t0, t1⟩, ⟨n1, n2, n3⟩, ⟨n4, n5⟩, hel⟩, h3⟩ := oif h1
  cases h3
  have hc0 := gcell_41 (E := E) t0
  have hc1 := gcell_41 (E := E) t1
  refine gb_copyB (D := eD E) (tys := gTy E) S.1 S.2.1 (S.2.2.1.trans hz.symm) S.2.2.2.1 (S.2.2.2.2 _ q746) (S.2.2.2.2 _ q748) (S.2.2.2.2 _ q747) (S.2.2.2.2 _ q158) X.1 1 (hw.1.2.1 _ _ hc0).1 (hw.1.2.1 _ _ hc1).1 rfl n1 n2 n3 n4 n5 (fun i hi => isB_fit (List.all_eq_true.mp hel i (List.mem_range.mpr hi))) hF ?_ hd (fun H1 locs1 e1 z1 t3 o1 l1 => ?_)
  · exact Nat.le_trans (Nat.add_le_add_right hr _) (Nat.le_trans (Nat.le_of_ble_eq_true rfl) hL)
  · refine W.canon (kk _ H1 _ h2 ⟨hw.1.set (hw.1.2.1 _ _ hc1).2 e1 ?_ o1 z1 t3 rfl (fun q hq => va_up_ne _ _ hq) (fun _ _ => rfl) (fun _ _ => rfl) rfl (by omega) (by omega), gS_many hw.2 z1 o1 (hw.1.2.1 _ _ hc1).2 l1⟩)
    show gc E (g.1 a) (va_up g.2.1 a _ a) (g.2.2.1 a) (g.2.2.2.1 a) = _
    rw [va_up_self]
    exact gcc_41 t1
theorem gB.newI {H1 : Heap} {n ns : Nat} {f : Nat → Int32} (h : gB E A LC LS g H) (hA : A H.size) (hc : va_at (eD E) vwCl (H.size, .inl (eC E 1, n, .inl f)) H1) (hz : H1.size = H.size + 1) (ht : tot H1 = tot H + ns) (ho : ∀ q : Nat, q < H.size → H1[q]? = H[q]?) (hl : gZ g + 1 ≤ gLC g ∧ gN g + ns ≤ gLS g) : gB E A LC LS (setRI (nw g 41 n ns) (gZ g) f) H1 := by
  obtain ⟨⟨b1, b2, b3, b4, b5, b6, b10, b11⟩, b7, b8, b9⟩ := h
  rw [b5] at hl
  rw [b6] at hl
  have ek : ∀ q, gK (setRI (nw g 41 n ns) (gZ g) f) q = gK (nw g 41 n ns) q := fun _ => rfl
  have ne : ∀ q, q ≠ gZ g → gK (nw g 41 n ns) q = gK g q := fun q hq => va_up_ne _ _ hq
  have ei : ∀ q, q ≠ gZ g → (setRI (nw g 41 n ns) (gZ g) f).2.1 q = g.2.1 q := fun q hq => by
    show va_up (va_up g.2.1 (gZ g) _) (gZ g) f q = _
    rw [va_up_ne _ _ hq, va_up_ne _ _ hq]
  have er : ∀ q, q ≠ gZ g → (setRI (nw g 41 n ns) (gZ g) f).2.2.1 q = g.2.2.1 q := fun q hq => va_up_ne _ _ hq
  have el : ∀ q, q ≠ gZ g → (setRI (nw g 41 n ns) (gZ g) f).2.2.2.1 q = g.2.2.2.1 q := fun q hq => va_up_ne _ _ hq
  refine ⟨⟨by show gZ g + 1 = _; rw [hz, b1], by show gN g + ns = _; rw [ht, b2], hl.1, hl.2, b5, b6, b10, b11⟩, ?_, ?_, ?_⟩
  · intro q x hx
    by_cases hq : q = gZ g
    · subst hq
      have e3 : gcell E (setRI (nw g 41 n ns) (gZ g) f) (gZ g) = some (.inl (eC E 1, n, .inl f)) := by
        show gc E (va_up g.1 (gZ g) (41, n) (gZ g)) (va_up (va_up g.2.1 (gZ g) _) (gZ g) f (gZ g)) _ _ = _
        rw [va_up_self, va_up_self]
        exact gcc_41 rfl
      rw [e3] at hx
      cases hx
      rw [b1]
      exact ⟨hc, hA⟩
    · have e2 : gcell E (setRI (nw g 41 n ns) (gZ g) f) q = gcell E g q := by
        show gc E (gK (nw g 41 n ns) q) ((setRI (nw g 41 n ns) (gZ g) f).2.1 q) ((setRI (nw g 41 n ns) (gZ g) f).2.2.1 q) ((setRI (nw g 41 n ns) (gZ g) f).2.2.2.1 q) = gc E (g.1 q) (g.2.1 q) (g.2.2.1 q) (g.2.2.2.1 q)
        rw [ne q hq, ei q hq, er q hq, el q hq]
        rfl
      rw [e2] at hx
      obtain ⟨y1, y2⟩ := b7 q x hx
      exact ⟨y1.kept (ho q y1.lt), y2⟩
  · intro q hq
    have hne : q ≠ gZ g := fun z => by rw [ek, z, nw_at.1] at hq; cases hq
    rw [ek, ne q hne] at hq
    obtain ⟨i, y1, y2, y3, y4, y5⟩ := b8 q hq
    exact ⟨i, y1, y2, by show (setRI (nw g 41 n ns) (gZ g) f).2.2.1 q _ = _; rw [er q hne]; exact y3, by show (setRI (nw g 41 n ns) (gZ g) f).2.1 q _ = _; rw [ei q hne]; exact y4, by show (setRI (nw g 41 n ns) (gZ g) f).2.1 q _ = _; rw [ei q hne]; exact y5⟩
  · intro q hq
    have hne : q ≠ gZ g := fun z => by rw [ek, z, nw_at.1] at hq; cases hq
    rw [ek, ne q hne] at hq
    obtain ⟨i, y1, y2, y3, y4⟩ := b9 q hq
    exact ⟨i, y1, y2, by rw [ek, ne q hne]; exact y3, fun j hj => by show (setRI (nw g 41 n ns) (gZ g) f).2.1 q _ = _; rw [ei q hne]; exact y4 j hj⟩
theorem gclone {F : GS → Option β} (S : CallFix p m c cc nL s args lw_all RJ16) (X : gCtx E A s) (Z : gRm R s LC LS) (hw : gH E A LC LS s g H locs) (hz : ls.size = nL) (hF : 1 ≤ R.frames) (hL : 40 ≤ R.locals) (hr : (rest.map fun v => v.category).sum ≤ 8) (hd : decode cc pc = .ok (.invokevirtual 310, 3)) (h : bd1 (clB g a) F = some r)
    (kk : ∀ (g1 : GS) (H : Heap), F g1 = some r → gH E A LC LS s g1 H locs → W p l e R s m args below meth c H locs (H.size - s.heap.size) (tot H - tot s.heap) Q (F0 m (pc + 3) ls (.ref (gZ g) :: rest))) : W p l e R s m args below meth c H locs (H.size - s.heap.size) (tot H - tot s.heap) Q (F0 m pc ls (.ref a :: rest)) := by
  obtain ⟨g1, h1, h2⟩ := bd1_some h
  obtain ⟨⟨⟨t0, hel⟩, hl⟩, h3⟩ := oif h1
  cases h3
  have hc0 := gcell_41 (E := E) t0
  refine W.totle (fun hs ht => ?_)
  have z1 := hw.1.1
  have hnm : s.vm.findClass "[B" = some (eC E 1) := (X.1.2 1 _ rfl).2
  refine gb_clone (D := eD E) (tys := gTy E) (ad := "[B") (x := ((gK g a).2, .inl (fun j => gI g a j))) (ty := .byte) S.1 S.2.1 (S.2.2.1.trans hz.symm) S.2.2.2.1 (S.2.2.2.2 _ q738) (S.2.2.2.2 _ q739) (S.2.2.2.2 _ q740) (S.2.2.2.2 _ q741) (S.2.2.2.2 _ q742) (X.2.2.2.2.2.1 _ q743 rfl) X.1 1 (hw.1.2.1 _ _ hc0).1 rfl hnm ?_ hF ?_ (by rw [Z.1]; omega) (by rw [Z.2]; show _ + (gK g a).2 ≤ _; omega) hd (fun H1 e1 e2 e3 e4 => ?_)
  · intro i v hv
    have hlt : i < (gK g a).2 := by
      have := (Array.getElem?_eq_some_iff.mp hv).1
      rw [vp_cell_i, arrV_size] at this
      exact this
    rw [vp_cell_i, arrV_read _ _ hlt] at hv
    cases hv
    exact isB_fit (List.all_eq_true.mp hel i (List.mem_range.mpr hlt))
  · exact Nat.le_trans (Nat.add_le_add_right hr _) (Nat.le_trans (Nat.le_of_ble_eq_true rfl) hL)
  · have e := hw.1.1.1
    have k := kk _ H1 h2 ⟨gB.newI hw.1 (X.2.1 _ hw.2.1) e1 e2 e3 e4 hl, Nat.le_trans hw.2.1 (by omega), fun x h1 h3 => (e4 x (Nat.lt_of_lt_of_le h1 hw.2.1)).trans (hw.2.2.1 x h1 h3), hw.2.2.2⟩
    rw [e] at k
    exact W.canon k
theorem gcastB {F : Nat → Option β} (S : CallFix p m c cc nL s args lw_all RJ16) (X : gCtx E A s) (hw : gH E A LC LS s g H locs) (hd : decode cc pc = .ok (.checkcast 311, 3)) (h : bd1 (oK g a 41 41) F = some r) (kk : ∀ v, F v = some r → W p l e R s m args below meth c H locs cells slots Q (F0 m (pc + 3) ls (.ref a :: rest))) : W p l e R s m args below meth c H locs cells slots Q (F0 m pc ls (.ref a :: rest)) := by
  obtain ⟨v, h1, h2⟩ := bd1_some h
  obtain ⟨⟨c1, c2⟩, h3⟩ := oif h1
  have ht : (gK g a).1 = 41 := by omega
  have hnm : s.vm.findClass "[B" = some (eC E 1) := (X.1.2 1 _ rfl).2
  exact va_castA (D := eD E) S.1 S.2.1 S.2.2.2.1 (S.2.2.2.2 _ q744) (va_one (hw.1.2.1 _ _ (gcell_41 ht)).1) 0 rfl hnm hd (kk _ h2)
theorem ggetC {F : Nat → Option β} (S : CallFix p m c cc nL s args lw_all RJ16) (X : gCtx E A s) (hw : gH E A LC LS s g H locs) (hz : ls.size = nL) (hF : 1 ≤ R.frames) (hL : 40 ≤ R.locals) (hr : (rest.map fun v => v.category).sum ≤ 8) (hd : decode cc pc = .ok (.invokevirtual 86, 3)) (h : bd1 (oK g a 43 43) (fun _ => bd1 (gT g 9) F) = some r) (kk : ∀ v, F v = some r → W p l e R s m args below meth c H locs cells slots Q (F0 m (pc + 3) ls (.ref v :: rest))) : W p l e R s m args below meth c H locs cells slots Q (F0 m pc ls (.ref a :: rest)) := by
  obtain ⟨v, h1, h2⟩ := bd1_some h
  obtain ⟨⟨c1, c2⟩, h3⟩ := oif h1
  have ht : (gK g a).1 = 43 := by omega
  obtain ⟨mi, h4, h5⟩ := bd1_some h2
  obtain ⟨m2, hm, hM⟩ := X.2.2.2.2.2.2.2
  rw [hw.1.1.2.2.2.2.2.2.1 9 (by decide), hm] at h4
  cases h4
  obtain ⟨kA, comp, k1, k2, k3, k4⟩ := (X.1.2 2 _ rfl).2
  have hc : H[a]? = some (vp_cell (eC E 2) ((gK g a).2, .inr (.inr (.inr (.inr (fun j => gR g a j)))))) := (hw.1.2.1 _ _ (gcell_43 (E := E) ht)).1
  exact va_getC S.1 S.2.1 (S.2.2.1.trans hz.symm) S.2.2.2.1 (S.2.2.2.2 _ q929) (va_Nw.use rfl (X.2.2.2.2.2.1 _ q2403 rfl)) (S.2.2.2.2 _ q2402) (S.2.2.2.2 _ q930) (S.2.2.2.2 _ q959) hM ⟨_, hc, rfl, k4⟩ hF (Nat.le_trans (Nat.add_le_add_right hr _) (Nat.le_trans (Nat.le_of_ble_eq_true rfl) hL)) hd (kk _ h5)
theorem gldcM {F : Nat → Option β} (S : CallFix p m c cc nL s args lw_all RJ16) (X : gCtx E A s) (hw : gH E A LC LS s g H locs) (hd : decode cc pc = .ok (.ldc 110, 2)) (h : bd1 (gT g 9) F = some r) (kk : ∀ v, F v = some r → W p l e R s m args below meth c H locs cells slots Q (F0 m (pc + 2) ls (.ref v :: rest))) : W p l e R s m args below meth c H locs cells slots Q (F0 m pc ls rest) := by
  obtain ⟨mi, h4, h5⟩ := bd1_some h
  obtain ⟨m2, hm, hM⟩ := X.2.2.2.2.2.2.2
  rw [hw.1.1.2.2.2.2.2.2.1 9 (by decide), hm] at h4
  cases h4
  exact va_ldcM S.1 S.2.1 S.2.2.2.1 (S.2.2.2.2 _ q963) hM hd (kk _ h5)
end BK8
