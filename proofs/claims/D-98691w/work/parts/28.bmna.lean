/-! B: an array of arrays (printed by gen/bmna.py) -/
set_option maxRecDepth 100000
/-- N rows of M ints, and the row of them -/
def mna (g : GS) (N M : Nat) : GS :=
  (fun q => if q = gZ g then (46, N) else if gZ g < q ∧ q < gZ g + 1 + N then (40, M) else g.1 q,
   fun q => if gZ g ≤ q ∧ q < gZ g + 1 + N then (fun _ => 0) else g.2.1 q,
   fun q => if q = gZ g then (fun j => if j < N then some (gZ g + 1 + j) else none) else if gZ g < q ∧ q < gZ g + 1 + N then (fun _ => none) else g.2.2.1 q,
   fun q => if gZ g ≤ q ∧ q < gZ g + 1 + N then (fun _ => 0) else g.2.2.2.1 q,
   gZ g + 1 + N, gN g + (N + N * M), gLC g, gLS g, g.2.2.2.2.2.2.2.2)
def omna (g : GS) (N M : Nat) : Option GS := if gZ g + 1 + N ≤ gLC g ∧ gN g + (N + N * M) ≤ gLS g then some (mna g N M) else none
/-- the machine's loop: rows pushed one by one, each put into the row of rows -/
def gridS (cA cI : ClassId) (N M : Nat) (S : State) : Nat → State
  | 0 => S.pushCell (arrV cA N (fun _ => .null))
  | i + 1 => ((gridS cA cI N M S i).pushCell (arrV cI M (fun _ => .int 0))).setCell S.heap.size (arrV cA N (fun j => if j < i + 1 then .ref (S.heap.size + 1 + j) else .null))
theorem gridS_zero (cA : ClassId) (N h : Nat) : arrV cA N (fun _ => Value.null) = arrV cA N (fun j => if j < 0 then .ref (h + 1 + j) else .null) := by
  congr 1
theorem gridS_ok (cA cI : ClassId) (N M : Nat) (S : State) (i : Nat) :
    (gridS cA cI N M S i).heap.size = S.heap.size + 1 + i ∧ (gridS cA cI N M S i).heap[S.heap.size]? = some (arrV cA N (fun j => if j < i then .ref (S.heap.size + 1 + j) else .null)) ∧ (gridS cA cI N M S i).vm = S.vm ∧
    (gridS cA cI N M S i).slotsUsed = S.slotsUsed + (N + i * M) ∧ tot (gridS cA cI N M S i).heap = tot S.heap + (N + i * M) ∧ (∀ q : Nat, q < S.heap.size → (gridS cA cI N M S i).heap[q]? = S.heap[q]?) ∧
    (∀ j, j < i → (gridS cA cI N M S i).heap[S.heap.size + 1 + j]? = some (arrV cI M (fun _ => .int 0))) := by
  induction i with
  | zero =>
    have e1 : (S.pushCell (arrV cA N (fun _ => Value.null))).heap[S.heap.size]? = some (arrV cA N (fun _ => .null)) := by simp
    refine ⟨by simp [gridS], ?_, rfl, by simp [gridS, arrV_size], ?_, fun q hq => State.heap_pushCell_of_lt _ _ hq, fun j hj => absurd hj (Nat.not_lt_zero j)⟩
    · rw [← gridS_zero]; exact e1
    · show tot (S.pushCell _).heap = _
      rw [tot_new e1 (by simp) (fun q hq => State.heap_pushCell_of_lt _ _ hq), arrV_size]; omega
  | succ i ih =>
    obtain ⟨a1, a2, a3, a4, a5, a6, a7⟩ := ih
    generalize hG : gridS cA cI N M S i = G at *
    have hlt : S.heap.size < G.heap.size := by omega
    have b1 : (G.pushCell (arrV cI M (fun _ => Value.int 0))).heap[S.heap.size]? = some (arrV cA N (fun j => if j < i then .ref (S.heap.size + 1 + j) else .null)) := by rw [State.heap_pushCell_of_lt (h := hlt)]; exact a2
    have hs : gridS cA cI N M S (i + 1) = (G.pushCell (arrV cI M (fun _ => Value.int 0))).setCell S.heap.size (arrV cA N (fun j => if j < i + 1 then .ref (S.heap.size + 1 + j) else .null)) := by rw [gridS, hG]
    have oth : ∀ q : Nat, q ≠ S.heap.size → ((G.pushCell (arrV cI M (fun _ => Value.int 0))).setCell S.heap.size (arrV cA N (fun j => if j < i + 1 then .ref (S.heap.size + 1 + j) else .null))).heap[q]? = (G.pushCell (arrV cI M (fun _ => Value.int 0))).heap[q]? := fun q hq => State.heap_setCell_other (Ne.symm hq)
    have slf : ((G.pushCell (arrV cI M (fun _ => Value.int 0))).setCell S.heap.size (arrV cA N (fun j => if j < i + 1 then .ref (S.heap.size + 1 + j) else .null))).heap[S.heap.size]? = some (arrV cA N (fun j => if j < i + 1 then .ref (S.heap.size + 1 + j) else .null)) := State.heap_setCell_self b1
    rw [hs]
    refine ⟨by simp [State.setCell, a1]; omega, slf, by simp [a3], by simp [a4, arrV_size, Nat.succ_mul]; omega, ?_, fun q hq => ?_, fun j hj => ?_⟩
    · rw [tot_put b1 slf (by rw [arrV_size, arrV_size]) oth, tot_new (H := G.heap) (c1 := arrV cI M (fun _ => Value.int 0)) (by simp) (by simp) (fun q hq => State.heap_pushCell_of_lt _ _ hq), arrV_size, a5, Nat.succ_mul]
      omega
    · rw [oth q (by omega), State.heap_pushCell_of_lt _ _ (show q < G.heap.size by omega)]
      exact a6 q hq
    · rw [oth _ (by omega)]
      by_cases hj2 : j < i
      · rw [State.heap_pushCell_of_lt _ _ (show S.heap.size + 1 + j < G.heap.size by omega)]
        exact a7 j hj2
      · have e : S.heap.size + 1 + j = G.heap.size := by omega
        rw [e]
        simp
theorem gridS_top (cA cI : ClassId) (N M : Nat) (S : State) (f : JFrame) (i : Nat) : gridS cA cI N M (S.setTop f) i = (gridS cA cI N M S i).setTop f := by
  induction i with
  | zero => rfl
  | succ i ih => simp only [gridS, ih, State.heap_setTop, State.pushCell_setTop, State.setCell_setTop]
theorem outer_rf (cA : ClassId) (N h0 : Nat) : arrV cA N (fun j => if j < N then Value.ref (h0 + 1 + j) else .null) = arrV cA N (fun j => va_rf (if j < N then some (h0 + 1 + j) else none)) := by
  congr 1
  funext j
  by_cases hj : j < N
  · rw [if_pos hj, if_pos hj]; rfl
  · rw [if_neg hj, if_neg hj]; rfl
section BM0
variable {p : Program} {l : Launch} {e : Env} {R : Room} {s : State} {m : MethodId} {args : Array Value} {below : List Frame} {meth : Method} {c : Code} {T : State} {locs : List Loc} {cells slots : Nat}
theorem gridS_stand (X : Stand p l e R s m args below meth c T locs cells slots) (cA cI : ClassId) (N M : Nat) (i : Nat) : ∃ J : List Loc, (∀ x ∈ J, s.heap.size ≤ x.base) ∧ Stand p l e R s m args below meth c (gridS cA cI N M T i) (locs ++ J) (cells + 1 + i) (slots + (N + i * M)) := by
  induction i with
  | zero =>
    refine ⟨[], fun x hx => absurd hx List.not_mem_nil, ?_⟩
    have h := X.pushed (arrV cA N (fun _ => Value.null))
    rw [arrV_size] at h
    simpa [gridS] using h
  | succ i ih =>
    obtain ⟨J, hJ, Xi⟩ := ih
    obtain ⟨a1, a2, -⟩ := gridS_ok cA cI N M T i
    have hlt : T.heap.size < (gridS cA cI N M T i).heap.size := by omega
    have b1 : ((gridS cA cI N M T i).pushCell (arrV cI M (fun _ => Value.int 0))).heap[T.heap.size]? = some (arrV cA N (fun j => if j < i then .ref (T.heap.size + 1 + j) else .null)) := by rw [State.heap_pushCell_of_lt (h := hlt)]; exact a2
    have h := (Xi.pushed (arrV cI M (fun _ => Value.int 0))).stored b1 i (.ref (T.heap.size + 1 + i))
    rw [arrV_size, arrV_store] at h
    have e1 : updV (fun j => if j < i then Value.ref (T.heap.size + 1 + j) else .null) i (.ref (T.heap.size + 1 + i)) = fun j => if j < i + 1 then Value.ref (T.heap.size + 1 + j) else .null := by
      funext j
      unfold updV
      by_cases h1 : j = i
      · subst h1; simp
      · by_cases h2 : j < i
        · rw [if_neg h1]; show (if j < i then _ else _) = _; rw [if_pos h2, if_pos (by omega)]
        · rw [if_neg h1]; show (if j < i then _ else _) = _; rw [if_neg h2, if_neg (by omega)]
    rw [e1] at h
    refine ⟨J ++ [⟨T.heap.size, i⟩], fun x hx => ?_, ?_⟩
    · rcases List.mem_append.mp hx with h1 | h1
      · exact hJ x h1
      · rw [List.mem_singleton.mp h1]; exact X.heapGrown
    · rw [← List.append_assoc, show slots + (N + (i + 1) * M) = slots + (N + i * M) + M by rw [Nat.succ_mul]; omega]
      exact h
end BM0
section BM00
variable {Ec : CtlPost} {e : Env} {d : Bool} {acts : List Action} {s : State}
theorem wp_arr {c comp : ClassId} {k : Class} {type : FieldType} {len : Nat} {init : Value} (hk : s.vm.classes[c]? = some k) (hkind : k.kind = .array comp type) (hl : len ≤ e.platform.arrayLengthLimit) (hh : len * componentBytes type ≤ e.platform.maxHeapBytes) (hfit : fits type init = true) (hdef : init.isDefault = true)
    (h1 : s.heap.size < e.platform.maxCells) (h2 : s.slotsUsed + len ≤ e.platform.maxSlots) {Q : Addr → Pre} (hq : Q s.heap.size d acts (s.pushCell (arrV c len (fun _ => init)))) : wp (Jvm.newArray c len init) Q Ec e d acts s := by
  rw [← arrV_new] at hq
  have f1 : ∀ i v, (Array.replicate len init)[i]? = some v → s.fitsSlot c .none i v = true := by
    intro i v hv
    obtain ⟨hi, rfl⟩ : i < len ∧ init = v := by
      rw [Array.getElem?_replicate] at hv
      by_cases hi : i < len
      · rw [if_pos hi] at hv; exact ⟨hi, Option.some.inj hv⟩
      · rw [if_neg hi] at hv; cases hv
    simp [State.fitsSlot, State.slotType?, hk, hkind, hfit]
  have f2 : allocActs (Array.replicate len init) s.heap.size acts = acts := by
    unfold allocActs
    rw [if_pos]
    rw [Array.all_replicate]
    by_cases h0 : len = 0
    · simp [h0]
    · simp [h0, hdef]
  simp only [Jvm.newArray, Jvm.arrayFits, wp_bind', W.ask, W.ite, show ¬ len > e.platform.arrayLengthLimit from by omega, if_false, wp_pure', W.theClass, hk, hkind, show ¬ len * componentBytes type > e.platform.maxHeapBytes from by omega, W.alloc, W.stop, Option.some.injEq, exists_eq_left', Array.size_replicate, f2]
  rw [if_neg (by omega)]
  exact ⟨h1, h2, f1, hq⟩
theorem wp_grid {cA cI c3 : ClassId} {kA kI : Class} {n k : Int32} (x1 : s.vm.classes[cA]? = some kA) (x3 : kA.kind = .array cI (.array .int)) (y1 : s.vm.classes[cI]? = some kI) (y3 : kI.kind = .array c3 .int) (hn : ¬ n < 0) (hk : ¬ k < 0)
    (l1 : n.toNatClampNeg ≤ e.platform.arrayLengthLimit) (m1 : n.toNatClampNeg * 4 ≤ e.platform.maxHeapBytes) (l2 : k.toNatClampNeg ≤ e.platform.arrayLengthLimit) (m2 : k.toNatClampNeg * 4 ≤ e.platform.maxHeapBytes)
    (hc : s.heap.size + 1 + n.toNatClampNeg ≤ e.platform.maxCells) (hs : s.slotsUsed + (n.toNatClampNeg + n.toNatClampNeg * k.toNatClampNeg) ≤ e.platform.maxSlots) {Q : Addr → Pre} (hq : ∀ d' acts', Q s.heap.size d' acts' (gridS cA cI n.toNatClampNeg k.toNatClampNeg s n.toNatClampNeg)) : wp (multianewarray.make cA [n, k]) Q Ec e d acts s := by
  have hnk : ([k].find? (· < 0)) = none := by simp [hk]
  rw [multianewarray.make]
  simp only [wp_bind', W.ite, hn, if_false, wp_pure', W.theClass, x1, x3, Option.some.injEq, exists_eq_left']
  refine wp_arr x1 x3 l1 m1 rfl rfl (by omega) (by omega) ?_
  simp only [hnk]
  rw [ite_self, wp_bind', Std.Legacy.Range.forIn_eq_forIn_range']
  rw [show ([:n.toNatClampNeg] : Std.Legacy.Range).size = n.toNatClampNeg by simp [Std.Legacy.Range.size]]
  show wp (forIn (List.range' 0 n.toNatClampNeg 1) PUnit.unit _) _ Ec e d acts _
  refine wp_forIn_inv (fun todo S => ∃ i, todo = List.range' i todo.length ∧ i + todo.length = n.toNatClampNeg ∧ S = gridS cA cI n.toNatClampNeg k.toNatClampNeg s i) _ _ ⟨0, by simp, by simp, rfl⟩ ?_ ?_
  · rintro x todo S d' acts' Q' ⟨i, t1, t2, rfl⟩ hnext
    rw [List.length_cons, List.range'_succ] at t1
    obtain ⟨rfl, t3⟩ := List.cons.inj t1
    rw [List.length_cons] at t2
    obtain ⟨a1, a2, a3, a4, -⟩ := gridS_ok cA cI n.toNatClampNeg k.toNatClampNeg s x
    have mul : x * k.toNatClampNeg + k.toNatClampNeg ≤ n.toNatClampNeg * k.toNatClampNeg := by
      have := Nat.mul_le_mul_right k.toNatClampNeg (show x + 1 ≤ n.toNatClampNeg by omega)
      rwa [Nat.succ_mul] at this
    have hlt : s.heap.size < (gridS cA cI n.toNatClampNeg k.toNatClampNeg s x).heap.size := by omega
    simp only [wp_bind']
    rw [multianewarray.make]
    simp only [wp_bind', W.ite, hk, if_false, wp_pure', W.theClass, a3, y1, y3, Option.some.injEq, exists_eq_left']
    refine wp_arr (by rw [a3]; exact y1) y3 l2 m2 rfl rfl (by omega) (by omega) ?_
    simp only [wp_bind', W.writeLoc, wp_pure']
    refine ⟨_, (State.heap_pushCell_of_lt _ _ hlt).trans a2, by simp [arrV], by rw [arrV_size]; omega, ?_, hnext _ _ _ ⟨x + 1, t3, by omega, ?_⟩⟩
    · have e9 : (arrV cA n.toNatClampNeg (fun j => if j < x then Value.ref (s.heap.size + 1 + j) else .null)).cls = cA := rfl
      have e8 : (arrV cA n.toNatClampNeg (fun j => if j < x then Value.ref (s.heap.size + 1 + j) else .null)).vm = .none := rfl
      rw [e9, e8]
      simp [State.fitsSlot, State.slotType?, a3, x1, x3, fits]
    · rw [arrV_store, a1, gridS]
      congr 2
      funext j
      unfold updV
      by_cases h1 : j = x
      · subst h1; simp
      · by_cases h2 : j < x
        · rw [if_neg h1]; show (if j < x then _ else _) = _; rw [if_pos h2, if_pos (by omega)]
        · rw [if_neg h1]; show (if j < x then _ else _) = _; rw [if_neg h2, if_neg (by omega)]
  · rintro S d' acts' ⟨i, t1, t2, rfl⟩
    simp only [List.length_nil, Nat.add_zero] at t2
    subst t2
    simp only [wp_pure']
    exact hq _ _
end BM00
theorem gB_mna {E : gE} {A : Nat → Prop} {LC LS : Nat} {g : GS} {H H1 : Heap} {N M : Nat} (h : gB E A LC LS g H) (hA : ∀ q, H.size ≤ q → A q) (hl : gZ g + 1 + N ≤ gLC g ∧ gN g + (N + N * M) ≤ gLS g) (hz : H1.size = H.size + 1 + N) (ht : tot H1 = tot H + (N + N * M)) (ho : ∀ q : Nat, q < H.size → H1[q]? = H[q]?)
    (h0 : H1[H.size]? = some (arrV (eC E 4) N (fun j => va_rf (if j < N then some (H.size + 1 + j) else none)))) (hi : ∀ j, j < N → H1[H.size + 1 + j]? = some (arrV (eC E 0) M (fun _ => .int 0))) : gB E A LC LS (mna g N M) H1 := by
  obtain ⟨⟨b1, b2, b3, b4, b5, b6, b10, b11⟩, b7, b8, b9⟩ := h
  rw [b5] at hl
  rw [b6] at hl
  have old : ∀ q, ¬ (gZ g ≤ q ∧ q < gZ g + 1 + N) → gK (mna g N M) q = gK g q ∧ (mna g N M).2.1 q = g.2.1 q ∧ (mna g N M).2.2.1 q = g.2.2.1 q ∧ (mna g N M).2.2.2.1 q = g.2.2.2.1 q := by
    intro q hq
    have q1 : q ≠ gZ g := by intro e; exact hq ⟨by omega, by omega⟩
    have q2 : ¬ (gZ g < q ∧ q < gZ g + 1 + N) := fun e => hq ⟨by omega, e.2⟩
    refine ⟨?_, if_neg hq, ?_, if_neg hq⟩
    · show (if q = gZ g then _ else _) = _
      rw [if_neg q1, if_neg q2]; rfl
    · show (if q = gZ g then _ else _) = _
      rw [if_neg q1, if_neg q2]
  have kin : ∀ q, gZ g < q ∧ q < gZ g + 1 + N → gK (mna g N M) q = (40, M) := by
    intro q hq
    show (if q = gZ g then _ else _) = _
    rw [if_neg (by omega), if_pos hq]
  have k0 : gK (mna g N M) (gZ g) = (46, N) := by
    show (if gZ g = gZ g then _ else _) = _
    rw [if_pos rfl]
  refine ⟨⟨by show gZ g + 1 + N = _; rw [hz, b1], by show gN g + (N + N * M) = _; rw [ht, b2], hl.1, hl.2, b5, b6, b10, b11⟩, ?_, ?_, ?_⟩
  · intro q x hx
    by_cases hq : gZ g ≤ q ∧ q < gZ g + 1 + N
    · refine ⟨?_, hA q (by rw [← b1]; exact hq.1)⟩
      by_cases q0 : q = gZ g
      · subst q0
        rw [gcell_46 (by rw [k0])] at hx
        cases hx
        show H1[gZ g]? = some (vp_cell _ _)
        rw [vp_cell_q, k0]
        have e2 : ∀ j, gR (mna g N M) (gZ g) j = if j < N then some (gZ g + 1 + j) else none := by
          intro j
          have : (mna g N M).2.2.1 (gZ g) = fun j => if j < N then some (gZ g + 1 + j) else none := if_pos rfl
          show (mna g N M).2.2.1 (gZ g) j = _
          rw [this]
        simp only [e2]
        rw [b1]
        exact h0
      · have hq2 : gZ g < q ∧ q < gZ g + 1 + N := ⟨by omega, hq.2⟩
        rw [gcell_40 (by rw [kin q hq2])] at hx
        cases hx
        obtain ⟨j, rfl⟩ : ∃ j, q = H.size + 1 + j := ⟨q - (H.size + 1), by omega⟩
        show H1[H.size + 1 + j]? = some (vp_cell _ _)
        rw [hi j (by omega), kin _ hq2]
        have e2 : ∀ k, gI (mna g N M) (H.size + 1 + j) k = 0 := by
          intro k
          have : (mna g N M).2.1 (H.size + 1 + j) = fun _ => 0 := if_pos hq
          show (mna g N M).2.1 (H.size + 1 + j) k = _
          rw [this]
        simp only [e2]
        rfl
    · obtain ⟨o1, o2, o3, o4⟩ := old q hq
      have hx' : gcell E g q = some x := by
        rw [← hx]
        unfold gcell
        rw [show g.1 q = (mna g N M).1 q from o1.symm, ← o2, ← o3, ← o4]
      obtain ⟨c1, c2⟩ := b7 q x hx'
      exact ⟨c1.kept (ho _ c1.lt), c2⟩
  · intro a ha
    by_cases hq : gZ g ≤ a ∧ a < gZ g + 1 + N
    · exfalso
      by_cases q0 : a = gZ g
      · rw [q0, k0] at ha; cases ha
      · rw [kin a ⟨by omega, hq.2⟩] at ha; cases ha
    · obtain ⟨o1, o2, o3, o4⟩ := old a hq
      rw [o1] at ha
      obtain ⟨i, hi', e1, e2, e3, e4⟩ := b8 a ha
      refine ⟨i, hi', e1, ?_, ?_, ?_⟩
      · show (mna g N M).2.2.1 a _ = _
        rw [o3]; exact e2
      · show (mna g N M).2.1 a _ = _
        rw [o2]; exact e3
      · show (mna g N M).2.1 a _ = _
        rw [o2]; exact e4
  · intro a ha
    by_cases hq : gZ g ≤ a ∧ a < gZ g + 1 + N
    · exfalso
      by_cases q0 : a = gZ g
      · rw [q0, k0] at ha; cases ha
      · rw [kin a ⟨by omega, hq.2⟩] at ha; cases ha
    · obtain ⟨o1, o2, o3, o4⟩ := old a hq
      rw [o1] at ha
      obtain ⟨i, hi', e1, e2, e3⟩ := b9 a ha
      refine ⟨i, hi', e1, by rw [o1]; exact e2, fun j hj => ?_⟩
      show (mna g N M).2.1 a j = _
      rw [o2]; exact e3 j hj
section BM2
variable {p : Program} {l : Launch} {e : Env} {R : Room} {s : State} {m : MethodId} {args : Array Value} {below : List Frame} {meth : Method} {c : Code} {T : State} {locs : List Loc} {cells slots : Nat}
theorem gridStep (X : Stand p l e R s m args below meth c T locs cells slots) (hexec : p.tables.exec = Jvm.exec) {own : String} {index : Nat} {cA cI : ClassId} (hown : s.vm.findClass own = some m.cls) (hclink : (Cond.classLink own index "[[I").before args s = true) (hover : (Cond.arrayOver (.array .int)).before args s = true) (harr : (Cond.arrayClass .int).before args s = true)
    (hA : s.vm.findClass ("[" ++ (FieldType.array .int).toString) = some cA) (hI : s.vm.findClass ("[" ++ FieldType.int.toString) = some cI)
    {g : JFrame} (hg : g.method = m) (hdg : decode c.code g.pc = .ok (.multianewarray index 2, 4)) {n k : Int32} {rest : List Value} (hst : g.stack = .int k :: .int n :: rest) (hn : ¬ n < 0) (hk : ¬ k < 0) (hb1 : n.toNatClampNeg * 4 ≤ 536870912) (hb2 : k.toNatClampNeg * 4 ≤ 536870912) (hcells : cells + (1 + n.toNatClampNeg) ≤ R.cells) (hslots : slots + (n.toNatClampNeg + n.toNatClampNeg * k.toNatClampNeg) ≤ R.slots) :
    ∃ (J : List Loc), (∀ x ∈ J, s.heap.size ≤ x.base) ∧ ∃ (vm₁ : Vm), Stand p l e R s m args below meth c (gridS cA cI n.toNatClampNeg k.toNatClampNeg (T.setVm vm₁) n.toNatClampNeg) (locs ++ J) (cells + 1 + n.toNatClampNeg) (slots + (n.toNatClampNeg + n.toNatClampNeg * k.toNatClampNeg)) ∧
      ∀ target, Steps p.tables e below ((gridS cA cI n.toNatClampNeg k.toNatClampNeg (T.setVm vm₁) n.toNatClampNeg).setTop { g with pc := g.pc + 4, stack := .ref T.heap.size :: rest }) target → Steps p.tables e below (T.setTop g) target := by
  subst hg
  have hpl : e.platform.magicAccessors = ({} : Platform).magicAccessors := by rw [X.admits.platform]
  obtain ⟨comp, c1, kA, a1, -, a3, a4, a5⟩ := ao_spec hover
  obtain ⟨comp2, kI, c3, i1, i2, i3⟩ := Cond.arrayClass_spec harr
  cases Option.some.inj (a5.symm.trans hA)
  cases Option.some.inj (i1.symm.trans hI)
  cases Option.some.inj (a1.symm.trans i1)
  obtain ⟨c0, hf0, hcl⟩ := Cond.classLink_spec hown hclink e.platform hpl
  cases Option.some.inj (hf0.symm.trans hA)
  obtain ⟨w1, w2, w3⟩ := State.classEntry (e := e) X.warmed hcl
  generalize T.vm.noted g.method.cls index (.cls cA) = vm₁ at w1 w2 w3
  obtain ⟨kA', x1, x2⟩ := w2.alike.2.2 _ _ a3
  obtain ⟨kI', y1, y2⟩ := w2.alike.2.2 _ _ i2
  have x3 : kA'.kind = .array cI (.array .int) := by rw [x2]; exact a4
  have y3 : kI'.kind = .array c3 .int := by rw [y2]; exact i3
  have XN := X.noted w2
  obtain ⟨r1, r2⟩ := X.roomAbove hcells hslots
  obtain ⟨J, hJ, XG⟩ := gridS_stand XN cA cI n.toNatClampNeg k.toNatClampNeg n.toNatClampNeg
  refine ⟨J, hJ, vm₁, XG, fun target hrest => ?_⟩
  have q1 := Launch.admits_arrayLengthLimit X.admits
  have q2 := Launch.admits_maxHeapBytes X.admits
  have eT : (T.setTop g).setVm vm₁ = (T.setVm vm₁).setTop g := rfl
  jvm_step X.here [hexec, hdg]
  simp only [multianewarray.sem, wp_bind', W.resolveClassAt_links (State.method?_setTop g X.here.top) w1]
  rw [W.popN, if_neg (by decide)]
  refine ⟨g, State.topJava?_setTop' (s := T.setVm vm₁) g X.here.top, [.int n, .int k], rest, rfl, hst, ?_⟩
  simp only [List.mapM_cons, List.mapM_nil, wp_bind', wp_pure']
  refine wp_grid (kA := kA') (kI := kI') (c3 := c3) x1 x3 y1 y3 hn hk (by rw [q1]; omega) (by rw [q2]; omega) (by rw [q1]; omega) (by rw [q2]; omega) (by show T.heap.size + 1 + _ ≤ _; omega) (by show T.slotsUsed + _ ≤ _; omega) (fun d' acts' => ?_)
  have eS : ((T.setTop g).setVm vm₁).setTop { g with stack := rest } = (T.setVm vm₁).setTop { g with stack := rest } := by
    rw [eT, State.setTop_setTop]
  rw [eS, gridS_top]
  simp only [wp_bind', W.mark, W.pushRef, State.topJava?_setTop' _ XG.here.top, Option.some.injEq, exists_eq_left', State.setTop_setTop, State.heap_setTop]
  intro acts
  simp [jvm, XG.here.top]
  exact hrest
end BM2
section BM1
variable {p : Program} {l : Launch} {e : Env} {R : Room} {s : State} {m : MethodId} {args : Array Value} {below : List Frame} {meth : Method} {c : Code} {H : Heap} {locs : List Loc} {cells slots : Nat} {Q : State → Prop}
variable {cc : ByteArray} {nL pc : Nat} {ls : Array Slot} {rest : List Value} {A : Nat → Prop} {E : gE} {LC LS : Nat} {g : GS} {a : Nat} {β : Type} {r : β}
theorem gmna {n k : Int32} {N M : Nat} {F : GS → Option β} (S : CallFix p m c cc nL s args lw_all RX1) (X : gCtx E A s) (Z : gRm R s LC LS) (hw : gH E A LC LS s g H locs) (hd : decode cc pc = .ok (.multianewarray 90 2, 4)) (hn : ¬ n < 0) (hk : ¬ k < 0) (hN : n.toNatClampNeg = N) (hM : k.toNatClampNeg = M) (hb1 : N * 4 ≤ 536870912) (hb2 : M * 4 ≤ 536870912) (h : bd1 (omna g N M) F = some r) (kk : ∀ (g1 : GS) (H : Heap), F g1 = some r → gH E A LC LS s g1 H locs → W p l e R s m args below meth c H locs (H.size - s.heap.size) (tot H - tot s.heap) Q (F0 m (pc + 4) ls (.ref (gZ g) :: rest))) : W p l e R s m args below meth c H locs (H.size - s.heap.size) (tot H - tot s.heap) Q (F0 m pc ls (.int k :: .int n :: rest)) := by
  obtain ⟨g1, h1, h2⟩ := bd1_some h
  obtain ⟨hl, h3⟩ := oif h1
  cases h3
  refine W.totle (fun hs ht => ?_)
  have z1 := hw.1.1
  subst hN; subst hM
  intro T hT XX
  have hov : (Cond.arrayOver (.array .int)).before args s = true := ao_arr (Vm.Alike.refl _) (X.2.2.2.2.2.1 _ q342 rfl)
  obtain ⟨J, hJ, vm₁, XS, st⟩ := gridStep XX S.1 S.2.2.2.1 (S.2.2.2.2 _ q341) hov (S.2.2.2.2 _ q339) (X.1.2 4 _ rfl).2 (X.1.2 0 _ rfl).2 (g := F0 m pc ls (.int k :: .int n :: rest)) rfl (by rw [S.2.1]; exact hd) rfl hn hk hb1 hb2 (by rw [Z.1]; omega) (by rw [Z.2]; omega)
  obtain ⟨a1, a2, a3, a4, a5, a6, a7⟩ := gridS_ok (eC E 4) (eC E 0) n.toNatClampNeg k.toNatClampNeg (T.setVm vm₁) n.toNatClampNeg
  generalize hG : gridS (eC E 4) (eC E 0) n.toNatClampNeg k.toNatClampNeg (T.setVm vm₁) n.toNatClampNeg = G at *
  have eH : (T.setVm vm₁).heap = H := hT
  rw [eH] at a1 a2 a5 a6 a7
  rw [outer_rf] at a2
  have hB := gB_mna (N := n.toNatClampNeg) (M := k.toNatClampNeg) hw.1 (fun q hq => X.2.1 q (Nat.le_trans hw.2.1 hq)) hl a1 a5 a6 a2 a7
  have hS : gH E A LC LS s (mna g n.toNatClampNeg k.toNatClampNeg) G.heap locs := ⟨hB, by rw [a1]; have := hw.2.1; omega, fun x h1 h3 => (a6 x (Nat.lt_of_lt_of_le h1 hw.2.1)).trans (hw.2.2.1 x h1 h3), hw.2.2.2⟩
  have XD := XS.dropFresh hJ
  obtain ⟨t, b1, b2⟩ := W.canon (kk _ G.heap h2 hS) G rfl XD
  refine ⟨t, st t ?_, b2⟩
  rw [hT, ← z1.1]
  exact b1
end BM1
