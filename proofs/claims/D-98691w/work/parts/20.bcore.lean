/-! B: a plain heap of cells by address: kinds, ints, references, longs, size, slots in all, and two limits -/
set_option maxRecDepth 100000
abbrev GS : Type := (Nat → Nat × Nat) × (Nat → Nat → Int32) × (Nat → Nat → Option Nat) × (Nat → Nat → Int64) × Nat × Nat × Nat × Nat × (Nat → Option Nat)
def gK (g : GS) (a : Nat) : Nat × Nat := g.1 a
def gI (g : GS) (a k : Nat) : Int32 := g.2.1 a k
def gR (g : GS) (a k : Nat) : Option Nat := g.2.2.1 a k
def gL (g : GS) (a k : Nat) : Int64 := g.2.2.2.1 a k
def gZ (g : GS) : Nat := g.2.2.2.2.1
def gN (g : GS) : Nat := g.2.2.2.2.2.1
def gLC (g : GS) : Nat := g.2.2.2.2.2.2.1
def gLS (g : GS) : Nat := g.2.2.2.2.2.2.2.1
/-- constants: statics that hold references (below 10), texts (from 10 on) -/
def gT (g : GS) (k : Nat) : Option Nat := g.2.2.2.2.2.2.2.2 k
def sI (g : GS) (a k : Nat) (v : Int32) : GS := (g.1, va_up g.2.1 a (upd (g.2.1 a) k v), g.2.2)
def sR (g : GS) (a k : Nat) (v : Option Nat) : GS := (g.1, g.2.1, va_up g.2.2.1 a (va_up (g.2.2.1 a) k v), g.2.2.2)
def sL (g : GS) (a k : Nat) (v : Int64) : GS := (g.1, g.2.1, g.2.2.1, va_up g.2.2.2.1 a (vp_updL (g.2.2.2.1 a) k v), g.2.2.2.2)
/-- a new cell of kind t, of length n, of ns slots -/
def nw (g : GS) (t n ns : Nat) : GS := (va_up g.1 (gZ g) (t, n), va_up g.2.1 (gZ g) (fun _ => 0), va_up g.2.2.1 (gZ g) (fun _ => none), va_up g.2.2.2.1 (gZ g) (fun _ => 0), gZ g + 1, gN g + ns, gLC g, gLS g, g.2.2.2.2.2.2.2.2)
def onw (g : GS) (t n ns : Nat) : Option GS := if gZ g + 1 ≤ gLC g ∧ gN g + ns ≤ gLS g then some (nw g t n ns) else none
/-- fields of an object whose kind lies between lo and hi -/
def oI (g : GS) (a lo hi k : Nat) : Option Int32 := if lo ≤ (gK g a).1 ∧ (gK g a).1 ≤ hi then some (gI g a k) else none
def oR (g : GS) (a lo hi k : Nat) : Option (Option Nat) := if lo ≤ (gK g a).1 ∧ (gK g a).1 ≤ hi then some (gR g a k) else none
def oRn (g : GS) (a lo hi k : Nat) : Option Nat := if lo ≤ (gK g a).1 ∧ (gK g a).1 ≤ hi then gR g a k else none
def oL (g : GS) (a lo hi k : Nat) : Option Int64 := if lo ≤ (gK g a).1 ∧ (gK g a).1 ≤ hi then some (gL g a k) else none
def pI (g : GS) (a lo hi k : Nat) (v : Int32) : Option GS := if lo ≤ (gK g a).1 ∧ (gK g a).1 ≤ hi then some (sI g a k v) else none
def pR (g : GS) (a lo hi k : Nat) (v : Option Nat) : Option GS := if lo ≤ (gK g a).1 ∧ (gK g a).1 ≤ hi then some (sR g a k v) else none
def pL (g : GS) (a lo hi k : Nat) (v : Int64) : Option GS := if lo ≤ (gK g a).1 ∧ (gK g a).1 ≤ hi then some (sL g a k v) else none
/-- arrays of kind t -/
def aLen (g : GS) (a t : Nat) : Option Int32 := if (gK g a).1 = t then some (Int32.ofNat (gK g a).2) else none
def aI (g : GS) (a t : Nat) (i : Int32) : Option Int32 := if (gK g a).1 = t ∧ ¬ (i < 0 ∨ (gK g a).2 ≤ i.toNatClampNeg) then some (gI g a i.toNatClampNeg) else none
def aR (g : GS) (a t : Nat) (i : Int32) : Option (Option Nat) := if (gK g a).1 = t ∧ ¬ (i < 0 ∨ (gK g a).2 ≤ i.toNatClampNeg) then some (gR g a i.toNatClampNeg) else none
def aRn (g : GS) (a t : Nat) (i : Int32) : Option Nat := if (gK g a).1 = t ∧ ¬ (i < 0 ∨ (gK g a).2 ≤ i.toNatClampNeg) then gR g a i.toNatClampNeg else none
def xI (g : GS) (a t : Nat) (i : Int32) (v : Int32) : Option GS := if (gK g a).1 = t ∧ ¬ (i < 0 ∨ (gK g a).2 ≤ i.toNatClampNeg) then some (sI g a i.toNatClampNeg v) else none
def xL (g : GS) (a t : Nat) (i : Int32) (v : Int64) : Option GS := if (gK g a).1 = t ∧ ¬ (i < 0 ∨ (gK g a).2 ≤ i.toNatClampNeg) then some (sL g a i.toNatClampNeg v) else none
def xR (g : GS) (a t : Nat) (i : Int32) (v : Option Nat) : Option GS := if (gK g a).1 = t ∧ ¬ (i < 0 ∨ (gK g a).2 ≤ i.toNatClampNeg) then some (sR g a i.toNatClampNeg v) else none
theorem oif {α : Type} {c : Prop} {d : Decidable c} {a : Option α} {r : α} (h : (@ite (Option α) c d a none) = some r) : c ∧ a = some r := by
  by_cases hc : c
  · rw [if_pos hc] at h; exact ⟨hc, h⟩
  · rw [if_neg hc] at h; cases h
/-- an array of kind t and length n -/
def onA (g : GS) (t : Nat) (n : Int32) : Option GS := if ¬ n < 0 ∧ n.toNatClampNeg ≤ 100000 then onw g t n.toNatClampNeg n.toNatClampNeg else none
def oK (g : GS) (a lo hi : Nat) : Option Nat := if lo ≤ (gK g a).1 ∧ (gK g a).1 ≤ hi then some (gK g a).1 else none
/-! sums of slots -/
def tot (H : Heap) : Nat := (H.toList.map (fun c => c.slots.size)).sum
theorem tot_map {H H1 : Heap} (h : ∀ q : Nat, (H1[q]?).map (fun c => c.slots.size) = (H[q]?).map (fun c => c.slots.size)) : tot H1 = tot H := by
  unfold tot
  congr 1
  refine List.ext_getElem? (fun q => ?_)
  rw [List.getElem?_map, List.getElem?_map, Array.getElem?_toList, Array.getElem?_toList]
  exact h q
theorem tot_put {H H1 : Heap} {a : Nat} {c0 c1 : Cell} (h0 : H[a]? = some c0) (h1 : H1[a]? = some c1) (hz : c1.slots.size = c0.slots.size) (ho : ∀ q : Nat, q ≠ a → H1[q]? = H[q]?) : tot H1 = tot H := by
  refine tot_map (fun q => ?_)
  by_cases hq : q = a
  · subst hq; rw [h0, h1]; simp [hz]
  · rw [ho q hq]
theorem tot_new {H H1 : Heap} {c1 : Cell} (h1 : H1[H.size]? = some c1) (hz : H1.size = H.size + 1) (ho : ∀ q : Nat, q < H.size → H1[q]? = H[q]?) : tot H1 = tot H + c1.slots.size := by
  have e : H1 = H.push c1 := by
    refine Array.ext_getElem? (fun q => ?_)
    rw [Array.getElem?_push]
    by_cases hq : q = H.size
    · rw [if_pos hq, hq]; exact h1
    · rw [if_neg hq]
      by_cases hl : q < H.size
      · exact ho q hl
      · rw [Array.getElem?_eq_none (by omega), Array.getElem?_eq_none (by omega)]
  unfold tot
  rw [e, Array.toList_push, List.map_append, List.sum_append]
  simp
section BK0
variable {p : Program} {l : Launch} {e : Env} {R : Room} {s : State} {m : MethodId} {args : Array Value} {below : List Frame} {meth : Method} {c : Code} {H : Heap} {locs : List Loc} {cells slots : Nat} {Q : State → Prop}
theorem tot_drop {T : State} (X : Stand p l e R s m args below meth c T locs cells slots) : ((T.heap.toList.drop s.heap.size).map (fun c => c.slots.size)).sum = tot T.heap - tot s.heap ∧ tot s.heap ≤ tot T.heap := by
  obtain ⟨-, h2, -, -, -, h6⟩ := X.same
  have h2 : s.heap.size ≤ T.heap.size := h2
  have h6 : ∀ (a : Nat) (c : Cell), s.heap[a]? = some c → ∃ c', T.heap[a]? = some c' ∧ c' = { c with slots := c'.slots } ∧ c'.slots.size = c.slots.size ∧ ∀ i, (⟨a, i⟩ : Loc) ∉ locs → c'.slots[i]? = c.slots[i]? := h6
  have e1 : ((T.heap.toList.take s.heap.size).map (fun c => c.slots.size)) = s.heap.toList.map (fun c => c.slots.size) := by
    refine List.ext_getElem? (fun q => ?_)
    rw [List.getElem?_map, List.getElem?_map, List.getElem?_take]
    by_cases hq : q < s.heap.size
    · rw [if_pos hq, Array.getElem?_toList, Array.getElem?_toList]
      obtain ⟨c', g1, -, g3, -⟩ := h6 q _ (Array.getElem?_eq_getElem hq)
      rw [g1, Array.getElem?_eq_getElem hq]
      simp [g3]
    · rw [if_neg hq, Array.getElem?_toList, Array.getElem?_eq_none (by omega)]
  have e2 : tot T.heap = tot s.heap + ((T.heap.toList.drop s.heap.size).map (fun c => c.slots.size)).sum := by
    show (T.heap.toList.map _).sum = (s.heap.toList.map _).sum + _
    rw [← e1, ← List.sum_append, ← List.map_append, List.take_append_drop]
  omega
/-- the book of new cells and slots, taken anew from the heap itself -/
theorem W.canon {g : JFrame} (k : W p l e R s m args below meth c H locs (H.size - s.heap.size) (tot H - tot s.heap) Q g) : W p l e R s m args below meth c H locs cells slots Q g := by
  intro T hT X
  have hd := tot_drop X
  obtain ⟨h1, h2, h3, h4, h5, h6⟩ := X.same
  have h2' : s.heap.size ≤ T.heap.size := h2
  subst hT
  refine k T rfl { X with same := ⟨h1, h2, ?_, h4, ?_, h6⟩ }
  · show T.heap.size ≤ s.heap.size + (T.heap.size - s.heap.size)
    omega
  · exact Nat.le_of_eq hd.1
theorem W.totle {g : JFrame} (k : s.heap.size ≤ H.size → tot s.heap ≤ tot H → W p l e R s m args below meth c H locs cells slots Q g) : W p l e R s m args below meth c H locs cells slots Q g := by
  intro T hT X
  have h1 := (tot_drop X).2
  have h2 : s.heap.size ≤ T.heap.size := X.same.2.1
  rw [hT] at h1 h2
  exact k h2 h1 T hT X
end BK0
theorem va_one {D : va_G} {cl : List vw_C} {q : Nat × va_E} {H : Heap} (h : va_at D cl q H) : va_P D cl [q] H := by
  intro k x hk
  match k, hk with
  | 0, hk => cases hk; exact h
section BK1
variable {p : Program} {l : Launch} {e : Env} {R : Room} {s : State} {m : MethodId} {args : Array Value} {below : List Frame} {meth : Method} {c : Code} {H : Heap} {locs : List Loc} {cells slots : Nat} {Q : State → Prop}
variable {cc : ByteArray} {pc : Nat} {ls : Array Slot} {rest : List Value} {D : va_G} {cl : List vw_C} {A : Nat → Prop} {a : Nat} {tys : List (ClassId × FieldType)} {H0 : Heap}
theorem gb_put (hexec : p.tables.exec = Jvm.exec) (hb : c.code = cc) {own ref C : String} {T : u_T} {N ci index : Nat} {Ts : List Cond} (hts : ∀ w ∈ Ts, w.before args s = true) (hin : ∀ w ∈ u_ws C T N, w ∈ Ts) (ty0 : Nat → FieldType) (hty : ∀ k, k < N → parseFieldDescriptor (T k).2.2.1 = some (ty0 k)) (hnm : ∀ a, a < N → ∀ b, b < N → a ≠ b → (T a).2.1 ≠ (T b).2.1) (hown : s.vm.findClass own = some m.cls) (hK : va_K D cl tys s) {fs : List Value} (he : va_at D cl (a, .inr (ci, fs)) H) (hc : cl[ci]? = some (C, T, N)) (k : Nat) (hk : k < N) (hlink : (Cond.fieldLink own index ref (T k).2.1 (T k).2.2.1).before args s = true) (hsame : ∀ x, s.fieldFound? (T k).1 (T k).2.1 (T k).2.2.1 = some x → s.fieldFound? ref (T k).2.1 (T k).2.2.1 = some x) (hfin : (T k).2.2.2 = false) {ty : FieldType} {v : Value} (hd : parseFieldDescriptor (T k).2.2.1 = some ty) (hn : narrow ty v = v) (hfit : fits ty v = true) (hl : k < fs.length)
    (hdg : decode cc pc = .ok (.putfield index, 3)) (kk : ∀ (H1 : Heap) (k1 : Nat), va_at D cl (a, .inr (ci, fs.set k v)) H1 → H1.size = H.size → tot H1 = tot H → (∀ q : Nat, q ≠ a → H1[q]? = H[q]?) → W p l e R s m args below meth c H1 (locs ++ [⟨a, k1⟩]) cells slots Q (F0 m (pc + 3) ls rest)) : W p l e R s m args below meth c H locs cells slots Q (F0 m pc ls (v :: .ref a :: rest)) := by
  have hap := va_apart (own := own) hts hin ty0 hty hnm hK hc
  obtain ⟨r, h1, cell, q1, q2, q3, q4⟩ := he
  have hr : r = (C, T, N) := Option.some.inj (h1.symm.trans hc)
  subst hr
  obtain ⟨hS, hfc, kC, hkC, hkind⟩ := hK.1 ci _ hc
  obtain ⟨cf, kf, fi, f, hi, hsl⟩ := hS k hk
  have hlay := hts _ (hin _ (u_in_lay hk))
  unfold u_lay at hlay
  rw [if_neg (by rw [hfin]; decide)] at hlay
  have hst := (u_facts hfc hkC (u_lays hts hin hk) hi).1
  have h6 := u_store hfc hkC hkind hlay hi hd hn hfit
  refine W.putK hexec hb (f := f) ⟨hown, hlink, ⟨_, _, _, hsame _ hi⟩, hst⟩ (by rw [q2]; exact h6) q1 q3 (by rw [hsl]; exact k2_hasslot (q4 k hk)) rfl rfl hdg fun H' e1 e2 e3 => ?_
  have e4 := tot_put q1 e1 (by simp [Cell.setSlot]) e3
  rw [hsl] at e1
  exact kk H' _ ⟨_, hc, t_OB.to (V := updV (vp_V fs) k v) ⟨_, e1, q2, q3, t_set q4 hap hk v⟩ (fun j _ => vp_updV_set hl v j)⟩ e2 e4 e3
theorem gb_putF (hexec : p.tables.exec = Jvm.exec) (hb : c.code = cc) {own ref C : String} {T : u_T} {N ci index : Nat} {Ts : List Cond} (hts : ∀ w ∈ Ts, w.before args s = true) (hin : ∀ w ∈ u_ws C T N, w ∈ Ts) (ty0 : Nat → FieldType) (hty : ∀ k, k < N → parseFieldDescriptor (T k).2.2.1 = some (ty0 k)) (hnm : ∀ a, a < N → ∀ b, b < N → a ≠ b → (T a).2.1 ≠ (T b).2.1) (hown : s.vm.findClass own = some m.cls) (hK : va_K D cl tys s) {fs : List Value} (he : va_at D cl (a, .inr (ci, fs)) H) (hc : cl[ci]? = some (C, T, N)) (k : Nat) (hk : k < N) (hlink : (Cond.fieldLink own index ref (T k).2.1 (T k).2.2.1).before args s = true) (hsame : ∀ x, s.fieldFound? (T k).1 (T k).2.1 (T k).2.2.1 = some x → s.fieldFound? ref (T k).2.1 (T k).2.2.1 = some x) (hfin : (T k).2.2.2 = true) (hin2 : meth.name = "<init>") (hdecl : (T k).1 = own) {ty : FieldType} {v : Value} (hd : parseFieldDescriptor (T k).2.2.1 = some ty) (hn : narrow ty v = v) (hfit : fits ty v = true) (hl : k < fs.length)
    (hdg : decode cc pc = .ok (.putfield index, 3)) (kk : ∀ (H1 : Heap) (k1 : Nat), va_at D cl (a, .inr (ci, fs.set k v)) H1 → H1.size = H.size → tot H1 = tot H → (∀ q : Nat, q ≠ a → H1[q]? = H[q]?) → W p l e R s m args below meth c H1 (locs ++ [⟨a, k1⟩]) cells slots Q (F0 m (pc + 3) ls rest)) : W p l e R s m args below meth c H locs cells slots Q (F0 m pc ls (v :: .ref a :: rest)) := by
  have hap := va_apart (own := own) hts hin ty0 hty hnm hK hc
  obtain ⟨r, h1, cell, q1, q2, q3, q4⟩ := he
  have hr : r = (C, T, N) := Option.some.inj (h1.symm.trans hc)
  subst hr
  obtain ⟨hS, hfc, kC, hkC, hkind⟩ := hK.1 ci _ hc
  obtain ⟨cf, kf, fi, f, hi, hsl⟩ := hS k hk
  have hlay := hts _ (hin _ (u_in_lay hk))
  unfold u_lay at hlay
  rw [if_pos hfin] at hlay
  have hst := (u_facts hfc hkC (u_lays hts hin hk) hi).1
  have hcf : m.cls = cf := by
    obtain ⟨_, _, c', _, _, _, -, -, hf', -, -, -, hown2, -⟩ := Cond.laysFinal_spec hlay
    have e1 : c' = cf := by have := hi.symm.trans hf'; simp at this; exact this.1.symm
    rw [hdecl] at hown2
    rw [← e1]; exact Option.some.inj (hown.symm.trans hown2)
  have h6 := u_fits hfc hkC hkind (Or.inr hlay) hi hd hn hfit
  refine W.putFinK hexec hb hown hlink (hsame _ hi) hst hcf hin2 (by rw [q2]; exact h6) q1 q3 (by rw [hsl]; exact k2_hasslot (q4 k hk)) rfl rfl hdg fun H' e1 e2 e3 => ?_
  have e4 := tot_put q1 e1 (by simp [Cell.setSlot]) e3
  rw [hsl] at e1
  exact kk H' _ ⟨_, hc, t_OB.to (V := updV (vp_V fs) k v) ⟨_, e1, q2, q3, t_set q4 hap hk v⟩ (fun j _ => vp_updV_set hl v j)⟩ e2 e4 e3
theorem gb_putN (hexec : p.tables.exec = Jvm.exec) (hb : c.code = cc) {own ref C host : String} {T : u_T} {N ci index : Nat} {Ts : List Cond} (hts : ∀ w ∈ Ts, w.before args s = true) (hin : ∀ w ∈ u_ws C T N, w ∈ Ts) (ty0 : Nat → FieldType) (hty : ∀ k, k < N → parseFieldDescriptor (T k).2.2.1 = some (ty0 k)) (hnm : ∀ a, a < N → ∀ b, b < N → a ≠ b → (T a).2.1 ≠ (T b).2.1) (hown : s.vm.findClass own = some m.cls) (hK : va_K D cl tys s) {fs : List Value} (he : va_at D cl (a, .inr (ci, fs)) H) (hc : cl[ci]? = some (C, T, N)) (k : Nat) (hk : k < N) (hlink : (Cond.fieldLinkNest own index ref (T k).2.1 (T k).2.2.1 host).before args s = true) (hsame : ∀ x, s.fieldFound? (T k).1 (T k).2.1 (T k).2.2.1 = some x → s.fieldFound? ref (T k).2.1 (T k).2.2.1 = some x) (hfin : (T k).2.2.2 = false) {ty : FieldType} {v : Value} (hd : parseFieldDescriptor (T k).2.2.1 = some ty) (hn : narrow ty v = v) (hfit : fits ty v = true) (hl : k < fs.length)
    (hdg : decode cc pc = .ok (.putfield index, 3)) (kk : ∀ (H1 : Heap) (k1 : Nat), va_at D cl (a, .inr (ci, fs.set k v)) H1 → H1.size = H.size → tot H1 = tot H → (∀ q : Nat, q ≠ a → H1[q]? = H[q]?) → W p l e R s m args below meth c H1 (locs ++ [⟨a, k1⟩]) cells slots Q (F0 m (pc + 3) ls rest)) : W p l e R s m args below meth c H locs cells slots Q (F0 m pc ls (v :: .ref a :: rest)) := by
  have hap := va_apart (own := own) hts hin ty0 hty hnm hK hc
  obtain ⟨r, h1, cell, q1, q2, q3, q4⟩ := he
  have hr : r = (C, T, N) := Option.some.inj (h1.symm.trans hc)
  subst hr
  obtain ⟨hS, hfc, kC, hkC, hkind⟩ := hK.1 ci _ hc
  obtain ⟨cf, kf, fi, f, hi, hsl⟩ := hS k hk
  have hlay := hts _ (hin _ (u_in_lay hk))
  unfold u_lay at hlay
  rw [if_neg (by rw [hfin]; decide)] at hlay
  have hst := (u_facts hfc hkC (u_lays hts hin hk) hi).1
  have h6 := u_store hfc hkC hkind hlay hi hd hn hfit
  refine va_WputK hexec hb (f := f) hown hlink (hsame _ hi) hst (by rw [q2]; exact h6) q1 q3 (by rw [hsl]; exact k2_hasslot (q4 k hk)) rfl rfl hdg fun H' e1 e2 e3 => ?_
  have e4 := tot_put q1 e1 (by simp [Cell.setSlot]) e3
  rw [hsl] at e1
  exact kk H' _ ⟨_, hc, t_OB.to (V := updV (vp_V fs) k v) ⟨_, e1, q2, q3, t_set q4 hap hk v⟩ (fun j _ => vp_updV_set hl v j)⟩ e2 e4 e3
end BK1
