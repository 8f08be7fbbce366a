/-! B: NoSuchElementException thrown by need -/
set_option maxRecDepth 100000
abbrev NSE : String := "java/util/NoSuchElementException"
def nseL : List Cond := vx_at0 RX1 12 NSE ["java/lang/RuntimeException", "java/lang/Exception"]
theorem nse_mem : ∀ w ∈ nseL, w ∈ lw_tbl := by decide +kernel
theorem nse_good : ∀ w ∈ nseL, (goodWord w || (isNest w && w.onTables)) = true := by decide +kernel
theorem nse_at {args : Array Value} {s : State} (h5 : ∀ w ∈ lw_all, w.before args s = true) (hN : gNw s) : ∀ w ∈ nseL, w.before args s = true := by
  intro w hw
  have h1 := nse_mem w hw
  rcases Bool.or_eq_true _ _ ▸ nse_good w hw with g | g
  · exact h5 w (List.mem_filter.mpr ⟨h1, g⟩)
  · rw [Bool.and_eq_true] at g
    exact va_Nw.use g.2 (hN w h1 g.1)
theorem nse_ot : ∀ w ∈ Cond.classLink RX1 10 NSE :: Cond.initialized NSE :: nseL, vx_ot w = true := by decide +kernel
def bump (g : GS) (z n : Nat) : GS := (g.1, g.2.1, g.2.2.1, g.2.2.2.1, z, n, g.2.2.2.2.2.2)
theorem gB.bump {E : gE} {A : Nat → Prop} {LC LS : Nat} {g : GS} {H H1 : Heap} (h : gB E A LC LS g H) (hk : ∀ q : Nat, q < H.size → H1[q]? = H[q]?) (hl : H1.size ≤ LC) (hn : tot H1 ≤ LS) : gB E A LC LS (bump g H1.size (tot H1)) H1 := by
  obtain ⟨⟨b1, b2, b3, b4, b5, b6, b10, b11⟩, b7, b8, b9⟩ := h
  refine ⟨⟨rfl, rfl, hl, hn, b5, b6, b10, b11⟩, ?_, b8, b9⟩
  intro a e he
  have he' : gcell E g a = some e := he
  obtain ⟨h1, h2⟩ := b7 a e he'
  exact ⟨h1.kept (hk _ h1.lt), h2⟩
/-- grown by one thrown object at most -/
def gGrown (g u : GS) : Prop := gZ u ≤ gZ g + 1 ∧ gN u ≤ gN g + 6 ∧ u = bump g (gZ u) (gN u)
theorem met_need (l : Launch) (hst : l.stackTraces = false) (E : gE) (A : Nat → Prop) (LC LS : Nat) (v : Int32) (g : GS) : vx_Met l yX1_need (ws_ yX1_need cX1_need 1 none) { frames := 10, cells := 1, slots := 6, locals := 200 } (gPc E A LC LS [.int v] g) (va_Qv (fun u : GS => u = g ∧ v ≠ 0) (fun u t => gB E A LC LS u t.heap) A) (vx_X (fun H : Heap => v = 0 ∧ gB E A LC LS g H) (fun _ En H t => En = NSE ∧ H.size ≤ t.heap.size ∧ ∀ q : Nat, q < H.size → t.heap[q]? = H[q]?) A) 1 6 A := by
  refine vx_ofW (cc := cX1_need) (maxL := 1) (ret := none) (by decide) rfl ?_
  intro p e s m args below meth c s₁ B hml hno hv
  obtain ⟨rfl, hX, hB⟩ := hv
  have hl := lv_entry [.int v] (n := 1) (Nat.le_of_ble_eq_true rfl)
  rw [lg_entry_eq]
  generalize (lg_sl [Value.int v] ++ List.replicate (1 - (lg_sl [Value.int v]).length) Slot.unset).toArray = ls at hl ⊢
  have S : CallFix p m c cX1_need 1 s [Value.int v].toArray lw_all RX1 := ⟨B.exec, B.bytes, hml, findClass_of_methodNamed B.named, fun w h => atoms_spec (ws := ws_ yX1_need cX1_need 1 none) B.pre w (List.mem_cons_of_mem _ h)⟩
  replace hl : lv_has ls 1 [(0, .int v)] := hl
  refine lv_iload_n S.1 S.2.1 dX1_need_0 rfl (lv_at hl 0 rfl) ?_
  refine lv_if_ne (tgt := 12) S.1 S.2.1 dX1_need_1 rfl (fun c1 => ?_) (fun c1 => ?_)
  · refine vx_ret ?_
    exact W.widen (k := 1) (n := 6) (by omega) (by omega) (W.vret S.1 S.2.1 B.returns (fun t ht hW => ⟨⟨g, rfl, ⟨rfl, c1⟩, (show gB E A LC LS g t.heap by rw [ht]; exact hB)⟩, va_S.rf.F ht⟩) (fun _ h => by cases h) dX1_need_12 B.notSynchronized)
  · exact vx_throw0 (own := RX1) (cls := NSE) (names := ["java/lang/RuntimeException", "java/lang/Exception"]) (ik := 10) (ic := 12) (A := A) S.1 S.2.1 hst S.2.2.2.1 (by decide) (by decide) (S.2.2.2.2 _ q1687) (S.2.2.2.2 _ q178) (nse_at S.2.2.2.2 hX.2.2.2.2.2.1) nse_ot hX.2.2.2.2.1.1 hX.2.2.2.2.1.2 va_S.rf (hl.1.trans hml.symm) dX1_need_4 dX1_need_7 dX1_need_8 dX1_need_11 (fun x hx => (hno x hx).elim) (show 2 + 3 < 10 by decide) (show 0 + (13 * (2 + 1) + 42) ≤ 200 by decide) (show 0 + 1 ≤ 1 by decide) (show 0 + 6 ≤ 6 by decide) B.notSynchronized (fun q9 t ha hz hq => ⟨s.heap, ⟨c1, hB⟩, ⟨rfl, hz, hq⟩, hz, fun q h1 _ => hq q h1⟩) (fun _ h => by cases h) (by decide) (by decide)
