/-! what holds between calls: the core; scratch -/
set_option maxRecDepth 100000
/-- the owner of a State's cells -/
def ow (o : Nat → Nat) (S : Nat) (a : Nat → Nat) : Prop := o S = S ∧ S ≠ 0 ∧ ∀ k, k < 6 → o (a k) = S
def INV0 (o : Nat → Nat) (x h nr nt ne F : Nat) (M T D : Nat → Nat) (S : Nat) (a : Nat → Nat) (Tr : Nat) (c : Nat → Nat) (N : Nat) (g : GS) (w : MS) : Prop :=
  CX o x h nr nt ne F M T D g w ∧ SR g S a w 0 ∧ BI w 0 nr nt N ∧ ow o S a ∧ stS g Tr c ∧ ow o Tr c ∧ (S ≠ Tr ∧ S ≠ F ∧ Tr ≠ F ∧ S ≠ 1 ∧ S ≠ x ∧ Tr ≠ 1 ∧ F ≠ 1 ∧ x ≠ Tr ∧ x ≠ F ∧ x ≠ 1) ∧ (gR g x 4 = some S ∧ gR g x 5 = some Tr) ∧ rI w 28 0 = rI w 10 3 ∧ N < 50000
/-- only scratch has changed -/
def ScB (o : Nat → Nat) (x Tr F : Nat) (g g' : GS) : Prop := g'.1 = g.1 ∧ g'.2.2.1 = g.2.2.1 ∧ g'.2.2.2.2 = g.2.2.2.2 ∧ ∀ q k, o q ≠ Tr → o q ≠ F → o q ≠ 1 → (q ≠ x ∨ k = 7 ∨ k = 9 ∨ k = 18) → gI g' q k = gI g q k
def prM (k i : Nat) : Prop := k = 1 ∨ k = 2 ∨ k = 10 ∨ k = 11 ∨ k = 12 ∨ k = 16 ∨ k = 18 ∨ k = 22 ∨ k = 26 ∨ k = 27 ∨ (k = 28 ∧ i = 0) ∨ (k = 25 ∧ i < 1176)
def ScM (w w' : MS) : Prop := (∀ k i, prM k i → rI w' k i = rI w k i) ∧ ∀ k i, k = 9 ∨ k = 14 → rL w' k i = rL w k i
theorem ScB.rf {o : Nat → Nat} {x Tr F : Nat} {g : GS} : ScB o x Tr F g g := ⟨rfl, rfl, rfl, fun _ _ _ _ _ _ => rfl⟩
theorem ScB.tr {o : Nat → Nat} {x Tr F : Nat} {g g1 g2 : GS} (h : ScB o x Tr F g g1) (h2 : ScB o x Tr F g1 g2) : ScB o x Tr F g g2 := ⟨h2.1.trans h.1, h2.2.1.trans h.2.1, h2.2.2.1.trans h.2.2.1, fun q k a b c d => (h2.2.2.2 q k a b c d).trans (h.2.2.2 q k a b c d)⟩
theorem ScM.rf {w : MS} : ScM w w := ⟨fun _ _ _ => rfl, fun _ _ _ => rfl⟩
theorem ScM.tr {w w1 w2 : MS} (h : ScM w w1) (h2 : ScM w1 w2) : ScM w w2 := ⟨fun k i p => (h2.1 k i p).trans (h.1 k i p), fun k i p => (h2.2 k i p).trans (h.2 k i p)⟩
theorem FrB.sc {P : Nat → Prop} {o : Nat → Nat} {x Tr F : Nat} {g g' : GS} (f : FrB P g g') (hp : ∀ q, P q → o q = Tr ∨ o q = F ∨ o q = 1) : ScB o x Tr F g g' := ⟨f.1, congrArg (fun z => z.1) f.2.1, congrArg (fun z => z.2.2) f.2.1, fun q k a b c _ => f.i (fun h => by rcases hp q h with h | h | h; exact a h; exact b h; exact c h) k⟩
theorem FrM.sc {P : Nat → Nat → Prop} {w w' : MS} (f : FrM P w w') (hp : ∀ k i, prM k i → ¬ P k i) : ScM w w' := ⟨fun k i p => f.2 k i (hp k i p), fun k i _ => congrFun (congrFun f.1 k) i⟩
theorem ScM.wI {w : MS} {k i : Nat} {v : Int32} (h : ¬ prM k i) : ScM w (wI w k i v) := ⟨fun k' i' p => by rw [rI_wI, if_neg]; rintro ⟨rfl, rfl⟩; exact h p, fun _ _ _ => rfl⟩
theorem scM_wL {w : MS} {k i : Nat} {v : Int64} (h : k ≠ 9 ∧ k ≠ 14) : ScM w (wL w k i v) := ⟨fun _ _ _ => rfl, fun k' i' p => by
  show va_up w.2 k (vp_updL (w.2 k) i v) k' i' = w.2 k' i'
  rw [va_up_ne _ _ (by omega)]⟩
theorem isLst.cg {g g' : GS} {l n : Nat} {f : Nat → Nat} (h : isLst g l n f) (h1 : gK g' l = gK g l ∧ gI g' l 2 = gI g l 2 ∧ gR g' l 1 = gR g l 1) (h2 : ∀ e, gR g l 1 = some e → gK g' e = gK g e ∧ ∀ k, gR g' e k = gR g e k) : isLst g' l n f := by
  obtain ⟨p1, p2, e, p3, p4, p5, p6, p7⟩ := h
  obtain ⟨q1, q2⟩ := h2 e p3
  exact ⟨by rw [h1.1]; exact p1, by rw [h1.2.1]; exact p2, e, by rw [h1.2.2]; exact p3, by rw [q1]; exact p4, by rw [q1]; exact p5, by rw [q1]; exact p6, fun i hi => by rw [q2]; exact p7 i hi⟩
theorem CX.cg {o o' : Nat → Nat} {g g' : GS} {x h nr nt ne F : Nat} {M T D : Nat → Nat} {w w' : MS} (C : CX o x h nr nt ne F M T D g w) (hq : ∀ q, o q = 0 → o' q = 0 ∧ gK g' q = gK g q ∧ (∀ k, gI g' q k = gI g q k) ∧ ∀ k, gR g' q k = gR g q k) (hx : gK g' x = gK g x ∧ gR g' x 2 = gR g x 2 ∧ gR g' x 6 = gR g x 6 ∧ o' x = o x) (hF : gK g' F = gK g F ∧ o' F = o F) (hw : ∀ i, i < 120 → rI w' 10 i = rI w 10 i) (hw1 : ∀ i, i < 1100 → rI w' 11 i = rI w 11 i ∧ rI w' 12 i = rI w 12 i) : CX o' x h nr nt ne F M T D g' w' := by
  obtain ⟨⟨⟨a1, a2, ⟨b1, ⟨l0, c0, d0⟩, ⟨l1, c1, d1⟩, ⟨l2, c2, d2⟩, b5, b6, b7⟩, a4, a5, a6, a7, a8, a9⟩, hr, ht, he, h3, h4, h5, h6⟩, ⟨o0, o1, o2, o3, o4⟩, HR0, ⟨f1, f2, f3, f4, f5, f6⟩, L1, L2⟩ := C
  have kk : ∀ q, o q = 0 → gK g' q = gK g q := fun q h => (hq q h).2.1
  have ii : ∀ q k, o q = 0 → gI g' q k = gI g q k := fun q k h => (hq q h).2.2.1 k
  have rr : ∀ q k, o q = 0 → gR g' q k = gR g q k := fun q k h => (hq q h).2.2.2 k
  have lst : ∀ k l n f, k < 3 → gR g h k = some l → isLst g l n f → isLst g' l n f := fun k l n f hk hl L => L.cg ⟨kk l (o1 k l hk hl).1, ii l 2 (o1 k l hk hl).1, rr l 1 (o1 k l hk hl).1⟩ (fun e he => ⟨kk e ((o1 k l hk hl).2 e he), fun i => rr e i ((o1 k l hk hl).2 e he)⟩)
  refine ⟨⟨⟨by rw [hx.1]; exact a1, by rw [hx.2.1]; exact a2, ⟨by rw [kk h o0]; exact b1, ⟨l0, by rw [rr h 0 o0]; exact c0, lst 0 l0 _ _ (by omega) c0 d0⟩, ⟨l1, by rw [rr h 1 o0]; exact c1, lst 1 l1 _ _ (by omega) c1 d1⟩, ⟨l2, by rw [rr h 2 o0]; exact c2, lst 2 l2 _ _ (by omega) c2 d2⟩, fun r h => by rw [kk _ (o2 r h)]; exact b5 r h, fun t h => by rw [kk _ (o3 t h)]; exact b6 t h, fun e h => by rw [kk _ (o4 e h)]; exact b7 e h⟩, a4, a5, a6, by rw [hw 0 (by omega)]; exact a7, by rw [hw 1 (by omega)]; exact a8, by rw [hw 2 (by omega)]; exact a9⟩, fun r h => ?_, fun t h => ?_, fun e h => ?_, ?_, ?_, ?_, ?_⟩, ⟨(hq h o0).1, fun k l hk hl => ?_, fun r h => (hq _ (o2 r h)).1, fun t h => (hq _ (o3 t h)).1, fun e h => (hq _ (o4 e h)).1⟩, ?_, ⟨by rw [hx.2.2.1]; exact f1, by rw [hF.1]; exact f2, by rw [hF.2]; exact f3, f4, by rw [hx.2.2.2]; exact f5, f6⟩, ?_, ?_⟩
  · rw [ii _ _ (o2 r h), ii _ _ (o2 r h), ii _ _ (o2 r h), hw _ (by omega), hw _ (by omega), hw _ (by omega)]; exact hr r h
  · rw [kk _ (o3 t h), ii _ _ (o3 t h), ii _ _ (o3 t h), ii _ _ (o3 t h), ii _ _ (o3 t h), ii _ _ (o3 t h), hw _ (by omega), hw _ (by omega), hw _ (by omega), hw _ (by omega), hw _ (by omega)]
    obtain ⟨q1, q2, q3, q4, q5, q6, q7⟩ := ht t h
    refine ⟨q1, q2, q3, q4, q5, ?_, fun e e1 e2 => by rw [hw _ (by omega)]; exact q7 e e1 e2⟩
    rw [q6]
    exact congrArg nI (mk6_congr fun i hi => by rw [hw _ (by omega)])
  · rw [ii _ _ (o4 e h), ii _ _ (o4 e h), ii _ _ (o4 e h), hw _ (by omega), hw _ (by omega), hw _ (by omega)]; exact he e h
  · rw [ii _ _ o0, hw _ (by omega)]; exact h3
  · rw [ii _ _ o0, hw _ (by omega)]; exact h4
  · rw [ii _ _ o0, hw _ (by omega)]; exact h5
  · rw [hw _ (by omega)]; exact h6
  · rw [rr h k o0] at hl
    refine ⟨(hq l (o1 k l hk hl).1).1, fun e he => ?_⟩
    rw [rr l 1 (o1 k l hk hl).1] at he
    exact (hq e ((o1 k l hk hl).2 e he)).1
  · obtain ⟨r1, r2, r3, r4, r5, r6⟩ := HR0
    refine ⟨fun r h => ?_, fun t h => ?_, fun t u h1 h2 => ?_, fun e h => ?_, ?_, ?_⟩
    · rw [hw _ (by omega), hw _ (by omega), hw _ (by omega)]; exact r1 r h
    · rw [hw _ (by omega), hw _ (by omega), hw _ (by omega), hw _ (by omega)]; exact r2 t h
    · rw [hw _ (by omega), hw _ (by omega)]; exact r3 t u h1 h2
    · rw [hw _ (by omega), hw _ (by omega), hw _ (by omega)]; exact r4 e h
    · rw [hw _ (by omega)]; exact r5
    · rw [hw _ (by omega)]; exact r6
  · rw [rr h 6 o0]
    rcases L1 with ⟨e1, e2⟩ | ⟨t, p, q, d, e1, e2, e3, e4, e5, e6⟩
    · exact Or.inl ⟨e1, by rw [hw _ (by omega)]; exact e2⟩
    · exact Or.inr ⟨t, p, q, d, e1, by rw [hw _ (by omega)]; exact e2, tr.fr (fun q h => ⟨(hq q h).1, kk q h, ii q 0 h, fun k => rr q k h⟩) e3 (fun i _ h => hw1 i (by omega)), by rw [(hw1 q e5).1]; exact e4, e5, e6⟩
  · rw [rr h 7 o0]
    rcases L2 with ⟨e1, e2⟩ | ⟨t, p, q, d, e1, e2, e3, e4, e5, e6⟩
    · exact Or.inl ⟨e1, by rw [hw _ (by omega)]; exact e2⟩
    · exact Or.inr ⟨t, p, q, d, e1, by rw [hw _ (by omega)]; exact e2, tr.fr (fun q h => ⟨(hq q h).1, kk q h, ii q 0 h, fun k => rr q k h⟩) e3 (fun i _ h => hw1 i (by omega)), by rw [(hw1 q e5).1]; exact e4, e5, e6⟩
theorem SR.cg {g g' : GS} {S : Nat} {a : Nat → Nat} {w w' : MS} {b : Nat} (s : SR g S a w b) (hS : gK g' S = gK g S ∧ (∀ k, gI g' S k = gI g S k) ∧ ∀ k, gR g' S k = gR g S k) (ha : ∀ k, k < 6 → gK g' (a k) = gK g (a k) ∧ ∀ i, gI g' (a k) i = gI g (a k) i) (hw : ∀ i, b ≤ i → i < b + 43 → rI w' 25 i = rI w 25 i) : SR g' S a w' b := by
  obtain ⟨s1, s2, s3, s4, s5⟩ := s
  refine ⟨⟨by rw [hS.1]; exact s1.1, fun k hk => by rw [hS.2.2, (ha k hk).1]; exact s1.2.1 k hk, s1.2.2⟩, fun k t hk ht => ?_, ?_, ?_, fun t ht => by rw [hw _ (by omega) (by omega)]; exact s5 t ht⟩
  · have := ofs_b k hk
    rw [(ha k hk).2, hw _ (by omega) (by omega)]; exact s2 k t hk ht
  · rw [hS.2.1, hw _ (by omega) (by omega)]; exact s3
  · rw [hS.2.1, s4]
    exact congrArg nI (mk6_congr fun i hi => by unfold goneB; rw [hw _ (by omega) (by omega)])
theorem BI.cg {w w' : MS} {b nr nt N : Nat} (h : BI w b nr nt N) (hw : ∀ i, b ≤ i → i < b + 43 → rI w' 25 i = rI w 25 i) : BI w' b nr nt N := h.congr (fun i _ => hw _ (by omega) (by omega))
section INVS
variable {o : Nat → Nat} {x h nr nt ne F S Tr N : Nat} {M T D a c : Nat → Nat} {g g' : GS} {w w' : MS}
theorem ScB.k (s : ScB o x Tr F g g') (q : Nat) : gK g' q = gK g q := congrFun s.1 q
theorem ScB.r (s : ScB o x Tr F g g') (q k : Nat) : gR g' q k = gR g q k := congrFun (congrFun s.2.1 q) k
theorem ScM.m (s : ScM w w') {k i : Nat} (h : prM k i) : rI w' k i = rI w k i := s.1 k i h
theorem INV0.sc (I : INV0 o x h nr nt ne F M T D S a Tr c N (g) (w)) (s : ScB o x Tr F g g') (m : ScM w w') : INV0 o x h nr nt ne F M T D S a Tr c N (g') (w') := by
  obtain ⟨C, R, B, o1, st, o2, d, r, e, n⟩ := I
  have oF := C.2.2.2.1.2.2.1
  have F0 := C.2.2.2.1.2.2.2.1
  have x0 := C.2.2.2.1.2.2.2.2.2
  have ox := C.2.2.2.1.2.2.2.2.1
  obtain ⟨d1, d2, d3, d4, d5, d6, d7, d8, d9, d10⟩ := d
  have w25 : ∀ i, 0 ≤ i → i < 0 + 43 → rI w' 25 i = rI w 25 i := fun i _ hi => m.m (by unfold prM; omega)
  refine ⟨C.cg (fun q hq => ⟨hq, s.k q, fun k => s.2.2.2 q k ?_ ?_ ?_ (Or.inl ?_), fun k => s.r q k⟩) ⟨s.k x, s.r x 2, s.r x 6, rfl⟩ ⟨s.k F, rfl⟩ (fun i hi => m.m (by unfold prM; omega)) (fun i hi => ⟨m.m (by unfold prM; omega), m.m (by unfold prM; omega)⟩), R.cg ⟨s.k S, fun k => s.2.2.2 S k ?_ ?_ ?_ (Or.inl d5), fun k => s.r S k⟩ (fun k hk => ⟨s.k _, fun i => s.2.2.2 (a k) i ?_ ?_ ?_ (Or.inl ?_)⟩) w25, B.cg w25, o1, ⟨by rw [s.k]; exact st.1, fun k hk => by rw [s.k, s.r]; exact st.2.1 k hk, st.2.2⟩, o2, ⟨d1, d2, d3, d4, d5, d6, d7, d8, d9, d10⟩, ⟨by rw [s.r]; exact r.1, by rw [s.r]; exact r.2⟩, by rw [m.m (by unfold prM; omega), m.m (by unfold prM; omega)]; exact e, n⟩
  · rw [hq]; exact o2.2.1.symm
  · rw [hq]; exact F0.symm
  · rw [hq]; decide
  · intro e; rw [e, ox] at hq; exact x0 hq
  · rw [o1.1]; exact d1
  · rw [o1.1]; exact d2
  · rw [o1.1]; exact d4
  · rw [o1.2.2 k hk]; exact d1
  · rw [o1.2.2 k hk]; exact d2
  · rw [o1.2.2 k hk]; exact d4
  · intro e; have := o1.2.2 k hk; rw [e, ox] at this; exact d5 this.symm
/-- the State now, as EN sees it -/
theorem INV0.en (I : INV0 o x h nr nt ne F M T D S a Tr c N (g) (w)) : EN o x h nr nt ne F M T D S a 0 N g w g w := ⟨I.1, I.2.1, I.2.2.1, ⟨I.2.2.2.1.1, I.2.2.2.1.2.1, I.2.2.2.2.2.2.1.2.1, I.2.2.2.1.2.2⟩, ⟨by omega, by have := I.2.2.2.2.2.2.2.2.2; omega⟩, FrB.rf, FrM.rf⟩
theorem EN.scT {N' : Nat} {g0 : GS} {w0 : MS} (E : EN o x h nr nt ne F M T D Tr c 1176 (N') (g0) (w0) (g) (w)) : ScB o x Tr F g0 g ∧ ScM w0 w := ⟨E.fb.sc (fun q h => h.elim Or.inl (fun h => Or.inr (Or.inl h))), E.fm.sc (fun k i p h => by unfold prM at p; omega)⟩
theorem EN.re {b N' : Nat} {g0 : GS} {w0 : MS} (E : EN o x h nr nt ne F M T D S a b N' g0 w0 g w) : EN o x h nr nt ne F M T D S a b N' g w g w := ⟨E.1, E.2.1, E.2.2.1, E.2.2.2.1, E.2.2.2.2.1, FrB.rf, FrM.rf⟩
/-- the trial takes what the State holds -/
theorem INV0.bex (I : INV0 o x h nr nt ne F M T D S a Tr c N (g) (w)) {b : Nat} (hb : b = 1176 ∨ b = 1232) : ∃ g' w', B_X4_be Tr S g = some g' ∧ M_copies (nI 0) (nI b) (nI 43) w = some w' ∧ EN o x h nr nt ne F M T D Tr c b N g' w' g' w' ∧ (ScB o x Tr F g g' ∧ ScM w w') ∧ (∀ k, k < 43 → rI w' 25 (b + k) = rI w 25 (0 + k)) ∧ g'.2.2 = g.2.2 := by
  have I' := I
  obtain ⟨C, R, B, o1, st, o2, d, r, e, n⟩ := I
  have oc : ∀ i j, i < 6 → j < 6 → c i ≠ a j := fun i j hi hj e => by have h1 := o2.2.2 i hi; rw [e, o1.2.2 j hj] at h1; exact d.1 h1
  obtain ⟨g1, e1, v1, v2, v3, f1⟩ := beB (X := Tr) (Y := S) st R.1 (fun e => d.1 e.symm) oc
  obtain ⟨w1, e2, u1, f2⟩ := copM (c1 := 0) (c2 := b) (n := 43) (by omega) (by omega) (by omega) w
  have sB : ScB o x Tr F g g1 := f1.sc (fun q h => by
    rcases h with h | ⟨k, hk, h⟩
    · rw [h]; exact Or.inl o2.1
    · rw [h]; exact Or.inl (o2.2.2 k hk))
  have sM : ScM w w1 := f2.sc (fun k i p h => by unfold prM at p; omega)
  have I1 := I'.sc sB sM
  exact ⟨g1, w1, e1, e2, ⟨I1.1, R.copy (st.fr f1) v1 v2 v3 u1, B.copy u1, ⟨o2.1, o2.2.1, d.2.2.1, o2.2.2⟩, ⟨by omega, by omega⟩, FrB.rf, FrM.rf⟩, ⟨sB, sM⟩, u1, f1.2.1⟩
theorem INV0.be (I : INV0 o x h nr nt ne F M T D S a Tr c N (g) (w)) {b : Nat} (hb : b = 1176 ∨ b = 1232) : ∃ g' w', B_X4_be Tr S g = some g' ∧ M_copies (nI 0) (nI b) (nI 43) w = some w' ∧ EN o x h nr nt ne F M T D Tr c b N g' w' g' w' ∧ (ScB o x Tr F g g' ∧ ScM w w') ∧ (∀ k, k < 43 → rI w' 25 (b + k) = rI w 25 (0 + k)) := by
  obtain ⟨g', w', h1, h2, h3, h4, h5, -⟩ := I.bex hb
  exact ⟨g', w', h1, h2, h3, h4, h5⟩
/-- numbers of tenants and rooms -/
theorem in_eq (v lo hi : Int32) : B_X1_in v lo hi = M_within v lo hi := Eq.trans rfl rfl
theorem win (v : Int32) {lo hi : Nat} (h1 : hi < 100000) (h2 : lo ≤ hi) : M_within v (nI lo) (nI hi) = 0 ∨ ∃ k, lo ≤ k ∧ k ≤ hi ∧ v = nI k ∧ M_within v (nI lo) (nI hi) = 1 := by
  unfold M_within
  by_cases c1 : v < nI lo
  · rw [if_pos c1]; exact Or.inl rfl
  · rw [if_neg c1]
    by_cases c2 : nI hi < v
    · rw [if_pos c2]; exact Or.inl rfl
    · rw [if_neg c2]
      have c3 : ¬ v < 0 := fun e => c1 (Int32.lt_iff_toInt_lt.mpr (by have := Int32.lt_iff_toInt_lt.mp e; rw [nI_toInt (by omega)]; simp at this; omega))
      obtain ⟨j, hj, rfl⟩ := nI_of c3
      refine Or.inr ⟨j, ?_, ?_, rfl, rfl⟩
      · have := Int32.not_lt.mp c1
        exact (nI_leI (by omega) hj).mp this
      · have := Int32.not_lt.mp c2
        exact (nI_leI hj (by omega)).mp this
theorem ten_b {b N' : Nat} {g0 : GS} {w0 : MS} (E : EN o x h nr nt ne F M T D S a b N' g0 w0 g w) (v : Int32) : (B_X1_isTenant x v g = some 0 ∧ M_isTenant v w = 0) ∨ ∃ t, t < nt ∧ v = nI t ∧ B_X1_isTenant x v g = some 1 ∧ M_isTenant v w = 1 := by
  have n6 := E.nt6
  have hn : rI w 10 1 = nI nt := E.mten
  unfold B_X1_isTenant
  rw [E.kx, bd1_s, E.ten, bd1_s]
  have key : ∀ u : Int32, u = 0 ∨ u = 1 → zb u (some u) = some u := fun u h => zb_s h
  have hs : (nI nt - 1).toInt = (nt : Int) - 1 := sub_toInt (c := 1) (by omega) (by omega)
  rcases M_isTenant_s hn n6 v with ⟨h1, h2⟩ | ⟨t, h1, h2, h3⟩
  · left
    have : B_X1_in v 0 (nI nt - 1) = 0 := by
      unfold B_X1_in
      by_cases c1 : v < 0
      · rw [if_pos c1]
      · rw [if_neg c1, if_pos]
        obtain ⟨j, hj, rfl⟩ := nI_of c1
        rw [Int32.lt_iff_toInt_lt, hs, nI_toInt hj]
        have : nt ≤ j := by
          by_cases c : j < nt
          · exact absurd rfl (h2 j c)
          · omega
        omega
    rw [this]
    exact ⟨key 0 (Or.inl rfl), h1⟩
  · right
    refine ⟨t, h1, h2, ?_, h3⟩
    subst h2
    have : B_X1_in (nI t) 0 (nI nt - 1) = 1 := by
      unfold B_X1_in
      rw [if_neg (nI_pos (by omega)), if_neg]
      rw [Int32.lt_iff_toInt_lt, hs, nI_toInt (by omega)]
      omega
    rw [this]
    exact key 1 (Or.inr rfl)
theorem rooms_b (H : HD g x h nr nt ne M T D w) : B_X1_rooms x g = some (nI nr) := by
  obtain ⟨⟨h0, h1, ⟨h2, ⟨l, h3, h4⟩, -⟩, -⟩, -⟩ := H
  have h6 := h4.1
  unfold B_X1_rooms
  simp (disch := omega) only [oRn_s, oK_s, h1, h3, lst_size h4, bd1_s]
theorem room_b {b N' : Nat} {g0 : GS} {w0 : MS} (E : EN o x h nr nt ne F M T D S a b N' g0 w0 g w) (v : Int32) : (B_X1_isRoom x v g = some 0 ∧ M_isRoom v w = 0) ∨ ∃ t, t < nr ∧ v = nI t ∧ B_X1_isRoom x v g = some 1 ∧ M_isRoom v w = 1 := by
  have n6 := E.nr6
  have hn : rI w 10 0 = nI nr := E.hd.1.2.2.2.2.2.2.1
  unfold B_X1_isRoom M_isRoom M_rooms
  rw [E.kx, bd1_s, rooms_b E.hd, bd1_s, hn]
  have key : ∀ u : Int32, u = 0 ∨ u = 1 → zb u (some u) = some u := fun u h => zb_s h
  have hs : (nI nr - 1).toInt = (nr : Int) - 1 := sub_toInt (c := 1) (by omega) (by omega)
  rcases pk_ix v (n := nr) (by omega) with h1 | h1 | ⟨j, hj, rfl⟩
  · left
    rw [show B_X1_in v 0 (nI nr - 1) = 0 by unfold B_X1_in; rw [if_pos h1], if_pos h1]
    exact ⟨key 0 (Or.inl rfl), rfl⟩
  · left
    by_cases c1 : v < 0
    · rw [show B_X1_in v 0 (nI nr - 1) = 0 by unfold B_X1_in; rw [if_pos c1], if_pos c1]
      exact ⟨key 0 (Or.inl rfl), rfl⟩
    · rw [show B_X1_in v 0 (nI nr - 1) = 0 by
        unfold B_X1_in
        rw [if_neg c1, if_pos]
        rw [Int32.lt_iff_toInt_lt, hs]
        have := Int32.le_iff_toInt_le.mp h1
        rw [nI_toInt (by omega)] at this
        omega, if_neg c1, if_pos h1]
      exact ⟨key 0 (Or.inl rfl), rfl⟩
  · right
    refine ⟨j, hj, rfl, ?_, by rw [if_neg (nI_pos (by omega)), if_neg (nI_ge hj (by omega))]⟩
    rw [show B_X1_in (nI j) 0 (nI nr - 1) = 1 by
      unfold B_X1_in
      rw [if_neg (nI_pos (by omega)), if_neg]
      rw [Int32.lt_iff_toInt_lt, hs, nI_toInt (by omega)]
      omega]
    exact key 1 (Or.inr rfl)
theorem oRn_x (C : CX o x h nr nt ne F M T D g w) (k : Nat) : oRn g x 1 1 k = gR g x k := by
  have := C.1.1.1
  exact oRn_s (by omega) (by omega)
/-- at home -/
theorem home2 (I : INV0 o x h nr nt ne F M T D S a Tr c N (g) (w)) (v : Int32) : (B_X1_isHome x v g = some 0 ∧ M_isIn 0 v w = some 0) ∨ ∃ t, t < nt ∧ v = nI t ∧ ¬ rI w 25 (0 + 1 + t) < 0 ∧ B_X1_isHome x v g = some 1 ∧ M_isIn 0 v w = some 1 := by
  have E := I.en
  have n6 := E.nt6
  unfold B_X1_isHome
  rw [E.kx, bd1_s]
  rcases ten_b E v with ⟨h1, h2⟩ | ⟨t, h1, h2, h3, h4⟩
  · left
    rw [h1, bd1_s, if_pos rfl]
    refine ⟨rfl, ?_⟩
    unfold M_isIn
    rw [h2, if_pos rfl]
  · subst h2
    have hM : M_isIn 0 (nI t) w = some (if rI w 25 (0 + 1 + t) < 0 then 0 else 1) := E.ism h1
    rw [h3, bd1_s, if_neg (by decide), oRn_x I.1, I.2.2.2.2.2.2.2.1.1, bd1_s, E.kS, bd1_s, E.isb (by omega), bd1_s, hM]
    by_cases q : rI w 25 (0 + 1 + t) < 0
    · rw [if_pos q, if_pos rfl]
      exact Or.inl ⟨rfl, rfl⟩
    · rw [if_neg q, if_neg (by decide)]
      exact Or.inr ⟨t, h1, rfl, q, rfl, rfl⟩
theorem INV0.thr (I : INV0 o x h nr nt ne F M T D S a Tr c N (g) (w)) (v : Int32) : INV0 o x h nr nt ne F M T D S a Tr c N (g) (wI w 0 0 v) := I.sc ScB.rf (ScM.wI (by unfold prM; omega))
theorem scM_thr {v : Int32} : ScM w (wI w 0 0 v) := ScM.wI (by unfold prM; omega)
/-- loops of minutes in the reference -/
theorem pas_gen {α : Type} {b k : Nat} (L : Nat → Int32 → MS → Option α) (Ex : MS → Option α) (hk : k < 100000) (hL : ∀ n i w, L (n + 1) i w = if nI k ≤ i then Ex w else bd2 (M_passes (nI b) w) fun _ w' => L n (i + 1) w') : ∀ (j i n : Nat) (s s' : Int32) (w w' : MS), i + j = k → j < n → pasM b j s w = some (s', w') → L n (nI i) w = Ex w' := by
  intro j
  induction j with
  | zero =>
    intro i n s s' w w' hi hn e
    obtain ⟨n, rfl⟩ : ∃ k, n = k + 1 := ⟨n - 1, by omega⟩
    obtain rfl : i = k := by omega
    cases e
    rw [hL, if_pos (nI_le (Nat.le_refl _) (by omega))]
  | succ j ih =>
    intro i n s s' w w' hi hn e
    obtain ⟨n, rfl⟩ : ∃ k, n = k + 1 := ⟨n - 1, by omega⟩
    rw [pasM] at e
    rw [hL, if_neg (nI_ge (by omega) (by omega))]
    cases hp : M_passes (nI b) w with
    | none => rw [hp] at e; cases e
    | some r =>
      rw [hp] at e
      obtain ⟨r, w1⟩ := r
      rw [bd2_s] at e
      rw [bd2_s, nI_1]
      exact ih (i + 1) n (s + r) s' w1 w' (by omega) (by omega) e
theorem if10 {α : Type} (A B : α) : (if (1 : Int32) = 0 then A else B) = B := if_neg (by decide)
theorem if00 {α : Type} (A B : α) : (if (0 : Int32) = 0 then A else B) = A := if_pos rfl
theorem INV0.x4 (I : INV0 o x h nr nt ne F M T D S a Tr c N (g) (w)) : oRn g x 1 1 4 = some S := by rw [oRn_x I.1]; exact I.2.2.2.2.2.2.2.1.1
theorem INV0.x5 (I : INV0 o x h nr nt ne F M T D S a Tr c N (g) (w)) : oRn g x 1 1 5 = some Tr := by rw [oRn_x I.1]; exact I.2.2.2.2.2.2.2.1.2
theorem INV0.kT (I : INV0 o x h nr nt ne F M T D S a Tr c N (g) (w)) : oK g Tr 4 4 = some 4 := by
  have := I.2.2.2.2.1.1
  rw [oK_s (by omega) (by omega), this]
theorem INV0.br (I : INV0 o x h nr nt ne F M T D S a Tr c N (g) (w)) : rI w 28 0 = rI w 10 3 := I.2.2.2.2.2.2.2.2.1
/-- what pulse answers -/
theorem c_pulse (I : INV0 o x h nr nt ne F M T D S a Tr c N (g) (w)) (v : Int32) : ∃ r w', B_X1_pulse x v g = some r ∧ M_pulse v w = some (r, w') ∧ ScM w w' := by
  have I1 := I.thr 0
  have E := I1.en
  unfold B_X1_pulse M_pulse
  rcases home2 I1 v with ⟨h1, h2⟩ | ⟨t, ht, rfl, hin, h1, h2⟩
  · simp only [E.kx, bd1_s, bdp_s, h1, h2, if00]
    exact ⟨_, _, rfl, rfl, scM_thr⟩
  · obtain ⟨p, p1, p2⟩ := pulse2 E ht hin I1.br
    have p2' : M_pulseOf 0 (nI t) (wI w 0 0 0) = some p := p2
    simp only [E.kx, bd1_s, bdp_s, h1, h2, if10, I1.x4, E.xh, E.kh, E.brew, p1, p2']
    exact ⟨_, _, rfl, rfl, scM_thr⟩
theorem c_will (I : INV0 o x h nr nt ne F M T D S a Tr c N (g) (w)) (v m : Int32) : ∃ r g' w', B_X1_will x v m g = some (r, g') ∧ M_will v m w = some (r, w') ∧ ScB o x Tr F g g' ∧ ScM w w' := by
  have I1 := I.thr 0
  have E := I1.en
  have n6 := E.nt6
  unfold B_X1_will M_will
  rcases home2 I1 v with ⟨h1, h2⟩ | ⟨t, ht, rfl, hin, h1, h2⟩
  · simp only [E.kx, bd1_s, bdp_s, h1, h2, if00]
    exact ⟨_, _, _, rfl, rfl, ScB.rf, scM_thr⟩
  · rcases win m (lo := 0) (hi := 240) (by omega) (by omega) with q | ⟨k, -, hk, rfl, q⟩
    · have q : M_within m 0 240 = 0 := q
      simp only [E.kx, bd1_s, bdp_s, h1, h2, if10, in_eq, q, if00]
      exact ⟨_, _, _, rfl, rfl, ScB.rf, scM_thr⟩
    · have q : M_within (nI k) 0 240 = 1 := q
      obtain ⟨g1, w1, e1, e2, E1, ⟨s1, s2⟩, u⟩ := I1.be (b := 1176) (Or.inl rfl)
      have e2 : M_copies 0 1176 43 (wI w 0 0 0) = some w1 := e2
      have I2 := I1.sc s1 s2
      obtain ⟨g2, w2, s', p1, p2, E2, -, -, -⟩ := pass2 E1 I2.br (k := k) (by omega) 0
      have I3 := I2.sc E2.scT.1 E2.scT.2
      have L := pas_gen (b := 1176) (k := k) (fun n i w => M_will_p39 n (nI t) (nI k) i w) (fun w => bd1 (rA w 25 1288 ((1183 : Int32) + nI t)) fun v7 => some (v7, w)) (by omega) (fun n i w => by rw [M_will_p39]; rfl) k 0 FU 0 s' w1 w2 (by omega) (by show k < 5000; omega) p2
      have L : M_will_p39 FU (nI t) (nI k) 0 w1 = bd1 (rA w2 25 1288 ((1183 : Int32) + nI t)) fun v7 => some (v7, w2) := L
      have r1 : rA w2 25 1288 ((1183 : Int32) + nI t) = some (rI w2 25 (1176 + 7 + t)) := by simp (disch := omega) only [L2, L3, L4, L5, L6, L7, L8, L9, L10, L11, L12, L13, L14, L15, L16, L17, L18, L19, L20, L21, L22, L23, L24, L25, L26, L27, L28, L29, L30, L31, L32, L33, L34, L35, L36, L37, L38, L40, L41, L42, L43, L44, L45, L48, L56, L57, L59, L60, L61, L63, L92, L96, L97, L99, L100, L101, L120, L122, L123, L124, L125, L126, L128, L146, L176, L200, L212, L240, L241, L243, L255, L729, L999, L1000, L1002, L1100, L1176, L1177, L1183, L1195, L1232, L1251, L1288, L1446, nI_add0, nI_1, nI_add, pk_mul, rA_nI, wA_nI, bd1_s, bd2_s, bdp_s]
      have r2 : aI g2 (c 4) 40 (nI t) = some (rI w2 25 (1176 + 7 + t)) := E2.aI (k := 4) (by omega) (by omega)
      have r3 : oRn g2 Tr 4 4 4 = some (c 4) := E2.oR (by omega)
      simp only [E.kx, bd1_s, bdp_s, h1, h2, if10, in_eq, q, I1.x4, I1.x5, I1.kT, e1, e2, I2.x5, E1.kx, p1, I3.x5, r3, r2, L, r1]
      exact ⟨_, _, _, rfl, rfl, s1.tr E2.scT.1, (scM_thr.tr s2).tr E2.scT.2⟩
end INVS
