/-! house, laws, a State: what is kept, two-sided -/
set_option maxRecDepth 100000
def HO (o : Nat → Nat) (g : GS) (h nr nt ne : Nat) (M T D : Nat → Nat) : Prop := o h = 0 ∧ (∀ k l, k < 3 → gR g h k = some l → o l = 0 ∧ ∀ e, gR g l 1 = some e → o e = 0) ∧ (∀ r, r < nr → o (M r) = 0) ∧ (∀ t, t < nt → o (T t) = 0) ∧ ∀ e, e < ne → o (D e) = 0
def LT (o : Nat → Nat) (g : GS) (r : Option Nat) (w : MS) (fm : Nat → Nat) (nf j : Nat) : Prop := (r = none ∧ rI w 10 j = -1) ∨ ∃ e p q d, r = some e ∧ rI w 10 j = nI p ∧ tr o g w fm nf d e p q ∧ rI w 11 q = 0 ∧ q < 1100 ∧ d ≤ 1100
def fmw (k : Nat) : Nat := if k = 0 then 3 else if k = 1 then 4 else if k = 2 then 1 else 2
/-- ranges of what a house holds -/
def HR (w : MS) (nr nt ne : Nat) : Prop :=
  (∀ r, r < nr → (∃ c, c ≤ 60 ∧ rI w 10 (8 + 3 * r) = nI c) ∧ (∃ c, c ≤ 20 ∧ rI w 10 (8 + 3 * r + 1) = nI c) ∧ ∃ c, c ≤ 999 ∧ rI w 10 (8 + 3 * r + 2) = nI c) ∧
  (∀ t, t < nt → (∃ c, 40 ≤ c ∧ c ≤ 99 ∧ rI w 10 (26 + 5 * t + 1) = nI c) ∧ (∃ c, c ≤ 40 ∧ rI w 10 (26 + 5 * t + 2) = nI c) ∧ (∃ c, c ≤ 9999 ∧ rI w 10 (26 + 5 * t + 3) = nI c) ∧ (rI w 10 (26 + 5 * t + 4) = -1 ∨ ∃ r, r < nr ∧ rI w 10 (26 + 5 * t + 4) = nI r)) ∧
  (∀ t u, t < nt → u < nt → t ≠ u → rI w 10 (26 + 5 * t + 4) = rI w 10 (26 + 5 * u + 4) → rI w 10 (26 + 5 * t + 4) = -1) ∧
  (∀ e, e < ne → (∃ c, c ≤ 99 ∧ rI w 10 (92 + 3 * e) = nI c) ∧ (∃ c, 1 ≤ c ∧ c ≤ 20 ∧ rI w 10 (92 + 3 * e + 1) = nI c) ∧ ∃ c, c ≤ 60 ∧ rI w 10 (92 + 3 * e + 2) = nI c) ∧
  (∃ c, c ≤ 60 ∧ rI w 10 3 = nI c) ∧ ∃ c, 1 ≤ c ∧ c ≤ 120 ∧ rI w 10 4 = nI c
def CX (o : Nat → Nat) (x h nr nt ne F : Nat) (M T D : Nat → Nat) (g : GS) (w : MS) : Prop := HD g x h nr nt ne M T D w ∧ HO o g h nr nt ne M T D ∧ HR w nr nt ne ∧ (gR g x 6 = some F ∧ gK g F = (40, 4) ∧ o F = F ∧ F ≠ 0 ∧ o x = x ∧ x ≠ 0) ∧ LT o g (gR g h 6) w (fun k => k) 3 6 ∧ LT o g (gR g h 7) w fmw 4 7
theorem isLst.fr {P : Nat → Prop} {g g' : GS} {l n : Nat} {f : Nat → Nat} (h : isLst g l n f) (F : FrB P g g') (p : ¬ P l) : isLst g' l n f := by
  obtain ⟨h1, h2, e, h3, h4, h5, h6, h7⟩ := h
  exact ⟨by rw [F.k]; exact h1, by rw [F.i p]; exact h2, e, by rw [F.r]; exact h3, by rw [F.k]; exact h4, by rw [F.k]; exact h5, by rw [F.k]; exact h6, fun i hi => by rw [F.r]; exact h7 i hi⟩
theorem HD.fr {o : Nat → Nat} {P : Nat → Prop} {g g' : GS} {x h nr nt ne : Nat} {M T D : Nat → Nat} {w w' : MS} (H : HD g x h nr nt ne M T D w) (O : HO o g h nr nt ne M T D) (f : FrB P g g') (hp : ∀ q, o q = 0 → ¬ P q) (e : ∀ i, rI w' 10 i = rI w 10 i) : HD g' x h nr nt ne M T D w' := by
  obtain ⟨⟨a1, a2, ⟨b1, ⟨l0, c0, d0⟩, ⟨l1, c1, d1⟩, ⟨l2, c2, d2⟩, b5, b6, b7⟩, a4, a5, a6, a7, a8, a9⟩, hr, ht, he, h3, h4, h5, h6⟩ := H
  obtain ⟨o0, o1, o2, o3, o4⟩ := O
  have i : ∀ q k, o q = 0 → gI g' q k = gI g q k := fun q k hq => f.i (hp q hq) k
  refine ⟨⟨by rw [f.k]; exact a1, by rw [f.r]; exact a2, ⟨by rw [f.k]; exact b1, ⟨l0, by rw [f.r]; exact c0, d0.fr f (hp _ (o1 0 _ (by omega) c0).1)⟩, ⟨l1, by rw [f.r]; exact c1, d1.fr f (hp _ (o1 1 _ (by omega) c1).1)⟩, ⟨l2, by rw [f.r]; exact c2, d2.fr f (hp _ (o1 2 _ (by omega) c2).1)⟩, fun r h => by rw [f.k]; exact b5 r h, fun t h => by rw [f.k]; exact b6 t h, fun e h => by rw [f.k]; exact b7 e h⟩, a4, a5, a6, by rw [e]; exact a7, by rw [e]; exact a8, by rw [e]; exact a9⟩, fun r h => ?_, fun t h => ?_, fun e' h => ?_, ?_, ?_, ?_, ?_⟩
  · simp only [e, i _ _ (o2 r h)]; exact hr r h
  · simp only [e, f.k, i _ _ (o3 t h)]; exact ht t h
  · simp only [e, i _ _ (o4 e' h)]; exact he e' h
  · simp only [e, i _ _ o0]; exact h3
  · simp only [e, i _ _ o0]; exact h4
  · simp only [e, i _ _ o0]; exact h5
  · simp only [e]; exact h6
theorem HO.fr {o : Nat → Nat} {P : Nat → Prop} {g g' : GS} {h nr nt ne : Nat} {M T D : Nat → Nat} (O : HO o g h nr nt ne M T D) (f : FrB P g g') : HO o g' h nr nt ne M T D :=
  ⟨O.1, fun k l hk e => by
    rw [f.r] at e
    refine ⟨(O.2.1 k l hk e).1, fun e' h => ?_⟩
    rw [f.r] at h
    exact (O.2.1 k l hk e).2 e' h, O.2.2⟩
theorem HR.fr {nr nt ne : Nat} {w w' : MS} (H : HR w nr nt ne) (e : ∀ i, rI w' 10 i = rI w 10 i) : HR w' nr nt ne := by
  unfold HR
  simp only [e]
  exact H
theorem LT.fr {o : Nat → Nat} {P : Nat → Prop} {g g' : GS} {r : Option Nat} {w w' : MS} {fm : Nat → Nat} {nf j : Nat} (h : LT o g r w fm nf j) (f : FrB P g g') (hp : ∀ q, o q = 0 → ¬ P q) (e : ∀ i, rI w' 10 i = rI w 10 i) (e1 : ∀ i, rI w' 11 i = rI w 11 i) (e2 : ∀ i, rI w' 12 i = rI w 12 i) : LT o g' r w' fm nf j := by
  rcases h with ⟨h1, h2⟩ | ⟨t, p, q, d, h1, h2, h3, h4, h5⟩
  · exact Or.inl ⟨h1, by rw [e]; exact h2⟩
  · exact Or.inr ⟨t, p, q, d, h1, by rw [e]; exact h2, tr.fr (fun q hq => ⟨hq, f.k q, f.i (hp q hq) 0, fun k => f.r q k⟩) h3 (fun i _ _ => ⟨e1 i, e2 i⟩), by rw [e1]; exact h4, h5⟩
theorem CX.fr {o : Nat → Nat} {P : Nat → Prop} {Q : Nat → Nat → Prop} {g g' : GS} {x h nr nt ne F : Nat} {M T D : Nat → Nat} {w w' : MS} (c : CX o x h nr nt ne F M T D g w) (f : FrB P g g') (hp : ∀ q, o q = 0 → ¬ P q) (f2 : FrM Q w w') (hq : ∀ k i, Q k i → k ≠ 10 ∧ k ≠ 11 ∧ k ≠ 12) : CX o x h nr nt ne F M T D g' w' := by
  obtain ⟨c1, c2, c3, ⟨c4, c5, c6⟩, c7, c8⟩ := c
  have e0 : ∀ i, rI w' 10 i = rI w 10 i := fun i => f2.2 10 i (fun h => (hq 10 i h).1 rfl)
  have e1 : ∀ i, rI w' 11 i = rI w 11 i := fun i => f2.2 11 i (fun h => (hq 11 i h).2.1 rfl)
  have e2 : ∀ i, rI w' 12 i = rI w 12 i := fun i => f2.2 12 i (fun h => (hq 12 i h).2.2 rfl)
  exact ⟨c1.fr c2 f hp e0, c2.fr f, c3.fr e0, ⟨by rw [f.r]; exact c4, by rw [f.k]; exact c5, c6⟩, by rw [f.r]; exact c7.fr f hp e0 e1 e2, by rw [f.r]; exact c8.fr f hp e0 e1 e2⟩
/-- both stand alike; what has changed since g0, w0 -/
def EN (o : Nat → Nat) (x h nr nt ne F : Nat) (M T D : Nat → Nat) (S : Nat) (a : Nat → Nat) (b N : Nat) (g0 : GS) (w0 : MS) (g : GS) (w : MS) : Prop := CX o x h nr nt ne F M T D g w ∧ SR g S a w b ∧ BI w b nr nt N ∧ (o S = S ∧ S ≠ 0 ∧ S ≠ F ∧ ∀ k, k < 6 → o (a k) = S) ∧ (b + 56 ≤ 1288 ∧ N < 100000) ∧ FrB (fun q => o q = S ∨ o q = F) g0 g ∧ FrM (fun k i => k = 25 ∧ b ≤ i ∧ i < b + 43 ∨ k = 23 ∨ k = 24) w0 w
section ENG
variable {o : Nat → Nat} {x h nr nt ne F S b N : Nat} {M T D a : Nat → Nat} {g0 g g' : GS} {w0 w w' : MS}
theorem EN.to (E : EN o x h nr nt ne F M T D S a b N g0 w0 (g) (w)) (f : FrB (fun q => o q = S ∨ o q = F) g g') (f2 : FrM (fun k i => k = 25 ∧ b ≤ i ∧ i < b + 43 ∨ k = 23 ∨ k = 24) w w') (s : SR g' S a w' b) (i : BI w' b nr nt N) : EN o x h nr nt ne F M T D S a b N g0 w0 (g') (w') := by
  obtain ⟨E1, E2, E3, E4, E5, E6, E7⟩ := E
  refine ⟨E1.fr f (fun q hq h => ?_) f2 (fun k i h => by omega), s, i, E4, E5, E6.tr f, E7.tr f2⟩
  have := E4.2.1
  have := E1.2.2.2.1.2.2.2.1
  rcases h with h | h <;> omega
theorem EN.hd (E : EN o x h nr nt ne F M T D S a b N g0 w0 (g) (w)) : HD g x h nr nt ne M T D w := E.1.1
theorem EN.hr (E : EN o x h nr nt ne F M T D S a b N g0 w0 (g) (w)) : HR w nr nt ne := E.1.2.2.1
theorem EN.sr (E : EN o x h nr nt ne F M T D S a b N g0 w0 (g) (w)) : SR g S a w b := E.2.1
theorem EN.st (E : EN o x h nr nt ne F M T D S a b N g0 w0 (g) (w)) : stS g S a := E.2.1.1
theorem EN.bi (E : EN o x h nr nt ne F M T D S a b N g0 w0 (g) (w)) : BI w b nr nt N := E.2.2.1
theorem EN.hb (E : EN o x h nr nt ne F M T D S a b N g0 w0 (g) (w)) : b + 56 ≤ 1288 := E.2.2.2.2.1.1
theorem EN.nt6 (E : EN o x h nr nt ne F M T D S a b N g0 w0 (g) (w)) : nt ≤ 6 := E.1.1.1.2.2.2.2.1
theorem EN.nr6 (E : EN o x h nr nt ne F M T D S a b N g0 w0 (g) (w)) : nr ≤ 6 := E.1.1.1.2.2.2.1
theorem EN.fb (E : EN o x h nr nt ne F M T D S a b N g0 w0 (g) (w)) : FrB (fun q => o q = S ∨ o q = F) g0 g := E.2.2.2.2.2.1
theorem EN.fm (E : EN o x h nr nt ne F M T D S a b N g0 w0 (g) (w)) : FrM (fun k i => k = 25 ∧ b ≤ i ∧ i < b + 43 ∨ k = 23 ∨ k = 24) w0 w := E.2.2.2.2.2.2
theorem EN.kx (E : EN o x h nr nt ne F M T D S a b N g0 w0 (g) (w)) : oK g x 1 1 = some 1 := by
  have := E.hd.1.1
  rw [oK_s (by omega) (by omega), this]
theorem EN.kS (E : EN o x h nr nt ne F M T D S a b N g0 w0 (g) (w)) : oK g S 4 4 = some 4 := by
  have := E.st.1
  rw [oK_s (by omega) (by omega), this]
theorem EN.kh (E : EN o x h nr nt ne F M T D S a b N g0 w0 (g) (w)) : oK g h 3 3 = some 3 := by
  have := E.hd.1.2.2.1.1
  rw [oK_s (by omega) (by omega), this]
theorem EN.xh (E : EN o x h nr nt ne F M T D S a b N g0 w0 (g) (w)) : oRn g x 1 1 2 = some h := by
  have := E.hd.1.1
  rw [oRn_s (by omega) (by omega), E.hd.1.2.1]
theorem EN.oR (E : EN o x h nr nt ne F M T D S a b N g0 w0 (g) (w)) {k : Nat} (hk : k < 6) : oRn g S 4 4 k = some (a k) := by
  have := E.st.1
  rw [oRn_s (by omega) (by omega), (E.st.2.1 k hk).1]
theorem EN.aI (E : EN o x h nr nt ne F M T D S a b N g0 w0 (g) (w)) {k t : Nat} (hk : k < 6) (ht : t < 6) : aI g (a k) 40 (nI t) = some (rI w 25 (b + ofs k + t)) := by
  have h1 := (E.st.2.1 k hk).2
  rw [aI_s (by rw [h1]) (by rw [h1]; exact ht) (by rw [h1]; omega), E.sr.2.1 k t hk ht]
theorem EN.xI (E : EN o x h nr nt ne F M T D S a b N g0 w0 (g) (w)) {k t : Nat} (hk : k < 6) (ht : t < 6) (v : Int32) : xI g (a k) 40 (nI t) v = some (sI g (a k) t v) := by
  have h1 := (E.st.2.1 k hk).2
  rw [xI_s (by rw [h1]) (by rw [h1]; exact ht) (by rw [h1]; omega)]
theorem EN.oI6 (E : EN o x h nr nt ne F M T D S a b N g0 w0 (g) (w)) : oI g S 4 4 6 = some (rI w 25 b) := by
  have := E.st.1
  rw [oI_s (by omega) (by omega), E.sr.2.2.1]
theorem EN.oI7 (E : EN o x h nr nt ne F M T D S a b N g0 w0 (g) (w)) : oI g S 4 4 7 = some (nI (mk6 (goneB w b))) := by
  have := E.st.1
  rw [oI_s (by omega) (by omega), E.sr.2.2.2.1]
theorem EN.pI (E : EN o x h nr nt ne F M T D S a b N g0 w0 (g) (w)) (k : Nat) (v : Int32) : pI g S 4 4 k v = some (sI g S k v) := by
  have := E.st.1
  rw [pI_s (by omega) (by omega)]
theorem EN.rm (E : EN o x h nr nt ne F M T D S a b N g0 w0 (g) (w)) {r : Nat} (hr : r < nr) : oI g (M r) 7 7 1 = some (rI w 10 (8 + 3 * r)) ∧ oI g (M r) 7 7 2 = some (rI w 10 (8 + 3 * r + 1)) ∧ oI g (M r) 7 7 3 = some (rI w 10 (8 + 3 * r + 2)) := by
  have h1 := E.hd.1.2.2.1.2.2.2.2.1 r hr
  obtain ⟨h2, h3, h4⟩ := E.hd.2.1 r hr
  rw [oI_s (by omega) (by omega), oI_s (by omega) (by omega), oI_s (by omega) (by omega), h2, h3, h4]
  exact ⟨rfl, rfl, rfl⟩
theorem EN.tn (E : EN o x h nr nt ne F M T D S a b N g0 w0 (g) (w)) {t : Nat} (ht : t < nt) : oI g (T t) 8 11 1 = some (rI w 10 (26 + 5 * t + 1)) ∧ oI g (T t) 8 11 2 = some (rI w 10 (26 + 5 * t + 2)) ∧ oI g (T t) 8 11 3 = some (rI w 10 (26 + 5 * t + 3)) ∧ oI g (T t) 8 11 4 = some (rI w 10 (26 + 5 * t + 4)) ∧ oI g (T t) 8 11 5 = some (nI (mk6 (fun e => rI w 10 (56 + 6 * t + e) == 1))) := by
  have h1 := E.hd.1.2.2.1.2.2.2.2.2.1 t ht
  obtain ⟨-, h2, h3, h4, h5, h6, -⟩ := E.hd.2.2.1 t ht
  rw [oI_s (by omega) (by omega), oI_s (by omega) (by omega), oI_s (by omega) (by omega), oI_s (by omega) (by omega), oI_s (by omega) (by omega), h2, h3, h4, h5, h6]
  exact ⟨rfl, rfl, rfl, rfl, rfl⟩
theorem EN.brew (E : EN o x h nr nt ne F M T D S a b N g0 w0 (g) (w)) : B_X3_brew h g = some (rI w 10 3) := by
  have h1 := E.hd.1.2.2.1.1
  have h2 := E.hd.2.2.2.2.1
  unfold B_X3_brew
  rw [oI_s (by omega) (by omega), ← h2]
  simp only [bd1_s]
  split <;> rfl
theorem EN.every (E : EN o x h nr nt ne F M T D S a b N g0 w0 (g) (w)) : B_X3_every h g = some (rI w 10 5) := by
  have h1 := E.hd.1.2.2.1.1
  have h2 := E.hd.2.2.2.2.2.2.1
  unfold B_X3_every
  rw [oI_s (by omega) (by omega), ← h2]
  simp only [bd1_s]
  split <;> rfl
theorem EN.isb (E : EN o x h nr nt ne F M T D S a b N g0 w0 (g) (w)) {t : Nat} (ht : t < 6) : B_X4_isIn S (nI t) g = some (if rI w 25 (b + 1 + t) < 0 then 0 else 1) := by
  rw [isIn_b E.st ht, E.sr.2.1 0 t (by omega) ht]
  rfl
theorem EN.ism (E : EN o x h nr nt ne F M T D S a b N g0 w0 (g) (w)) {t : Nat} (ht : t < nt) : M_isIn (nI b) (nI t) w = some (if rI w 25 (b + 1 + t) < 0 then 0 else 1) := M_isIn_t E.hd.1.2.2.2.2.2.2.2.1 E.nt6 ht E.hb
theorem EN.ten (E : EN o x h nr nt ne F M T D S a b N g0 w0 (g) (w)) : B_X1_tenants x g = some (nI nt) := E.hd.ten
theorem EN.mten (E : EN o x h nr nt ne F M T D S a b N g0 w0 (g) (w)) : M_tenants w = nI nt := E.hd.1.2.2.2.2.2.2.2.1
theorem EN.set (E : EN o x h nr nt ne F M T D S a b N g0 w0 (g) (w)) {k t : Nat} (hk : k < 6) (ht : t < 6) {v : Int32} (i : BI (wI w 25 (b + ofs k + t) v) b nr nt N) : EN o x h nr nt ne F M T D S a b N g0 w0 (sI g (a k) t v) (wI w 25 (b + ofs k + t) v) := by
  have hb := ofs_b k hk
  exact E.to (FrB.sI (Or.inl (E.2.2.2.1.2.2.2 k hk))) (FrM.wI (Or.inl ⟨rfl, by omega, by omega⟩)) (E.sr.set hk ht v) i
theorem EN.count (E : EN o x h nr nt ne F M T D S a b N g0 w0 (g) (w)) {t : Nat} (ht : t < 6) (v : Int32) : EN o x h nr nt ne F M T D S a b N g0 w0 (sI g (a 4) t v) (wI w 25 (b + 7 + t) v) := E.set (k := 4) (by omega) ht (E.bi.congr fun i hi => rI_ne (show b + i ≠ b + 7 + t by omega))
theorem EN.stir (E : EN o x h nr nt ne F M T D S a b N g0 w0 (g) (w)) {t : Nat} (ht : t < 6) (v : Int32) : EN o x h nr nt ne F M T D S a b N g0 w0 (sI g (a 1) t v) (wI w 25 (b + 13 + t) v) := E.set (k := 1) (by omega) ht (E.bi.congr fun i hi => rI_ne (show b + i ≠ b + 13 + t by omega))
theorem EN.cup (E : EN o x h nr nt ne F M T D S a b N g0 w0 (g) (w)) {t c : Nat} (ht : t < 6) (hc : c ≤ 120) : EN o x h nr nt ne F M T D S a b N g0 w0 (sI g (a 2) t (nI c)) (wI w 25 (b + 19 + t) (nI c)) := E.set (k := 2) (by omega) ht (E.bi.cup ht hc)
theorem EN.hab (E : EN o x h nr nt ne F M T D S a b N g0 w0 (g) (w)) {t c : Nat} (ht : t < 6) (hc : c ≤ N) : EN o x h nr nt ne F M T D S a b N g0 w0 (sI g (a 3) t (nI c)) (wI w 25 (b + 25 + t) (nI c)) := E.set (k := 3) (by omega) ht (E.bi.hab ht hc)
theorem EN.coin (E : EN o x h nr nt ne F M T D S a b N g0 w0 (g) (w)) {t c : Nat} (ht : t < nt) (hc : c ≤ 9999) : EN o x h nr nt ne F M T D S a b N g0 w0 (sI g (a 5) t (nI c)) (wI w 25 (b + 31 + t) (nI c)) := by
  have := E.nt6
  exact E.set (k := 5) (by omega) (by omega) (E.bi.coin (by omega) hc ht)
theorem EN.minute (E : EN o x h nr nt ne F M T D S a b N g0 w0 (g) (w)) (v : Int32) : EN o x h nr nt ne F M T D S a b N g0 w0 (sI g S 6 v) (wI w 25 b v) := E.to (FrB.sI (Or.inl E.2.2.2.1.1)) (FrM.wI (Or.inl ⟨rfl, by omega, by omega⟩)) (E.sr.min v) (E.bi.congr fun i hi => rI_ne (show b + i ≠ b by omega))
end ENG
theorem rd0 {w : MS} {b : Nat} (hb : b + 56 ≤ 1288) : rA w 25 1288 (nI b + 0) = some (rI w 25 b) := by simp (disch := omega) only [L2, L3, L4, L5, L6, L7, L8, L9, L10, L11, L12, L13, L14, L15, L16, L17, L18, L19, L20, L21, L22, L23, L24, L25, L26, L27, L28, L29, L30, L31, L32, L33, L34, L35, L36, L37, L38, L40, L41, L42, L43, L44, L45, L48, L56, L57, L59, L60, L61, L63, L92, L96, L97, L99, L100, L101, L120, L122, L123, L124, L125, L126, L128, L146, L176, L200, L212, L240, L241, L243, L255, L729, L999, L1000, L1002, L1100, L1176, L1177, L1183, L1195, L1232, L1251, L1288, L1446, nI_add0, nI_1, nI_add, pk_mul, rA_nI, wA_nI, bd1_s, bd2_s, bdp_s]
theorem rd1 {w : MS} {b t : Nat} (hb : b + 56 ≤ 1288) (ht : t < 6) : rA w 25 1288 (nI b + 1 + nI t) = some (rI w 25 (b + 1 + t)) := by simp (disch := omega) only [L2, L3, L4, L5, L6, L7, L8, L9, L10, L11, L12, L13, L14, L15, L16, L17, L18, L19, L20, L21, L22, L23, L24, L25, L26, L27, L28, L29, L30, L31, L32, L33, L34, L35, L36, L37, L38, L40, L41, L42, L43, L44, L45, L48, L56, L57, L59, L60, L61, L63, L92, L96, L97, L99, L100, L101, L120, L122, L123, L124, L125, L126, L128, L146, L176, L200, L212, L240, L241, L243, L255, L729, L999, L1000, L1002, L1100, L1176, L1177, L1183, L1195, L1232, L1251, L1288, L1446, nI_add0, nI_1, nI_add, pk_mul, rA_nI, wA_nI, bd1_s, bd2_s, bdp_s]
theorem rd1' {w : MS} {b t : Nat} (hb : b + 56 ≤ 1288) (ht : t < 6) : rA w 25 1288 (nI (b + 1) + nI t) = some (rI w 25 (b + 1 + t)) := by simp (disch := omega) only [L2, L3, L4, L5, L6, L7, L8, L9, L10, L11, L12, L13, L14, L15, L16, L17, L18, L19, L20, L21, L22, L23, L24, L25, L26, L27, L28, L29, L30, L31, L32, L33, L34, L35, L36, L37, L38, L40, L41, L42, L43, L44, L45, L48, L56, L57, L59, L60, L61, L63, L92, L96, L97, L99, L100, L101, L120, L122, L123, L124, L125, L126, L128, L146, L176, L200, L212, L240, L241, L243, L255, L729, L999, L1000, L1002, L1100, L1176, L1177, L1183, L1195, L1232, L1251, L1288, L1446, nI_add0, nI_1, nI_add, pk_mul, rA_nI, wA_nI, bd1_s, bd2_s, bdp_s]
theorem wr1' {w : MS} {b t : Nat} {v : Int32} (hb : b + 56 ≤ 1288) (ht : t < 6) : wA w 25 1288 (nI (b + 1) + nI t) v = some (wI w 25 (b + 1 + t) v) := by simp (disch := omega) only [L2, L3, L4, L5, L6, L7, L8, L9, L10, L11, L12, L13, L14, L15, L16, L17, L18, L19, L20, L21, L22, L23, L24, L25, L26, L27, L28, L29, L30, L31, L32, L33, L34, L35, L36, L37, L38, L40, L41, L42, L43, L44, L45, L48, L56, L57, L59, L60, L61, L63, L92, L96, L97, L99, L100, L101, L120, L122, L123, L124, L125, L126, L128, L146, L176, L200, L212, L240, L241, L243, L255, L729, L999, L1000, L1002, L1100, L1176, L1177, L1183, L1195, L1232, L1251, L1288, L1446, nI_add0, nI_1, nI_add, pk_mul, rA_nI, wA_nI, bd1_s, bd2_s, bdp_s]
theorem rd7 {w : MS} {b t : Nat} (hb : b + 56 ≤ 1288) (ht : t < 6) : rA w 25 1288 (nI b + 7 + nI t) = some (rI w 25 (b + 7 + t)) := by simp (disch := omega) only [L2, L3, L4, L5, L6, L7, L8, L9, L10, L11, L12, L13, L14, L15, L16, L17, L18, L19, L20, L21, L22, L23, L24, L25, L26, L27, L28, L29, L30, L31, L32, L33, L34, L35, L36, L37, L38, L40, L41, L42, L43, L44, L45, L48, L56, L57, L59, L60, L61, L63, L92, L96, L97, L99, L100, L101, L120, L122, L123, L124, L125, L126, L128, L146, L176, L200, L212, L240, L241, L243, L255, L729, L999, L1000, L1002, L1100, L1176, L1177, L1183, L1195, L1232, L1251, L1288, L1446, nI_add0, nI_1, nI_add, pk_mul, rA_nI, wA_nI, bd1_s, bd2_s, bdp_s]
theorem rd13 {w : MS} {b t : Nat} (hb : b + 56 ≤ 1288) (ht : t < 6) : rA w 25 1288 (nI b + 13 + nI t) = some (rI w 25 (b + 13 + t)) := by simp (disch := omega) only [L2, L3, L4, L5, L6, L7, L8, L9, L10, L11, L12, L13, L14, L15, L16, L17, L18, L19, L20, L21, L22, L23, L24, L25, L26, L27, L28, L29, L30, L31, L32, L33, L34, L35, L36, L37, L38, L40, L41, L42, L43, L44, L45, L48, L56, L57, L59, L60, L61, L63, L92, L96, L97, L99, L100, L101, L120, L122, L123, L124, L125, L126, L128, L146, L176, L200, L212, L240, L241, L243, L255, L729, L999, L1000, L1002, L1100, L1176, L1177, L1183, L1195, L1232, L1251, L1288, L1446, nI_add0, nI_1, nI_add, pk_mul, rA_nI, wA_nI, bd1_s, bd2_s, bdp_s]
theorem rd19 {w : MS} {b t : Nat} (hb : b + 56 ≤ 1288) (ht : t < 6) : rA w 25 1288 (nI b + 19 + nI t) = some (rI w 25 (b + 19 + t)) := by simp (disch := omega) only [L2, L3, L4, L5, L6, L7, L8, L9, L10, L11, L12, L13, L14, L15, L16, L17, L18, L19, L20, L21, L22, L23, L24, L25, L26, L27, L28, L29, L30, L31, L32, L33, L34, L35, L36, L37, L38, L40, L41, L42, L43, L44, L45, L48, L56, L57, L59, L60, L61, L63, L92, L96, L97, L99, L100, L101, L120, L122, L123, L124, L125, L126, L128, L146, L176, L200, L212, L240, L241, L243, L255, L729, L999, L1000, L1002, L1100, L1176, L1177, L1183, L1195, L1232, L1251, L1288, L1446, nI_add0, nI_1, nI_add, pk_mul, rA_nI, wA_nI, bd1_s, bd2_s, bdp_s]
theorem rd25 {w : MS} {b t : Nat} (hb : b + 56 ≤ 1288) (ht : t < 6) : rA w 25 1288 (nI b + 25 + nI t) = some (rI w 25 (b + 25 + t)) := by simp (disch := omega) only [L2, L3, L4, L5, L6, L7, L8, L9, L10, L11, L12, L13, L14, L15, L16, L17, L18, L19, L20, L21, L22, L23, L24, L25, L26, L27, L28, L29, L30, L31, L32, L33, L34, L35, L36, L37, L38, L40, L41, L42, L43, L44, L45, L48, L56, L57, L59, L60, L61, L63, L92, L96, L97, L99, L100, L101, L120, L122, L123, L124, L125, L126, L128, L146, L176, L200, L212, L240, L241, L243, L255, L729, L999, L1000, L1002, L1100, L1176, L1177, L1183, L1195, L1232, L1251, L1288, L1446, nI_add0, nI_1, nI_add, pk_mul, rA_nI, wA_nI, bd1_s, bd2_s, bdp_s]
theorem rd31 {w : MS} {b t : Nat} (hb : b + 56 ≤ 1288) (ht : t < 6) : rA w 25 1288 (nI b + 31 + nI t) = some (rI w 25 (b + 31 + t)) := by simp (disch := omega) only [L2, L3, L4, L5, L6, L7, L8, L9, L10, L11, L12, L13, L14, L15, L16, L17, L18, L19, L20, L21, L22, L23, L24, L25, L26, L27, L28, L29, L30, L31, L32, L33, L34, L35, L36, L37, L38, L40, L41, L42, L43, L44, L45, L48, L56, L57, L59, L60, L61, L63, L92, L96, L97, L99, L100, L101, L120, L122, L123, L124, L125, L126, L128, L146, L176, L200, L212, L240, L241, L243, L255, L729, L999, L1000, L1002, L1100, L1176, L1177, L1183, L1195, L1232, L1251, L1288, L1446, nI_add0, nI_1, nI_add, pk_mul, rA_nI, wA_nI, bd1_s, bd2_s, bdp_s]
theorem rd37 {w : MS} {b t : Nat} (hb : b + 56 ≤ 1288) (ht : t < 6) : rA w 25 1288 (nI b + 37 + nI t) = some (rI w 25 (b + 37 + t)) := by simp (disch := omega) only [L2, L3, L4, L5, L6, L7, L8, L9, L10, L11, L12, L13, L14, L15, L16, L17, L18, L19, L20, L21, L22, L23, L24, L25, L26, L27, L28, L29, L30, L31, L32, L33, L34, L35, L36, L37, L38, L40, L41, L42, L43, L44, L45, L48, L56, L57, L59, L60, L61, L63, L92, L96, L97, L99, L100, L101, L120, L122, L123, L124, L125, L126, L128, L146, L176, L200, L212, L240, L241, L243, L255, L729, L999, L1000, L1002, L1100, L1176, L1177, L1183, L1195, L1232, L1251, L1288, L1446, nI_add0, nI_1, nI_add, pk_mul, rA_nI, wA_nI, bd1_s, bd2_s, bdp_s]
theorem wr0 {w : MS} {b : Nat} {v : Int32} (hb : b + 56 ≤ 1288) : wA w 25 1288 (nI b + 0) v = some (wI w 25 b v) := by simp (disch := omega) only [L2, L3, L4, L5, L6, L7, L8, L9, L10, L11, L12, L13, L14, L15, L16, L17, L18, L19, L20, L21, L22, L23, L24, L25, L26, L27, L28, L29, L30, L31, L32, L33, L34, L35, L36, L37, L38, L40, L41, L42, L43, L44, L45, L48, L56, L57, L59, L60, L61, L63, L92, L96, L97, L99, L100, L101, L120, L122, L123, L124, L125, L126, L128, L146, L176, L200, L212, L240, L241, L243, L255, L729, L999, L1000, L1002, L1100, L1176, L1177, L1183, L1195, L1232, L1251, L1288, L1446, nI_add0, nI_1, nI_add, pk_mul, rA_nI, wA_nI, bd1_s, bd2_s, bdp_s]
theorem wr1 {w : MS} {b t : Nat} {v : Int32} (hb : b + 56 ≤ 1288) (ht : t < 6) : wA w 25 1288 (nI b + 1 + nI t) v = some (wI w 25 (b + 1 + t) v) := by simp (disch := omega) only [L2, L3, L4, L5, L6, L7, L8, L9, L10, L11, L12, L13, L14, L15, L16, L17, L18, L19, L20, L21, L22, L23, L24, L25, L26, L27, L28, L29, L30, L31, L32, L33, L34, L35, L36, L37, L38, L40, L41, L42, L43, L44, L45, L48, L56, L57, L59, L60, L61, L63, L92, L96, L97, L99, L100, L101, L120, L122, L123, L124, L125, L126, L128, L146, L176, L200, L212, L240, L241, L243, L255, L729, L999, L1000, L1002, L1100, L1176, L1177, L1183, L1195, L1232, L1251, L1288, L1446, nI_add0, nI_1, nI_add, pk_mul, rA_nI, wA_nI, bd1_s, bd2_s, bdp_s]
theorem wr7 {w : MS} {b t : Nat} {v : Int32} (hb : b + 56 ≤ 1288) (ht : t < 6) : wA w 25 1288 (nI b + 7 + nI t) v = some (wI w 25 (b + 7 + t) v) := by simp (disch := omega) only [L2, L3, L4, L5, L6, L7, L8, L9, L10, L11, L12, L13, L14, L15, L16, L17, L18, L19, L20, L21, L22, L23, L24, L25, L26, L27, L28, L29, L30, L31, L32, L33, L34, L35, L36, L37, L38, L40, L41, L42, L43, L44, L45, L48, L56, L57, L59, L60, L61, L63, L92, L96, L97, L99, L100, L101, L120, L122, L123, L124, L125, L126, L128, L146, L176, L200, L212, L240, L241, L243, L255, L729, L999, L1000, L1002, L1100, L1176, L1177, L1183, L1195, L1232, L1251, L1288, L1446, nI_add0, nI_1, nI_add, pk_mul, rA_nI, wA_nI, bd1_s, bd2_s, bdp_s]
theorem wr13 {w : MS} {b t : Nat} {v : Int32} (hb : b + 56 ≤ 1288) (ht : t < 6) : wA w 25 1288 (nI b + 13 + nI t) v = some (wI w 25 (b + 13 + t) v) := by simp (disch := omega) only [L2, L3, L4, L5, L6, L7, L8, L9, L10, L11, L12, L13, L14, L15, L16, L17, L18, L19, L20, L21, L22, L23, L24, L25, L26, L27, L28, L29, L30, L31, L32, L33, L34, L35, L36, L37, L38, L40, L41, L42, L43, L44, L45, L48, L56, L57, L59, L60, L61, L63, L92, L96, L97, L99, L100, L101, L120, L122, L123, L124, L125, L126, L128, L146, L176, L200, L212, L240, L241, L243, L255, L729, L999, L1000, L1002, L1100, L1176, L1177, L1183, L1195, L1232, L1251, L1288, L1446, nI_add0, nI_1, nI_add, pk_mul, rA_nI, wA_nI, bd1_s, bd2_s, bdp_s]
theorem wr19 {w : MS} {b t : Nat} {v : Int32} (hb : b + 56 ≤ 1288) (ht : t < 6) : wA w 25 1288 (nI b + 19 + nI t) v = some (wI w 25 (b + 19 + t) v) := by simp (disch := omega) only [L2, L3, L4, L5, L6, L7, L8, L9, L10, L11, L12, L13, L14, L15, L16, L17, L18, L19, L20, L21, L22, L23, L24, L25, L26, L27, L28, L29, L30, L31, L32, L33, L34, L35, L36, L37, L38, L40, L41, L42, L43, L44, L45, L48, L56, L57, L59, L60, L61, L63, L92, L96, L97, L99, L100, L101, L120, L122, L123, L124, L125, L126, L128, L146, L176, L200, L212, L240, L241, L243, L255, L729, L999, L1000, L1002, L1100, L1176, L1177, L1183, L1195, L1232, L1251, L1288, L1446, nI_add0, nI_1, nI_add, pk_mul, rA_nI, wA_nI, bd1_s, bd2_s, bdp_s]
theorem wr25 {w : MS} {b t : Nat} {v : Int32} (hb : b + 56 ≤ 1288) (ht : t < 6) : wA w 25 1288 (nI b + 25 + nI t) v = some (wI w 25 (b + 25 + t) v) := by simp (disch := omega) only [L2, L3, L4, L5, L6, L7, L8, L9, L10, L11, L12, L13, L14, L15, L16, L17, L18, L19, L20, L21, L22, L23, L24, L25, L26, L27, L28, L29, L30, L31, L32, L33, L34, L35, L36, L37, L38, L40, L41, L42, L43, L44, L45, L48, L56, L57, L59, L60, L61, L63, L92, L96, L97, L99, L100, L101, L120, L122, L123, L124, L125, L126, L128, L146, L176, L200, L212, L240, L241, L243, L255, L729, L999, L1000, L1002, L1100, L1176, L1177, L1183, L1195, L1232, L1251, L1288, L1446, nI_add0, nI_1, nI_add, pk_mul, rA_nI, wA_nI, bd1_s, bd2_s, bdp_s]
theorem wr31 {w : MS} {b t : Nat} {v : Int32} (hb : b + 56 ≤ 1288) (ht : t < 6) : wA w 25 1288 (nI b + 31 + nI t) v = some (wI w 25 (b + 31 + t) v) := by simp (disch := omega) only [L2, L3, L4, L5, L6, L7, L8, L9, L10, L11, L12, L13, L14, L15, L16, L17, L18, L19, L20, L21, L22, L23, L24, L25, L26, L27, L28, L29, L30, L31, L32, L33, L34, L35, L36, L37, L38, L40, L41, L42, L43, L44, L45, L48, L56, L57, L59, L60, L61, L63, L92, L96, L97, L99, L100, L101, L120, L122, L123, L124, L125, L126, L128, L146, L176, L200, L212, L240, L241, L243, L255, L729, L999, L1000, L1002, L1100, L1176, L1177, L1183, L1195, L1232, L1251, L1288, L1446, nI_add0, nI_1, nI_add, pk_mul, rA_nI, wA_nI, bd1_s, bd2_s, bdp_s]
theorem wr37 {w : MS} {b t : Nat} {v : Int32} (hb : b + 56 ≤ 1288) (ht : t < 6) : wA w 25 1288 (nI b + 37 + nI t) v = some (wI w 25 (b + 37 + t) v) := by simp (disch := omega) only [L2, L3, L4, L5, L6, L7, L8, L9, L10, L11, L12, L13, L14, L15, L16, L17, L18, L19, L20, L21, L22, L23, L24, L25, L26, L27, L28, L29, L30, L31, L32, L33, L34, L35, L36, L37, L38, L40, L41, L42, L43, L44, L45, L48, L56, L57, L59, L60, L61, L63, L92, L96, L97, L99, L100, L101, L120, L122, L123, L124, L125, L126, L128, L146, L176, L200, L212, L240, L241, L243, L255, L729, L999, L1000, L1002, L1100, L1176, L1177, L1183, L1195, L1232, L1251, L1288, L1446, nI_add0, nI_1, nI_add, pk_mul, rA_nI, wA_nI, bd1_s, bd2_s, bdp_s]
theorem mro0 {w : MS} {r : Nat} (hr : r < 6) : M_roomOf (nI r) 0 w = some (rI w 10 (8 + 3 * r)) := M_roomOf_s (j := 0) hr (by omega)
theorem mro1 {w : MS} {r : Nat} (hr : r < 6) : M_roomOf (nI r) 1 w = some (rI w 10 (8 + 3 * r + 1)) := M_roomOf_s (j := 1) hr (by omega)
theorem mro2 {w : MS} {r : Nat} (hr : r < 6) : M_roomOf (nI r) 2 w = some (rI w 10 (8 + 3 * r + 2)) := M_roomOf_s (j := 2) hr (by omega)
theorem mtn0 {w : MS} {t : Nat} (ht : t < 6) : M_tenantOf (nI t) 0 w = some (rI w 10 (26 + 5 * t)) := M_tenantOf_s (j := 0) ht (by omega)
theorem mtn1 {w : MS} {t : Nat} (ht : t < 6) : M_tenantOf (nI t) 1 w = some (rI w 10 (26 + 5 * t + 1)) := M_tenantOf_s (j := 1) ht (by omega)
theorem mtn2 {w : MS} {t : Nat} (ht : t < 6) : M_tenantOf (nI t) 2 w = some (rI w 10 (26 + 5 * t + 2)) := M_tenantOf_s (j := 2) ht (by omega)
theorem mtn3 {w : MS} {t : Nat} (ht : t < 6) : M_tenantOf (nI t) 3 w = some (rI w 10 (26 + 5 * t + 3)) := M_tenantOf_s (j := 3) ht (by omega)
theorem mtn4 {w : MS} {t : Nat} (ht : t < 6) : M_tenantOf (nI t) 4 w = some (rI w 10 (26 + 5 * t + 4)) := M_tenantOf_s (j := 4) ht (by omega)
