/-! the engine goes on, two-sided: dues, noons, who is where -/
set_option maxRecDepth 100000
theorem clamp_eq (y : Int32) : ∃ v : Nat, v ≤ 9999 ∧ B_X1_between y 0 9999 = nI v ∧ ∀ w, M_dueBy_p48 y w = some (nI v, w) := by
  unfold B_X1_between M_dueBy_p48
  rcases pk_ix y (n := 10000) (by omega) with h | h | ⟨j, hj, rfl⟩
  · have h1 : y < 9999 := Int32.lt_iff_toInt_lt.mpr (by have := Int32.lt_iff_toInt_lt.mp h; simp at this ⊢; omega)
    have h2 : ¬ 0 ≤ y := fun e => by have := Int32.le_iff_toInt_le.mp e; have := Int32.lt_iff_toInt_lt.mp h; omega
    have h3 : ¬ 0 < y := fun e => h2 (Int32.le_of_lt e)
    refine ⟨0, by omega, ?_, fun w => ?_⟩
    · rw [if_pos h1, if_neg h3]; rfl
    · rw [if_neg h2]; rfl
  · have h0 : (10000 : Int) ≤ y.toInt := by have := Int32.le_iff_toInt_le.mp h; rw [nI_toInt (by omega)] at this; exact this
    have h1 : ¬ y < 9999 := fun e => by have := Int32.lt_iff_toInt_lt.mp e; simp at this; omega
    have h2 : 0 ≤ y := Int32.le_iff_toInt_le.mpr (by simp; omega)
    have h3 : ¬ y ≤ 9999 := fun e => by have := Int32.le_iff_toInt_le.mp e; simp at this; omega
    refine ⟨9999, by omega, ?_, fun w => ?_⟩
    · rw [if_neg h1]; rfl
    · rw [if_pos h2, if_neg h3]; rfl
  · refine ⟨j, by omega, ?_, fun w => ?_⟩
    · rw [mn_lt_le, if_pos (show nI j ≤ 9999 from nI_le (b := 9999) (by omega) (by omega))]
      by_cases h0 : j = 0
      · subst h0; rfl
      · rw [if_pos (show (0 : Int32) < nI j from nI_lt (a := 0) (by omega) (by omega))]
    · rw [if_pos (nI_pos' (by omega)), if_pos (show nI j ≤ 9999 from nI_le (b := 9999) (by omega) (by omega))]
theorem xI0 {g : GS} {a t : Nat} {v : Int32} (h : (gK g a).1 = t) (h2 : 0 < (gK g a).2) (h3 : (gK g a).2 < 2 ^ 31) : xI g a t 0 v = some (sI g a 0 v) := xI_s (j := 0) h h2 h3
theorem xI1 {g : GS} {a t : Nat} {v : Int32} (h : (gK g a).1 = t) (h2 : 1 < (gK g a).2) (h3 : (gK g a).2 < 2 ^ 31) : xI g a t 1 v = some (sI g a 1 v) := xI_s (j := 1) h h2 h3
theorem xI2 {g : GS} {a t : Nat} {v : Int32} (h : (gK g a).1 = t) (h2 : 2 < (gK g a).2) (h3 : (gK g a).2 < 2 ^ 31) : xI g a t 2 v = some (sI g a 2 v) := xI_s (j := 2) h h2 h3
theorem xI3 {g : GS} {a t : Nat} {v : Int32} (h : (gK g a).1 = t) (h2 : 3 < (gK g a).2) (h3 : (gK g a).2 < 2 ^ 31) : xI g a t 3 v = some (sI g a 3 v) := xI_s (j := 3) h h2 h3
theorem gr_sI {g : GS} {a k : Nat} {v : Int32} (q j : Nat) : gR (sI g a k v) q j = gR g q j := Eq.trans rfl rfl
theorem nI_sub {a b : Nat} (h : b ≤ a) : nI a - nI b = nI (a - b) := by
  have := nI_add (a - b) b
  rw [Nat.sub_add_cancel h] at this
  rw [← this, Int32.add_sub_cancel]
theorem sub_toInt {v c : Nat} (hv : v ≤ 100000) (hc : c ≤ 100000) : (nI v - nI c).toInt = (v : Int) - c := by
  rw [Int32.toInt_sub, nI_toInt (by omega), nI_toInt (by omega)]
  exact Int.bmod_eq_of_le (by omega) (by omega)
theorem sub_leI {v c k : Nat} (hv : v ≤ 100000) (hc : c ≤ 100000) (hk : k ≤ 100000) : nI v - nI c ≤ nI k ↔ v ≤ c + k := by
  rw [Int32.le_iff_toInt_le, sub_toInt hv hc, nI_toInt (by omega)]
  omega
theorem bq_none {β : Type} (n : β) (k : Nat → β) : bq none n k = n := Eq.trans rfl rfl
theorem bq_some {β : Type} (a : Nat) (n : β) (k : Nat → β) : bq (some a) n k = k a := Eq.trans rfl rfl
theorem frb_sI {P : Nat → Prop} {g g' : GS} {a k : Nat} {v : Int32} (f : FrB P g g') (ha : P a) : FrB P g (sI g' a k v) := f.tr (FrB.sI ha)
theorem frm_wI {P : Nat → Nat → Prop} {w w' : MS} {k i : Nat} {v : Int32} (f : FrM P w w') (h : P k i) : FrM P w (wI w' k i v) := f.tr (FrM.wI h)
theorem worth2 {o : Nat → Nat} {g : GS} {w : MS} {fm : Nat → Nat} {nf F L d e p q : Nat} (hF : (gK g F).1 = 40) (hL : (gK g F).2 = L) (hn : nf ≤ L) (hL2 : L < 100) (hfm : ∀ f, f < nf → fm f < 5) (h : tr o g w fm nf d e p q) (hd : d ≤ 1100) (h0 : rI w 11 q = 0) (hq : q < 1100) (hf : ∀ f, f < nf → gI g F f = rI w 23 (fm f)) : ∃ (v : Int32) (w' : MS), V_worked 1100 e F g = some v ∧ M_worthAt (nI p) w = some (v, w') ∧ FrM (fun k _ => k = 24) w w' := by
  have hp := tr_gt h
  obtain ⟨v, w', r1, r2, r3, r4⟩ := worth_run (s := 0) hF hL hn hL2 hfm (h.more hd) hf (by omega) (by omega)
  refine ⟨v, w', r1, ?_, r4.mono (fun k i h => h.1)⟩
  have := r2 (5000 - (q - p) - 1 + 1)
  rw [show 5000 - (q - p) - 1 + 1 + (q - p) = FU by show _ = 5000; omega] at this
  show M_worthAt_p4 FU (nI 0) (nI p) w = _
  rw [this, M_worthAt_p4, rA_nI (by omega) (by omega), bd1_s, r4.2 11 q (by omega), h0, if_pos rfl, r3]
theorem dueBy2 {o : Nat → Nat} {x h nr nt ne F : Nat} {M T D : Nat → Nat} {g : GS} {w : MS} (C : CX o x h nr nt ne F M T D g w) (bt fl kd : Int32) : ∃ (v : Nat) (g' : GS) (w' : MS), v ≤ 9999 ∧ B_X1_dueBy x bt fl kd g = some (nI v, g') ∧ M_dueBy bt fl kd w = some (nI v, w') ∧ FrB (fun q => q = F) g g' ∧ FrM (fun k _ => k = 23 ∨ k = 24) w w' := by
  obtain ⟨⟨⟨x1, x2, x3, -⟩, -⟩, -, -, ⟨f1, f2, f3, f4, -⟩, L, -⟩ := C
  have h3 := x3.1
  have fk : (gK g F).1 = 40 := by rw [f2]
  have fl' : (gK g F).2 = 4 := by rw [f2]
  have f0 : FrM (fun k _ => k = 23 ∨ k = 24) w (wI (wI (wI w 23 0 bt) 23 1 fl) 23 2 kd) := frm_wI (frm_wI (FrM.wI (Or.inl rfl)) (Or.inl rfl)) (Or.inl rfl)
  rcases L with ⟨l1, l2⟩ | ⟨e, p, q, d, l1, l2, l3, l4, l5, l6⟩
  · obtain ⟨v, hv, v1, v2⟩ := clamp_eq (bt + fl)
    refine ⟨v, g, _, hv, ?_, ?_, FrB.rf, f0⟩
    · unfold B_X1_dueBy
      simp (disch := omega) only [oRn_s, oR_s, x2, bd1_s, l1, bq_none, v1]
    · unfold M_dueBy
      simp (disch := omega) only [bdp_s, rI_nk, l2]
      rw [if_neg (by decide), v2]
  · have fB : FrB (fun q => q = F) g (sI (sI (sI g F 0 bt) F 1 fl) F 2 kd) := frb_sI (frb_sI (FrB.sI rfl) rfl) rfl
    have hpq := tr_gt l3
    have l3' : tr o (sI (sI (sI g F 0 bt) F 1 fl) F 2 kd) (wI (wI (wI w 23 0 bt) 23 1 fl) 23 2 kd) (fun k => k) 3 d e p q := tr.fr (o := o) (o' := o) (g := g) (g' := sI (sI (sI g F 0 bt) F 1 fl) F 2 kd) (w := w) (fun q hq => ⟨hq, rfl, fB.i (fun e => by rw [e, f3] at hq; exact f4 hq) 0, fun _ => rfl⟩) l3 (fun i _ _ => ⟨f0.2 11 i (by omega), f0.2 12 i (by omega)⟩)
    obtain ⟨y, w', r1, r2, r3⟩ := worth2 (g := sI (sI (sI g F 0 bt) F 1 fl) F 2 kd) (F := F) (L := 4) (nf := 3) (fm := fun k => k) fk fl' (by omega) (by omega) (fun f hf => by show f < 5; omega) l3' l6 (by rw [f0.2 11 q (by omega)]; exact l4) l5 (fun f hf => by
      rcases (by omega : f = 0 ∨ f = 1 ∨ f = 2) with rfl | rfl | rfl
      · simp (disch := omega) [gi_sI, rI_ne, rI_eq]
      · simp (disch := omega) [gi_sI, rI_ne, rI_eq]
      · simp (disch := omega) [gi_sI, rI_ne, rI_eq])
    obtain ⟨v, hv, v1, v2⟩ := clamp_eq y
    refine ⟨v, _, w', hv, ?_, ?_, fB, f0.tr (r3.mono (fun k i h => Or.inr h))⟩
    · unfold B_X1_dueBy
      simp (disch := first | omega | (simp only [gk_sI]; omega)) only [oRn_s, oR_s, gr_sI, x2, f1, bd1_s, l1, bq_some, xI0, xI1, xI2, r1, v1]
    · unfold M_dueBy
      simp (disch := omega) only [bdp_s, rI_nk, l2]
      rw [if_pos (nI_pos' (by omega)), r2, bd2_s, v2]
section ENG3
variable {o : Nat → Nat} {x h nr nt ne F S b N : Nat} {M T D a : Nat → Nat} {g0 g g' : GS} {w0 w w' : MS}
theorem due2 (C : CX o x h nr nt ne F M T D g w) (hs : stS g S a) (hb : b + 56 ≤ 1288) {t r : Nat} (ht : t < nt) (hr : r < nr) (e4 : gI g (a 4) t = rI w 25 (b + 7 + t)) (e0 : gI g (a 0) t = nI r) (er : rI w 25 (b + 1 + t) = nI r) : ∃ (v : Nat) (g' : GS) (w' : MS), v ≤ 9999 ∧ B_X1_due x S (nI t) g = some (nI v, g') ∧ M_dueOf (nI b) (nI t) w = some (nI v, w') ∧ FrB (fun q => q = F) g g' ∧ FrM (fun k _ => k = 23 ∨ k = 24) w w' := by
  have n6 : nt ≤ 6 := C.1.1.2.2.2.2.1
  have r6 : nr ≤ 6 := C.1.1.2.2.2.1
  have hx := C.1.1.1
  have hS := hs.1
  obtain ⟨k1, k2⟩ := hs.2.1 4 (by omega)
  obtain ⟨k3, k4⟩ := hs.2.1 0 (by omega)
  have k5 : (gK g (a 4)).1 = 40 := by rw [k2]
  have k6 : (gK g (a 4)).2 = 6 := by rw [k2]
  have k7 : (gK g (a 0)).1 = 40 := by rw [k4]
  have k8 : (gK g (a 0)).2 = 6 := by rw [k4]
  have k9 := C.1.1.2.2.1.2.2.2.2.1 r hr
  have ke := (C.1.2.1 r hr).2.2
  obtain ⟨v, g', w', hv, h1, h2, h3, h4⟩ := dueBy2 C (rI w 25 (b + 7 + t)) (rI w 10 (8 + 3 * r + 2)) (rI w 10 (26 + 5 * t))
  refine ⟨v, g', w', hv, ?_, ?_, h3, h4⟩
  · unfold B_X1_due
    simp (disch := omega) only [oRn_s, oK_s, oI_s, aI_s, bd1_s, bd2_s, k1, k3, e4, e0, C.1.roo hr, C.1.tena ht, kind_b C.1 ht, ke, h1]
  · unfold M_dueOf
    simp (disch := omega) only [nI_1, bd1_s, bd2_s, bdp_s, rd0, rd1, rd1', rd7, rd13, rd19, rd25, rd31, rd37, wr0, wr1, wr1', wr7, wr13, wr19, wr25, wr31, wr37, mro0, mro1, mro2, mtn0, mtn1, mtn2, mtn3, mtn4, rI_ne, rI_nk, rI_eq, rest_m, calmed_m, er, h2]
/-- as SR, but for rooms of those gone and not in Z -/
def SRz (Z : Nat → Prop) (g : GS) (S : Nat) (a : Nat → Nat) (w : MS) (b : Nat) : Prop := stS g S a ∧ (∀ k t, 0 < k → k < 6 → t < 6 → gI g (a k) t = rI w 25 (b + ofs k + t)) ∧ (∀ t, t < 6 → Z t ∨ rI w 25 (b + 37 + t) = 0 → gI g (a 0) t = rI w 25 (b + 1 + t)) ∧ gI g S 6 = rI w 25 b ∧ gI g S 7 = nI (mk6 (goneB w b)) ∧ ∀ t, t < 6 → rI w 25 (b + 37 + t) = 0 ∨ rI w 25 (b + 37 + t) = 1
def EZ (Z : Nat → Prop) (o : Nat → Nat) (x h nr nt ne F : Nat) (M T D : Nat → Nat) (S : Nat) (a : Nat → Nat) (b N : Nat) (g0 : GS) (w0 : MS) (g : GS) (w : MS) : Prop := CX o x h nr nt ne F M T D g w ∧ SRz Z g S a w b ∧ BI w b nr nt N ∧ (o S = S ∧ S ≠ 0 ∧ S ≠ F ∧ ∀ k, k < 6 → o (a k) = S) ∧ (b + 56 ≤ 1288 ∧ N < 100000) ∧ FrB (fun q => o q = S ∨ o q = F) g0 g ∧ FrM (fun k i => k = 25 ∧ b ≤ i ∧ i < b + 43 ∨ k = 23 ∨ k = 24) w0 w
theorem EN.ez (E : EN o x h nr nt ne F M T D S a b N g0 w0 (g) (w)) (Z : Nat → Prop) : EZ (Z) o x h nr nt ne F M T D S a b N g0 w0 (g) (w) := ⟨E.1, ⟨E.st, fun k t _ hk ht => E.sr.2.1 k t hk ht, fun t ht _ => E.sr.2.1 0 t (by omega) ht, E.sr.2.2⟩, E.2.2⟩
theorem EZ.en {Z : Nat → Prop} (E : EZ (Z) o x h nr nt ne F M T D S a b N g0 w0 (g) (w)) (hZ : ∀ t, t < 6 → Z t ∨ rI w 25 (b + 37 + t) = 0) : EN o x h nr nt ne F M T D S a b N g0 w0 (g) (w) := by
  obtain ⟨E1, ⟨s1, s2, s3, s4⟩, E3⟩ := E
  refine ⟨E1, ⟨s1, fun k t hk ht => ?_, s4⟩, E3⟩
  by_cases c : k = 0
  · subst c; exact s3 t ht (hZ t ht)
  · exact s2 k t (by omega) hk ht
theorem EZ.less {Z Z' : Nat → Prop} (E : EZ (Z) o x h nr nt ne F M T D S a b N g0 w0 (g) (w)) (hZ : ∀ t, t < 6 → Z' t → Z t ∨ rI w 25 (b + 37 + t) = 0) : EZ (Z') o x h nr nt ne F M T D S a b N g0 w0 (g) (w) := by
  obtain ⟨E1, ⟨s1, s2, s3, s4⟩, E3⟩ := E
  exact ⟨E1, ⟨s1, s2, fun t ht h => s3 t ht (h.elim (hZ t ht) Or.inr), s4⟩, E3⟩
theorem EZ.to {Z Z' : Nat → Prop} (E : EZ (Z) o x h nr nt ne F M T D S a b N g0 w0 (g) (w)) (f : FrB (fun q => o q = S ∨ o q = F) g g') (f2 : FrM (fun k i => k = 25 ∧ b ≤ i ∧ i < b + 43 ∨ k = 23 ∨ k = 24) w w') (s : SRz Z' g' S a w' b) (i : BI w' b nr nt N) : EZ (Z') o x h nr nt ne F M T D S a b N g0 w0 (g') (w') := by
  obtain ⟨E1, E2, E3, E4, E5, E6, E7⟩ := E
  refine ⟨E1.fr f (fun q hq h => ?_) f2 (fun k i h => by omega), s, i, E4, E5, E6.tr f, E7.tr f2⟩
  have := E4.2.1
  have := E1.2.2.2.1.2.2.2.1
  rcases h with h | h <;> omega
theorem EZ.fac {Z : Nat → Prop} (E : EZ (Z) o x h nr nt ne F M T D S a b N g0 w0 (g) (w)) (f : FrB (fun q => q = F) g g') (f2 : FrM (fun k _ => k = 23 ∨ k = 24) w w') : EZ (Z) o x h nr nt ne F M T D S a b N g0 w0 (g') (w') := by
  have oF := E.1.2.2.2.1.2.2.1
  obtain ⟨s1, s2, s3, s4, s5, s6⟩ := E.2.1
  have ow := E.2.2.2.1
  have e : ∀ i, rI w' 25 i = rI w 25 i := fun i => f2.2 25 i (by omega)
  have nF : ∀ k, k < 6 → ¬ a k = F := fun k hk e => by have h1 := ow.2.2.2 k hk; rw [e, oF] at h1; exact ow.2.2.1 h1.symm
  refine E.to (f.mono (fun q hq => Or.inr (by rw [hq]; exact oF))) (f2.mono (fun k i h => Or.inr h)) ⟨⟨by rw [f.k]; exact s1.1, fun k hk => by rw [f.r, f.k]; exact s1.2.1 k hk, s1.2.2⟩, fun k t h0 hk ht => by rw [f.i (nF k hk), e]; exact s2 k t h0 hk ht, fun t ht h => ?_, ?_, ?_, fun t ht => by rw [e]; exact s6 t ht⟩ (E.2.2.1.congr fun i _ => e _)
  · rw [f.i (nF 0 (by omega)), e]
    rw [e] at h
    exact s3 t ht h
  · rw [f.i ow.2.2.1, e]; exact s4
  · rw [f.i ow.2.2.1, s5]
    exact congrArg nI (mk6_congr fun i hi => by unfold goneB; rw [e])
theorem SRz.set {Z : Nat → Prop} {k t : Nat} (h : SRz Z g S a w b) (h0 : 0 < k) (hk : k < 6) (ht : t < 6) (v : Int32) : SRz Z (sI g (a k) t v) S a (wI w 25 (b + ofs k + t) v) b := by
  obtain ⟨h1, h2, h6, h3, h4, h5⟩ := h
  have hb := ofs_b k hk
  have e0 : ∀ i, i < 6 → rI (wI w 25 (b + ofs k + t) v) 25 (b + 37 + i) = rI w 25 (b + 37 + i) := fun i hi => rI_ne (by omega)
  refine ⟨h1, fun k' t' h0' hk' ht' => ?_, fun t' ht' z => ?_, ?_, ?_, fun i hi => by rw [e0 i hi]; exact h5 i hi⟩
  · rw [gi_sI, rI_wI]
    by_cases c : k' = k ∧ t' = t
    · obtain ⟨rfl, rfl⟩ := c
      rw [if_pos ⟨rfl, rfl⟩, if_pos ⟨rfl, rfl⟩]
    · have n1 : ¬ (a k' = a k ∧ t' = t) := fun ⟨e, e2⟩ => c ⟨h1.2.2 k' k hk' hk e, e2⟩
      have n2 : ¬ (25 = 25 ∧ b + ofs k' + t' = b + ofs k + t) := fun ⟨_, e⟩ => c (ofs_inj k' hk' k hk t' ht' t ht (by omega))
      rw [if_neg n1, if_neg n2, h2 k' t' h0' hk' ht']
  · have n1 : ¬ (a 0 = a k ∧ t' = t) := fun ⟨e, e2⟩ => by have := h1.2.2 0 k (by omega) hk e; omega
    have n2 : b + 1 + t' ≠ b + ofs k + t := fun e => by have := ofs_inj 0 (by omega) k hk t' ht' t ht (by rw [ofs0]; omega); omega
    rw [gi_sI, if_neg n1, rI_ne n2]
    rw [e0 t' ht'] at z
    exact h6 t' ht' z
  · rw [gi_sI, if_neg (fun e => st_ne h1 hk e.1.symm), h3, rI_ne (by omega)]
  · rw [gi_sI, if_neg (fun e => st_ne h1 hk e.1.symm), h4]
    exact congrArg nI (mk6_congr fun i hi => by unfold goneB; rw [e0 i hi])
theorem SRz.out {Z : Nat → Prop} {t : Nat} (h : SRz Z g S a w b) (ht : t < 6) : SRz (fun u => Z u ∧ u ≠ t) (sI g S 7 (gI g S 7 ||| ((1 : Int32) <<< (nI t &&& nI 31)))) S a (wI (wI w 25 (b + 1 + t) (-1)) 25 (b + 37 + t) 1) b := by
  obtain ⟨h1, h2, h6, h3, h4, h5⟩ := h
  refine ⟨h1, fun k' t' h0' hk' ht' => ?_, fun t' ht' z => ?_, ?_, ?_, fun i hi => ?_⟩
  · have hb := ofs_b k' hk'
    have n2 : b + ofs k' + t' ≠ b + 1 + t := fun e => by have := ofs_inj k' hk' 0 (by omega) t' ht' t ht (by rw [ofs0]; omega); omega
    rw [gi_sI, if_neg (fun e => st_ne h1 hk' e.1), rI_ne (by omega), rI_ne n2]
    exact h2 k' t' h0' hk' ht'
  · have hne : t' ≠ t := by
      rcases z with z | z
      · exact z.2
      · intro e
        rw [rI_eq (by omega)] at z
        exact absurd z (by decide)
    rw [rI_ne (by omega), rI_ne (by omega)] at z
    rw [gi_sI, if_neg (fun e => st_ne h1 (k := 0) (by omega) e.1), rI_ne (by omega), rI_ne (by omega)]
    exact h6 t' ht' (z.elim (fun z => Or.inl z.1) Or.inr)
  · rw [gi_sI, if_neg (by omega), h3, rI_ne (by omega), rI_ne (by omega)]
  · rw [gi_sI, if_pos ⟨rfl, rfl⟩, h4, mk6_set _ ht]
    refine congrArg nI (mk6_congr fun i hi => ?_)
    unfold setB goneB
    by_cases e : i = t
    · rw [if_pos e, rI_eq (by omega)]; rfl
    · rw [if_neg e, rI_ne (by omega), rI_ne (by omega)]
  · by_cases e : i = t
    · rw [rI_eq (by omega)]; exact Or.inr rfl
    · rw [rI_ne (by omega), rI_ne (by omega)]; exact h5 i hi
theorem SRz.room {Z : Nat → Prop} {t : Nat} (h : SRz Z g S a w b) (ht : t < 6) (hr : rI w 25 (b + 1 + t) = -1) : SRz (fun u => Z u ∨ u = t) (sI g (a 0) t (-1)) S a w b := by
  obtain ⟨h1, h2, h6, h3, h4, h5⟩ := h
  refine ⟨h1, fun k' t' h0' hk' ht' => ?_, fun t' ht' z => ?_, ?_, ?_, h5⟩
  · have n1 : ¬ (a k' = a 0 ∧ t' = t) := fun ⟨e, e2⟩ => by have := h1.2.2 k' 0 hk' (by omega) e; omega
    rw [gi_sI, if_neg n1]
    exact h2 k' t' h0' hk' ht'
  · rw [gi_sI]
    by_cases c : t' = t
    · rw [if_pos ⟨rfl, c⟩, c, hr]
    · rw [if_neg (fun e => c e.2)]
      exact h6 t' ht' (z.elim (fun z => z.elim Or.inl (fun z => absurd z c)) Or.inr)
  · rw [gi_sI, if_neg (fun e => st_ne h1 (k := 0) (by omega) e.1.symm), h3]
  · rw [gi_sI, if_neg (fun e => st_ne h1 (k := 0) (by omega) e.1.symm), h4]
/-- rooms and who is gone behind a noon -/
def rgc (w w' : MS) (b : Nat) : Prop := ∀ t, t < 6 → (rI w' 25 (b + 1 + t) = rI w 25 (b + 1 + t) ∧ rI w' 25 (b + 37 + t) = rI w 25 (b + 37 + t)) ∨ (¬ rI w 25 (b + 1 + t) < 0 ∧ rI w' 25 (b + 1 + t) = -1 ∧ rI w' 25 (b + 37 + t) = 1)
theorem rg.rgc {w w1 w2 : MS} {b : Nat} (h : rg w w1 b) (h2 : rgc w1 w2 b) : rgc w w2 b := by
  intro t ht
  have := h2 t ht
  rw [(h t ht).1, (h t ht).2] at this
  exact this
theorem coll2 : ∀ (j t n m : Nat) (g : GS) (w : MS) (s : Int32), t + j = nt → j < n → j < m → EZ (fun u => u < t) o x h nr nt ne F M T D S a b N g0 w0 (g) (w) → ∃ g' w', B_X1_collects_p103 n x S s (nI t) g = some (s, g') ∧ M_noons_p152 m (nI b) s (nI t) w = some (s, w') ∧ EN o x h nr nt ne F M T D S a b N g0 w0 (g') (w') ∧ rg w w' b := by
  intro j
  induction j with
  | zero =>
    intro t n m g w s hj hn hm E
    obtain ⟨n, rfl⟩ : ∃ k, n = k + 1 := ⟨n - 1, by omega⟩
    obtain ⟨m, rfl⟩ : ∃ k, m = k + 1 := ⟨m - 1, by omega⟩
    have n6 : nt ≤ 6 := E.1.1.1.2.2.2.2.1
    have E1 : EN o x h nr nt ne F M T D S a b N g0 w0 (g) (w) := E.en (fun u hu => by
      by_cases c : u < t
      · exact Or.inl c
      · exact Or.inr ((E.2.2.1.1 u hu).2.2.2.2.2 (by omega)).2)
    obtain rfl : t = nt := by omega
    refine ⟨g, w, ?_, ?_, E1, rg.rf w b⟩
    · rw [B_X1_collects_p103, E1.kx, bd1_s, E1.ten, bd1_s, if_pos (nI_le (Nat.le_refl _) (by omega))]
    · rw [M_noons_p152, E1.mten, if_pos (nI_le (Nat.le_refl _) (by omega))]
  | succ j ih =>
    intro t n m g w s hj hn hm E
    obtain ⟨n, rfl⟩ : ∃ k, n = k + 1 := ⟨n - 1, by omega⟩
    obtain ⟨m, rfl⟩ : ∃ k, m = k + 1 := ⟨m - 1, by omega⟩
    have n6 : nt ≤ 6 := E.1.1.1.2.2.2.2.1
    have hb : b + 56 ≤ 1288 := E.2.2.2.2.1.1
    have hx := E.1.1.1.1
    have hS := E.2.1.1.1
    obtain ⟨k1, k2⟩ := E.2.1.1.2.1 4 (by omega)
    obtain ⟨k3, k4⟩ := E.2.1.1.2.1 0 (by omega)
    have k5 : (gK g (a 4)).1 = 40 := by rw [k2]
    have k6 : (gK g (a 4)).2 = 6 := by rw [k2]
    have k7 : (gK g (a 0)).1 = 40 := by rw [k4]
    have k8 : (gK g (a 0)).2 = 6 := by rw [k4]
    have oS := E.2.2.2.1
    have hten := E.1.1.ten
    have hmt : M_tenants w = nI nt := E.1.1.1.2.2.2.2.2.2.2.1
    have h7 := E.2.1.2.2.2.2.1
    -- rooms first
    have E1 : EZ (fun u => u < t + 1) o x h nr nt ne F M T D S a b N g0 w0 ((if goneB w b t = true then sI g (a 0) t (-1) else g)) (w) := by
      by_cases c : goneB w b t = true
      · rw [if_pos c]
        have c1 : rI w 25 (b + 37 + t) = 1 := by unfold goneB at c; exact eq_of_beq c
        have c2 : rI w 25 (b + 1 + t) = -1 := by
          rcases (E.2.2.1.1 t (by omega)).2.2.2.2.1 with e | e
          · rw [e] at c1; exact absurd c1 (by decide)
          · exact e.2
        exact (E.to (FrB.sI (Or.inl (oS.2.2.2 0 (by omega)))) FrM.rf (E.2.1.room (by omega) c2) E.2.2.1).less (fun u hu h => Or.inl (by omega))
      · rw [if_neg c]
        refine E.less (fun u hu h => ?_)
        by_cases e : u = t
        · subst e
          rcases E.2.1.2.2.2.2.2 u hu with e | e
          · exact Or.inr e
          · exact absurd (by unfold goneB; rw [e]; rfl) c
        · exact Or.inl (by omega)
    generalize hg1 : (if goneB w b t = true then sI g (a 0) t (-1) else g) = g1 at E1
    have E2 : EZ (fun u => u < t + 1) o x h nr nt ne F M T D S a b N g0 w0 (sI g1 (a 4) t 0) (wI w 25 (b + 7 + t) 0) := E1.to (FrB.sI (Or.inl (oS.2.2.2 4 (by omega)))) (FrM.wI (Or.inl ⟨rfl, by omega, by omega⟩)) (E1.2.1.set (k := 4) (by omega) (by omega) (by omega) 0) (E1.2.2.1.congr fun i hi => rI_ne (show b + i ≠ b + 7 + t by omega))
    obtain ⟨g', w', r1, r2, r3, r4⟩ := ih (t + 1) n m _ _ s (by omega) (by omega) (by omega) E2
    refine ⟨g', w', ?_, ?_, r3, (rg_wI (by omega)).tr r4⟩
    · have hB : ∀ gg : GS, gg = g1 → B_X1_collects_p129 (B_X1_collects_p103 n) x S s (nI t) gg = some (s, g') := by
        intro gg e
        subst e
        have q1 := E1.2.1.1.1
        obtain ⟨q2, q3⟩ := E1.2.1.1.2.1 4 (by omega)
        unfold B_X1_collects_p129
        simp (disch := omega) only [oRn_s, q2, bd1_s, nI_1]
        rw [xI_s (by rw [q3]) (by rw [q3]; show t < 6; omega) (by rw [q3]; omega), bd1_s]
        exact r1
      rw [B_X1_collects_p103, oK_s (by omega) (by omega), bd1_s, hten, bd1_s, if_neg (nI_ge (by omega) (by omega)), oI_s (by omega) (by omega), bd1_s, h7, mk6_isIn _ (by omega)]
      cases c : goneB w b t
      · rw [if_pos (show nI (b2n false) = 0 from rfl)]
        rw [c] at hg1
        exact hB g hg1
      · rw [if_neg (show ¬ nI (b2n true) = 0 by decide)]
        rw [c] at hg1
        simp (disch := omega) only [oRn_s, k3, bd1_s, xI_s]
        exact hB _ hg1
    · rw [M_noons_p152, hmt, if_neg (nI_ge (by omega) (by omega))]
      simp (disch := omega) only [nI_1, bd1_s, bd2_s, bdp_s, rd0, rd1, rd1', rd7, rd13, rd19, rd25, rd31, rd37, wr0, wr1, wr1', wr7, wr13, wr19, wr25, wr31, wr37, mro0, mro1, mro2, mtn0, mtn1, mtn2, mtn3, mtn4, rI_ne, rI_nk, rI_eq, rest_m, calmed_m]
      exact r2
theorem coll1 : ∀ (j t n m : Nat) (g : GS) (w : MS) (s : Int32), t + j = nt → j < n → j < m → EZ (fun u => t ≤ u) o x h nr nt ne F M T D S a b N g0 w0 (g) (w) → ∃ v g' w', B_X1_collects_p4 n x S s (nI t) g = some (v, g') ∧ M_noons_p4 m (nI b) s (nI t) w = some (v, w') ∧ EN o x h nr nt ne F M T D S a b N g0 w0 (g') (w') ∧ rgc w w' b := by
  intro j
  induction j with
  | zero =>
    intro t n m g w s hj hn hm E
    obtain ⟨n, rfl⟩ : ∃ k, n = k + 1 := ⟨n - 1, by omega⟩
    obtain ⟨m, rfl⟩ : ∃ k, m = k + 1 := ⟨m - 1, by omega⟩
    have n6 : nt ≤ 6 := E.1.1.1.2.2.2.2.1
    have hx := E.1.1.1.1
    obtain rfl : t = nt := by omega
    obtain ⟨g', w', r1, r2, r3, r4⟩ := coll2 t 0 FU FU g w s (by omega) (by show t < 5000; omega) (by show t < 5000; omega) (E.less (fun u hu h => absurd h (by omega)))
    refine ⟨s, g', w', ?_, ?_, r3, fun t ht => Or.inl (r4 t ht)⟩
    · rw [B_X1_collects_p4, oK_s (by omega) (by omega), bd1_s, E.1.1.ten, bd1_s, if_pos (nI_le (Nat.le_refl _) (by omega))]
      exact r1
    · rw [M_noons_p4, show M_tenants w = nI t from E.1.1.1.2.2.2.2.2.2.2.1, if_pos (nI_le (Nat.le_refl _) (by omega))]
      exact r2
  | succ j ih =>
    intro t n m g w s hj hn hm E
    obtain ⟨n, rfl⟩ : ∃ k, n = k + 1 := ⟨n - 1, by omega⟩
    obtain ⟨m, rfl⟩ : ∃ k, m = k + 1 := ⟨m - 1, by omega⟩
    have n6 : nt ≤ 6 := E.1.1.1.2.2.2.2.1
    have hb : b + 56 ≤ 1288 := E.2.2.2.2.1.1
    have ht : t < nt := by omega
    have hx := E.1.1.1.1
    have hS := E.2.1.1.1
    have oS := E.2.2.2.1
    have hten := E.1.1.ten
    have hmt : M_tenants w = nI nt := E.1.1.1.2.2.2.2.2.2.2.1
    have e0 : gI g (a 0) t = rI w 25 (b + 1 + t) := E.2.1.2.2.1 t (by omega) (Or.inl (Nat.le_refl _))
    have e4 : gI g (a 4) t = rI w 25 (b + 7 + t) := E.2.1.2.1 4 t (by omega) (by omega) (by omega)
    have hisb : B_X4_isIn S (nI t) g = some (if rI w 25 (b + 1 + t) < 0 then 0 else 1) := by rw [isIn_b E.2.1.1 (by omega), e0]
    have hism : M_isIn (nI b) (nI t) w = some (if rI w 25 (b + 1 + t) < 0 then 0 else 1) := M_isIn_t hmt n6 ht hb
    by_cases c : rI w 25 (b + 1 + t) < 0
    · obtain ⟨v, g', w', r1, r2, r3, r4⟩ := ih (t + 1) n m g w s (by omega) (by omega) (by omega) (E.less (fun u hu h => Or.inl (by omega)))
      refine ⟨v, g', w', ?_, ?_, r3, r4⟩
      · rw [B_X1_collects_p4, oK_s (by omega) (by omega), bd1_s, hten, bd1_s, if_neg (nI_ge (by omega) (by omega)), oK_s (by omega) (by omega), bd1_s, hisb, bd1_s, if_pos c, if_pos rfl, nI_1]
        exact r1
      · rw [M_noons_p4, hmt, if_neg (nI_ge (by omega) (by omega)), hism, bd1_s, if_pos c, if_pos rfl, nI_1]
        exact r2
    · obtain ⟨r, hr, er⟩ : ∃ r, r < nr ∧ rI w 25 (b + 1 + t) = nI r := by
        rcases (E.2.2.1.1 t (by omega)).1 with e | ⟨r, h1, -, h2⟩
        · rw [e] at c; exact absurd (by decide) c
        · exact ⟨r, h1, h2⟩
      obtain ⟨v, gd, wd, hv, d1, d2, d3, d4⟩ := due2 E.1 E.2.1.1 hb ht hr e4 (e0.trans er) er
      have Ed := E.fac d3 d4
      have hwd : rg w wd b := fun z _ => ⟨d4.2 25 _ (by omega), d4.2 25 _ (by omega)⟩
      have hxd := Ed.1.1.1.1
      have hSd := Ed.2.1.1.1
      obtain ⟨k1, k2⟩ := Ed.2.1.1.2.1 5 (by omega)
      have k5 : (gK gd (a 5)).1 = 40 := by rw [k2]
      have k6 : (gK gd (a 5)).2 = 6 := by rw [k2]
      have e10 : rI wd 10 (26 + 5 * t) = rI w 10 (26 + 5 * t) := d4.2 10 _ (by omega)
      obtain ⟨co, hco, eco⟩ := (Ed.2.2.1.1 t (by omega)).2.2.2.1
      have e5 : gI gd (a 5) t = nI co := by rw [Ed.2.1.2.1 5 t (by omega) (by omega) (by omega)]; exact eco
      have hB : B_X1_collects_p4 (n + 1) x S s (nI t) g = (if (nI v - nI co) ≤ (if rI wd 10 (26 + 5 * t) = 3 then 99 else 0) then B_X1_collects_p4 n x S (s + (if nI co < nI v then nI co else nI v)) (nI (t + 1)) (sI gd (a 5) t (nI co - (if nI co < nI v then nI co else nI v))) else B_X1_collects_p4 n x S s (nI (t + 1)) (sI gd S 7 (gI gd S 7 ||| ((1 : Int32) <<< (nI t &&& 31))))) := by
        rw [B_X1_collects_p4, oK_s (by omega) (by omega), bd1_s, hten, bd1_s, if_neg (nI_ge (by omega) (by omega)), oK_s (by omega) (by omega), bd1_s, hisb, bd1_s, if_neg c, if_neg (by decide), bd1_s, d1, bd2_s]
        simp (disch := omega) only [oRn_s, oK_s, oI_s, pI_s, aI_s, xI_s, bd1_s, bdp_s, k1, e5, Ed.1.1.tena ht, mayLack_b Ed.1.1 ht, nI_1]
      have hM : M_noons_p4 (m + 1) (nI b) s (nI t) w = (if rI wd 10 (26 + 5 * t) = 3 then if (99 : Int32) < (nI v - nI co) then M_noons_p67 (M_noons_p4 m) (nI b) s (nI t) (nI v) (nI co) 0 wd else M_noons_p67 (M_noons_p4 m) (nI b) s (nI t) (nI v) (nI co) 1 wd else M_noons_p67 (M_noons_p4 m) (nI b) s (nI t) (nI v) (nI co) 0 wd) := by
        rw [M_noons_p4, hmt, if_neg (nI_ge (by omega) (by omega)), hism, bd1_s, if_neg c, if_neg (by decide), d2, bd2_s]
        simp (disch := omega) only [nI_1, bd1_s, bd2_s, bdp_s, rd0, rd1, rd1', rd7, rd13, rd19, rd25, rd31, rd37, wr0, wr1, wr1', wr7, wr13, wr19, wr25, wr31, wr37, mro0, mro1, mro2, mtn0, mtn1, mtn2, mtn3, mtn4, rI_ne, rI_nk, rI_eq, rest_m, calmed_m, eco]
      have hpay : M_noons_p81 (M_noons_p4 m) (nI b) s (nI t) (nI v) (nI co) wd = M_noons_p4 m (nI b) (s + nI (min v co)) (nI (t + 1)) (wI wd 25 (b + 31 + t) (nI (co - min v co))) := by
        unfold M_noons_p81 M_noons_p95
        by_cases q : co ≤ v
        · rw [if_pos (nI_le q (by omega)), Nat.min_eq_right q]
          simp (disch := omega) only [nI_1, bd1_s, bd2_s, bdp_s, rd0, rd1, rd1', rd7, rd13, rd19, rd25, rd31, rd37, wr0, wr1, wr1', wr7, wr13, wr19, wr25, wr31, wr37, mro0, mro1, mro2, mtn0, mtn1, mtn2, mtn3, mtn4, rI_ne, rI_nk, rI_eq, rest_m, calmed_m, eco, nI_sub]
        · rw [if_neg (nI_ge (by omega) (by omega)), Nat.min_eq_left (by omega)]
          simp (disch := omega) only [nI_1, bd1_s, bd2_s, bdp_s, rd0, rd1, rd1', rd7, rd13, rd19, rd25, rd31, rd37, wr0, wr1, wr1', wr7, wr13, wr19, wr25, wr31, wr37, mro0, mro1, mro2, mtn0, mtn1, mtn2, mtn3, mtn4, rI_ne, rI_nk, rI_eq, rest_m, calmed_m, eco, nI_sub]
      have hmin : (if nI co < nI v then nI co else nI v) = nI (min v co) := by
        by_cases q : co < v
        · rw [if_pos (nI_lt q (by omega)), Nat.min_eq_right (by omega)]
        · rw [if_neg (nI_nlt (by omega) (by omega)), Nat.min_eq_left (by omega)]
      have hout : ∀ z : Int32, M_noons_p67 (M_noons_p4 m) (nI b) s (nI t) (nI v) (nI co) z wd = if v ≤ co ∨ z ≠ 0 then M_noons_p81 (M_noons_p4 m) (nI b) s (nI t) (nI v) (nI co) wd else M_noons_p4 m (nI b) s (nI (t + 1)) (wI (wI wd 25 (b + 1 + t) (-1)) 25 (b + 37 + t) 1) := by
        intro z
        unfold M_noons_p67
        by_cases q : v ≤ co
        · rw [if_pos (nI_le q (by omega)), if_pos (Or.inl q)]
        · rw [if_neg (nI_ge (by omega) (by omega))]
          by_cases qz : z = 0
          · rw [if_pos qz, if_neg (by rintro (h | h); exact q h; exact h qz)]
            simp (disch := omega) only [nI_1, bd1_s, bd2_s, bdp_s, rd0, rd1, rd1', rd7, rd13, rd19, rd25, rd31, rd37, wr0, wr1, wr1', wr7, wr13, wr19, wr25, wr31, wr37, mro0, mro1, mro2, mtn0, mtn1, mtn2, mtn3, mtn4, rI_ne, rI_nk, rI_eq, rest_m, calmed_m]
          · rw [if_neg qz, if_pos (Or.inr qz)]
      by_cases P : v ≤ co + (if rI wd 10 (26 + 5 * t) = 3 then 99 else 0)
      · have E1 : EZ (fun u => t ≤ u) o x h nr nt ne F M T D S a b N g0 w0 (sI gd (a 5) t (nI (co - min v co))) (wI wd 25 (b + 31 + t) (nI (co - min v co))) := Ed.to (FrB.sI (Or.inl (oS.2.2.2 5 (by omega)))) (FrM.wI (Or.inl ⟨rfl, by omega, by omega⟩)) (Ed.2.1.set (k := 5) (by omega) (by omega) (by omega) _) (Ed.2.2.1.coin (by omega) (by omega) ht)
        obtain ⟨u, g', w', r1, r2, r3, r4⟩ := ih (t + 1) n m _ _ (s + nI (min v co)) (by omega) (by omega) (by omega) (E1.less (fun u hu h => Or.inl (by omega)))
        refine ⟨u, g', w', ?_, ?_, r3, (hwd.tr (rg_wI (by omega))).rgc r4⟩
        · rw [hB, hmin, nI_sub (Nat.min_le_right _ _), if_pos]
          · exact r1
          · by_cases k : rI wd 10 (26 + 5 * t) = 3
            · rw [if_pos k] at P ⊢
              exact (sub_leI (k := 99) (by omega) (by omega) (by omega)).mpr P
            · rw [if_neg k] at P ⊢
              exact (sub_leI (k := 0) (by omega) (by omega) (by omega)).mpr P
        · rw [hM]
          by_cases k : rI wd 10 (26 + 5 * t) = 3
          · rw [if_pos k] at P
            rw [if_pos k, if_neg (show ¬ (99 : Int32) < nI v - nI co from fun e => Int32.not_lt.mpr ((sub_leI (k := 99) (by omega) (by omega) (by omega)).mpr P) e), hout, if_pos (Or.inr (by decide)), hpay]
            exact r2
          · rw [if_neg k] at P
            rw [if_neg k, hout, if_pos (Or.inl (by omega)), hpay]
            exact r2
      · have E1 : EZ (fun u => t ≤ u ∧ u ≠ t) o x h nr nt ne F M T D S a b N g0 w0 (sI gd S 7 (gI gd S 7 ||| ((1 : Int32) <<< (nI t &&& nI 31)))) (wI (wI wd 25 (b + 1 + t) (-1)) 25 (b + 37 + t) 1) := Ed.to (FrB.sI (Or.inl oS.1)) (frm_wI (FrM.wI (Or.inl ⟨rfl, by omega, by omega⟩)) (Or.inl ⟨rfl, by omega, by omega⟩)) (Ed.2.1.out (by omega)) (Ed.2.2.1.out (by omega) ht)
        obtain ⟨u, g', w', r1, r2, r3, r4⟩ := ih (t + 1) n m _ _ s (by omega) (by omega) (by omega) (E1.less (fun u hu h => Or.inl ⟨by omega, by omega⟩))
        refine ⟨u, g', w', ?_, ?_, r3, fun z hz => ?_⟩
        rotate_left 2
        · have := r4 z hz
          by_cases e : z = t
          · subst e
            rw [rI_ne (by omega), rI_eq (by omega), rI_eq (by omega)] at this
            rcases this with h | h
            · exact Or.inr ⟨c, h⟩
            · exact absurd (by decide) h.1
          · rw [rI_ne (by omega), rI_ne (by omega), rI_ne (by omega), rI_ne (by omega), (hwd z hz).1, (hwd z hz).2] at this
            exact this
        · rw [hB, if_neg]
          · exact r1
          · by_cases k : rI wd 10 (26 + 5 * t) = 3
            · rw [if_pos k] at P ⊢
              exact fun e => P ((sub_leI (k := 99) (by omega) (by omega) (by omega)).mp e)
            · rw [if_neg k] at P ⊢
              exact fun e => P ((sub_leI (k := 0) (by omega) (by omega) (by omega)).mp e)
        · rw [hM]
          by_cases k : rI wd 10 (26 + 5 * t) = 3
          · rw [if_pos k] at P
            rw [if_pos k, if_pos (show (99 : Int32) < nI v - nI co from Int32.not_le.mp (fun e => P ((sub_leI (k := 99) (by omega) (by omega) (by omega)).mp e))), hout, if_neg (by rintro (h | h); omega; exact h rfl)]
            exact r2
          · rw [if_neg k] at P
            rw [if_neg k, hout, if_neg (by rintro (h | h); omega; exact h rfl)]
            exact r2
/-- a noon -/
theorem collects2 (E : EN o x h nr nt ne F M T D S a b N g0 w0 (g) (w)) : ∃ v g' w', B_X1_collects x S g = some (v, g') ∧ M_noons (nI b) w = some (v, w') ∧ EN o x h nr nt ne F M T D S a b N g0 w0 (g') (w') ∧ rgc w w' b := by
  have n6 := E.nt6
  exact coll1 nt 0 FU FU g w 0 (by omega) (by show nt < 5000; omega) (by show nt < 5000; omega) (E.ez _)
/-- the last of n whose value is v -/
def who (f : Nat → Int32) (v : Int32) : Nat → Int32
  | 0 => -1
  | n + 1 => if f n = v then nI n else who f v n
theorem who_no {f : Nat → Int32} {v : Int32} : ∀ {n : Nat}, (∀ u, u < n → f u ≠ v) → who f v n = -1
  | 0, _ => rfl
  | n + 1, h => by rw [who, if_neg (h n (by omega))]; exact who_no (fun u hu => h u (by omega))
theorem who_at {f : Nat → Int32} {v : Int32} {t : Nat} (ht : f t = v) : ∀ {n : Nat}, t < n → (∀ u, u < n → u ≠ t → f u ≠ v) → who f v n = nI t
  | 0, h, _ => by omega
  | n + 1, h, k => by
    rw [who]
    by_cases c : n = t
    · rw [if_pos (by rw [c]; exact ht), c]
    · rw [if_neg (k n (by omega) c)]
      exact who_at ht (by omega) (fun u hu => k u (by omega))
theorem who_m (hn : M_tenants w = nI nt) (n6 : nt ≤ 6) (hb : b + 56 ≤ 1288) (v : Int32) : ∀ (j t m : Nat), t + j = nt → j < m → M_whoIn_p5 m (nI b) v (who (fun u => rI w 25 (b + 1 + u)) v t) (nI t) w = some (who (fun u => rI w 25 (b + 1 + u)) v nt) := by
  intro j
  induction j with
  | zero =>
    intro t m hj hm
    obtain ⟨m, rfl⟩ : ∃ k, m = k + 1 := ⟨m - 1, by omega⟩
    obtain rfl : t = nt := by omega
    rw [M_whoIn_p5, hn, if_pos (nI_le (Nat.le_refl _) (by omega))]
  | succ j ih =>
    intro t m hj hm
    obtain ⟨m, rfl⟩ : ∃ k, m = k + 1 := ⟨m - 1, by omega⟩
    have e := ih (t + 1) m (by omega) (by omega)
    rw [M_whoIn_p5, hn, if_neg (nI_ge (by omega) (by omega))]
    simp (disch := omega) only [nI_1, bd1_s, bd2_s, bdp_s, rd0, rd1, rd1', rd7, rd13, rd19, rd25, rd31, rd37, wr0, wr1, wr1', wr7, wr13, wr19, wr25, wr31, wr37, mro0, mro1, mro2, mtn0, mtn1, mtn2, mtn3, mtn4, rI_ne, rI_nk, rI_eq, rest_m, calmed_m]
    rw [who] at e
    by_cases c : rI w 25 (b + 1 + t) = v
    · rw [if_pos c] at e ⊢
      exact e
    · rw [if_neg c] at e ⊢
      exact e
theorem who_b (E : EN o x h nr nt ne F M T D S a b N g0 w0 (g) (w)) {r : Nat} (hr : r < nr) : ∀ (j t n : Nat), t + j = nt → j < n → (∀ u, u < t → rI w 25 (b + 1 + u) ≠ nI r) → B_X1_whoIn_p2 n x S (nI r) (nI t) g = some (who (fun u => rI w 25 (b + 1 + u)) (nI r) nt) := by
  have n6 := E.nt6
  intro j
  induction j with
  | zero =>
    intro t n hj hn hu
    obtain ⟨n, rfl⟩ : ∃ k, n = k + 1 := ⟨n - 1, by omega⟩
    obtain rfl : t = nt := by omega
    rw [B_X1_whoIn_p2, E.kx, bd1_s, E.ten, bd1_s, if_pos (nI_le (Nat.le_refl _) (by omega)), who_no hu]
  | succ j ih =>
    intro t n hj hn hu
    obtain ⟨n, rfl⟩ : ∃ k, n = k + 1 := ⟨n - 1, by omega⟩
    rw [B_X1_whoIn_p2, E.kx, bd1_s, E.ten, bd1_s, if_neg (nI_ge (by omega) (by omega)), E.oR (by omega), bd1_s, E.aI (by omega) (by omega), bd1_s, ofs0]
    by_cases c : rI w 25 (b + 1 + t) = nI r
    · rw [if_pos c, who_at (f := fun u => rI w 25 (b + 1 + u)) (t := t) c (by omega) (fun u hu hne e => ?_)]
      have := E.bi.2 u t (by omega) (by omega) hne (e.trans c.symm)
      rw [this] at e
      have r6 := E.nr6
      exact nI_pos (n := r) (by omega) (by rw [← e]; decide)
    · rw [if_neg c, nI_1]
      exact ih (t + 1) n (by omega) (by omega) (fun u hu' => by
        by_cases e : u = t
        · rw [e]; exact c
        · exact hu u (by omega))
theorem who2 (E : EN o x h nr nt ne F M T D S a b N g0 w0 (g) (w)) {r : Nat} (hr : r < nr) : B_X1_whoIn x S (nI r) g = some (who (fun u => rI w 25 (b + 1 + u)) (nI r) nt) ∧ M_whoIn (nI b) (nI r) w = some (who (fun u => rI w 25 (b + 1 + u)) (nI r) nt) := by
  have n6 := E.nt6
  exact ⟨who_b E hr nt 0 FU (by omega) (by show nt < 5000; omega) (fun u hu => by omega), who_m E.mten n6 E.hb (nI r) nt 0 FU (by omega) (by show nt < 5000; omega)⟩
theorem who_pos {f : Nat → Int32} {v : Int32} : ∀ {n : Nat}, n < 100000 → ¬ 0 ≤ who f v n → ∀ u, u < n → f u ≠ v
  | 0, _, _, u, hu => by omega
  | n + 1, hn, h, u, hu => by
    rw [who] at h
    by_cases c : f n = v
    · rw [if_pos c] at h
      exact absurd (nI_pos' (by omega)) h
    · rw [if_neg c] at h
      by_cases e : u = n
      · rw [e]; exact c
      · exact who_pos (by omega) h u (by omega)
/-- may one move: alike on both sides; if so, the room is free -/
theorem move2 (E : EN o x h nr nt ne F M T D S a b N g0 w0 (g) (w)) {t r : Nat} (ht : t < nt) (hr : r < nr) : ∃ v : Int32, B_X1_canMove x S (nI t) (nI r) g = some v ∧ M_mayMove (nI b) (nI t) (nI r) w = some v ∧ (v = 0 ∨ v = 1) ∧ (v = 1 → rI w 25 (b + 37 + t) = 0 ∧ ∀ u, u < 6 → rI w 25 (b + 1 + u) ≠ nI r) := by
  have n6 := E.nt6
  have r6 := E.nr6
  have hb := E.hb
  obtain ⟨w1, w2⟩ := who2 E hr
  unfold B_X1_canMove M_mayMove
  rw [E.oI7, bd1_s, mk6_isIn _ (by omega), rd37 hb (by omega), bd1_s, E.kx, bd1_s, w1, bd1_s, w2, bd1_s]
  rcases E.sr.2.2.2.2 t (by omega) with c | c
  · rw [show goneB w b t = false by unfold goneB; rw [c]; rfl, if_pos (show nI (b2n false) = 0 from rfl), c, if_pos rfl]
    by_cases q : 0 ≤ who (fun u => rI w 25 (b + 1 + u)) (nI r) nt
    · rw [if_pos q]
      exact ⟨0, rfl, rfl, Or.inl rfl, fun e => absurd e (by decide)⟩
    · rw [if_neg q]
      refine ⟨1, rfl, rfl, Or.inr rfl, fun _ => ⟨rfl, fun u hu => ?_⟩⟩
      by_cases un : u < nt
      · exact who_pos (f := fun u => rI w 25 (b + 1 + u)) (by omega) q u un
      · rcases (E.bi.1 u hu).1 with e | ⟨_, _, h2, _⟩
        · rw [e]; exact fun e => nI_pos (n := r) (by omega) (by rw [← e]; decide)
        · omega
  · rw [show goneB w b t = true by unfold goneB; rw [c]; rfl, if_neg (show ¬ nI (b2n true) = 0 by decide), c, if_neg (by decide)]
    exact ⟨0, rfl, rfl, Or.inl rfl, fun e => absurd e (by decide)⟩
theorem EN.room (E : EN o x h nr nt ne F M T D S a b N g0 w0 (g) (w)) {t r : Nat} (ht : t < nt) (hr : r < nr) (h0 : rI w 25 (b + 37 + t) = 0) (hf : ∀ u, u < 6 → rI w 25 (b + 1 + u) ≠ nI r) : EN o x h nr nt ne F M T D S a b N g0 w0 (sI g (a 0) t (nI r)) (wI w 25 (b + 1 + t) (nI r)) := by
  have n6 := E.nt6
  exact E.set (k := 0) (by omega) (by omega) (E.bi.room (by omega) ht hr E.nr6 h0 hf)
end ENG3
