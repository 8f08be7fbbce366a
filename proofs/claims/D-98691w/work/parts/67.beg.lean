/-! a beginning on both sides -/
set_option maxRecDepth 100000
theorem SB.bi {w w' : MS} {b nr nt ne N : Nat} (B : SB w w' b nt) (n6 : nt ≤ 6) (R : HR w nr nt ne) : BI w' b nr nt N := by
  refine ⟨fun t ht => ?_, fun t u ht hu hn e => ?_⟩
  · obtain ⟨b1, b2, -, -, b5, b6, b7⟩ := B.2 t ht
    rw [b1, b2, b5, b6, b7]
    by_cases q : t < nt
    · rw [if_pos q, if_pos q]
      obtain ⟨-, -, ⟨c, c1, c2⟩, r⟩ := R.2.1 t q
      exact ⟨r.elim Or.inl (fun ⟨z, z1, z2⟩ => Or.inr ⟨z, z1, q, z2⟩), ⟨0, by omega, rfl⟩, ⟨0, by omega, rfl⟩, ⟨c, c1, c2⟩, Or.inl rfl, fun h => by omega⟩
    · rw [if_neg q, if_neg q]
      exact ⟨Or.inl rfl, ⟨0, by omega, rfl⟩, ⟨0, by omega, rfl⟩, ⟨0, by omega, rfl⟩, Or.inl rfl, fun _ => ⟨rfl, rfl⟩⟩
  · rw [(B.2 t ht).1, (B.2 u hu).1] at e
    rw [(B.2 t ht).1]
    by_cases q : t < nt
    · rw [if_pos q] at e ⊢
      by_cases p : u < nt
      · rw [if_pos p] at e
        exact R.2.2.1 t u q p hn e
      · rw [if_neg p] at e
        exact e
    · rw [if_neg q]
theorem SB.sr {w w' : MS} {b nt S : Nat} {g' : GS} {a : Nat → Nat} (B : SB w w' b nt) (hS : stS g' S a) (hv : ∀ u, u < 6 → gI g' (a 0) u = (if u < nt then rI w 10 (26 + 5 * u + 4) else -1) ∧ gI g' (a 5) u = (if u < nt then rI w 10 (26 + 5 * u + 3) else 0) ∧ gI g' (a 1) u = 0 ∧ gI g' (a 2) u = 0 ∧ gI g' (a 3) u = 0 ∧ gI g' (a 4) u = 0) (h6 : gI g' S 6 = 0) (h7 : gI g' S 7 = 0) : SR g' S a w' b := by
  refine ⟨hS, fun k t hk ht => ?_, by rw [h6, B.1], ?_, fun t ht => Or.inl (B.2 t ht).2.2.2.2.2.2⟩
  · obtain ⟨b1, b2, b3, b4, b5, b6, -⟩ := B.2 t ht
    obtain ⟨v0, v5, v1, v2, v3, v4⟩ := hv t ht
    rcases (by omega : k = 0 ∨ k = 1 ∨ k = 2 ∨ k = 3 ∨ k = 4 ∨ k = 5) with rfl | rfl | rfl | rfl | rfl | rfl
    · rw [ofs0, v0, b1]
    · rw [ofs1, v1, b4]
    · rw [ofs2, v2, b5]
    · rw [ofs3, v3, b6]
    · rw [ofs4, v4, b3]
    · rw [ofs5, v5, b2]
  · rw [h7, mk6_congr (f2 := fun _ => false) (fun t ht => by unfold goneB; rw [(B.2 t ht).2.2.2.2.2.2]; rfl)]
    rfl
section BEGT
variable {o : Nat → Nat} {x h nr nt ne F S Tr N : Nat} {M T D a c : Nat → Nat} {g g' : GS} {w w' : MS}
theorem HD.hb (H : HD g x h nr nt ne M T D w) : ∃ l, gR g h 1 = some l ∧ HB g h l nt T (fun t => rI w 10 (26 + 5 * t + 4)) (fun t => rI w 10 (26 + 5 * t + 3)) := by
  obtain ⟨⟨-, -, ⟨h3, -, ⟨l, h4, h5⟩, -, -, h6, -⟩, -⟩, -, ht, -⟩ := H
  exact ⟨l, h4, h3, h4, h5, fun t q => ⟨(h6 t q).1, (h6 t q).2, (ht t q).2.2.2.2.1, (ht t q).2.2.2.1⟩⟩
/-- the trial begins -/
theorem INV0.beg (I : INV0 o x h nr nt ne F M T D S a Tr c N (g) (w)) : ∃ g' w', B_X4_begin Tr h g = some g' ∧ M_starts (nI 1176) w = some w' ∧ EN o x h nr nt ne F M T D Tr c 1176 (N) (g') (w') (g') (w') ∧ ScB o x Tr F g g' ∧ ScM w w' := by
  have I' := I
  obtain ⟨C, R, B, o1, st, o2, d, r, e, n⟩ := I
  have n6 : nt ≤ 6 := C.1.1.2.2.2.2.1
  obtain ⟨l, l1, HB0⟩ := C.1.hb
  have ol : o l = 0 := (C.2.1.2.1 1 l (by omega) l1).1
  obtain ⟨g1, b1, b2, -, b4, b5, b6⟩ := begin_loop (S := Tr) (h := h) (l := l) (a := c) n6 (fun k hk e => by have := o2.2.2 k hk; rw [← e, ol] at this; exact o2.2.1 this.symm) (fun u hu k hk e => by have := o2.2.2 k hk; rw [← e, C.2.1.2.2.2.1 u hu] at this; exact o2.2.1 this.symm) 6 0 FU g (by omega) (by decide) st HB0
  rw [nI_0] at b1
  obtain ⟨w1, m1, m2, m3⟩ := startsM (b := 1176) n6 (by omega) C.1.1.2.2.2.2.2.2.2.1
  have sB : ScB o x Tr F g g1 := b6.sc (fun q h => by
    rcases h with h | ⟨k, hk, h⟩
    · rw [h]; exact Or.inl o2.1
    · rw [h]; exact Or.inl (o2.2.2 k hk))
  have sM : ScM w w1 := m3.sc (fun k i p h => by unfold prM at p; omega)
  have I1 := I'.sc sB sM
  exact ⟨g1, w1, b1, m1, ⟨I1.1, m2.sr (st.fr b6) (fun u hu => b2 u (by omega) hu) b4 b5, m2.bi n6 C.2.2.1, ⟨o2.1, o2.2.1, d.2.2.1, o2.2.2⟩, ⟨by omega, by omega⟩, FrB.rf, FrM.rf⟩, sB, sM⟩
end BEGT
