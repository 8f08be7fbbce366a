/-! calls: days, did, next -/
set_option maxRecDepth 100000
theorem zero_m (tt : Int32) : ∀ (j i n : Nat) (w : MS), i + j = 1446 → j < n → ∃ w', M_findDays_p12 n tt (nI i) w = M_findDays_p34 FU tt 0 w' ∧ (∀ z, i ≤ z → z < 1446 → rI w' 36 z = 0) ∧ FrM (fun k z => k = 36 ∧ i ≤ z) w w' := by
  intro j
  induction j with
  | zero =>
    intro i n w hi hn
    obtain ⟨n, rfl⟩ : ∃ k, n = k + 1 := ⟨n - 1, by omega⟩
    exact ⟨w, by rw [M_findDays_p12, if_pos (show (1446 : Int32) ≤ nI i from nI_le (a := 1446) (by omega) (by omega))], fun z a b => by omega, FrM.rf⟩
  | succ j ih =>
    intro i n w hi hn
    obtain ⟨n, rfl⟩ : ∃ k, n = k + 1 := ⟨n - 1, by omega⟩
    obtain ⟨w', r1, r2, r3⟩ := ih (i + 1) n (wI w 36 i 0) (by omega) (by omega)
    refine ⟨w', ?_, fun z a b => ?_, (FrM.wI ⟨rfl, Nat.le_refl _⟩).tr (r3.mono (fun k z h => ⟨h.1, by omega⟩))⟩
    · rw [M_findDays_p12, if_neg (show ¬ (1446 : Int32) ≤ nI i from nI_ge (b := 1446) (by omega) (by omega)), wA_nI (by omega) (by omega), bd1_s, nI_1]
      exact r1
    · by_cases e : z = i
      · subst e
        rw [r3.2 36 z (by omega), rI_eq rfl]
      · exact r2 z (by omega) b
section DAYS4
variable {o : Nat → Nat} {x h nr nt ne F S Tr N : Nat} {M T D a c : Nat → Nat} {g0 g g' : GS} {w0 w w' : MS}
theorem zero_b1 {Q al m tb : Nat} {rw' : Nat → Nat} (hm : m < 6) (k2 : Nat → Nat → Int32 → GS → Option GS) : ∀ (j b n : Nat) (g : GS), b + j = 241 → j < n → (gK g x).1 = 1 → ALK o x Q al rw' g → ∃ g', B_X1_looks_p10 k2 n x tb (nI m) (nI b) g = k2 x tb (nI (m + 1)) g' ∧ (∀ z, b ≤ z → z < 241 → gI g' (rw' m) z = 0) ∧ (∀ z, z < b → gI g' (rw' m) z = gI g (rw' m) z) ∧ FrB (fun q => q = rw' m) g g' := by
  intro j
  induction j with
  | zero =>
    intro b n g hb hn hx A
    obtain ⟨n, rfl⟩ : ∃ k, n = k + 1 := ⟨n - 1, by omega⟩
    exact ⟨g, by rw [B_X1_looks_p10, if_pos (show (240 : Int32) < nI b from nI_lt (a := 240) (by omega) (by omega)), nI_1], fun z a b => by omega, fun _ _ => rfl, FrB.rf⟩
  | succ j ih =>
    intro b n g hb hn hx A
    obtain ⟨n, rfl⟩ : ∃ k, n = k + 1 := ⟨n - 1, by omega⟩
    have A' := A
    obtain ⟨-, a1, a2, a3, a4⟩ := A
    obtain ⟨r1, r2, r3, r4⟩ := a3 m hm
    obtain ⟨g', p1, p2, p3, p4⟩ := ih (b + 1) n (sI g (rw' m) b 0) (by omega) (by omega) hx A'
    have z1 : oRn g x 1 1 20 = some al := by rw [oRn_s (by omega) (by omega)]; exact a1
    have z2 : aRn g al 46 (nI m) = some (rw' m) := by rw [aRn_s (by rw [a2]) (by rw [a2]; show m < 6; omega) (by rw [a2]; omega)]; exact r1
    refine ⟨g', ?_, fun z u v => ?_, fun z u => ?_, (FrB.sI (P := fun q => q = rw' m) rfl).tr p4⟩
    · rw [B_X1_looks_p10, if_neg (show ¬ (240 : Int32) < nI b from nI_nlt (b := b) (a := 240) (by omega) (by omega)), z1, bd1_s, z2, bd1_s, xI_s (by rw [r2]) (by rw [r2]; show b < 241; omega) (by rw [r2]; omega), bd1_s, nI_1]
      exact p1
    · by_cases e : z = b
      · subst e
        rw [p3 z (by omega), gi_sI, if_pos ⟨rfl, rfl⟩]
      · exact p2 z (by omega) v
    · rw [p3 z (by omega), gi_sI, if_neg (by omega)]
theorem zero_b {Q al tb : Nat} {rw' : Nat → Nat} : ∀ (j m n : Nat) (g : GS), m + j = 6 → j < n → (gK g x).1 = 1 → ALK o x Q al rw' g → ∃ g', B_X1_looks_p2 n x tb (nI m) g = B_X1_looks_p2 1 x tb (nI 6) g' ∧ (∀ m', m ≤ m' → m' < 6 → ∀ z, z < 241 → gI g' (rw' m') z = 0) ∧ FrB (fun q => ∃ z, m ≤ z ∧ z < 6 ∧ q = rw' z) g g' := by
  intro j
  induction j with
  | zero =>
    intro m n g hm hn hx A
    obtain ⟨n, rfl⟩ : ∃ k, n = k + 1 := ⟨n - 1, by omega⟩
    obtain rfl : m = 6 := by omega
    exact ⟨g, by rw [B_X1_looks_p2, B_X1_looks_p2, if_pos (by decide), if_pos (by decide)], fun m' u v => by omega, FrB.rf⟩
  | succ j ih =>
    intro m n g hm hn hx A
    obtain ⟨n, rfl⟩ : ∃ k, n = k + 1 := ⟨n - 1, by omega⟩
    obtain ⟨g1, p1, p2, p3, p4⟩ := zero_b1 (tb := tb) (show m < 6 by omega) (B_X1_looks_p2 n) 241 0 FU g (by omega) (by show 241 < 5000; omega) hx A
    rw [nI_0] at p1
    have s1 : ScB o x 0 0 g g1 := p4.sc (fun q h => by rw [h]; exact Or.inr (Or.inr (A.2.2.2.1 m (by omega)).2.2.1))
    obtain ⟨g2, q1, q2, q3⟩ := ih (m + 1) n g1 (by omega) (by omega) (by rw [p4.k]; exact hx) (A.sc s1)
    refine ⟨g2, ?_, fun m' u v z hz => ?_, (p4.mono (fun q h => ⟨m, Nat.le_refl _, by omega, h⟩)).tr (q3.mono (fun q ⟨z, h1, h2, h3⟩ => ⟨z, by omega, h2, h3⟩))⟩
    · rw [B_X1_looks_p2, if_neg (show ¬ (6 : Int32) ≤ nI m from nI_ge (b := 6) (by omega) (by omega)), p1]
      exact q1
    · by_cases e : m' = m
      · subst e
        rw [q3.i (fun ⟨z', h1, h2, h3⟩ => by have := A.2.2.2.2 m' z' v h2 h3; omega)]
        exact p2 z (by omega) hz
      · exact q2 m' (by omega) v z hz
theorem looks2 (I : INV0 o x h nr nt ne F M T D S a Tr c N (g) (w)) {t Q al sm sb ns : Nat} {rw' : Nat → Nat} (ht : t < nt) (P : SMP o x Tr F sm sb ns g w) (A : ALK o x Q al rw' g) : ∃ g' w', B_X1_looks x (T t) g = some g' ∧ M_findDays (nI t) w = some w' ∧ ScB o x Tr F g g' ∧ ScM w w' ∧ ALV rw' g' w' ∧ FIT x g' w' ∧ FITn w' 729 := by
  have xx := scx I
  have hx := I.en.hd.1.1
  have nR : ∀ m, m < 6 → rw' m ≠ x := fun m hm e => by have := (A.2.2.2.1 m hm).2.2.1; rw [e, xx.1] at this; exact xx.2.2.2 this
  obtain ⟨g1, b1, b2, b3⟩ := zero_b (tb := T t) 6 0 FU g (by omega) (by decide) hx A
  rw [nI_0] at b1
  obtain ⟨w1, m1, m2, m3⟩ := zero_m (nI t) 1446 0 FU (wI (wI w 37 0 0) 38 0 (-1)) (by omega) (by show 1446 < 5000; omega)
  rw [nI_0] at m1
  have hx1 : (gK g1 x).1 = 1 := by rw [b3.k]; exact hx
  have s1 : ScB o x Tr F g (sI (sI g1 x 21 0) x 22 (-1)) := ((b3.sc (fun q ⟨z, _, h2, h3⟩ => by rw [h3]; exact Or.inr (Or.inr (A.2.2.2.1 z h2).2.2.1))).tr (scB_x (by omega))).tr (scB_x (by omega))
  have s2 : ScM w w1 := ((ScM.wI (by unfold prM; omega)).tr (ScM.wI (by unfold prM; omega))).tr (m3.sc (fun k i p h => by unfold prM at p; omega))
  have V : ALV rw' (sI (sI g1 x 21 0) x 22 (-1)) w1 := fun m b hm hb => by
    rw [gi_sI, if_neg (fun z => nR m hm z.1), gi_sI, if_neg (fun z => nR m hm z.1), b2 m (by omega) hm b hb, m2 _ (by omega) (by omega)]
  have Fi : FIT x (sI (sI g1 x 21 0) x 22 (-1)) w1 := ⟨by rw [gi_sI, if_neg (by omega), gi_sI, if_pos ⟨rfl, rfl⟩, m3.2 37 0 (by omega), rI_nk (by omega), rI_eq rfl], by rw [gi_sI, if_pos ⟨rfl, rfl⟩, m3.2 38 0 (by omega), rI_eq rfl]⟩
  obtain ⟨g2, w2, d1, d2, d3⟩ := days_loop I ht P A 729 0 FU FU _ w1 (by omega) (by show 729 < 5000; omega) (by show 729 < 5000; omega) s1 s2 V Fi ⟨0, by omega, by rw [m3.2 37 0 (by omega), rI_nk (by omega), rI_eq rfl]; rfl, fun h => absurd rfl h⟩
  rw [nI_0] at d1 d2
  refine ⟨g2, w2, ?_, ?_, d3⟩
  · unfold B_X1_looks
    rw [b1, B_X1_looks_p2, if_pos (by decide), pI_s (by omega) (by omega), bd1_s, pI_s (by rw [gk_sI]; omega) (by rw [gk_sI]; omega), bd1_s]
    exact d1
  · unfold M_findDays
    rw [bdp_s, bdp_s, m1]
    exact d2
end DAYS4
