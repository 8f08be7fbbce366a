/-! copies of blocks and of States, begins -/
set_option maxRecDepth 100000
theorem cop_loop {c1 c2 n : Nat} (h1 : c1 + n ≤ 1288) (h2 : c2 + n ≤ 1288) (hd : c1 + n ≤ c2 ∨ c2 + n ≤ c1) : ∀ (j i m : Nat) (w : MS), i + j = n → j < m → ∃ w', M_copies_p3 m (nI c1) (nI c2) (nI n) (nI i) w = some w' ∧ (∀ k, i ≤ k → k < n → rI w' 25 (c2 + k) = rI w 25 (c1 + k)) ∧ FrM (fun k q => k = 25 ∧ c2 + i ≤ q ∧ q < c2 + n) w w' := by
  intro j
  induction j with
  | zero =>
    intro i m w hi hm
    obtain ⟨m, rfl⟩ : ∃ k, m = k + 1 := ⟨m - 1, by omega⟩
    obtain rfl : i = n := by omega
    exact ⟨w, by rw [M_copies_p3, if_pos (nI_le (Nat.le_refl _) (by omega))], fun k a b => by omega, FrM.rf⟩
  | succ j ih =>
    intro i m w hi hm
    obtain ⟨m, rfl⟩ : ∃ k, m = k + 1 := ⟨m - 1, by omega⟩
    obtain ⟨w', r1, r2, r3⟩ := ih (i + 1) m (wI w 25 (c2 + i) (rI w 25 (c1 + i))) (by omega) (by omega)
    refine ⟨w', ?_, fun k a b => ?_, (FrM.wI ⟨rfl, by omega, by omega⟩).tr (r3.mono (fun k q h => ⟨h.1, by omega, by omega⟩))⟩
    · rw [M_copies_p3, if_neg (nI_ge (by omega) (by omega))]
      simp (disch := omega) only [nI_add, nI_1, rA_nI, wA_nI, bd1_s]
      exact r1
    · by_cases e : k = i
      · subst e
        rw [r3.2 25 _ (by omega), rI_eq rfl]
      · rw [r2 k (by omega) b, rI_ne (by omega)]
theorem copM {c1 c2 n : Nat} (h1 : c1 + n ≤ 1288) (h2 : c2 + n ≤ 1288) (hd : c1 + n ≤ c2 ∨ c2 + n ≤ c1) (w : MS) : ∃ w', M_copies (nI c1) (nI c2) (nI n) w = some w' ∧ (∀ k, k < n → rI w' 25 (c2 + k) = rI w 25 (c1 + k)) ∧ FrM (fun k q => k = 25 ∧ c2 ≤ q ∧ q < c2 + n) w w' := by
  obtain ⟨w', r1, r2, r3⟩ := cop_loop h1 h2 hd n 0 FU w (by omega) (by show n < 5000; omega)
  exact ⟨w', r1, fun k h => r2 k (by omega) h, r3.mono (fun k q h => ⟨h.1, by omega, by omega⟩)⟩
theorem aLen_s {g : GS} {a t : Nat} (h : (gK g a).1 = t) : aLen g a t = some (nI (gK g a).2) := if_pos h
theorem cpb_loop {p q L : Nat} (hL : L < 1000) (hpq : p ≠ q) : ∀ (j i m : Nat) (g : GS), i + j = L → j < m → gK g p = (40, L) → gK g q = (40, L) → ∃ g', B_X1_copies_p2 m p q (nI i) g = some g' ∧ (∀ k, i ≤ k → k < L → gI g' q k = gI g p k) ∧ (∀ k, k < i → gI g' q k = gI g q k) ∧ FrB (fun c => c = q) g g' := by
  intro j
  induction j with
  | zero =>
    intro i m g hi hm kp kq
    obtain ⟨m, rfl⟩ : ∃ k, m = k + 1 := ⟨m - 1, by omega⟩
    obtain rfl : i = L := by omega
    refine ⟨g, ?_, fun k a b => by omega, fun _ _ => rfl, FrB.rf⟩
    rw [B_X1_copies_p2, aLen_s (by rw [kq]), bd1_s, kq, if_pos (nI_le (Nat.le_refl _) (by omega))]
  | succ j ih =>
    intro i m g hi hm kp kq
    obtain ⟨m, rfl⟩ : ∃ k, m = k + 1 := ⟨m - 1, by omega⟩
    obtain ⟨g', r1, r2, r3, r4⟩ := ih (i + 1) m (sI g q i (gI g p i)) (by omega) (by omega) kp kq
    refine ⟨g', ?_, fun k a b => ?_, fun k a => ?_, (FrB.sI (P := fun c => c = q) rfl).tr r4⟩
    · rw [B_X1_copies_p2, aLen_s (by rw [kq]), bd1_s, kq, if_neg (nI_ge (by omega) (by omega)), aI_s (by rw [kp]) (by rw [kp]; show i < L; omega) (by rw [kp]; show L < 2 ^ 31; omega), bd1_s, xI_s (by rw [kq]) (by rw [kq]; show i < L; omega) (by rw [kq]; show L < 2 ^ 31; omega), bd1_s, nI_1]
      exact r1
    · by_cases e : k = i
      · subst e
        rw [r3 k (by omega), gi_sI, if_pos ⟨rfl, rfl⟩]
      · rw [r2 k (by omega) b, gi_sI, if_neg (fun h => hpq h.1)]
    · rw [r3 k (by omega), gi_sI, if_neg (by omega)]
theorem copB {p q L : Nat} {g : GS} (hL : L < 1000) (hpq : p ≠ q) (kp : gK g p = (40, L)) (kq : gK g q = (40, L)) : ∃ g', B_X1_copies p q g = some g' ∧ (∀ k, k < L → gI g' q k = gI g p k) ∧ FrB (fun c => c = q) g g' := by
  obtain ⟨g', r1, r2, r3, r4⟩ := cpb_loop hL hpq L 0 FU g (by omega) (by show L < 5000; omega) kp kq
  exact ⟨g', r1, fun k h => r2 k (by omega) h, r4⟩
/-- a State takes what another one holds -/
theorem beB {g : GS} {X Y : Nat} {a c : Nat → Nat} (hX : stS g X a) (hY : stS g Y c) (hne : X ≠ Y) (hd : ∀ i j, i < 6 → j < 6 → a i ≠ c j) : ∃ g', B_X4_be X Y g = some g' ∧ (∀ k t, k < 6 → t < 6 → gI g' (a k) t = gI g (c k) t) ∧ gI g' X 6 = gI g Y 6 ∧ gI g' X 7 = gI g Y 7 ∧ FrB (fun q => q = X ∨ ∃ k, k < 6 ∧ q = a k) g g' := by
  have hc : ∀ i k, i < 6 → k < 6 → c i ≠ a k := fun i k hi hk e => hd k i hk hi e.symm
  have rX : ∀ g' : GS, g'.1 = g.1 → g'.2.2 = g.2.2 → ∀ k, k < 6 → oRn g' X 4 4 k = some (a k) ∧ gK g' (a k) = (40, 6) := by
    intro g' e1 e2 k hk
    have h1 : gK g' X = gK g X := congrFun e1 X
    have h2 : gK g' (a k) = gK g (a k) := congrFun e1 (a k)
    have h3 : gR g' X k = gR g X k := congrFun (congrFun (congrArg (fun x => x.1) e2) X) k
    have h4 : (gK g' X).1 = 4 := by rw [h1]; exact hX.1
    rw [oRn_s (by omega) (by omega), h3, h2]
    exact hX.2.1 k hk
  have rY : ∀ g' : GS, g'.1 = g.1 → g'.2.2 = g.2.2 → ∀ k, k < 6 → oRn g' Y 4 4 k = some (c k) ∧ gK g' (c k) = (40, 6) := by
    intro g' e1 e2 k hk
    have h1 : gK g' Y = gK g Y := congrFun e1 Y
    have h2 : gK g' (c k) = gK g (c k) := congrFun e1 (c k)
    have h3 : gR g' Y k = gR g Y k := congrFun (congrFun (congrArg (fun x => x.1) e2) Y) k
    have h4 : (gK g' Y).1 = 4 := by rw [h1]; exact hY.1
    rw [oRn_s (by omega) (by omega), h3, h2]
    exact hY.2.1 k hk
  have aj : ∀ i j, i < 6 → j < 6 → i ≠ j → a i ≠ a j := fun i j hi hj hij e => hij (hX.2.2 i j hi hj e)
  have aX : ∀ k, k < 6 → a k ≠ X := fun k hk => st_ne hX hk
  have cX : ∀ k, k < 6 → c k ≠ X := by
    intro k hk e
    have h1 := (hY.2.1 k hk).2
    rw [e] at h1
    have h2 := hX.1
    rw [h1] at h2
    exact absurd h2 (by decide)
  have aY : ∀ k, k < 6 → a k ≠ Y := by
    intro k hk e
    have h1 := (hX.2.1 k hk).2
    rw [e] at h1
    have h2 := hY.1
    rw [h1] at h2
    exact absurd h2 (by decide)
  obtain ⟨g1, e1, v1, f1⟩ := copB (g := g) (p := c 0) (q := a 0) (L := 6) (by omega) (hc 0 0 (by omega) (by omega)) (rY g rfl rfl 0 (by omega)).2 (rX g rfl rfl 0 (by omega)).2
  obtain ⟨g2, e2, v2, f2⟩ := copB (g := g1) (p := c 1) (q := a 1) (L := 6) (by omega) (hc 1 1 (by omega) (by omega)) (rY g1 f1.1 f1.2.1 1 (by omega)).2 (rX g1 f1.1 f1.2.1 1 (by omega)).2
  have k2 : g2.1 = g.1 ∧ g2.2.2 = g.2.2 := ⟨f2.1.trans f1.1, f2.2.1.trans f1.2.1⟩
  obtain ⟨g3, e3, v3, f3⟩ := copB (g := g2) (p := c 2) (q := a 2) (L := 6) (by omega) (hc 2 2 (by omega) (by omega)) (rY g2 k2.1 k2.2 2 (by omega)).2 (rX g2 k2.1 k2.2 2 (by omega)).2
  have k3 : g3.1 = g.1 ∧ g3.2.2 = g.2.2 := ⟨f3.1.trans k2.1, f3.2.1.trans k2.2⟩
  obtain ⟨g4, e4, v4, f4⟩ := copB (g := g3) (p := c 3) (q := a 3) (L := 6) (by omega) (hc 3 3 (by omega) (by omega)) (rY g3 k3.1 k3.2 3 (by omega)).2 (rX g3 k3.1 k3.2 3 (by omega)).2
  have k4 : g4.1 = g.1 ∧ g4.2.2 = g.2.2 := ⟨f4.1.trans k3.1, f4.2.1.trans k3.2⟩
  obtain ⟨g5, e5, v5, f5⟩ := copB (g := g4) (p := c 4) (q := a 4) (L := 6) (by omega) (hc 4 4 (by omega) (by omega)) (rY g4 k4.1 k4.2 4 (by omega)).2 (rX g4 k4.1 k4.2 4 (by omega)).2
  have k5 : g5.1 = g.1 ∧ g5.2.2 = g.2.2 := ⟨f5.1.trans k4.1, f5.2.1.trans k4.2⟩
  obtain ⟨g6, e6, v6, f6⟩ := copB (g := g5) (p := c 5) (q := a 5) (L := 6) (by omega) (hc 5 5 (by omega) (by omega)) (rY g5 k5.1 k5.2 5 (by omega)).2 (rX g5 k5.1 k5.2 5 (by omega)).2
  have k6 : g6.1 = g.1 ∧ g6.2.2 = g.2.2 := ⟨f6.1.trans k5.1, f6.2.1.trans k5.2⟩
  have F1 : FrB (fun q => ∃ k, k < 6 ∧ q = a k) g g1 := f1.mono (fun q h => ⟨0, by omega, h⟩)
  have F2 : FrB (fun q => ∃ k, k < 6 ∧ q = a k) g1 g2 := f2.mono (fun q h => ⟨1, by omega, h⟩)
  have F3 : FrB (fun q => ∃ k, k < 6 ∧ q = a k) g2 g3 := f3.mono (fun q h => ⟨2, by omega, h⟩)
  have F4 : FrB (fun q => ∃ k, k < 6 ∧ q = a k) g3 g4 := f4.mono (fun q h => ⟨3, by omega, h⟩)
  have F5 : FrB (fun q => ∃ k, k < 6 ∧ q = a k) g4 g5 := f5.mono (fun q h => ⟨4, by omega, h⟩)
  have F6 : FrB (fun q => ∃ k, k < 6 ∧ q = a k) g5 g6 := f6.mono (fun q h => ⟨5, by omega, h⟩)
  have nc : ∀ i, i < 6 → ¬ ∃ k, k < 6 ∧ c i = a k := fun i hi ⟨k, hk, e⟩ => hc i k hi hk e
  have nY : ¬ ∃ k, k < 6 ∧ Y = a k := fun ⟨k, hk, e⟩ => aY k hk e.symm
  have G : FrB (fun q => ∃ k, k < 6 ∧ q = a k) g g6 := (((((F1.tr F2).tr F3).tr F4).tr F5).tr F6)
  have h4x : (gK g6 X).1 = 4 := by rw [G.k]; exact hX.1
  have h4y : (gK g6 Y).1 = 4 := by rw [G.k]; exact hY.1
  refine ⟨sI (sI g6 X 6 (gI g6 Y 6)) X 7 (gI (sI g6 X 6 (gI g6 Y 6)) Y 7), ?_, fun k t hk ht => ?_, ?_, ?_, ?_⟩
  · unfold B_X4_be
    simp only [(rY g rfl rfl 0 (by omega)).1, (rX g rfl rfl 0 (by omega)).1, e1, (rY g1 f1.1 f1.2.1 1 (by omega)).1, (rX g1 f1.1 f1.2.1 1 (by omega)).1, e2, (rY g2 k2.1 k2.2 2 (by omega)).1, (rX g2 k2.1 k2.2 2 (by omega)).1, e3, (rY g3 k3.1 k3.2 3 (by omega)).1, (rX g3 k3.1 k3.2 3 (by omega)).1, e4, (rY g4 k4.1 k4.2 4 (by omega)).1, (rX g4 k4.1 k4.2 4 (by omega)).1, e5, (rY g5 k5.1 k5.2 5 (by omega)).1, (rX g5 k5.1 k5.2 5 (by omega)).1, e6, bd1_s]
    simp (disch := first | omega | (simp only [gk_sI]; omega)) only [oI_s, pI_s, bd1_s]
  · have hX6 : ∀ v v', gI (sI (sI g6 X 6 v) X 7 v') (a k) t = gI g6 (a k) t := fun v v' => by
      rw [gi_sI, if_neg (fun h => aX k hk h.1), gi_sI, if_neg (fun h => aX k hk h.1)]
    rw [hX6]
    rcases (by omega : k = 0 ∨ k = 1 ∨ k = 2 ∨ k = 3 ∨ k = 4 ∨ k = 5) with rfl | rfl | rfl | rfl | rfl | rfl
    · rw [f6.i (aj 0 5 (by omega) (by omega) (by omega)), f5.i (aj 0 4 (by omega) (by omega) (by omega)), f4.i (aj 0 3 (by omega) (by omega) (by omega)), f3.i (aj 0 2 (by omega) (by omega) (by omega)), f2.i (aj 0 1 (by omega) (by omega) (by omega)), v1 t ht]
    · rw [f6.i (aj 1 5 (by omega) (by omega) (by omega)), f5.i (aj 1 4 (by omega) (by omega) (by omega)), f4.i (aj 1 3 (by omega) (by omega) (by omega)), f3.i (aj 1 2 (by omega) (by omega) (by omega)), v2 t ht, F1.i (nc 1 (by omega))]
    · rw [f6.i (aj 2 5 (by omega) (by omega) (by omega)), f5.i (aj 2 4 (by omega) (by omega) (by omega)), f4.i (aj 2 3 (by omega) (by omega) (by omega)), v3 t ht, (F1.tr F2).i (nc 2 (by omega))]
    · rw [f6.i (aj 3 5 (by omega) (by omega) (by omega)), f5.i (aj 3 4 (by omega) (by omega) (by omega)), v4 t ht, ((F1.tr F2).tr F3).i (nc 3 (by omega))]
    · rw [f6.i (aj 4 5 (by omega) (by omega) (by omega)), v5 t ht, (((F1.tr F2).tr F3).tr F4).i (nc 4 (by omega))]
    · rw [v6 t ht, ((((F1.tr F2).tr F3).tr F4).tr F5).i (nc 5 (by omega))]
  · rw [gi_sI, if_neg (by omega), gi_sI, if_pos ⟨rfl, rfl⟩, G.i nY]
  · rw [gi_sI, if_pos ⟨rfl, rfl⟩, gi_sI, if_neg (fun h => hne h.1.symm), G.i nY]
  · exact frb_sI (frb_sI (G.mono (fun q h => Or.inr h)) (Or.inl rfl)) (Or.inl rfl)
theorem stS.fr {P : Nat → Prop} {g g' : GS} {S : Nat} {a : Nat → Nat} (h : stS g S a) (f : FrB P g g') : stS g' S a := ⟨by rw [f.k]; exact h.1, fun k hk => by rw [f.r, f.k]; exact h.2.1 k hk, h.2.2⟩
/-- a block that is as another one, and a State as another one -/
theorem SR.copy {g g' : GS} {X Y : Nat} {a c : Nat → Nat} {w w' : MS} {b b' : Nat} (h : SR g Y c w b) (hX : stS g' X a) (h1 : ∀ k t, k < 6 → t < 6 → gI g' (a k) t = gI g (c k) t) (h2 : gI g' X 6 = gI g Y 6) (h3 : gI g' X 7 = gI g Y 7) (hw : ∀ k, k < 43 → rI w' 25 (b' + k) = rI w 25 (b + k)) : SR g' X a w' b' := by
  obtain ⟨s1, s2, s3, s4, s5⟩ := h
  have e37 : ∀ t, t < 6 → rI w' 25 (b' + 37 + t) = rI w 25 (b + 37 + t) := fun t ht => by rw [Nat.add_assoc, Nat.add_assoc]; exact hw (37 + t) (by omega)
  refine ⟨hX, fun k t hk ht => ?_, ?_, ?_, fun t ht => by rw [e37 t ht]; exact s5 t ht⟩
  · have := ofs_b k hk
    rw [h1 k t hk ht, s2 k t hk ht, Nat.add_assoc, Nat.add_assoc, hw (ofs k + t) (by omega)]
  · rw [h2, s3]; exact (hw 0 (by omega)).symm
  · rw [h3, s4]
    exact congrArg nI (mk6_congr fun i hi => by unfold goneB; rw [e37 i hi])
theorem BI.copy {w w' : MS} {b b' nr nt N : Nat} (h : BI w b nr nt N) (hw : ∀ k, k < 43 → rI w' 25 (b' + k) = rI w 25 (b + k)) : BI w' b' nr nt N := by
  have e : ∀ i t, t < 6 → i ≤ 37 → rI w' 25 (b' + i + t) = rI w 25 (b + i + t) := fun i t ht hi => by rw [Nat.add_assoc, Nat.add_assoc]; exact hw (i + t) (by omega)
  refine ⟨fun t ht => ?_, fun t u ht hu hn => ?_⟩
  · rw [e 1 t ht (by omega), e 19 t ht (by omega), e 25 t ht (by omega), e 31 t ht (by omega), e 37 t ht (by omega)]
    exact h.1 t ht
  · rw [e 1 t ht (by omega), e 1 u hu (by omega)]
    exact h.2 t u ht hu hn
/-- what a beginning lays -/
def SB (w w' : MS) (b nt : Nat) : Prop := rI w' 25 b = 0 ∧ ∀ t, t < 6 → rI w' 25 (b + 1 + t) = (if t < nt then rI w 10 (26 + 5 * t + 4) else -1) ∧ rI w' 25 (b + 31 + t) = (if t < nt then rI w 10 (26 + 5 * t + 3) else 0) ∧ rI w' 25 (b + 7 + t) = 0 ∧ rI w' 25 (b + 13 + t) = 0 ∧ rI w' 25 (b + 19 + t) = 0 ∧ rI w' 25 (b + 25 + t) = 0 ∧ rI w' 25 (b + 37 + t) = 0
theorem st25_loop {nt b : Nat} (n6 : nt ≤ 6) (hb : b + 56 ≤ 1288) : ∀ (j t m : Nat) (w : MS), t + j = 6 → j < m → rI w 10 1 = nI nt → ∃ w', M_starts_p25 m (nI b) (nI t) w = some w' ∧ (∀ u, t ≤ u → u < 6 → rI w' 25 (b + 1 + u) = (if u < nt then rI w 10 (26 + 5 * u + 4) else -1) ∧ rI w' 25 (b + 31 + u) = (if u < nt then rI w 10 (26 + 5 * u + 3) else 0)) ∧ FrM (fun k q => k = 25 ∧ (b + 1 + t ≤ q ∧ q < b + 7 ∨ b + 31 + t ≤ q ∧ q < b + 37)) w w' := by
  intro j
  induction j with
  | zero =>
    intro t m w hj hm hn
    obtain ⟨m, rfl⟩ : ∃ k, m = k + 1 := ⟨m - 1, by omega⟩
    obtain rfl : t = 6 := by omega
    exact ⟨w, by rw [M_starts_p25, if_pos (by decide)], fun u a b => by omega, FrM.rf⟩
  | succ j ih =>
    intro t m w hj hm hn
    obtain ⟨m, rfl⟩ : ∃ k, m = k + 1 := ⟨m - 1, by omega⟩
    have key : ∀ v1 v2 : Int32, (if t < nt then rI w 10 (26 + 5 * t + 4) else -1) = v1 → (if t < nt then rI w 10 (26 + 5 * t + 3) else 0) = v2 → M_starts_p25 (m + 1) (nI b) (nI t) w = M_starts_p25 m (nI b) (nI (t + 1)) (wI (wI w 25 (b + 1 + t) v1) 25 (b + 31 + t) v2) := by
      intro v1 v2 h1 h2
      have hn1 : ∀ v, M_tenants (wI w 25 (b + 1 + t) v) = nI nt := fun v => by unfold M_tenants; rw [rI_nk (by omega)]; exact hn
      rw [M_starts_p25, if_neg (show ¬ (6 : Int32) ≤ nI t from nI_ge (b := 6) (by omega) (by omega)), show M_tenants w = nI nt from hn]
      by_cases c : t < nt
      · rw [if_pos c] at h1 h2
        rw [if_neg (nI_ge c (by omega))]
        unfold M_starts_p58
        simp (disch := omega) only [nI_1, bd1_s, bd2_s, bdp_s, rd0, rd1, rd1', rd7, rd13, rd19, rd25, rd31, rd37, wr0, wr1, wr1', wr7, wr13, wr19, wr25, wr31, wr37, mro0, mro1, mro2, mtn0, mtn1, mtn2, mtn3, mtn4, rI_ne, rI_nk, rI_eq, rest_m, calmed_m, h1]
        rw [hn1, if_neg (nI_ge c (by omega))]
        simp (disch := omega) only [nI_1, bd1_s, bd2_s, bdp_s, rd0, rd1, rd1', rd7, rd13, rd19, rd25, rd31, rd37, wr0, wr1, wr1', wr7, wr13, wr19, wr25, wr31, wr37, mro0, mro1, mro2, mtn0, mtn1, mtn2, mtn3, mtn4, rI_ne, rI_nk, rI_eq, rest_m, calmed_m, h2]
      · rw [if_neg c] at h1 h2
        rw [if_pos (nI_le (by omega) (by omega))]
        unfold M_starts_p58
        simp (disch := omega) only [nI_1, bd1_s, bd2_s, bdp_s, rd0, rd1, rd1', rd7, rd13, rd19, rd25, rd31, rd37, wr0, wr1, wr1', wr7, wr13, wr19, wr25, wr31, wr37, mro0, mro1, mro2, mtn0, mtn1, mtn2, mtn3, mtn4, rI_ne, rI_nk, rI_eq, rest_m, calmed_m, h1]
        rw [hn1, if_pos (nI_le (by omega) (by omega)), h2]
    obtain ⟨w', r1, r2, r3⟩ := ih (t + 1) m (wI (wI w 25 (b + 1 + t) (if t < nt then rI w 10 (26 + 5 * t + 4) else -1)) 25 (b + 31 + t) (if t < nt then rI w 10 (26 + 5 * t + 3) else 0)) (by omega) (by omega) (by rw [rI_nk (by omega), rI_nk (by omega)]; exact hn)
    refine ⟨w', by rw [key _ _ rfl rfl]; exact r1, fun u a c => ?_, (frm_wI (FrM.wI ⟨rfl, Or.inl ⟨by omega, by omega⟩⟩) ⟨rfl, Or.inr ⟨by omega, by omega⟩⟩).tr (r3.mono (fun k q h => ⟨h.1, by omega⟩))⟩
    by_cases e : u = t
    · subst e
      rw [r3.2 25 _ (by omega), r3.2 25 _ (by omega), rI_ne (by omega), rI_eq rfl, rI_eq rfl]
      exact ⟨rfl, rfl⟩
    · obtain ⟨q1, q2⟩ := r2 u (by omega) c
      rw [q1, q2, rI_nk (by omega), rI_nk (by omega), rI_nk (by omega), rI_nk (by omega)]
      exact ⟨rfl, rfl⟩
theorem st2_loop {b : Nat} (hb : b + 56 ≤ 1288) : ∀ (j i m : Nat) (w : MS), i + j = 43 → j < m → ∃ w', M_starts_p2 m (nI b) (nI i) w = M_starts_p25 FU (nI b) 0 w' ∧ (∀ k, i ≤ k → k < 43 → rI w' 25 (b + k) = 0) ∧ FrM (fun k q => k = 25 ∧ b + i ≤ q ∧ q < b + 43) w w' := by
  intro j
  induction j with
  | zero =>
    intro i m w hi hm
    obtain ⟨m, rfl⟩ : ∃ k, m = k + 1 := ⟨m - 1, by omega⟩
    obtain rfl : i = 43 := by omega
    exact ⟨w, by rw [M_starts_p2, if_pos (by decide)], fun k a b => by omega, FrM.rf⟩
  | succ j ih =>
    intro i m w hi hm
    obtain ⟨m, rfl⟩ : ∃ k, m = k + 1 := ⟨m - 1, by omega⟩
    obtain ⟨w', r1, r2, r3⟩ := ih (i + 1) m (wI w 25 (b + i) 0) (by omega) (by omega)
    refine ⟨w', ?_, fun k a c => ?_, (FrM.wI ⟨rfl, by omega, by omega⟩).tr (r3.mono (fun k q h => ⟨h.1, by omega, by omega⟩))⟩
    · rw [M_starts_p2, if_neg (show ¬ (43 : Int32) ≤ nI i from nI_ge (b := 43) (by omega) (by omega))]
      simp (disch := omega) only [nI_add, nI_1, wA_nI, bd1_s]
      exact r1
    · by_cases e : k = i
      · subst e
        rw [r3.2 25 _ (by omega), rI_eq rfl]
      · exact r2 k (by omega) c
theorem startsM {nt b : Nat} {w : MS} (n6 : nt ≤ 6) (hb : b + 56 ≤ 1288) (hn : rI w 10 1 = nI nt) : ∃ w', M_starts (nI b) w = some w' ∧ SB w w' b nt ∧ FrM (fun k q => k = 25 ∧ b ≤ q ∧ q < b + 43) w w' := by
  obtain ⟨w1, r1, r2, r3⟩ := st2_loop hb 43 0 FU w (by omega) (by decide)
  obtain ⟨w2, q1, q2, q3⟩ := st25_loop n6 hb 6 0 FU w1 (by omega) (by decide) (by rw [r3.2 10 1 (by omega)]; exact hn)
  have z : ∀ i t, t < 6 → (i = 7 ∨ i = 13 ∨ i = 19 ∨ i = 25 ∨ i = 37) → rI w2 25 (b + i + t) = 0 := fun i t ht hi => by
    rw [q3.2 25 _ (by omega), Nat.add_assoc]
    exact r2 (i + t) (by omega) (by omega)
  refine ⟨w2, r1.trans q1, ⟨?_, fun t ht => ⟨?_, ?_, z 7 t ht (by omega), z 13 t ht (by omega), z 19 t ht (by omega), z 25 t ht (by omega), z 37 t ht (by omega)⟩⟩, (r3.mono (fun k q h => ⟨h.1, by omega, by omega⟩)).tr (q3.mono (fun k q h => ⟨h.1, by omega, by omega⟩))⟩
  · rw [q3.2 25 _ (by omega)]; exact r2 0 (by omega) (by omega)
  · rw [(q2 t (by omega) ht).1, r3.2 10 _ (by omega)]
  · rw [(q2 t (by omega) ht).2, r3.2 10 _ (by omega)]
theorem i10 : ((1 : Int32) = 0) ↔ False := by decide
/-- what begin reads of a house -/
def HB (g : GS) (h l nt : Nat) (T : Nat → Nat) (rm co : Nat → Int32) : Prop := (gK g h).1 = 3 ∧ gR g h 1 = some l ∧ isLst g l nt T ∧ ∀ t, t < nt → 8 ≤ (gK g (T t)).1 ∧ (gK g (T t)).1 ≤ 11 ∧ gI g (T t) 4 = rm t ∧ gI g (T t) 3 = co t
theorem HB.fr {P : Nat → Prop} {g g' : GS} {h l nt : Nat} {T : Nat → Nat} {rm co : Nat → Int32} (H : HB g h l nt T rm co) (f : FrB P g g') (hl : ¬ P l) (hT : ∀ t, t < nt → ¬ P (T t)) : HB g' h l nt T rm co :=
  ⟨by rw [f.k]; exact H.1, by rw [f.r]; exact H.2.1, H.2.2.1.fr f hl, fun t ht => by rw [f.k, f.i (hT t ht), f.i (hT t ht)]; exact H.2.2.2 t ht⟩
theorem begin_step {g : GS} {S h l nt t n : Nat} {a T : Nat → Nat} {rm co : Nat → Int32} (hS : stS g S a) (H : HB g h l nt T rm co) (n6 : nt ≤ 6) (ht : t < 6) (hl : ∀ k, k < 6 → l ≠ a k) (hT : ∀ u, u < nt → ∀ k, k < 6 → T u ≠ a k) : B_X4_begin_p2 (n + 1) S h (nI t) g = B_X4_begin_p2 n S h (nI (t + 1)) (sI (sI (sI (sI (sI (sI g (a 0) t (if t < nt then rm t else -1)) (a 5) t (if t < nt then co t else 0)) (a 1) t 0) (a 2) t 0) (a 3) t 0) (a 4) t 0) := by
  have s4 := hS.1
  obtain ⟨q0, k0⟩ := hS.2.1 0 (by omega)
  obtain ⟨q1, k1⟩ := hS.2.1 1 (by omega)
  obtain ⟨q2, k2⟩ := hS.2.1 2 (by omega)
  obtain ⟨q3, k3⟩ := hS.2.1 3 (by omega)
  obtain ⟨q4, k4⟩ := hS.2.1 4 (by omega)
  obtain ⟨q5, k5⟩ := hS.2.1 5 (by omega)
  have a0 : (gK g (a 0)).1 = 40 ∧ (gK g (a 0)).2 = 6 := by rw [k0]; exact ⟨rfl, rfl⟩
  have a1 : (gK g (a 1)).1 = 40 ∧ (gK g (a 1)).2 = 6 := by rw [k1]; exact ⟨rfl, rfl⟩
  have a2 : (gK g (a 2)).1 = 40 ∧ (gK g (a 2)).2 = 6 := by rw [k2]; exact ⟨rfl, rfl⟩
  have a3 : (gK g (a 3)).1 = 40 ∧ (gK g (a 3)).2 = 6 := by rw [k3]; exact ⟨rfl, rfl⟩
  have a4 : (gK g (a 4)).1 = 40 ∧ (gK g (a 4)).2 = 6 := by rw [k4]; exact ⟨rfl, rfl⟩
  have a5 : (gK g (a 5)).1 = 40 ∧ (gK g (a 5)).2 = 6 := by rw [k5]; exact ⟨rfl, rfl⟩
  obtain ⟨h3, hr, L, HT⟩ := H
  have l23 := L.1
  rw [B_X4_begin_p2, if_neg (show ¬ (6 : Int32) ≤ nI t from nI_ge (b := 6) (by omega) (by omega))]
  simp (disch := omega) only [oRn_s, oK_s, hr, bd1_s, lst_size L]
  by_cases c : t < nt
  · obtain ⟨t1, t2, t3, t4⟩ := HT t c
    have G1 : ∀ v, B_J2_get l (nI t) (sI g (a 0) t v) = some (T t) := fun v => lst_get (L.fr (P := fun q => q = a 0) (FrB.sI rfl) (hl 0 (by omega))) c
    have G2 : ∀ v, gI (sI g (a 0) t v) (T t) 3 = co t := fun v => by rw [gi_sI, if_neg (fun e => hT t c 0 (by omega) e.1)]; exact t4
    rw [if_neg (nI_ge c (by omega)), if_pos c, if_pos c]
    unfold B_X4_begin_p24 B_X4_begin_p52 B_X4_begin_p80
    simp (disch := first | omega | (simp only [gk_sI]; omega)) only [oRn_s, oK_s, oI_s, xI_s, gr_sI, hr, q0, q1, q2, q3, q4, q5, bd1_s, lst_get L c, t3, G1, G2, nI_1, i10, if_false]
  · rw [if_pos (nI_le (by omega) (by omega)), if_neg c, if_neg c]
    unfold B_X4_begin_p24 B_X4_begin_p52 B_X4_begin_p80
    simp (disch := first | omega | (simp only [gk_sI]; omega)) only [oRn_s, oK_s, oI_s, xI_s, gr_sI, q0, q1, q2, q3, q4, q5, bd1_s, nI_1, if_true]
theorem begin_loop {S h l nt : Nat} {a T : Nat → Nat} {rm co : Nat → Int32} (n6 : nt ≤ 6) (hl : ∀ k, k < 6 → l ≠ a k) (hT : ∀ u, u < nt → ∀ k, k < 6 → T u ≠ a k) : ∀ (j t n : Nat) (g : GS), t + j = 6 → j < n → stS g S a → HB g h l nt T rm co → ∃ g', B_X4_begin_p2 n S h (nI t) g = some g' ∧ (∀ u, t ≤ u → u < 6 → gI g' (a 0) u = (if u < nt then rm u else -1) ∧ gI g' (a 5) u = (if u < nt then co u else 0) ∧ gI g' (a 1) u = 0 ∧ gI g' (a 2) u = 0 ∧ gI g' (a 3) u = 0 ∧ gI g' (a 4) u = 0) ∧ (∀ k u, k < 6 → u < t → gI g' (a k) u = gI g (a k) u) ∧ gI g' S 6 = 0 ∧ gI g' S 7 = 0 ∧ FrB (fun q => q = S ∨ ∃ k, k < 6 ∧ q = a k) g g' := by
  intro j
  induction j with
  | zero =>
    intro t n g hj hn hS H
    obtain ⟨n, rfl⟩ : ∃ k, n = k + 1 := ⟨n - 1, by omega⟩
    obtain rfl : t = 6 := by omega
    have s4 := hS.1
    refine ⟨sI (sI g S 6 0) S 7 0, ?_, fun u a b => by omega, fun k u hk hu => ?_, ?_, ?_, frb_sI (FrB.sI (Or.inl rfl)) (Or.inl rfl)⟩
    · rw [B_X4_begin_p2, if_pos (by decide)]
      simp (disch := first | omega | (simp only [gk_sI]; omega)) only [pI_s, bd1_s]
    · rw [gi_sI, if_neg (fun e => st_ne hS hk e.1), gi_sI, if_neg (fun e => st_ne hS hk e.1)]
    · rw [gi_sI, if_neg (by omega), gi_sI, if_pos ⟨rfl, rfl⟩]
    · rw [gi_sI, if_pos ⟨rfl, rfl⟩]
  | succ j ih =>
    intro t n g hj hn hS H
    obtain ⟨n, rfl⟩ : ∃ k, n = k + 1 := ⟨n - 1, by omega⟩
    have f : FrB (fun q => ∃ k, k < 6 ∧ q = a k) g (sI (sI (sI (sI (sI (sI g (a 0) t (if t < nt then rm t else -1)) (a 5) t (if t < nt then co t else 0)) (a 1) t 0) (a 2) t 0) (a 3) t 0) (a 4) t 0) := frb_sI (frb_sI (frb_sI (frb_sI (frb_sI (FrB.sI ⟨0, by omega, rfl⟩) ⟨5, by omega, rfl⟩) ⟨1, by omega, rfl⟩) ⟨2, by omega, rfl⟩) ⟨3, by omega, rfl⟩) ⟨4, by omega, rfl⟩
    have aj : ∀ i j, i < 6 → j < 6 → i ≠ j → a i ≠ a j := fun i j hi hj hij e => hij (hS.2.2 i j hi hj e)
    obtain ⟨g', r1, r2, r3, r4, r5, r6⟩ := ih (t + 1) n _ (by omega) (by omega) (hS.fr f) (H.fr f (fun ⟨k, hk, e⟩ => hl k hk e) (fun u hu ⟨k, hk, e⟩ => hT u hu k hk e))
    refine ⟨g', by rw [begin_step hS H n6 (by omega) hl hT]; exact r1, fun u p q => ?_, fun k u hk hu => ?_, r4, r5, (f.mono (fun q h => Or.inr h)).tr r6⟩
    · by_cases e : u = t
      · subst e
        rw [r3 0 u (by omega) (by omega), r3 1 u (by omega) (by omega), r3 2 u (by omega) (by omega), r3 3 u (by omega) (by omega), r3 4 u (by omega) (by omega), r3 5 u (by omega) (by omega)]
        have n01 := aj 0 1 (by omega) (by omega) (by omega)
        have n02 := aj 0 2 (by omega) (by omega) (by omega)
        have n03 := aj 0 3 (by omega) (by omega) (by omega)
        have n04 := aj 0 4 (by omega) (by omega) (by omega)
        have n05 := aj 0 5 (by omega) (by omega) (by omega)
        have n12 := aj 1 2 (by omega) (by omega) (by omega)
        have n13 := aj 1 3 (by omega) (by omega) (by omega)
        have n14 := aj 1 4 (by omega) (by omega) (by omega)
        have n23 := aj 2 3 (by omega) (by omega) (by omega)
        have n24 := aj 2 4 (by omega) (by omega) (by omega)
        have n34 := aj 3 4 (by omega) (by omega) (by omega)
        have n51 := aj 5 1 (by omega) (by omega) (by omega)
        have n52 := aj 5 2 (by omega) (by omega) (by omega)
        have n53 := aj 5 3 (by omega) (by omega) (by omega)
        have n54 := aj 5 4 (by omega) (by omega) (by omega)
        simp [gi_sI, n01, n02, n03, n04, n05, n12, n13, n14, n23, n24, n34, n51, n52, n53, n54]
      · exact r2 u (by omega) q
    · rw [r3 k u hk (by omega)]
      simp only [gi_sI]
      simp only [show ¬ u = t by omega, and_false, if_false]
