/-! calls: haunt, law -/
set_option maxRecDepth 100000
theorem isIn_cases (s i : Int32) : (((s >>> (i &&& 31)) &&& (1 : Int32)) = 1 ∧ B_X1_isIn s i = 1) ∨ (¬ ((s >>> (i &&& 31)) &&& (1 : Int32)) = 1 ∧ B_X1_isIn s i = 0) := by
  unfold B_X1_isIn
  by_cases q : ((s >>> (i &&& 31)) &&& (1 : Int32)) = 1
  · exact Or.inl ⟨q, by rw [if_pos q]⟩
  · exact Or.inr ⟨q, by rw [if_neg q]⟩
section CALL2
variable {o : Nat → Nat} {x h nr nt ne F S Tr N : Nat} {M T D a c : Nat → Nat} {g g' : GS} {w w' : MS}
theorem haunt_in {g0 : GS} {w0 : MS} (I : INV0 o x h nr nt ne F M T D S a Tr c N (g0) (w0)) {t : Nat} (ht : t < nt) (s x2 bt x4 x5 x6 : Int32) (k48 : Nat → Int32 → Int32 → Int32 → Int32 → Int32 → Int32 → Int32 → GS → Option (Int32 × GS)) : ∀ (j i n m N' : Nat) (g : GS) (w : MS), i + j = 12 → j < n → j < m → N' + j < 100000 → EN o x h nr nt ne F M T D Tr c 1176 (N') (g0) (w0) (g) (w) → ∃ g' w' N'', B_X1_haunt_p82 k48 n x (nI t) x2 bt x4 x5 x6 s (nI i) g = (if x6 < rI w' 25 (1176 + 7 + t) - rI w' 25 (7 + t) then k48 x (nI t) x2 bt x4 s (rI w' 25 (1176 + 7 + t) - rI w' 25 (7 + t)) (s + 1) g' else k48 x (nI t) x2 bt x4 x5 x6 (s + 1) g') ∧ M_haunted_p13 m (nI t) s bt (nI i) w = some (rI w' 25 (1176 + 7 + t) - rI w' 25 (7 + t), w') ∧ EN o x h nr nt ne F M T D Tr c 1176 (N'') (g0) (w0) (g') (w') := by
  intro j
  induction j with
  | zero =>
    intro i n m N' g w hi hn hm hN E
    obtain ⟨n, rfl⟩ : ∃ k, n = k + 1 := ⟨n - 1, by omega⟩
    obtain ⟨m, rfl⟩ : ∃ k, m = k + 1 := ⟨m - 1, by omega⟩
    obtain rfl : i = 12 := by omega
    have n6 := E.nt6
    have I1 := I.sc E.scT.1 E.scT.2
    have E1 := I1.en
    have r2 : aI g (c 4) 40 (nI t) = some (rI w 25 (1176 + 7 + t)) := E.aI (k := 4) (by omega) (by omega)
    have r3 : oRn g Tr 4 4 4 = some (c 4) := E.oR (by omega)
    have r4 : aI g (a 4) 40 (nI t) = some (rI w 25 (7 + t)) := by rw [E1.aI (k := 4) (by omega) (by omega), ofs4, Nat.zero_add]
    have r5 : oRn g S 4 4 4 = some (a 4) := E1.oR (by omega)
    refine ⟨g, w, N', ?_, ?_, E⟩
    · rw [B_X1_haunt_p82, if_pos (by decide)]
      simp only [I1.x5, r3, r2, I1.x4, r5, r4, bd1_s, bdp_s]
    · rw [M_haunted_p13, if_pos (by decide)]
      simp (disch := omega) only [L2, L3, L4, L5, L6, L7, L8, L9, L10, L11, L12, L13, L14, L15, L16, L17, L18, L19, L20, L21, L22, L23, L24, L25, L26, L27, L28, L29, L30, L31, L32, L33, L34, L35, L36, L37, L38, L40, L41, L42, L43, L44, L45, L48, L56, L57, L59, L60, L61, L63, L92, L96, L97, L99, L100, L101, L120, L122, L123, L124, L125, L126, L128, L146, L176, L200, L212, L240, L241, L243, L255, L729, L999, L1000, L1002, L1100, L1176, L1177, L1183, L1195, L1232, L1251, L1288, L1446, nI_add0, nI_1, nI_add, pk_mul, rA_nI, wA_nI, bd1_s, bd2_s, bdp_s]
  | succ j ih =>
    intro i n m N' g w hi hn hm hN E
    obtain ⟨n, rfl⟩ : ∃ k, n = k + 1 := ⟨n - 1, by omega⟩
    obtain ⟨m, rfl⟩ : ∃ k, m = k + 1 := ⟨m - 1, by omega⟩
    have n6 := E.nt6
    have I1 := I.sc E.scT.1 E.scT.2
    have hpass : ∀ (N1 : Nat) (g1 : GS) (w1 : MS), N1 + j < 100000 → EN o x h nr nt ne F M T D Tr c 1176 (N1) (g0) (w0) (g1) (w1) → ∃ g' w' N'', B_X1_haunt_p109 k48 (B_X1_haunt_p82 k48 n) x (nI t) x2 bt x4 x5 x6 s (nI i) g1 = (if x6 < rI w' 25 (1176 + 7 + t) - rI w' 25 (7 + t) then k48 x (nI t) x2 bt x4 s (rI w' 25 (1176 + 7 + t) - rI w' 25 (7 + t)) (s + 1) g' else k48 x (nI t) x2 bt x4 x5 x6 (s + 1) g') ∧ M_haunted_p39 (M_haunted_p13 m) (nI t) s bt (nI i) w1 = some (rI w' 25 (1176 + 7 + t) - rI w' 25 (7 + t), w') ∧ EN o x h nr nt ne F M T D Tr c 1176 (N'') (g0) (w0) (g') (w') := by
      intro N1 g1 w1 hN1 E1
      have I2 := I.sc E1.scT.1 E1.scT.2
      obtain ⟨g2, w2, s2, p1, p2, E2, -, -⟩ := passes2 E1 I2.br
      have p2 : M_passes 1176 w1 = some (s2, w2) := p2
      obtain ⟨g', w', N'', q1, q2, q3⟩ := ih (i + 1) n m N1 g2 w2 (by omega) (by omega) (by omega) hN1 E2
      refine ⟨g', w', N'', ?_, ?_, q3⟩
      · unfold B_X1_haunt_p109
        simp only [I2.x5, E1.xh, E1.kh, E1.brew, E1.kx, p1, bd1_s, nI_1]
        exact q1
      · unfold M_haunted_p39
        simp only [p2, bd2_s, nI_1]
        exact q2
    rw [B_X1_haunt_p82, M_haunted_p13, if_neg (show ¬ (12 : Int32) ≤ nI i from nI_ge (b := 12) (by omega) (by omega)), if_neg (show ¬ (12 : Int32) ≤ nI i from nI_ge (b := 12) (by omega) (by omega))]
    rcases isIn_cases s (nI i) with ⟨q1, q2⟩ | ⟨q1, q2⟩
    · obtain ⟨g1, w1, f1, f2, E1⟩ := frights2 E ht (by omega) bt
      have f2 : M_frights 1176 (nI t) bt w = some w1 := f2
      simp only [q2, if10, I1.x5, E.kx, f1, if_pos q1, f2, bd1_s]
      exact hpass (N' + 1) g1 w1 (by omega) E1
    · simp only [q2, if00, if_true, if_neg q1]
      exact hpass N' g w (by omega) E
theorem haunt_out {t : Nat} (ht : t < nt) (fr bt wh : Int32) : ∀ (j s n m : Nat) (best most : Int32) (g : GS) (w : MS), s + j = 4096 → j < n → j < m → -1 ≤ most → INV0 o x h nr nt ne F M T D S a Tr c N (g) (w) → ∃ r g' w', B_X1_haunt_p48 n x (nI t) fr bt wh best most (nI s) g = some (r, g') ∧ M_haunt_p54 m (nI t) fr bt wh best most (nI s) w = some (r, w') ∧ ScB o x Tr F g g' ∧ ScM w w' := by
  intro j
  induction j with
  | zero =>
    intro s n m best most g w hs hn hm hmo I
    obtain ⟨n, rfl⟩ : ∃ k, n = k + 1 := ⟨n - 1, by omega⟩
    obtain ⟨m, rfl⟩ : ∃ k, m = k + 1 := ⟨m - 1, by omega⟩
    obtain rfl : s = 4096 := by omega
    rw [B_X1_haunt_p48, M_haunt_p54, if_pos (show (4096 : Int32) ≤ nI 4096 by decide), if_pos (show (4096 : Int32) ≤ nI 4096 by decide)]
    by_cases q : wh = 0
    · simp only [if_pos q]
      exact ⟨_, _, _, rfl, rfl, ScB.rf, ScM.rf⟩
    · simp only [if_neg q]
      exact ⟨_, _, _, rfl, rfl, ScB.rf, ScM.rf⟩
  | succ j ih =>
    intro s n m best most g w hs hn hm hmo I
    obtain ⟨n, rfl⟩ : ∃ k, n = k + 1 := ⟨n - 1, by omega⟩
    obtain ⟨m, rfl⟩ : ∃ k, m = k + 1 := ⟨m - 1, by omega⟩
    rw [B_X1_haunt_p48, M_haunt_p54, if_neg (show ¬ (4096 : Int32) ≤ nI s from nI_ge (b := 4096) (by omega) (by omega)), if_neg (show ¬ (4096 : Int32) ≤ nI s from nI_ge (b := 4096) (by omega) (by omega)), bits_eq (by omega), bd1_s]
    by_cases q : B_J17_bitCount (nI s) = fr
    · rw [if_pos q, if_pos q]
      obtain ⟨g1, w1, e1, e2, E1, ⟨s1, s2⟩, u⟩ := I.be (b := 1176) (Or.inl rfl)
      have e2 : M_copies 0 1176 43 w = some w1 := e2
      have I2 := I.sc s1 s2
      have nN := I.2.2.2.2.2.2.2.2.2
      obtain ⟨g2, w2, N2, p1, p2, E2⟩ := haunt_in I2 ht (nI s) fr bt wh best most (B_X1_haunt_p48 n) 12 0 FU FU N g1 w1 (by omega) (by decide) (by decide) (by omega) E1
      have p1 : B_X1_haunt_p82 (B_X1_haunt_p48 n) FU x (nI t) fr bt wh best most (nI s) 0 g1 = _ := p1
      have p2 : M_haunted_p13 FU (nI t) (nI s) bt 0 w1 = _ := p2
      have I3 := I2.sc E2.scT.1 E2.scT.2
      have hM : M_haunted (nI t) (nI s) bt w = some (rI w2 25 (1176 + 7 + t) - rI w2 25 (7 + t), w2) := by
        unfold M_haunted
        rw [e2, bd1_s, p2]
      rw [hM, bd2_s]
      simp only [I.x5, I.x4, I.kT, e1, bd1_s, p1, nI_1]
      unfold M_haunt_p83 M_haunt_p99
      by_cases z : most < rI w2 25 (1176 + 7 + t) - rI w2 25 (7 + t)
      · rw [if_pos z, if_neg (Int32.not_le.mpr z), if_neg (Int32.not_le.mpr z), nI_1]
        obtain ⟨r, g3, w3, r1, r2, r3, r4⟩ := ih (s + 1) n m (nI s) (rI w2 25 (1176 + 7 + t) - rI w2 25 (7 + t)) g2 w2 (by omega) (by omega) (by omega) (Int32.le_trans hmo (Int32.le_of_lt z)) I3
        exact ⟨r, g3, w3, r1, r2, (s1.tr E2.scT.1).tr r3, (s2.tr E2.scT.2).tr r4⟩
      · rw [if_neg z, if_pos (Int32.not_lt.mp z), if_pos (Int32.not_lt.mp z), nI_1]
        obtain ⟨r, g3, w3, r1, r2, r3, r4⟩ := ih (s + 1) n m best most g2 w2 (by omega) (by omega) (by omega) hmo I3
        exact ⟨r, g3, w3, r1, r2, (s1.tr E2.scT.1).tr r3, (s2.tr E2.scT.2).tr r4⟩
    · rw [if_neg q, if_neg q]
      unfold M_haunt_p83 M_haunt_p99
      rw [if_pos hmo, if_pos hmo, nI_1]
      exact ih (s + 1) n m best most g w (by omega) (by omega) (by omega) hmo I
/-! law -/
def ScM8 (w w' : MS) : Prop := (∀ k i, prM k i → k ≠ 28 → rI w' k i = rI w k i) ∧ ∀ k i, k = 9 ∨ k = 14 → rL w' k i = rL w k i
theorem ScM.s8 (s : ScM w w') : ScM8 w w' := ⟨fun k i p _ => s.1 k i p, s.2⟩
theorem ScM8.tr {w2 : MS} (s : ScM8 w w') (s2 : ScM8 w' w2) : ScM8 w w2 := ⟨fun k i p q => (s2.1 k i p q).trans (s.1 k i p q), fun k i p => (s2.2 k i p).trans (s.2 k i p)⟩
theorem scM8_wI {v : Int32} : ScM8 w (wI w 28 0 v) := ⟨fun k i p q => rI_nk q, fun _ _ _ => rfl⟩
theorem ScM8.sc (s : ScM8 w w') (e : rI w' 28 0 = rI w 28 0) : ScM w w' := ⟨fun k i p => by
  by_cases q : k = 28
  · subst q
    have : i = 0 := by unfold prM at p; omega
    subst this
    exact e
  · exact s.1 k i p q, s.2⟩
theorem EN.mw {b N' k i : Nat} {v : Int32} (E : EN o x h nr nt ne F M T D S a b N' g w g w) (hk : k ≠ 10 ∧ k ≠ 11 ∧ k ≠ 12 ∧ k ≠ 25) : EN o x h nr nt ne F M T D S a b N' g (wI w k i v) g (wI w k i v) :=
  ⟨E.1.cg (fun q hq => ⟨hq, rfl, fun _ => rfl, fun _ => rfl⟩) ⟨rfl, rfl, rfl, rfl⟩ ⟨rfl, rfl⟩ (fun i _ => rI_nk (fun e => hk.1 e.symm)) (fun i _ => ⟨rI_nk (fun e => hk.2.1 e.symm), rI_nk (fun e => hk.2.2.1 e.symm)⟩), E.2.1.cg ⟨rfl, fun _ => rfl, fun _ => rfl⟩ (fun _ _ => ⟨rfl, fun _ => rfl⟩) (fun i _ _ => rI_nk (fun e => hk.2.2.2 e.symm)), E.2.2.1.cg (fun i _ _ => rI_nk (fun e => hk.2.2.2 e.symm)), E.2.2.2.1, E.2.2.2.2.1, FrB.rf, FrM.rf⟩
theorem EN.lasts {b N' : Nat} {g0 : GS} {w0 : MS} (E : EN o x h nr nt ne F M T D S a b N' g0 w0 g w) : ∃ l, l ≤ 120 ∧ oI g h 3 3 4 = some (nI l) ∧ rI w 10 4 = nI l := by
  obtain ⟨l, -, h2, h3⟩ := E.hr.2.2.2.2.2
  have h1 := E.hd.1.2.2.1.1
  refine ⟨l, h2, ?_, h3⟩
  rw [oI_s (by omega) (by omega), E.hd.2.2.2.2.2.1, h3]
theorem law_cup {g0 : GS} {w0 : MS} (I : INV0 o x h nr nt ne F M T D S a Tr c N (g0) (w0)) (cf mi : Int32) : ∀ (j t n m : Nat) (g : GS) (w : MS), t + j = nt → j < n → j < m → EN o x h nr nt ne F M T D Tr c 1176 (N) (g0) (w0) (g) (w) → (∀ u, u < 6 → rI w 25 (1176 + 1 + u) = rI w 25 (0 + 1 + u)) → ∃ g' w', B_X1_law_p36 n x cf mi (nI t) g = B_X1_law_p79 FU x cf mi 0 g' ∧ M_law_p40 m cf mi (nI t) w = M_law_p99 FU mi 0 (wI w' 28 0 cf) ∧ EN o x h nr nt ne F M T D Tr c 1176 (N) (g0) (w0) (g') (w') ∧ rg w w' 1176 := by
  intro j
  induction j with
  | zero =>
    intro t n m g w ht hn hm E hr
    obtain ⟨n, rfl⟩ : ∃ k, n = k + 1 := ⟨n - 1, by omega⟩
    obtain ⟨m, rfl⟩ : ∃ k, m = k + 1 := ⟨m - 1, by omega⟩
    have n6 := E.nt6
    obtain rfl : t = nt := by omega
    refine ⟨g, w, ?_, ?_, E, rg.rf _ _⟩
    · rw [B_X1_law_p36, E.kx, bd1_s, E.ten, bd1_s, if_pos (nI_le (Nat.le_refl _) (by omega))]
    · rw [M_law_p40, E.mten, if_pos (nI_le (Nat.le_refl _) (by omega)), bdp_s]
  | succ j ih =>
    intro t n m g w ht hn hm E hr
    obtain ⟨n, rfl⟩ : ∃ k, n = k + 1 := ⟨n - 1, by omega⟩
    obtain ⟨m, rfl⟩ : ∃ k, m = k + 1 := ⟨m - 1, by omega⟩
    have n6 := E.nt6
    have htn : t < nt := by omega
    have I1 := I.sc E.scT.1 E.scT.2
    have hm0 : M_isIn 0 (nI t) w = some (if rI w 25 (0 + 1 + t) < 0 then 0 else 1) := I1.en.ism htn
    obtain ⟨l, l1, l2, l3⟩ := E.lasts
    have z1 : rA w 25 1288 ((1195 : Int32) + nI t) = some (rI w 25 (1176 + 19 + t)) := by simp (disch := omega) only [L2, L3, L4, L5, L6, L7, L8, L9, L10, L11, L12, L13, L14, L15, L16, L17, L18, L19, L20, L21, L22, L23, L24, L25, L26, L27, L28, L29, L30, L31, L32, L33, L34, L35, L36, L37, L38, L40, L41, L42, L43, L44, L45, L48, L56, L57, L59, L60, L61, L63, L92, L96, L97, L99, L100, L101, L120, L122, L123, L124, L125, L126, L128, L146, L176, L200, L212, L240, L241, L243, L255, L729, L999, L1000, L1002, L1100, L1176, L1177, L1183, L1195, L1232, L1251, L1288, L1446, nI_add0, nI_1, nI_add, pk_mul, rA_nI, wA_nI, bd1_s, bd2_s, bdp_s]
    have z2 : ∀ v, wA w 25 1288 ((1195 : Int32) + nI t) v = some (wI w 25 (1176 + 19 + t) v) := fun v => by simp (disch := omega) only [L2, L3, L4, L5, L6, L7, L8, L9, L10, L11, L12, L13, L14, L15, L16, L17, L18, L19, L20, L21, L22, L23, L24, L25, L26, L27, L28, L29, L30, L31, L32, L33, L34, L35, L36, L37, L38, L40, L41, L42, L43, L44, L45, L48, L56, L57, L59, L60, L61, L63, L92, L96, L97, L99, L100, L101, L120, L122, L123, L124, L125, L126, L128, L146, L176, L200, L212, L240, L241, L243, L255, L729, L999, L1000, L1002, L1100, L1176, L1177, L1183, L1195, L1232, L1251, L1288, L1446, nI_add0, nI_1, nI_add, pk_mul, rA_nI, wA_nI, bd1_s, bd2_s, bdp_s]
    rw [B_X1_law_p36, E.kx, bd1_s, E.ten, bd1_s, if_neg (nI_ge (by omega) (by omega)), I1.x5, bd1_s, E.kS, bd1_s, E.isb (by omega), bd1_s, hr t (by omega), M_law_p40, E.mten, if_neg (nI_ge (by omega) (by omega)), hm0, bd1_s]
    by_cases q : rI w 25 (0 + 1 + t) < 0
    · simp only [if_pos q, if00, if_true, z1, z2, bd1_s, wI_same, nI_1]
      exact ih (t + 1) n m g w (by omega) (by omega) (by omega) E hr
    · have E1 := E.cup (t := t) (c := l) (by omega) l1
      obtain ⟨g', w', r1, r2, r3, r4⟩ := ih (t + 1) n m _ _ (by omega) (by omega) (by omega) E1 (fun u hu => by rw [rI_ne (by omega), rI_ne (by omega)]; exact hr u hu)
      have z3 : oRn g Tr 4 4 2 = some (c 2) := E.oR (by omega)
      have z4 : ∀ v, xI g (c 2) 40 (nI t) v = some (sI g (c 2) t v) := fun v => E.xI (k := 2) (by omega) (by omega) v
      simp only [if_neg q, if10, z2, bd1_s, nI_1, z3, E.xh, l2, l3, z4]
      exact ⟨g', w', r1, r2, r3, (rg_wI (by omega)).tr r4⟩
theorem law_pass {g0 g1 : GS} {w0 w1 : MS} (I : INV0 o x h nr nt ne F M T D S a Tr c N (g0) (w0)) {cf : Int32} {k : Nat} (hk : k ≤ 240) (sB : ScB o x Tr F g0 g1) : ∀ (j i n m : Nat) (g : GS) (w : MS), i + j = k → j < n → j < m → EN o x h nr nt ne F M T D Tr c 1176 (N) (g1) (w1) (g) (w) → rI w 28 0 = cf → ∃ g' w', B_X1_law_p79 n x cf (nI k) (nI i) g = (bd1 (oRn g' x 1 1 5) fun a9 => bd1 (oK g' x 1 1) fun _ => bd2 (B_X1_collects x a9 g') fun r11 w10 => bd1 (oRn w10 x 1 1 5) fun a12 => bd1 (oI w10 a12 4 4 7) fun v13 => bd1 (oRn w10 x 1 1 4) fun a14 => bd1 (oI w10 a14 4 4 7) fun v15 => some (v13 &&& (v15 ^^^ (-1 : Int32)), w10)) ∧ M_law_p99 m (nI k) (nI i) w = (bd2 (M_noons (1176 : Int32) (wI w' 28 0 (rI w' 10 3))) fun r10 w9 => M_law_p141 FU (0 : Int32) (0 : Int32) w9) ∧ EN o x h nr nt ne F M T D Tr c 1176 (N) (g1) (w1) (g') (w') ∧ rg w w' 1176 := by
  intro j
  induction j with
  | zero =>
    intro i n m g w hi hn hm E hb
    obtain ⟨n, rfl⟩ : ∃ k, n = k + 1 := ⟨n - 1, by omega⟩
    obtain ⟨m, rfl⟩ : ∃ k, m = k + 1 := ⟨m - 1, by omega⟩
    obtain rfl : i = k := by omega
    refine ⟨g, w, ?_, ?_, E, rg.rf _ _⟩
    · rw [B_X1_law_p79, if_pos (nI_le (Nat.le_refl _) (by omega))]
    · rw [M_law_p99, if_pos (nI_le (Nat.le_refl _) (by omega)), bdp_s]
  | succ j ih =>
    intro i n m g w hi hn hm E hb
    obtain ⟨n, rfl⟩ : ∃ k, n = k + 1 := ⟨n - 1, by omega⟩
    obtain ⟨m, rfl⟩ : ∃ k, m = k + 1 := ⟨m - 1, by omega⟩
    have I1 := I.sc (sB.tr E.scT.1) ScM.rf
    obtain ⟨g2, w2, s2, p1, p2, E2, -, p3⟩ := passes2 E hb
    have p2 : M_passes 1176 w = some (s2, w2) := p2
    obtain ⟨g', w', r1, r2, r3, r4⟩ := ih (i + 1) n m g2 w2 (by omega) (by omega) (by omega) E2 (by rw [E2.w28, ← E.w28]; exact hb)
    refine ⟨g', w', ?_, ?_, r3, p3.tr r4⟩
    · rw [B_X1_law_p79, if_neg (nI_ge (by omega) (by omega))]
      simp only [I1.x5, E.kx, p1, bd1_s, nI_1]
      exact r1
    · rw [M_law_p99, if_neg (nI_ge (by omega) (by omega)), p2, bd2_s, nI_1]
      exact r2
theorem m6_andn : ∀ b0 b1 b2 b3 b4 b5 c0 c1 c2 c3 c4 c5 : Bool, (nI (m6 b0 b1 b2 b3 b4 b5) &&& (nI (m6 c0 c1 c2 c3 c4 c5) ^^^ (-1 : Int32))) = nI (m6 (b0 && !c0) (b1 && !c1) (b2 && !c2) (b3 && !c3) (b4 && !c4) (b5 && !c5)) := by decide +kernel
theorem mk6_andn (f e : Nat → Bool) : (nI (mk6 f) &&& (nI (mk6 e) ^^^ (-1 : Int32))) = nI (mk6 (fun t => f t && !e t)) := m6_andn _ _ _ _ _ _ _ _ _ _ _ _
theorem law_set {nt : Nat} {w : MS} (hn : M_tenants w = nI nt) (n6 : nt ≤ 6) : ∀ (j i m : Nat), i + j = nt → j < m → M_law_p141 m (nI (mk6 (fun t => decide (t < i) && (!decide (rI w 25 (0 + 1 + t) < 0) && decide (rI w 25 (1176 + 1 + t) < 0))))) (nI i) w = some (nI (mk6 (fun t => decide (t < nt) && (!decide (rI w 25 (0 + 1 + t) < 0) && decide (rI w 25 (1176 + 1 + t) < 0)))), w) := by
  intro j
  induction j with
  | zero =>
    intro i m hi hm
    obtain ⟨m, rfl⟩ : ∃ k, m = k + 1 := ⟨m - 1, by omega⟩
    obtain rfl : i = nt := by omega
    rw [M_law_p141, hn, if_pos (nI_le (Nat.le_refl _) (by omega))]
  | succ j ih =>
    intro i m hi hm
    obtain ⟨m, rfl⟩ : ∃ k, m = k + 1 := ⟨m - 1, by omega⟩
    have h0 : M_isIn 0 (nI i) w = some (if rI w 25 (0 + 1 + i) < 0 then 0 else 1) := M_isIn_t (b := 0) hn n6 (by omega) (by omega)
    have h1 : M_isIn 1176 (nI i) w = some (if rI w 25 (1176 + 1 + i) < 0 then 0 else 1) := M_isIn_t (b := 1176) hn n6 (by omega) (by omega)
    have e := ih (i + 1) m (by omega) (by omega)
    have keep : ¬ (¬ rI w 25 (0 + 1 + i) < 0 ∧ rI w 25 (1176 + 1 + i) < 0) → mk6 (fun t => decide (t < i + 1) && (!decide (rI w 25 (0 + 1 + t) < 0) && decide (rI w 25 (1176 + 1 + t) < 0))) = mk6 (fun t => decide (t < i) && (!decide (rI w 25 (0 + 1 + t) < 0) && decide (rI w 25 (1176 + 1 + t) < 0))) := by
      intro hk
      refine mk6_congr (fun t ht => ?_)
      by_cases e : t = i
      · subst e
        have : (!decide (rI w 25 (0 + 1 + t) < 0) && decide (rI w 25 (1176 + 1 + t) < 0)) = false := by
          rw [Bool.and_eq_false_iff]
          by_cases q : rI w 25 (0 + 1 + t) < 0
          · left; simp [q]
          · right; simp only [decide_eq_false_iff_not]; exact fun z => hk ⟨q, z⟩
        rw [this, Bool.and_false, Bool.and_false]
      · rw [decide_eq_decide.mpr (show t < i + 1 ↔ t < i by omega)]
    rw [M_law_p141, hn, if_neg (nI_ge (by omega) (by omega)), h0, bd1_s]
    by_cases q : rI w 25 (0 + 1 + i) < 0
    · rw [if_pos q, if00, bdp_s, Int32.or_zero, nI_1, ← keep (fun z => z.1 q)]
      exact e
    · rw [if_neg q, if10, h1, bd1_s]
      by_cases q2 : rI w 25 (1176 + 1 + i) < 0
      · rw [if_pos q2, if00, bdp_s, nI_1, show (31 : Int32) = nI 31 from rfl, mk6_set _ (show i < 6 by omega), ← e]
        congr 2
        refine mk6_congr (fun t ht => ?_)
        unfold setB
        by_cases e : t = i
        · subst e
          rw [if_pos rfl]
          simp [q, q2]
        · rw [if_neg e]
          show (decide (t < i) && _) = _
          rw [decide_eq_decide.mpr (show t < i + 1 ↔ t < i by omega)]
      · rw [if_neg q2, if10, bdp_s, Int32.or_zero, nI_1, ← keep (fun z => q2 z.2)]
        exact e
end CALL2
