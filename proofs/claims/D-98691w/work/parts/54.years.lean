/-! counts, years -/
set_option maxRecDepth 100000
def cntB (f : Nat → Bool) : Nat → Nat
  | 0 => 0
  | n + 1 => cntB f n + b2n (f n)
theorem cntB_le (f : Nat → Bool) : ∀ n, cntB f n ≤ n
  | 0 => Nat.le_refl _
  | n + 1 => by
    have := cntB_le f n
    have h : b2n (f n) ≤ 1 := by cases f n <;> decide
    rw [cntB]; omega
theorem cntB_ext {f : Nat → Bool} {n : Nat} : ∀ {m : Nat}, n ≤ m → (∀ t, n ≤ t → t < m → f t = false) → cntB f m = cntB f n
  | 0, h, _ => by rw [show n = 0 by omega]
  | m + 1, h, k => by
    by_cases e : n = m + 1
    · rw [e]
    · rw [cntB, k m (by omega) (by omega), cntB_ext (by omega) (fun t a b => k t a (by omega))]
      rfl
theorem cntB_congr {f e : Nat → Bool} : ∀ {n : Nat}, (∀ t, t < n → f t = e t) → cntB f n = cntB e n
  | 0, _ => rfl
  | n + 1, k => by rw [cntB, cntB, k n (by omega), cntB_congr (fun t ht => k t (by omega))]
theorem count6 (f : Nat → Bool) : B_J17_bitCount (nI (mk6 f)) = nI (cntB f 6) := by
  rw [mk6_count]
  congr 1
  simp only [cntB]
  omega
theorem gone_m {nt b : Nat} {w : MS} (hn : M_tenants w = nI nt) (n6 : nt ≤ 6) (hb : b + 56 ≤ 1288) (h01 : ∀ t, t < 6 → rI w 25 (b + 37 + t) = 0 ∨ rI w 25 (b + 37 + t) = 1) : ∀ (j i m : Nat), i + j = nt → j < m → M_goneMany_p4 m (nI b) (nI (cntB (goneB w b) i)) (nI i) w = some (nI (cntB (goneB w b) nt)) := by
  intro j
  induction j with
  | zero =>
    intro i m hi hm
    obtain ⟨m, rfl⟩ : ∃ k, m = k + 1 := ⟨m - 1, by omega⟩
    obtain rfl : i = nt := by omega
    rw [M_goneMany_p4, hn, if_pos (nI_le (Nat.le_refl _) (by omega))]
  | succ j ih =>
    intro i m hi hm
    obtain ⟨m, rfl⟩ : ∃ k, m = k + 1 := ⟨m - 1, by omega⟩
    have e := ih (i + 1) m (by omega) (by omega)
    have hv : rI w 25 (b + 37 + i) = nI (b2n (goneB w b i)) := by
      unfold goneB
      rcases h01 i (by omega) with e | e
      · rw [e]; rfl
      · rw [e]; rfl
    rw [M_goneMany_p4, hn, if_neg (nI_ge (by omega) (by omega)), rd37 hb (by omega), bd1_s, bdp_s, hv, nI_add, nI_1]
    exact e
theorem goneM {nt b : Nat} {w : MS} (hn : M_tenants w = nI nt) (n6 : nt ≤ 6) (hb : b + 56 ≤ 1288) (h01 : ∀ t, t < 6 → rI w 25 (b + 37 + t) = 0 ∨ rI w 25 (b + 37 + t) = 1) : M_goneMany (nI b) w = some (nI (cntB (goneB w b) nt)) := by
  have := gone_m hn n6 hb h01 nt 0 FU (by omega) (by show nt < 5000; omega)
  rw [show nI (cntB (goneB w b) 0) = 0 from rfl, nI_0] at this
  unfold M_goneMany
  exact this
def inW (w : MS) (b : Nat) : Nat → Bool := fun t => !decide (rI w 25 (b + 1 + t) < 0)
theorem in_m {nt b : Nat} {w : MS} (hn : M_tenants w = nI nt) (n6 : nt ≤ 6) (hb : b + 56 ≤ 1288) : ∀ (j i m : Nat), i + j = nt → j < m → M_inMany_p4 m (nI b) (nI (cntB (inW w b) i)) (nI i) w = some (nI (cntB (inW w b) nt)) := by
  intro j
  induction j with
  | zero =>
    intro i m hi hm
    obtain ⟨m, rfl⟩ : ∃ k, m = k + 1 := ⟨m - 1, by omega⟩
    obtain rfl : i = nt := by omega
    rw [M_inMany_p4, hn, if_pos (nI_le (Nat.le_refl _) (by omega))]
  | succ j ih =>
    intro i m hi hm
    obtain ⟨m, rfl⟩ : ∃ k, m = k + 1 := ⟨m - 1, by omega⟩
    have e := ih (i + 1) m (by omega) (by omega)
    rw [M_inMany_p4, hn, if_neg (nI_ge (by omega) (by omega)), M_isIn_t hn n6 (by omega) hb, bd1_s]
    by_cases q : rI w 25 (b + 1 + i) < 0
    · rw [if_pos q, if00, bdp_s, Int32.add_zero, nI_1]
      rw [cntB, show inW w b i = false by unfold inW; simp [q]] at e
      exact e
    · rw [if_neg q, if10, bdp_s, nI_1, nI_1]
      rw [cntB, show inW w b i = true by unfold inW; simp [q]] at e
      exact e
theorem inM {nt b : Nat} {w : MS} (hn : M_tenants w = nI nt) (n6 : nt ≤ 6) (hb : b + 56 ≤ 1288) : M_inMany (nI b) w = some (nI (cntB (inW w b) nt)) := by
  have := in_m hn n6 hb nt 0 FU (by omega) (by show nt < 5000; omega)
  rw [show nI (cntB (inW w b) 0) = 0 from rfl, nI_0] at this
  unfold M_inMany
  exact this
theorem sumB {g : GS} {q : Nat} (hq : gK g q = (40, 6)) : B_X1_sum q g = some (gI g q 0 + gI g q 1 + gI g q 2 + gI g q 3 + gI g q 4 + gI g q 5) := by
  have step : ∀ n s i, i < 6 → B_X1_sum_p4 (n + 1) q s (nI i) g = B_X1_sum_p4 n q (s + gI g q i) (nI (i + 1)) g := by
    intro n s i hi
    rw [B_X1_sum_p4, aLen_s (by rw [hq]), bd1_s, hq, if_neg (nI_ge hi (by omega)), aI_s (by rw [hq]) (by rw [hq]; exact hi) (by rw [hq]; omega), bd1_s, bdp_s, nI_1]
  have last : ∀ n s, B_X1_sum_p4 (n + 1) q s (nI 6) g = some s := by
    intro n s
    rw [B_X1_sum_p4, aLen_s (by rw [hq]), bd1_s, hq, if_pos (by decide)]
  unfold B_X1_sum
  rw [show FU = 4993 + 1 + 1 + 1 + 1 + 1 + 1 + 1 from rfl, ← nI_0, step _ _ 0 (by omega), step _ _ 1 (by omega), step _ _ 2 (by omega), step _ _ 3 (by omega), step _ _ 4 (by omega), step _ _ 5 (by omega), last, nI_0, Int32.zero_add]
section YRS
variable {o : Nat → Nat} {x h nr nt ne F S Tr N b : Nat} {M T D a c : Nat → Nat} {g g' : GS} {w w' : MS}
theorem EN.gones {N' : Nat} {g0 : GS} {w0 : MS} (E : EN o x h nr nt ne F M T D S a b N' g0 w0 g w) : M_goneMany (nI b) w = some (nI (cntB (goneB w b) 6)) := by
  have n6 := E.nt6
  rw [goneM E.mten n6 E.hb E.sr.2.2.2.2, cntB_ext n6 (fun t h1 h2 => ?_)]
  unfold goneB
  rw [((E.bi.1 t h2).2.2.2.2.2 h1).2]
  rfl
theorem EN.ins {N' : Nat} {g0 : GS} {w0 : MS} (E : EN o x h nr nt ne F M T D S a b N' g0 w0 g w) : M_inMany (nI b) w = some (nI (cntB (inW w b) 6)) ∧ B_X4_in S g = some (nI (mk6 (inW w b))) := by
  have n6 := E.nt6
  constructor
  · rw [inM E.mten n6 E.hb, cntB_ext n6 (fun t h1 h2 => ?_)]
    unfold inW
    rcases (E.bi.1 t h2).1 with e | ⟨_, _, e, _⟩
    · rw [e]; rfl
    · omega
  · rw [in_b E.st]
    refine congrArg (fun z => some (nI z)) (mk6_congr fun t ht => ?_)
    unfold inB inW
    rw [E.sr.2.1 0 t (by omega) ht]
    rfl
theorem EN.sumc {N' : Nat} {g0 : GS} {w0 : MS} (E : EN o x h nr nt ne F M T D S a b N' g0 w0 g w) : B_X1_sum (a 4) g = some (csum w b) := by
  rw [sumB (E.st.2.1 4 (by omega)).2, E.sr.2.1 4 0 (by omega) (by omega), E.sr.2.1 4 1 (by omega) (by omega), E.sr.2.1 4 2 (by omega) (by omega), E.sr.2.1 4 3 (by omega) (by omega), E.sr.2.1 4 4 (by omega) (by omega), E.sr.2.1 4 5 (by omega) (by omega)]
  rfl
/-- the trial of years -/
def EY (o : Nat → Nat) (x h nr nt ne F : Nat) (M T D : Nat → Nat) (Tr : Nat) (c : Nat → Nat) (N : Nat) (g : GS) (w : MS) : Prop := EN o x h nr nt ne F M T D Tr c 1232 N g w g w ∧ gL g x 23 = rL w 39 0 ∧ rI w 28 0 = rI w 10 3
theorem EN.scY {N' : Nat} {g0 : GS} {w0 : MS} (E : EN o x h nr nt ne F M T D Tr c 1232 N' g0 w0 g w) : ScB o x Tr F g0 g ∧ ScM w0 w := ⟨E.fb.sc (fun q h => h.elim Or.inl (fun h => Or.inr (Or.inl h))), E.fm.sc (fun k i p h => by unfold prM at p; omega)⟩
theorem EY.to {N' : Nat} (Y : EY o x h nr nt ne F M T D Tr c N g w) (E : EN o x h nr nt ne F M T D Tr c 1232 N' g w g' w') : EY o x h nr nt ne F M T D Tr c N' g' w' := by
  refine ⟨E.re, ?_, ?_⟩
  · have h1 : gL g' x 23 = gL g x 23 := congrFun (congrFun (congrArg (fun z => z.2.1) E.fb.2.1) x) 23
    have h2 : rL w' 39 0 = rL w 39 0 := congrFun (congrFun E.fm.1 39) 0
    rw [h1, h2]; exact Y.2.1
  · rw [E.fm.2 28 0 (by omega), E.fm.2 10 3 (by omega)]; exact Y.2.2
theorem sl_x {v : Int64} (q k : Nat) : gL (sL g q k v) q k = v := by
  show va_up g.2.2.2.1 q (vp_updL (g.2.2.2.1 q) k v) q k = v
  unfold va_up vp_updL
  simp
theorem wl_x {v : Int64} : rL (wL w 39 0 v) 39 0 = v := by
  show va_up w.2 39 (vp_updL (w.2 39) 0 v) 39 0 = v
  unfold va_up vp_updL
  simp
theorem EY.long (Y : EY o x h nr nt ne F M T D Tr c N g w) (v : Int64) : EY o x h nr nt ne F M T D Tr c N (sL g x 23 v) (wL w 39 0 v) := by
  obtain ⟨E, -, h2⟩ := Y
  exact ⟨⟨E.1.cg (fun q hq => ⟨hq, rfl, fun _ => rfl, fun _ => rfl⟩) ⟨rfl, rfl, rfl, rfl⟩ ⟨rfl, rfl⟩ (fun i _ => rfl) (fun i _ => ⟨rfl, rfl⟩), E.2.1.cg ⟨rfl, fun _ => rfl, fun _ => rfl⟩ (fun _ _ => ⟨rfl, fun _ => rfl⟩) (fun i _ _ => rfl), E.2.2.1.cg (fun i _ _ => rfl), E.2.2.2.1, E.2.2.2.2.1, FrB.rf, FrM.rf⟩, by rw [sl_x, wl_x], h2⟩
theorem scB_sL {v : Int64} : ScB o x Tr F g (sL g x 23 v) := ⟨rfl, rfl, rfl, fun _ _ _ _ _ _ => rfl⟩
theorem draw2 (Y : EY o x h nr nt ne F M T D Tr c N g w) : ∃ r g' w', B_X1_draws x 6 g = some (r, g') ∧ M_draw 6 w = some (r, w') ∧ EY o x h nr nt ne F M T D Tr c N g' w' ∧ ScB o x Tr F g g' ∧ ScM w w' := by
  have hx := Y.1.hd.1.1
  have h6 : ¬ (6 : Int32).toInt64 = 0 := by decide
  have e := Y.2.1
  generalize hv : (rL w 39 0 * (1103515245 : Int64)) + (12345 : Int64) - ((rL w 39 0 * (1103515245 : Int64)) + (12345 : Int64)) / (2147483648 : Int64) * (2147483648 : Int64) = v
  have hx' : (gK (sL g x 23 v) x).1 = 1 := hx
  refine ⟨((v / 65536) - (v / 65536) / (6 : Int32).toInt64 * (6 : Int32).toInt64).toInt32, sL g x 23 v, wL w 39 0 v, ?_, ?_, Y.long v, scB_sL, scM_wL (by omega)⟩
  · unfold B_X1_draws o_lrem oL pL
    rw [if_pos ⟨by omega, by omega⟩, bd1_s, e, hv, if_pos ⟨by omega, by omega⟩, bd1_s, if_pos ⟨by omega, by omega⟩, bd1_s, sl_x, if_neg h6, bd1_s]
  · unfold M_draw o_lrem
    rw [hv, bdp_s, wl_x, if_neg h6, bd1_s]
/-- what tenants do ahead of a noon -/
theorem acts2 (I : INV0 o x h nr nt ne F M T D S a Tr c N g w) (k58 : Nat → Int32 → Int32 → Int32 → Int32 → Int32 → GS → Option (Int32 × GS)) (x2 x3 x4 x5 x6 : Int32) : ∀ (j t n m N' : Nat) (g1 : GS) (w1 : MS), t + j = nt → j < n → j < m → N' + j < 100000 → EY o x h nr nt ne F M T D Tr c N' g1 w1 → ScB o x Tr F g g1 → ScM w w1 → ∃ g2 w2 N2, B_X1_years_p67 k58 n x x2 x3 x4 x5 x6 (nI t) g1 = B_X1_years_p67 k58 1 x x2 x3 x4 x5 x6 (nI nt) g2 ∧ M_drawsActs_p2 m (nI t) w1 = some w2 ∧ EY o x h nr nt ne F M T D Tr c N2 g2 w2 ∧ ScB o x Tr F g g2 ∧ ScM w w2 ∧ N2 ≤ N' + j := by
  intro j
  induction j with
  | zero =>
    intro t n m N' g1 w1 ht hn hm hN Y s1 s2
    obtain ⟨n, rfl⟩ : ∃ k, n = k + 1 := ⟨n - 1, by omega⟩
    obtain ⟨m, rfl⟩ : ∃ k, m = k + 1 := ⟨m - 1, by omega⟩
    have E := Y.1
    have n6 := E.nt6
    obtain rfl : t = nt := by omega
    refine ⟨g1, w1, N', ?_, ?_, Y, s1, s2, by omega⟩
    · rw [B_X1_years_p67, B_X1_years_p67]
      simp only [E.kx, E.ten, bd1_s, if_pos (show nI t ≤ nI t from nI_le (Nat.le_refl _) (by omega))]
    · rw [M_drawsActs_p2, E.mten, if_pos (nI_le (Nat.le_refl _) (by omega))]
  | succ j ih =>
    intro t n m N' g1 w1 ht hn hm hN Y s1 s2
    obtain ⟨n, rfl⟩ : ∃ k, n = k + 1 := ⟨n - 1, by omega⟩
    obtain ⟨m, rfl⟩ : ∃ k, m = k + 1 := ⟨m - 1, by omega⟩
    have E := Y.1
    have n6 := E.nt6
    have htn : t < nt := by omega
    have I1 := I.sc s1 s2
    have hin : M_isIn 1232 (nI t) w1 = some (if rI w1 25 (1232 + 1 + t) < 0 then 0 else 1) := E.ism htn
    by_cases q : rI w1 25 (1232 + 1 + t) < 0
    · obtain ⟨g2, w2, N2, r1, r2, r3⟩ := ih (t + 1) n m N' g1 w1 (by omega) (by omega) (by omega) (by omega) Y s1 s2
      refine ⟨g2, w2, N2, ?_, ?_, r3.1, r3.2.1, r3.2.2.1, by have := r3.2.2.2; omega⟩
      · rw [B_X1_years_p67, E.kx, bd1_s, E.ten, bd1_s, if_neg (nI_ge (by omega) (by omega)), I1.x5, bd1_s, E.kS, bd1_s, E.isb (by omega), bd1_s, if_pos q, if00]
        unfold B_X1_years_p98 B_X1_years_p115 B_X1_years_p133
        rw [if_neg (by decide), if_neg (by decide), if_neg (by decide), nI_1]
        exact r1
      · rw [M_drawsActs_p2, E.mten, if_neg (nI_ge (by omega) (by omega)), hin, bd1_s, if_pos q, if00]
        unfold M_drawsActs_p31
        rw [if_neg (by decide), if_neg (by decide), if_neg (by decide), nI_1]
        exact r2
    · obtain ⟨r, g2, w2, d1, d2, Y2, t1, t2⟩ := draw2 Y
      have E2 := Y2.1
      have I2 := I.sc (s1.tr t1) (s2.tr t2)
      have hw2 : rI w2 25 (1232 + 1 + t) = rI w1 25 (1232 + 1 + t) := by
        unfold M_draw at d2
        rw [bdp_s] at d2
        cases hh : o_lrem (rL (wL w1 39 0 (rL w1 39 0 * 1103515245 + 12345 - (rL w1 39 0 * 1103515245 + 12345) / 2147483648 * 2147483648)) 39 0 / 65536) (Int32.toInt64 6) with
        | none => rw [hh] at d2; cases d2
        | some z => rw [hh, bd1_s] at d2; cases d2; rfl
      have q2 : ¬ rI w2 25 (1232 + 1 + t) < 0 := by rw [hw2]; exact q
      have hB0 : B_X1_years_p67 k58 (n + 1) x x2 x3 x4 x5 x6 (nI t) g1 = B_X1_years_p98 k58 (B_X1_years_p67 k58 n) x x2 x3 x4 x5 x6 (nI t) r g2 := by
        rw [B_X1_years_p67, E.kx, bd1_s, E.ten, bd1_s, if_neg (nI_ge (by omega) (by omega)), I1.x5, bd1_s, E.kS, bd1_s, E.isb (by omega), bd1_s, if_neg q, if10, bd1_s, d1, bd2_s]
      have hM0 : M_drawsActs_p2 (m + 1) (nI t) w1 = M_drawsActs_p31 (M_drawsActs_p2 m) (nI t) r w2 := by
        rw [M_drawsActs_p2, E.mten, if_neg (nI_ge (by omega) (by omega)), hin, bd1_s, if_neg q, if10, d2, bd2_s]
      rw [hB0, hM0]
      unfold B_X1_years_p98 B_X1_years_p115 B_X1_years_p133 M_drawsActs_p31
      by_cases r0 : r = 0
      · subst r0
        obtain ⟨g3, w3, c1, c2, E3⟩ := climbs2 E2 htn q2
        have c2 : M_climbs 1232 (nI t) w2 = some w3 := c2
        have Y3 := Y2.to E3
        obtain ⟨g4, w4, N4, r1, r2, r3⟩ := ih (t + 1) n m N' g3 w3 (by omega) (by omega) (by omega) (by omega) Y3 ((s1.tr t1).tr E3.scY.1) ((s2.tr t2).tr E3.scY.2)
        refine ⟨g4, w4, N4, ?_, ?_, r3.1, r3.2.1, r3.2.2.1, by have := r3.2.2.2; omega⟩
        · rw [if00, I2.x5, bd1_s, E2.kx, bd1_s, c1, bd1_s, if_neg (by decide), if_neg (by decide), nI_1]
          exact r1
        · rw [if00, c2, bd1_s, nI_1]
          exact r2
      · rw [if_neg r0, if_neg r0]
        by_cases r1' : r = 1
        · subst r1'
          obtain ⟨g3, w3, c1, c2, E3⟩ := frights2 E2 htn (by omega) 30
          have c2 : M_frights 1232 (nI t) 30 w2 = some w3 := c2
          have Y3 := Y2.to E3
          obtain ⟨g4, w4, N4, r1, r2, r3⟩ := ih (t + 1) n m (N' + 1) g3 w3 (by omega) (by omega) (by omega) (by omega) Y3 ((s1.tr t1).tr E3.scY.1) ((s2.tr t2).tr E3.scY.2)
          refine ⟨g4, w4, N4, ?_, ?_, r3.1, r3.2.1, r3.2.2.1, by have := r3.2.2.2; omega⟩
          · rw [if_pos rfl, I2.x5, bd1_s, E2.kx, bd1_s, c1, bd1_s, if_neg (by decide), nI_1]
            exact r1
          · rw [if_pos rfl, c2, bd1_s, nI_1]
            exact r2
        · rw [if_neg r1', if_neg r1']
          by_cases r2' : r = 2
          · obtain ⟨l, l1, l2, l3⟩ := E2.lasts
            have E3 := E2.cup (t := t) (c := l) (by omega) l1
            have Y3 := Y2.to E3
            obtain ⟨g4, w4, N4, r1, r2, r3⟩ := ih (t + 1) n m N' _ _ (by omega) (by omega) (by omega) (by omega) Y3 ((s1.tr t1).tr E3.scY.1) ((s2.tr t2).tr E3.scY.2)
            have z2 : ∀ v, wA w2 25 1288 ((1251 : Int32) + nI t) v = some (wI w2 25 (1232 + 19 + t) v) := fun v => by simp (disch := omega) only [L2, L3, L4, L5, L6, L7, L8, L9, L10, L11, L12, L13, L14, L15, L16, L17, L18, L19, L20, L21, L22, L23, L24, L25, L26, L27, L28, L29, L30, L31, L32, L33, L34, L35, L36, L37, L38, L40, L41, L42, L43, L44, L45, L48, L56, L57, L59, L60, L61, L63, L92, L96, L97, L99, L100, L101, L120, L122, L123, L124, L125, L126, L128, L146, L176, L200, L212, L240, L241, L243, L255, L729, L999, L1000, L1002, L1100, L1176, L1177, L1183, L1195, L1232, L1251, L1288, L1446, nI_add0, nI_1, nI_add, pk_mul, rA_nI, wA_nI, bd1_s, bd2_s, bdp_s]
            have z3 : oRn g2 Tr 4 4 2 = some (c 2) := E2.oR (by omega)
            have z4 : ∀ v, xI g2 (c 2) 40 (nI t) v = some (sI g2 (c 2) t v) := fun v => E2.xI (k := 2) (by omega) (by omega) v
            refine ⟨g4, w4, N4, ?_, ?_, r3.1, r3.2.1, r3.2.2.1, by have := r3.2.2.2; omega⟩
            · rw [if_pos r2', I2.x5, bd1_s, z3, bd1_s, E2.xh, bd1_s, l2, bd1_s, z4, bd1_s, nI_1]
              exact r1
            · rw [if_pos r2', l3, z2, bd1_s, nI_1]
              exact r2
          · rw [if_neg r2', if_neg r2', nI_1]
            obtain ⟨g4, w4, N4, r1, r2, r3⟩ := ih (t + 1) n m N' g2 w2 (by omega) (by omega) (by omega) (by omega) Y2 (s1.tr t1) (s2.tr t2)
            exact ⟨g4, w4, N4, r1, r2, r3.1, r3.2.1, r3.2.2.1, by have := r3.2.2.2; omega⟩
theorem years_m (k62 : Int32 → Int32 → Int32 → Int32 → Int32 → MS → Option (Int32 × MS)) (x2 x3 x4 x6 : Int32) : ∀ (j i n : Nat) (s s' : Int32) (w w' : MS), i + j = 10 → j < n → pasM 1232 j s w = some (s', w') → M_years_p75 k62 n x2 x3 x4 s x6 (nI i) w = bd2 (M_noons (1232 : Int32) w') fun r14 w13 => k62 x2 x3 (x4 + r14) s' (x6 + 1) w13 := by
  intro j
  induction j with
  | zero =>
    intro i n s s' w w' hi hn e
    obtain ⟨n, rfl⟩ : ∃ k, n = k + 1 := ⟨n - 1, by omega⟩
    obtain rfl : i = 10 := by omega
    cases e
    rw [M_years_p75, if_pos (by decide)]
    rfl
  | succ j ih =>
    intro i n s s' w w' hi hn e
    obtain ⟨n, rfl⟩ : ∃ k, n = k + 1 := ⟨n - 1, by omega⟩
    rw [pasM] at e
    rw [M_years_p75, if_neg (show ¬ (10 : Int32) ≤ nI i from nI_ge (b := 10) (by omega) (by omega)), show M_passes (1232 : Int32) w = M_passes (nI 1232) w from rfl]
    cases hp : M_passes (nI 1232) w with
    | none => rw [hp] at e; cases e
    | some r =>
      rw [hp] at e
      obtain ⟨r, w1⟩ := r
      rw [bd2_s] at e
      rw [bd2_s, bdp_s, nI_1]
      exact ih (i + 1) n (s + r) s' w1 w' (by omega) (by omega) e
theorem years_out (I : INV0 o x h nr nt ne F M T D S a Tr c N g w) {k : Nat} (hk : k ≤ 30) (x3 : Int32) : ∀ (j i n m N' : Nat) (x4 x5 : Int32) (g1 : GS) (w1 : MS), i + j = k → j < n → j < m → N' + 6 * j < 100000 → EY o x h nr nt ne F M T D Tr c N' g1 w1 → ScB o x Tr F g g1 → ScM w w1 → ∃ r g2 w2, B_X1_years_p58 n x (nI k) x3 x4 x5 (nI i) g1 = some (r, g2) ∧ M_years_p62 m (nI k) x3 x4 x5 (nI i) w1 = some (r, w2) ∧ ScB o x Tr F g g2 ∧ ScM w w2 := by
  intro j
  induction j with
  | zero =>
    intro i n m N' x4 x5 g1 w1 hi hn hm hN Y s1 s2
    obtain ⟨n, rfl⟩ : ∃ k, n = k + 1 := ⟨n - 1, by omega⟩
    obtain ⟨m, rfl⟩ : ∃ k, m = k + 1 := ⟨m - 1, by omega⟩
    obtain rfl : i = k := by omega
    have E := Y.1
    have I1 := I.sc s1 s2
    obtain ⟨c1, c2⟩ := E.ins
    have c1 : M_inMany 1232 w1 = _ := c1
    rw [B_X1_years_p58, M_years_p62, if_pos (nI_le (Nat.le_refl _) (by omega)), if_pos (nI_le (Nat.le_refl _) (by omega))]
    by_cases z0 : x3 = 0
    · rw [if_pos z0, if_pos z0]
      exact ⟨_, _, _, rfl, rfl, s1, s2⟩
    · rw [if_neg z0, if_neg z0]
      by_cases z1 : x3 = 1
      · rw [if_pos z1, if_pos z1, I1.x5, bd1_s, E.kS, bd1_s, c2, bd1_s, c1, bd1_s, count6]
        exact ⟨_, _, _, rfl, rfl, s1, s2⟩
      · rw [if_neg z1, if_neg z1]
        exact ⟨_, _, _, rfl, rfl, s1, s2⟩
  | succ j ih =>
    intro i n m N' x4 x5 g1 w1 hi hn hm hN Y s1 s2
    obtain ⟨n, rfl⟩ : ∃ k, n = k + 1 := ⟨n - 1, by omega⟩
    obtain ⟨m, rfl⟩ : ∃ k, m = k + 1 := ⟨m - 1, by omega⟩
    have n6 := Y.1.nt6
    obtain ⟨g2, w2, N2, a1, a2, Y2, t1, t2, hN2⟩ := acts2 I (B_X1_years_p58 n) (nI k) x3 x4 x5 (nI i) nt 0 FU FU N' g1 w1 (by omega) (by show nt < 5000; omega) (by show nt < 5000; omega) (by omega) Y s1 s2
    rw [nI_0] at a1 a2
    have E2 := Y2.1
    have I2 := I.sc t1 t2
    obtain ⟨g3, w3, s', p1, p2, E3, -, p4, -⟩ := pass2 E2 Y2.2.2 (k := 10) (by omega) x5
    have p1 : B_X1_pass x Tr 10 g2 = some g3 := p1
    have Y3 := Y2.to E3
    have I3 := I.sc (t1.tr E3.scY.1) (t2.tr E3.scY.2)
    obtain ⟨v, g4, w4, q1, q2, E4, -⟩ := collects2 Y3.1
    have q2 : M_noons 1232 w3 = some (v, w4) := q2
    have Y4 := Y3.to E4
    have z3 : oRn g2 Tr 4 4 4 = some (c 4) := E2.oR (by omega)
    have z4 : oRn g3 Tr 4 4 4 = some (c 4) := E3.oR (by omega)
    have e5 : x5 + (csum w3 1232 - csum w2 1232) = s' := by
      have : x5 + (csum w3 1232 - csum w2 1232) = (x5 + csum w3 1232) - csum w2 1232 := by
        rw [Int32.sub_eq_add_neg, Int32.sub_eq_add_neg, Int32.add_assoc]
      rw [this, ← p4, Int32.add_sub_cancel]
    obtain ⟨r, g5, w5, u1, u2, u3, u4⟩ := ih (i + 1) n m N2 (x4 + v) s' g4 w4 (by omega) (by omega) (by omega) (by omega) Y4 ((t1.tr E3.scY.1).tr E4.scY.1) ((t2.tr E3.scY.2).tr E4.scY.2)
    refine ⟨r, g5, w5, ?_, ?_, u3, u4⟩
    · rw [B_X1_years_p58, if_neg (nI_ge (by omega) (by omega)), a1, B_X1_years_p67, E2.kx, bd1_s, E2.ten, bd1_s, if_pos (nI_le (Nat.le_refl _) (by omega))]
      simp only [I2.x5, z3, E2.sumc, p1, I3.x5, z4, E3.sumc, E3.kx, q1, bd1_s, bd2_s, bdp_s, nI_1, e5]
      exact u1
    · rw [M_years_p62, if_neg (nI_ge (by omega) (by omega))]
      unfold M_drawsActs
      rw [a2, bd1_s, ← nI_0, years_m _ _ _ _ _ 10 0 FU x5 s' w2 w3 (by omega) (by show 10 < 5000; omega) p2, q2, bd2_s, nI_1]
      exact u2
theorem c_years (I : INV0 o x h nr nt ne F M T D S a Tr c N g w) (sd no wh : Int32) : ∃ r g' w', B_X1_years x sd no wh g = some (r, g') ∧ M_years sd no wh w = some (r, w') ∧ ScB o x Tr F g g' ∧ ScM w w' := by
  have I1 := I.thr 0
  have E := I1.en
  have hx := E.hd.1.1
  unfold B_X1_years M_years
  rcases w01 sd 0 9999 with q1 | q1
  · simp only [bdp_s, in_eq, q1, if00]
    exact ⟨_, _, _, rfl, rfl, ScB.rf, scM_thr⟩
  · rcases win no (lo := 1) (hi := 30) (by omega) (by omega) with q2 | ⟨k, -, hk, rfl, q2⟩
    · have q2 : M_within no 1 30 = 0 := q2
      simp only [bdp_s, in_eq, q1, q2, if00, if10]
      exact ⟨_, _, _, rfl, rfl, ScB.rf, scM_thr⟩
    · have q2 : M_within (nI k) 1 30 = 1 := q2
      rcases w01 wh 0 2 with q3 | q3
      · simp only [bdp_s, in_eq, q1, q2, q3, if00, if10]
        exact ⟨_, _, _, rfl, rfl, ScB.rf, scM_thr⟩
      · have sg : ScB o x Tr F g (sL g x 23 sd.toInt64) := scB_sL
        have I2 := I1.sc sg ScM.rf
        obtain ⟨g1, w1, e1, e2, E1, ⟨s1, s2⟩, u, e3⟩ := I2.bex (b := 1232) (Or.inr rfl)
        have e2 : M_copies 0 1232 43 (wI w 0 0 0) = some w1 := e2
        have I3 := I2.sc s1 s2
        have hpl : pL g x 1 1 23 sd.toInt64 = some (sL g x 23 sd.toInt64) := by unfold pL; rw [if_pos ⟨by omega, by omega⟩]
        have hL1 : gL g1 x 23 = sd.toInt64 := by
          have h1 : gL g1 x 23 = gL (sL g x 23 sd.toInt64) x 23 := congrFun (congrFun (congrArg (fun z => z.2.1) e3) x) 23
          rw [h1, sl_x]
        have Y : EY o x h nr nt ne F M T D Tr c N g1 (wL w1 39 0 sd.toInt64) := by
          refine ⟨⟨E1.1.cg (fun q hq => ⟨hq, rfl, fun _ => rfl, fun _ => rfl⟩) ⟨rfl, rfl, rfl, rfl⟩ ⟨rfl, rfl⟩ (fun i _ => rfl) (fun i _ => ⟨rfl, rfl⟩), E1.2.1.cg ⟨rfl, fun _ => rfl, fun _ => rfl⟩ (fun _ _ => ⟨rfl, fun _ => rfl⟩) (fun i _ _ => rfl), E1.2.2.1.cg (fun i _ _ => rfl), E1.2.2.2.1, E1.2.2.2.2.1, FrB.rf, FrM.rf⟩, by rw [hL1, wl_x], I3.br⟩
        have nN := I.2.2.2.2.2.2.2.2.2
        obtain ⟨r, g2, w2, r1, r2, r3, r4⟩ := years_out I hk wh k 0 FU FU N 0 0 g1 (wL w1 39 0 sd.toInt64) (by omega) (by show k < 5000; omega) (by show k < 5000; omega) (by omega) Y (sg.tr s1) ((scM_thr.tr s2).tr (scM_wL (by omega)))
        rw [nI_0] at r1 r2
        simp only [bdp_s, in_eq, q1, q2, q3, if10, hpl, I2.x5, I2.x4, I2.kT, e1, e2, bd1_s, r1, r2]
        exact ⟨_, _, _, rfl, rfl, r3, r4⟩
end YRS
