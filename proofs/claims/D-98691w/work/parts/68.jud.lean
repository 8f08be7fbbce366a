/-! call: judged -/
set_option maxRecDepth 100000
theorem cnt0 {f : Nat → Bool} : ∀ {n : Nat}, cntB f n = 0 ↔ ∀ t, t < n → f t = false
  | 0 => ⟨fun _ t h => by omega, fun _ => rfl⟩
  | n + 1 => by
    rw [cntB]
    constructor
    · intro h t ht
      by_cases e : t = n
      · subst e
        cases q : f t
        · rfl
        · rw [q] at h; have : b2n true = 1 := rfl; omega
      · exact (cnt0 (f := f) (n := n)).mp (by omega) t (by omega)
    · intro h
      rw [h n (by omega), cnt0.mpr (fun t ht => h t (by omega))]
      rfl
/-- the lines that are kept -/
def LIN (o : Nat → Nat) (x nr nt ll nl : Nat) (L : Nat → Nat) (g : GS) (w : MS) : Prop := gR g x 3 = some ll ∧ isLst g ll nl L ∧ nl ≤ 30 ∧ rI w 22 0 = nI nl ∧ o ll = 0 ∧ ∀ k, k < nl → o (L k) = 0 ∧ LRk nr nt g (L k) w (1 + 3 * k)
section JUD
variable {o : Nat → Nat} {x h nr nt ne F S Tr N : Nat} {M T D a c : Nat → Nat} {g0 g g' : GS} {w0 w w' : MS}
theorem LIN.sc {ll nl : Nat} {L : Nat → Nat} (H : LIN o x nr nt ll nl L g w) (hx : o x = x ∧ x ≠ 0 ∧ Tr ≠ 0 ∧ F ≠ 0) (s : ScB o x Tr F g g') (m : ScM w w') : LIN o x nr nt ll nl L g' w' := by
  obtain ⟨h1, h2, h3, h4, h5, h6⟩ := H
  have i : ∀ q k, o q = 0 → gI g' q k = gI g q k := fun q k hq => s.2.2.2 q k (by rw [hq]; exact fun e => hx.2.2.1 e.symm) (by rw [hq]; exact fun e => hx.2.2.2 e.symm) (by rw [hq]; decide) (Or.inl (fun e => by rw [e, hx.1] at hq; exact hx.2.1 hq))
  have w22 : ∀ i, rI w' 22 i = rI w 22 i := fun i => m.m (by unfold prM; omega)
  refine ⟨by rw [s.r]; exact h1, h2.cg ⟨s.k _, i _ _ h5, s.r _ _⟩ (fun e _ => ⟨s.k _, fun k => s.r _ _⟩), h3, by rw [w22]; exact h4, h5, fun k hk => ⟨(h6 k hk).1, ?_⟩⟩
  unfold LRk
  rw [s.k, i _ 0 (h6 k hk).1, i _ 1 (h6 k hk).1, w22, w22, w22]
  exact (h6 k hk).2
theorem jud_loop (I : INV0 o x h nr nt ne F M T D S a Tr c N (g0) (w0)) {ll nl : Nat} {L : Nat → Nat} (H : LIN o x nr nt ll nl L g0 w0) (wh : Int32) : ∀ (j k n n' N' : Nat) (x2 x3 : Int32) (g : GS) (w : MS), k + j = nl → j < n → j < n' → N' + j < 100000 → EN o x h nr nt ne F M T D Tr c 1176 (N') (g0) (w0) (g) (w) → ∃ r g' w', B_X1_judged_p30 n x wh x2 x3 (nI k) g = some (r, g') ∧ M_judged_p31 n' wh x2 x3 (nI k) w = some (r, w') ∧ ScB o x Tr F g0 g' ∧ ScM w0 w' := by
  have hx0 : o x = x ∧ x ≠ 0 ∧ Tr ≠ 0 ∧ F ≠ 0 := ⟨I.1.2.2.2.1.2.2.2.2.1, I.1.2.2.2.1.2.2.2.2.2, I.2.2.2.2.2.1.2.1, I.1.2.2.2.1.2.2.2.1⟩
  have l30 := H.2.2.1
  intro j
  induction j with
  | zero =>
    intro k n n' N' x2 x3 g w hk hn hn' hN E
    obtain ⟨n, rfl⟩ : ∃ z, n = z + 1 := ⟨n - 1, by omega⟩
    obtain ⟨n', rfl⟩ : ∃ z, n' = z + 1 := ⟨n' - 1, by omega⟩
    have I1 := I.sc E.scT.1 E.scT.2
    have H1 := H.sc hx0 E.scT.1 E.scT.2
    have r3 : oRn g x 1 1 3 = some ll := by rw [oRn_x I1.1]; exact H1.1
    have k23 := H1.2.1.1
    have hg : M_goneMany 1176 w = some (nI (cntB (goneB w 1176) 6)) := E.gones
    obtain rfl : k = nl := by omega
    rw [B_X1_judged_p30, r3, bd1_s, oK_s (by omega) (by omega), bd1_s, lst_size H1.2.1, bd1_s, if_pos (nI_le (Nat.le_refl _) (by omega)), M_judged_p31, H1.2.2.2.1, if_pos (nI_le (Nat.le_refl _) (by omega))]
    by_cases z0 : wh = 0
    · rw [if_pos z0, if_pos z0]
      exact ⟨_, _, _, rfl, rfl, E.scT.1, E.scT.2⟩
    · rw [if_neg z0, if_neg z0]
      by_cases z1 : wh = 1
      · rw [if_pos z1, if_pos z1]
        exact ⟨_, _, _, rfl, rfl, E.scT.1, E.scT.2⟩
      · rw [if_neg z1, if_neg z1, hg, bd1_s, I1.x5, bd1_s, E.oI7, bd1_s, count6]
        exact ⟨_, _, _, rfl, rfl, E.scT.1, E.scT.2⟩
  | succ j ih =>
    intro k n n' N' x2 x3 g w hk hn hn' hN E
    obtain ⟨n, rfl⟩ : ∃ z, n = z + 1 := ⟨n - 1, by omega⟩
    obtain ⟨n', rfl⟩ : ∃ z, n' = z + 1 := ⟨n' - 1, by omega⟩
    have I1 := I.sc E.scT.1 E.scT.2
    have H1 := H.sc hx0 E.scT.1 E.scT.2
    have r3 : oRn g x 1 1 3 = some ll := by rw [oRn_x I1.1]; exact H1.1
    have k23 := H1.2.1.1
    obtain ⟨-, hl⟩ := H1.2.2.2.2.2 k (by omega)
    have kk : 17 ≤ (gK g (L k)).1 ∧ (gK g (L k)).1 ≤ 22 := by
      rcases hl with ⟨q, -⟩ | ⟨q, -⟩ | ⟨q, -⟩ | ⟨q, -⟩ | ⟨q, -⟩ | ⟨q, -⟩ <;> omega
    obtain ⟨v, g1, w1, v0, d1, d2, E1⟩ := done2 E (by omega) I1.br (by omega) hl
    have I2 := I.sc E1.scT.1 E1.scT.2
    have hg : M_goneMany 1176 w1 = some (nI (cntB (goneB w1 1176) 6)) := E1.gones
    have c6 := cntB_le (goneB w1 1176) 6
    have hB : ∀ x2', B_X1_judged_p72 (B_X1_judged_p30 n) x wh x2' x3 (nI k) g1 = if 0 ≤ x3 then B_X1_judged_p30 n x wh x2' x3 (nI (k + 1)) g1 else if cntB (goneB w1 1176) 6 = 0 then B_X1_judged_p30 n x wh x2' x3 (nI (k + 1)) g1 else B_X1_judged_p30 n x wh x2' (nI k) (nI (k + 1)) g1 := by
      intro x2'
      unfold B_X1_judged_p72
      rw [I2.x5, bd1_s, E1.oI7, bd1_s, nI_1]
      by_cases z : cntB (goneB w1 1176) 6 = 0
      · rw [if_pos ((mk6_eq0 _).mpr (cnt0.mp z)), if_pos z]
        split <;> rfl
      · rw [if_neg (fun e => z (cnt0.mpr ((mk6_eq0 _).mp e))), if_neg z]
    have hM : ∀ t0, M_judged_p69 (M_judged_p31 n') wh x3 (nI k) t0 w1 = if 0 ≤ x3 then M_judged_p31 n' wh t0 x3 (nI (k + 1)) w1 else if cntB (goneB w1 1176) 6 = 0 then M_judged_p31 n' wh t0 x3 (nI (k + 1)) w1 else M_judged_p31 n' wh t0 (nI k) (nI (k + 1)) w1 := by
      intro t0
      unfold M_judged_p69
      rw [hg, bd1_s, nI_1]
      by_cases z : cntB (goneB w1 1176) 6 = 0
      · rw [if_pos z, z, if_pos (show nI 0 ≤ 0 by decide)]
      · rw [if_neg z, if_neg (nI_nle (by omega) (by omega))]
    have go : ∀ x2', ∃ r g' w', B_X1_judged_p72 (B_X1_judged_p30 n) x wh x2' x3 (nI k) g1 = some (r, g') ∧ M_judged_p69 (M_judged_p31 n') wh x3 (nI k) x2' w1 = some (r, w') ∧ ScB o x Tr F g0 g' ∧ ScM w0 w' := by
      intro x2'
      rw [hB, hM]
      by_cases y : 0 ≤ x3
      · rw [if_pos y, if_pos y]
        exact ih (k + 1) n n' (N' + 1) x2' x3 g1 w1 (by omega) (by omega) (by omega) (by omega) E1
      · rw [if_neg y, if_neg y]
        by_cases z : cntB (goneB w1 1176) 6 = 0
        · rw [if_pos z, if_pos z]
          exact ih (k + 1) n n' (N' + 1) x2' x3 g1 w1 (by omega) (by omega) (by omega) (by omega) E1
        · rw [if_neg z, if_neg z]
          exact ih (k + 1) n n' (N' + 1) x2' (nI k) g1 w1 (by omega) (by omega) (by omega) (by omega) E1
    have hidx : (1 : Int32) + (3 : Int32) * nI k = nI (1 + 3 * k) := by
      rw [show (1 : Int32) = nI 1 from rfl, show (3 : Int32) = nI 3 from rfl, pk_mul, nI_add]
    rw [B_X1_judged_p30, r3, bd1_s, oK_s (by omega) (by omega), bd1_s, lst_size H1.2.1, bd1_s, if_neg (nI_ge (by omega) (by omega)), bd1_s, oK_s (by omega) (by omega), bd1_s, lst_get H1.2.1 (by omega), bd1_s, oK_s kk.1 kk.2, bd1_s, I1.x5, bd1_s, d1, bd2_s, M_judged_p31, H1.2.2.2.1, if_neg (nI_ge (by omega) (by omega)), hidx, d2, bd2_s]
    rcases v0 with rfl | rfl
    · rw [if00, if00]
      by_cases y : 0 ≤ x2
      · rw [if_pos y, if_pos y]; exact go x2
      · rw [if_neg y, if_neg y]; exact go (nI k)
    · rw [if10, if10]
      exact go x2
theorem c_judged (I : INV0 o x h nr nt ne F M T D S a Tr c N (g) (w)) {ll nl : Nat} {L : Nat → Nat} (H : LIN o x nr nt ll nl L g w) (wh : Int32) : ∃ r g' w', B_X1_judged x wh g = some (r, g') ∧ M_judged wh w = some (r, w') ∧ ScB o x Tr F g g' ∧ ScM w w' := by
  have hx0 : o x = x ∧ x ≠ 0 ∧ Tr ≠ 0 ∧ F ≠ 0 := ⟨I.1.2.2.2.1.2.2.2.2.1, I.1.2.2.2.1.2.2.2.2.2, I.2.2.2.2.2.1.2.1, I.1.2.2.2.1.2.2.2.1⟩
  have I1 := I.thr 0
  have nN := I.2.2.2.2.2.2.2.2.2
  have l30 := H.2.2.1
  unfold B_X1_judged M_judged
  rcases w01 wh 0 2 with q | q
  · simp only [bdp_s, in_eq, q, if00]
    exact ⟨_, _, _, rfl, rfl, ScB.rf, scM_thr⟩
  · obtain ⟨g1, w1, b1, b2, E, s1, s2⟩ := I1.beg
    have b2 : M_starts 1176 (wI w 0 0 0) = some w1 := b2
    have I2 := I1.sc s1 s2
    obtain ⟨r, g2, w2, r1, r2, r3, r4⟩ := jud_loop I2 ((H.sc hx0 ScB.rf scM_thr).sc hx0 s1 s2) wh nl 0 FU FU N (-1) (-1) g1 w1 (by omega) (by show nl < 5000; omega) (by show nl < 5000; omega) (by omega) E
    rw [nI_0] at r1 r2
    simp only [bdp_s, in_eq, q, if10, I1.x5, I1.en.xh, I1.kT, b1, b2, bd1_s, r1, r2]
    exact ⟨_, _, _, rfl, rfl, s1.tr r3, (scM_thr.tr s2).tr r4⟩
end JUD
