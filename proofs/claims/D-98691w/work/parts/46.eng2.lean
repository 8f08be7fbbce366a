/-! the engine goes on, two-sided: pulses, minutes, climbs, frights -/
set_option maxRecDepth 100000
theorem mn_lt_le (y c : Int32) : (if y < c then y else c) = if y ≤ c then y else c := by
  by_cases h1 : y < c
  · rw [if_pos h1, if_pos (Int32.le_of_lt h1)]
  · rw [if_neg h1]
    by_cases h2 : y ≤ c
    · rw [if_pos h2]; exact (Int32.le_antisymm h2 (Int32.not_lt.mp h1)).symm
    · rw [if_neg h2]
theorem wI_same (w : MS) (k i : Nat) : wI w k i (rI w k i) = w := by
  refine Prod.ext (funext fun k' => funext fun i' => ?_) rfl
  have := rI_wI (w := w) (k := k) (i := i) (k' := k') (i' := i') (v := rI w k i)
  show rI (wI w k i (rI w k i)) k' i' = rI w k' i'
  rw [this]
  by_cases c : k' = k ∧ i' = i
  · rw [if_pos c, c.1, c.2]
  · rw [if_neg c]
theorem cupB {c : Nat} (hc : c ≤ 120) : (if (0 : Int32) < nI c - 1 then nI c - 1 else 0) = nI (c - 1) := by
  by_cases h : c = 0
  · subst h; rfl
  · obtain ⟨c, rfl⟩ : ∃ k, c = k + 1 := ⟨c - 1, by omega⟩
    rw [nI_pred, Nat.add_sub_cancel]
    by_cases h0 : c = 0
    · subst h0; rfl
    · rw [if_pos]
      exact nI_lt (a := 0) (by omega) (by omega)
theorem cupM {α : Type} (X : Int32 → α) {c : Nat} (hc : c ≤ 120) : (if nI c ≤ 0 then X (nI c - 0) else X (nI c - 1)) = X (nI (c - 1)) := by
  by_cases h : c = 0
  · subst h; rfl
  · obtain ⟨c, rfl⟩ : ∃ k, c = k + 1 := ⟨c - 1, by omega⟩
    rw [if_neg (nI_nle (by omega) (by omega)), nI_pred, Nat.add_sub_cancel]
def csum (w : MS) (b : Nat) : Int32 := rI w 25 (b + 7 + 0) + rI w 25 (b + 7 + 1) + rI w 25 (b + 7 + 2) + rI w 25 (b + 7 + 3) + rI w 25 (b + 7 + 4) + rI w 25 (b + 7 + 5)
theorem csum_ne {w : MS} {b i : Nat} {v : Int32} (h : i < b + 7 ∨ b + 13 ≤ i) : csum (wI w 25 i v) b = csum w b := by
  unfold csum
  rw [rI_ne (by omega), rI_ne (by omega), rI_ne (by omega), rI_ne (by omega), rI_ne (by omega), rI_ne (by omega)]
theorem csum_set {w : MS} {b t : Nat} {v : Int32} (ht : t < 6) : csum (wI w 25 (b + 7 + t) v) b + rI w 25 (b + 7 + t) = csum w b + v := by
  unfold csum
  rcases (by omega : t = 0 ∨ t = 1 ∨ t = 2 ∨ t = 3 ∨ t = 4 ∨ t = 5) with rfl | rfl | rfl | rfl | rfl | rfl
  · rw [rI_eq rfl, rI_ne (by omega), rI_ne (by omega), rI_ne (by omega), rI_ne (by omega), rI_ne (by omega)]; ac_rfl
  · rw [rI_ne (by omega), rI_eq rfl, rI_ne (by omega), rI_ne (by omega), rI_ne (by omega), rI_ne (by omega)]; ac_rfl
  · rw [rI_ne (by omega), rI_ne (by omega), rI_eq rfl, rI_ne (by omega), rI_ne (by omega), rI_ne (by omega)]; ac_rfl
  · rw [rI_ne (by omega), rI_ne (by omega), rI_ne (by omega), rI_eq rfl, rI_ne (by omega), rI_ne (by omega)]; ac_rfl
  · rw [rI_ne (by omega), rI_ne (by omega), rI_ne (by omega), rI_ne (by omega), rI_eq rfl, rI_ne (by omega)]; ac_rfl
  · rw [rI_ne (by omega), rI_ne (by omega), rI_ne (by omega), rI_ne (by omega), rI_ne (by omega), rI_eq rfl]; ac_rfl
/-- rooms and who is gone stay -/
def rg (w w' : MS) (b : Nat) : Prop := ∀ t, t < 6 → rI w' 25 (b + 1 + t) = rI w 25 (b + 1 + t) ∧ rI w' 25 (b + 37 + t) = rI w 25 (b + 37 + t)
theorem rg.rf (w : MS) (b : Nat) : rg w w b := fun _ _ => ⟨rfl, rfl⟩
theorem rg.tr {w w1 w2 : MS} {b : Nat} (h : rg w w1 b) (h2 : rg w1 w2 b) : rg w w2 b := fun t ht => ⟨(h2 t ht).1.trans (h t ht).1, (h2 t ht).2.trans (h t ht).2⟩
theorem rg_wI {w : MS} {b i : Nat} {v : Int32} (h : i = b ∨ b + 7 ≤ i ∧ i < b + 37) : rg w (wI w 25 i v) b := fun t ht => ⟨rI_ne (by omega), rI_ne (by omega)⟩
section ENG2
variable {o : Nat → Nat} {x h nr nt ne F S b N : Nat} {M T D a : Nat → Nat} {g0 g g' : GS} {w0 w w' : MS}
theorem EN.love (E : EN o x h nr nt ne F M T D S a b N g0 w0 (g) (w)) {t : Nat} (ht : t < nt) : (nI (mk6 (fun e => rI w 10 (56 + 6 * t + e) == 1)) &&& nI (mk6 (inB g a))) = 0 ↔ loveB w b t nt = false := by
  have n6 := E.nt6
  rw [mk6_and, mk6_eq0]
  unfold loveB
  rw [List.any_eq_false]
  constructor
  · intro k e he
    have he := List.mem_range.mp he
    have := k e (by omega)
    simp only [inB, E.sr.2.1 0 e (by omega) (by omega)] at this
    exact Bool.eq_false_iff.mp this
  · intro k u hu
    by_cases hn : u < nt
    · have := k u (List.mem_range.mpr hn)
      simp only [inB, E.sr.2.1 0 u (by omega) hu]
      exact Bool.eq_false_iff.mpr this
    · have := (E.hd.2.2.1 t ht).2.2.2.2.2.2 u (by omega) hu
      simp only [this]
      rfl
theorem EN.rin (E : EN o x h nr nt ne F M T D S a b N g0 w0 (g) (w)) {t : Nat} (ht : t < 6) (hin : ¬ rI w 25 (b + 1 + t) < 0) : ∃ r, r < nr ∧ t < nt ∧ rI w 25 (b + 1 + t) = nI r := by
  rcases (E.bi.1 t ht).1 with e | e
  · rw [e] at hin
    exact absurd (by decide) hin
  · exact e
theorem pulse2 (E : EN o x h nr nt ne F M T D S a b N g0 w0 (g) (w)) {t : Nat} (ht : t < nt) (hin : ¬ rI w 25 (b + 1 + t) < 0) {br : Int32} (hb : rI w 28 0 = br) : ∃ p, B_X1_pulse_2 x S (nI t) br g = some p ∧ M_pulseOf (nI b) (nI t) w = some p := by
  have n6 := E.nt6
  have r6 := E.nr6
  have hbb := E.hb
  obtain ⟨r, hr, -, er⟩ := E.rin (by omega) hin
  have tn := E.tn ht
  have rm := E.rm hr
  have hl := E.love ht
  have key : ∀ y : Int32, B_X1_pulse_2_p50 S (T t) y g = M_pulseOf_p57 (nI b) (nI t) 0 y w := by
    intro y
    unfold B_X1_pulse_2_p50 M_pulseOf_p57
    rw [tn.2.2.2.2, E.kS, in_b E.st, loving_m E.mten n6 hbb (by omega)]
    simp only [bd1_s, bdp_s, Int32.add_zero]
    unfold M_pulseOf_p75 B_X1_pulse_2_p66
    cases hL : loveB w b t nt
    · rw [if_pos (hl.mpr hL), if_pos (show nI (b2n false) = 0 from rfl)]
      simp only [bdp_s, Int32.add_zero]
      rw [mn_lt_le]
      split <;> rfl
    · rw [if_neg (fun e => by rw [hl.mp e] at hL; cases hL), if_neg (show ¬ nI (b2n true) = 0 by decide)]
      simp only [bdp_s]
      rw [mn_lt_le]
      split <;> rfl
  have key2 : ∀ y c : Int32, M_pulseOf_p57 (nI b) (nI t) c y w = M_pulseOf_p57 (nI b) (nI t) 0 (y + c) w := by
    intro y c
    unfold M_pulseOf_p57
    simp only [bdp_s, Int32.add_zero]
  have some2 : ∀ y : Int32, ∃ p, M_pulseOf_p57 (nI b) (nI t) 0 y w = some p := by
    intro y
    rw [← key]
    unfold B_X1_pulse_2_p50 B_X1_pulse_2_p66
    rw [tn.2.2.2.2, E.kS, in_b E.st]
    simp only [bd1_s]
    split <;> exact ⟨_, rfl⟩
  have hB : B_X1_pulse_2 x S (nI t) br g = M_pulseOf (nI b) (nI t) w := by
    unfold B_X1_pulse_2 M_pulseOf
    simp (disch := omega) only [nI_1, bd1_s, bd2_s, bdp_s, rd0, rd1, rd1', rd7, rd13, rd19, rd25, rd31, rd37, wr0, wr1, wr1', wr7, wr13, wr19, wr25, wr31, wr37, mro0, mro1, mro2, mtn0, mtn1, mtn2, mtn3, mtn4, rI_ne, rI_nk, rI_eq, rest_m, calmed_m, E.kx, E.hd.tena ht, rest_b E.hd ht, E.oR, E.aI, ofs0, ofs1, ofs2, er, E.hd.roo hr, rm.1, rm.2.1, rm.2.2, hb]
    by_cases c : rI w 25 (b + 19 + t) ≤ 0
    · rw [if_pos c, if_pos c, key]
    · rw [if_neg c, if_neg c, key, ← key2]
  rw [hB]
  unfold M_pulseOf
  simp (disch := omega) only [nI_1, bd1_s, bd2_s, bdp_s, rd0, rd1, rd1', rd7, rd13, rd19, rd25, rd31, rd37, wr0, wr1, wr1', wr7, wr13, wr19, wr25, wr31, wr37, mro0, mro1, mro2, mtn0, mtn1, mtn2, mtn3, mtn4, rI_ne, rI_nk, rI_eq, rest_m, calmed_m, er, hb]
  by_cases c : rI w 25 (b + 19 + t) ≤ 0
  · rw [if_pos c]
    obtain ⟨p, e⟩ := some2 ((rI w 10 (26 + 5 * t + 1) + (if rI w 10 (26 + 5 * t) = 3 then 20 else 0)) + rI w 25 (b + 13 + t) + rI w 10 (8 + 3 * r + 1))
    exact ⟨p, e, e⟩
  · rw [if_neg c, key2]
    obtain ⟨p, e⟩ := some2 ((rI w 10 (26 + 5 * t + 1) + (if rI w 10 (26 + 5 * t) = 3 then 20 else 0)) + rI w 25 (b + 13 + t) + rI w 10 (8 + 3 * r + 1) + br)
    exact ⟨p, e, e⟩
theorem pass_tail : ∀ (j t n m : Nat) (g : GS) (w : MS) (s : Int32), t + j = nt → j < n → j < m → EN o x h nr nt ne F M T D S a b N g0 w0 (g) (w) → ∃ g' w', B_X1_passesOne_p81 n x S (nI t) g = some g' ∧ M_passes_p90 m (nI b) s (nI t) w = some (s, w') ∧ EN o x h nr nt ne F M T D S a b N g0 w0 (g') (w') ∧ csum w' b = csum w b ∧ rg w w' b := by
  intro j
  induction j with
  | zero =>
    intro t n m g w s hj hn hm E
    obtain ⟨n, rfl⟩ : ∃ k, n = k + 1 := ⟨n - 1, by omega⟩
    obtain ⟨m, rfl⟩ : ∃ k, m = k + 1 := ⟨m - 1, by omega⟩
    have n6 := E.nt6
    have hbb := E.hb
    obtain rfl : t = nt := by omega
    refine ⟨sI g S 6 (rI w 25 b + 1), wI w 25 b (rI w 25 b + 1), ?_, ?_, E.minute _, csum_ne (by omega), rg_wI (by omega)⟩
    · rw [B_X1_passesOne_p81, E.kx, bd1_s, E.ten, bd1_s, if_pos (nI_le (Nat.le_refl _) (by omega))]
      simp (disch := omega) only [nI_1, bd1_s, bd2_s, bdp_s, rd0, rd1, rd1', rd7, rd13, rd19, rd25, rd31, rd37, wr0, wr1, wr1', wr7, wr13, wr19, wr25, wr31, wr37, mro0, mro1, mro2, mtn0, mtn1, mtn2, mtn3, mtn4, rI_ne, rI_nk, rI_eq, rest_m, calmed_m, E.oI6, E.pI]
    · rw [M_passes_p90, E.mten, if_pos (nI_le (Nat.le_refl _) (by omega))]
      simp (disch := omega) only [nI_1, bd1_s, bd2_s, bdp_s, rd0, rd1, rd1', rd7, rd13, rd19, rd25, rd31, rd37, wr0, wr1, wr1', wr7, wr13, wr19, wr25, wr31, wr37, mro0, mro1, mro2, mtn0, mtn1, mtn2, mtn3, mtn4, rI_ne, rI_nk, rI_eq, rest_m, calmed_m]
  | succ j ih =>
    intro t n m g w s hj hn hm E
    obtain ⟨n, rfl⟩ : ∃ k, n = k + 1 := ⟨n - 1, by omega⟩
    obtain ⟨m, rfl⟩ : ∃ k, m = k + 1 := ⟨m - 1, by omega⟩
    have n6 := E.nt6
    have hbb := E.hb
    have ht : t < nt := by omega
    obtain ⟨c, hc, ec⟩ := (E.bi.1 t (by omega)).2.1
    have E1 := E.stir (t := t) (by omega) (if rI w 10 (26 + 5 * t) = 1 then rI w 25 (b + 13 + t) / 4 else rI w 25 (b + 13 + t) / 2)
    have E2 := E1.cup (t := t) (c := c - 1) (by omega) (by omega)
    obtain ⟨g', w', r1, r2, r3, r4, r5⟩ := ih (t + 1) n m _ _ s (by omega) (by omega) (by omega) E2
    refine ⟨g', w', ?_, ?_, r3, ?_, ((rg_wI (by omega)).tr (rg_wI (by omega))).tr r5⟩
    · rw [B_X1_passesOne_p81, E.kx, bd1_s, E.ten, bd1_s, if_neg (nI_ge (by omega) (by omega))]
      simp (disch := omega) only [nI_1, bd1_s, bd2_s, bdp_s, rd0, rd1, rd1', rd7, rd13, rd19, rd25, rd31, rd37, wr0, wr1, wr1', wr7, wr13, wr19, wr25, wr31, wr37, mro0, mro1, mro2, mtn0, mtn1, mtn2, mtn3, mtn4, rI_ne, rI_nk, rI_eq, rest_m, calmed_m, E.oR, E.hd.tena ht, E.aI, E.xI, settles_b E.hd ht, E1.oR, E1.aI, E1.xI, ofs1, ofs2, ec, cupB]
      exact r1
    · rw [M_passes_p90, E.mten, if_neg (nI_ge (by omega) (by omega))]
      simp (disch := omega) only [nI_1, bd1_s, bd2_s, bdp_s, rd0, rd1, rd1', rd7, rd13, rd19, rd25, rd31, rd37, wr0, wr1, wr1', wr7, wr13, wr19, wr25, wr31, wr37, mro0, mro1, mro2, mtn0, mtn1, mtn2, mtn3, mtn4, rI_ne, rI_nk, rI_eq, rest_m, calmed_m, ec]
      exact (cupM (fun v => M_passes_p90 m (nI b) s (nI (t + 1)) (wI (wI w 25 (b + 13 + t) (if rI w 10 (26 + 5 * t) = 1 then rI w 25 (b + 13 + t) / 4 else rI w 25 (b + 13 + t) / 2)) 25 (b + 19 + t) v)) hc).trans r2
    · rw [r4, csum_ne (by omega), csum_ne (by omega)]
theorem pass_count {ev br : Int32} (hev : ev ≠ 0) : ∀ (j t n m : Nat) (g : GS) (w : MS) (s : Int32), t + j = nt → j < n → j < m → EN o x h nr nt ne F M T D S a b N g0 w0 (g) (w) → rI w 10 5 = ev → rI w 28 0 = br → rI w 25 b - rI w 25 b / ev * ev = 0 → ∃ g' w' s', B_X1_passesOne_p24 n x S br 1 (nI t) g = some g' ∧ M_passes_p12 m (nI b) s ev (nI t) w = some (s', w') ∧ EN o x h nr nt ne F M T D S a b N g0 w0 (g') (w') ∧ s' + csum w b = s + csum w' b ∧ rg w w' b := by
  intro j
  induction j with
  | zero =>
    intro t n m g w s hj hn hm E he hbr h0
    obtain ⟨n, rfl⟩ : ∃ k, n = k + 1 := ⟨n - 1, by omega⟩
    obtain ⟨m, rfl⟩ : ∃ k, m = k + 1 := ⟨m - 1, by omega⟩
    have n6 := E.nt6
    obtain rfl : t = nt := by omega
    obtain ⟨g', w', r1, r2, r3, r4, r5⟩ := pass_tail t 0 FU FU g w s (by omega) (by show t < 5000; omega) (by show t < 5000; omega) E
    refine ⟨g', w', s, ?_, ?_, r3, by rw [r4], r5⟩
    · rw [B_X1_passesOne_p24, E.kx, bd1_s, E.ten, bd1_s, if_pos (nI_le (Nat.le_refl _) (by omega))]
      exact r1
    · rw [M_passes_p12, E.mten, if_pos (nI_le (Nat.le_refl _) (by omega))]
      exact r2
  | succ j ih =>
    intro t n m g w s hj hn hm E he hbr h0
    obtain ⟨n, rfl⟩ : ∃ k, n = k + 1 := ⟨n - 1, by omega⟩
    obtain ⟨m, rfl⟩ : ∃ k, m = k + 1 := ⟨m - 1, by omega⟩
    have n6 := E.nt6
    have hbb := E.hb
    have ht : t < nt := by omega
    have hrem : o_irem (rI w 25 b) ev = some 0 := by unfold o_irem; rw [if_neg hev, h0]
    have hB : B_X1_passesOne_p24 (n + 1) x S br 1 (nI t) g = (bd1 (oK g S 4 4) fun _ => bd1 (B_X4_isIn S (nI t) g) fun r23 => if r23 = 0 then (B_X1_passesOne_p24 n) x S br 1 (nI t + 1) g else bd1 (oRn g S 4 4 4) fun a25 => bd1 (aI g a25 40 (nI t)) fun v26 => bd1 (oK g x 1 1) fun _ => bd1 (B_X1_pulse_2 x S (nI t) br g) fun r27 => bd1 (oRn g x 1 1 2) fun a28 => bd1 (oK g a28 3 3) fun _ => bd1 (B_X3_every a28 g) fun r29 => bd1 (xI g a25 40 (nI t) (v26 + (r27 * r29))) fun w30 => (B_X1_passesOne_p24 n) x S br 1 (nI t + 1) w30) := by
      rw [B_X1_passesOne_p24, E.kx, bd1_s, E.ten, bd1_s, if_neg (nI_ge (by omega) (by omega)), if_neg (by decide)]
    have hM : M_passes_p12 (m + 1) (nI b) s ev (nI t) w = (bd1 (M_isIn (nI b) (nI t) w) fun r17 => if r17 = 0 then M_passes_p57 (M_passes_p12 m) (nI b) s ev (nI t) 0 w else bd1 (M_pulseOf (nI b) (nI t) w) fun r22 => M_passes_p57 (M_passes_p12 m) (nI b) s ev (nI t) (r22 * ev) w) := by
      rw [M_passes_p12, E.mten, if_neg (nI_ge (by omega) (by omega)), rd0 hbb, bd1_s, hrem, bd1_s, if_pos rfl]
    by_cases c : rI w 25 (b + 1 + t) < 0
    · obtain ⟨g', w', s', r1, r2, r3, r4, r5⟩ := ih (t + 1) n m g w s (by omega) (by omega) (by omega) E he hbr h0
      refine ⟨g', w', s', ?_, ?_, r3, r4, r5⟩
      · rw [hB, E.kS, bd1_s, E.isb (by omega), bd1_s, if_pos c, if_pos rfl, nI_1]
        exact r1
      · rw [hM, E.ism ht, bd1_s, if_pos c, if_pos rfl]
        unfold M_passes_p57
        simp (disch := omega) only [nI_1, bd1_s, bd2_s, bdp_s, rd0, rd1, rd1', rd7, rd13, rd19, rd25, rd31, rd37, wr0, wr1, wr1', wr7, wr13, wr19, wr25, wr31, wr37, mro0, mro1, mro2, mtn0, mtn1, mtn2, mtn3, mtn4, rI_ne, rI_nk, rI_eq, rest_m, calmed_m, Int32.add_zero, wI_same]
        exact r2
    · obtain ⟨p, p1, p2⟩ := pulse2 E ht c hbr
      have E1 := E.count (t := t) (by omega) (rI w 25 (b + 7 + t) + p * ev)
      obtain ⟨g', w', s', r1, r2, r3, r4, r5⟩ := ih (t + 1) n m _ _ (s + p * ev) (by omega) (by omega) (by omega) E1 (by rw [rI_nk (by omega)]; exact he) (by rw [rI_nk (by omega)]; exact hbr) (by rw [rI_ne (by omega)]; exact h0)
      refine ⟨g', w', s', ?_, ?_, r3, ?_, (rg_wI (by omega)).tr r5⟩
      · rw [hB, E.kS, bd1_s, E.isb (by omega), bd1_s, if_neg c, if_neg (by decide)]
        simp (disch := omega) only [nI_1, bd1_s, bd2_s, bdp_s, rd0, rd1, rd1', rd7, rd13, rd19, rd25, rd31, rd37, wr0, wr1, wr1', wr7, wr13, wr19, wr25, wr31, wr37, mro0, mro1, mro2, mtn0, mtn1, mtn2, mtn3, mtn4, rI_ne, rI_nk, rI_eq, rest_m, calmed_m, E.oR, E.aI, E.kx, p1, E.xh, E.kh, E.every, he, E.xI, ofs4]
        exact r1
      · rw [hM, E.ism ht, bd1_s, if_neg c, if_neg (by decide), p2, bd1_s]
        unfold M_passes_p57
        simp (disch := omega) only [nI_1, bd1_s, bd2_s, bdp_s, rd0, rd1, rd1', rd7, rd13, rd19, rd25, rd31, rd37, wr0, wr1, wr1', wr7, wr13, wr19, wr25, wr31, wr37, mro0, mro1, mro2, mtn0, mtn1, mtn2, mtn3, mtn4, rI_ne, rI_nk, rI_eq, rest_m, calmed_m]
        exact r2
      · have e1 := csum_set (w := w) (b := b) (t := t) (v := rI w 25 (b + 7 + t) + p * ev) (by omega)
        have e2 : csum (wI w 25 (b + 7 + t) (rI w 25 (b + 7 + t) + p * ev)) b = csum w b + p * ev := by
          have e3 : csum w b + (rI w 25 (b + 7 + t) + p * ev) = (csum w b + p * ev) + rI w 25 (b + 7 + t) := by ac_rfl
          rw [e3] at e1
          have := congrArg (fun z => z - rI w 25 (b + 7 + t)) e1
          simpa only [Int32.add_sub_cancel] using this
        rw [e2] at r4
        have e4 : s' + (csum w b + p * ev) = (s' + csum w b) + p * ev := by ac_rfl
        have e5 : s + p * ev + csum w' b = (s + csum w' b) + p * ev := by ac_rfl
        rw [e4, e5] at r4
        have := congrArg (fun z => z - p * ev) r4
        simpa only [Int32.add_sub_cancel] using this
/-- a minute -/
theorem passes2 (E : EN o x h nr nt ne F M T D S a b N g0 w0 (g) (w)) {br : Int32} (hbr : rI w 28 0 = br) : ∃ g' w' s, B_X1_passesOne x S br g = some g' ∧ M_passes (nI b) w = some (s, w') ∧ EN o x h nr nt ne F M T D S a b N g0 w0 (g') (w') ∧ s + csum w b = csum w' b ∧ rg w w' b := by
  have n6 := E.nt6
  have hbb := E.hb
  obtain ⟨e, e1, e2, ee⟩ := E.hd.2.2.2.2.2.2.2
  have hev : rI w 10 5 ≠ 0 := by rw [ee]; exact nI_ne0 (by omega) (by omega)
  have hrem : o_irem (rI w 25 b) (rI w 10 5) = some (rI w 25 b - rI w 25 b / rI w 10 5 * rI w 10 5) := by unfold o_irem; rw [if_neg hev]
  by_cases c : rI w 25 b - rI w 25 b / rI w 10 5 * rI w 10 5 = 0
  · obtain ⟨g', w', s', r1, r2, r3, r4, r5⟩ := pass_count hev nt 0 FU FU g w 0 (by omega) (by show nt < 5000; omega) (by show nt < 5000; omega) E rfl hbr c
    refine ⟨g', w', s', ?_, ?_, r3, by rw [r4, Int32.zero_add], r5⟩
    · unfold B_X1_passesOne
      simp (disch := omega) only [nI_1, bd1_s, bd2_s, bdp_s, rd0, rd1, rd1', rd7, rd13, rd19, rd25, rd31, rd37, wr0, wr1, wr1', wr7, wr13, wr19, wr25, wr31, wr37, mro0, mro1, mro2, mtn0, mtn1, mtn2, mtn3, mtn4, rI_ne, rI_nk, rI_eq, rest_m, calmed_m, E.oI6, E.xh, E.kh, E.every, hrem]
      rw [if_pos c]
      exact r1
    · exact r2
  · obtain ⟨g', w', r1, r2, r3, r4, r5⟩ := pass_tail nt 0 FU FU g w 0 (by omega) (by show nt < 5000; omega) (by show nt < 5000; omega) E
    refine ⟨g', w', 0, ?_, ?_, r3, by rw [r4, Int32.zero_add], r5⟩
    · unfold B_X1_passesOne
      simp (disch := omega) only [nI_1, bd1_s, bd2_s, bdp_s, rd0, rd1, rd1', rd7, rd13, rd19, rd25, rd31, rd37, wr0, wr1, wr1', wr7, wr13, wr19, wr25, wr31, wr37, mro0, mro1, mro2, mtn0, mtn1, mtn2, mtn3, mtn4, rI_ne, rI_nk, rI_eq, rest_m, calmed_m, E.oI6, E.xh, E.kh, E.every, hrem]
      rw [if_neg c]
      show B_X1_passesOne_p24 (4999 + 1) x S br 0 0 g = _
      rw [B_X1_passesOne_p24, E.kx, bd1_s, E.ten, bd1_s, if_pos rfl]
      split <;> exact r1
    · show M_passes_p12 (4999 + 1) (nI b) 0 (rI w 10 5) (nI 0) w = _
      rw [M_passes_p12, E.mten, rd0 hbb, bd1_s, hrem, bd1_s, if_neg c]
      split <;> exact r2
/-- minutes on the reference's side -/
def pasM (b : Nat) : Nat → Int32 → MS → Option (Int32 × MS)
  | 0, s, w => some (s, w)
  | n + 1, s, w => bd2 (M_passes (nI b) w) fun r w' => pasM b n (s + r) w'
theorem EN.w28 (E : EN o x h nr nt ne F M T D S a b N g0 w0 (g) (w)) : rI w 28 0 = rI w0 28 0 := E.fm.2 28 0 (by omega)
theorem pass_loop : ∀ (j t n k : Nat) (g : GS) (w : MS) (s : Int32), t + j = k → j < n → k < 100000 → EN o x h nr nt ne F M T D S a b N g0 w0 (g) (w) → rI w 28 0 = rI w 10 3 → ∃ g' w' s', B_X1_pass_p2 n x S (nI k) (nI t) g = some g' ∧ pasM b j s w = some (s', w') ∧ EN o x h nr nt ne F M T D S a b N g0 w0 (g') (w') ∧ rI w' 28 0 = rI w' 10 3 ∧ s' + csum w b = s + csum w' b ∧ rg w w' b := by
  intro j
  induction j with
  | zero =>
    intro t n k g w s hj hn hk E hb
    obtain ⟨n, rfl⟩ : ∃ k, n = k + 1 := ⟨n - 1, by omega⟩
    obtain rfl : t = k := by omega
    exact ⟨g, w, s, by rw [B_X1_pass_p2, if_pos (nI_le (Nat.le_refl _) (by omega))], rfl, E, hb, rfl, rg.rf w b⟩
  | succ j ih =>
    intro t n k g w s hj hn hk E hb
    obtain ⟨n, rfl⟩ : ∃ k, n = k + 1 := ⟨n - 1, by omega⟩
    obtain ⟨g1, w1, s1, r1, r2, r3, r4, r5⟩ := passes2 E hb
    have hb1 : rI w1 28 0 = rI w1 10 3 := by
      rw [r3.fm.2 28 0 (by omega), r3.fm.2 10 3 (by omega), ← E.fm.2 28 0 (by omega), ← E.fm.2 10 3 (by omega)]
      exact hb
    obtain ⟨g2, w2, s2, q1, q2, q3, q4, q5, q6⟩ := ih (t + 1) n k g1 w1 (s + s1) (by omega) (by omega) hk r3 hb1
    refine ⟨g2, w2, s2, ?_, ?_, q3, q4, ?_, r5.tr q6⟩
    · rw [B_X1_pass_p2, if_neg (nI_ge (by omega) (by omega))]
      simp (disch := omega) only [nI_1, bd1_s, bd2_s, bdp_s, rd0, rd1, rd1', rd7, rd13, rd19, rd25, rd31, rd37, wr0, wr1, wr1', wr7, wr13, wr19, wr25, wr31, wr37, mro0, mro1, mro2, mtn0, mtn1, mtn2, mtn3, mtn4, rI_ne, rI_nk, rI_eq, rest_m, calmed_m, E.xh, E.kh, E.brew, E.kx, r1]
      exact q1
    · rw [pasM, r2]
      exact q2
    · rw [← r4] at q5
      have e4 : s2 + (s1 + csum w b) = (s2 + csum w b) + s1 := by ac_rfl
      have e5 : s + s1 + csum w2 b = (s + csum w2 b) + s1 := by ac_rfl
      rw [e4, e5] at q5
      have := congrArg (fun z => z - s1) q5
      simpa only [Int32.add_sub_cancel] using this
theorem pass2 (E : EN o x h nr nt ne F M T D S a b N g0 w0 (g) (w)) (hb : rI w 28 0 = rI w 10 3) {k : Nat} (hk : k < 4000) (s : Int32) : ∃ g' w' s', B_X1_pass x S (nI k) g = some g' ∧ pasM b k s w = some (s', w') ∧ EN o x h nr nt ne F M T D S a b N g0 w0 (g') (w') ∧ rI w' 28 0 = rI w' 10 3 ∧ s' + csum w b = s + csum w' b ∧ rg w w' b := pass_loop k 0 FU k g w s (by omega) (by show k < 5000; omega) (by omega) E hb
theorem climbs2 (E : EN o x h nr nt ne F M T D S a b N g0 w0 (g) (w)) {t : Nat} (ht : t < nt) (hin : ¬ rI w 25 (b + 1 + t) < 0) : ∃ g' w', B_X1_climbs x S (nI t) g = some g' ∧ M_climbs (nI b) (nI t) w = some w' ∧ EN o x h nr nt ne F M T D S a b N g0 w0 (g') (w') := by
  have n6 := E.nt6
  have r6 := E.nr6
  have hbb := E.hb
  obtain ⟨r, hr, -, er⟩ := E.rin (by omega) hin
  have rm := E.rm hr
  have E1 := E.stir (t := t) (by omega) (rI w 25 (b + 13 + t) + (if rI w 10 (26 + 5 * t) = 2 then rI w 10 (8 + 3 * r) / 2 else rI w 10 (8 + 3 * r)))
  refine ⟨_, _, ?_, ?_, E1⟩
  · unfold B_X1_climbs
    simp (disch := omega) only [nI_1, bd1_s, bd2_s, bdp_s, rd0, rd1, rd1', rd7, rd13, rd19, rd25, rd31, rd37, wr0, wr1, wr1', wr7, wr13, wr19, wr25, wr31, wr37, mro0, mro1, mro2, mtn0, mtn1, mtn2, mtn3, mtn4, rI_ne, rI_nk, rI_eq, rest_m, calmed_m, E.kx, E.hd.tena ht, E.oR, E.aI, ofs0, ofs1, er, E.hd.roo hr, rm.1, climbs_b E.hd ht, E.xI]
  · unfold M_climbs
    simp (disch := omega) only [nI_1, bd1_s, bd2_s, bdp_s, rd0, rd1, rd1', rd7, rd13, rd19, rd25, rd31, rd37, wr0, wr1, wr1', wr7, wr13, wr19, wr25, wr31, wr37, mro0, mro1, mro2, mtn0, mtn1, mtn2, mtn3, mtn4, rI_ne, rI_nk, rI_eq, rest_m, calmed_m, er]
    split <;> rfl
theorem fr_div (y : Int32) {c : Nat} (hc : c < 100000) : o_idiv (if (0 : Int32) < y then y else 0) (1 + nI c) = some (if 0 ≤ y then y / (1 + nI c) else 0) ∧ ∀ {α : Type} (X : Int32 → Option α), (if 0 ≤ y then bd1 (o_idiv y (1 + nI c)) X else X 0) = X (if 0 ≤ y then y / (1 + nI c) else 0) := by
  have h1 : (1 : Int32) + nI c ≠ 0 := by
    rw [show (1 : Int32) = nI 1 from rfl, nI_add]
    exact nI_ne0 (by omega) (by omega)
  unfold o_idiv
  rw [if_neg h1, if_neg h1]
  constructor
  · by_cases h : (0 : Int32) < y
    · rw [if_pos h, if_pos (Int32.le_of_lt h)]
    · rw [if_neg h]
      by_cases h2 : 0 ≤ y
      · rw [if_pos h2, Int32.le_antisymm h2 (Int32.not_lt.mp h)]
      · rw [if_neg h2, Int32.zero_div]
  · intro α X
    by_cases h2 : 0 ≤ y
    · rw [if_pos h2, if_pos h2]; rfl
    · rw [if_neg h2, if_neg h2]
theorem EN.more (E : EN o x h nr nt ne F M T D S a b N g0 w0 (g) (w)) {N' : Nat} (h1 : N ≤ N') (h2 : N' < 100000) : EN o x h nr nt ne F M T D S a b (N') g0 w0 (g) (w) := ⟨E.1, E.2.1, E.2.2.1.more h1, E.2.2.2.1, ⟨E.2.2.2.2.1.1, h2⟩, E.2.2.2.2.2⟩
theorem frights2 (E : EN o x h nr nt ne F M T D S a b N g0 w0 (g) (w)) {t : Nat} (ht : t < nt) (hN : N + 1 < 100000) (v : Int32) : ∃ g' w', B_X1_frightens x S (nI t) v g = some g' ∧ M_frights (nI b) (nI t) v w = some w' ∧ EN o x h nr nt ne F M T D S a b (N + 1) g0 w0 (g') (w') := by
  have n6 := E.nt6
  have hbb := E.hb
  have tn := E.tn ht
  obtain ⟨c, hc, ec⟩ := (E.bi.1 t (by omega)).2.2.1
  obtain ⟨d1, d2⟩ := fr_div (v - rI w 10 (26 + 5 * t + 2)) (c := c) (by omega)
  have E1 := E.stir (t := t) (by omega) (rI w 25 (b + 13 + t) + (if 0 ≤ v - rI w 10 (26 + 5 * t + 2) then (v - rI w 10 (26 + 5 * t + 2)) / (1 + nI c) else 0))
  have E2 := (E1.more (N' := N + 1) (by omega) (by omega)).hab (t := t) (c := c + 1) (by omega) (by omega)
  refine ⟨_, _, ?_, ?_, E2⟩
  · unfold B_X1_frightens
    simp (disch := omega) only [nI_1, bd1_s, bd2_s, bdp_s, rd0, rd1, rd1', rd7, rd13, rd19, rd25, rd31, rd37, wr0, wr1, wr1', wr7, wr13, wr19, wr25, wr31, wr37, mro0, mro1, mro2, mtn0, mtn1, mtn2, mtn3, mtn4, rI_ne, rI_nk, rI_eq, rest_m, calmed_m, E.kx, E.hd.tena ht, E.oR, E.aI, ofs1, ofs3, ec, tn.2.1, d1, E.xI, E1.oR, E1.aI, E1.xI]
  · unfold M_frights M_frightened
    have d3 := d2 (fun d => (some d : Option Int32))
    simp (disch := omega) only [nI_1, bd1_s, bd2_s, bdp_s, rd0, rd1, rd1', rd7, rd13, rd19, rd25, rd31, rd37, wr0, wr1, wr1', wr7, wr13, wr19, wr25, wr31, wr37, mro0, mro1, mro2, mtn0, mtn1, mtn2, mtn3, mtn4, rI_ne, rI_nk, rI_eq, rest_m, calmed_m, ec, d3]
end ENG2
