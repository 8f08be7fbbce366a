/-! lines of months on both sides -/
set_option maxRecDepth 100000
/-- the line at q is told by field 22 from i on -/
def LRk (nr nt : Nat) (g : GS) (q : Nat) (w : MS) (i : Nat) : Prop :=
  ((gK g q).1 = 18 ∧ rI w 22 i = 0 ∧ ∃ t, t < nt ∧ gI g q 0 = nI t ∧ rI w 22 (i + 1) = nI t) ∨
  ((gK g q).1 = 19 ∧ rI w 22 i = 1 ∧ ∃ t, t < nt ∧ gI g q 0 = nI t ∧ rI w 22 (i + 1) = nI t ∧ gI g q 1 = rI w 22 (i + 2)) ∨
  ((gK g q).1 = 20 ∧ rI w 22 i = 2 ∧ ∃ t, t < nt ∧ gI g q 0 = nI t ∧ rI w 22 (i + 1) = nI t) ∨
  ((gK g q).1 = 17 ∧ rI w 22 i = 3 ∧ ∃ m, m ≤ 120 ∧ gI g q 0 = nI m ∧ rI w 22 (i + 1) = nI m) ∨
  ((gK g q).1 = 22 ∧ rI w 22 i = 4) ∨
  ((gK g q).1 = 21 ∧ rI w 22 i = 5 ∧ ∃ t r, t < nt ∧ r < nr ∧ gI g q 0 = nI t ∧ rI w 22 (i + 1) = nI t ∧ gI g q 1 = nI r ∧ rI w 22 (i + 2) = nI r)
section LIN1
variable {o : Nat → Nat} {x h nr nt ne F S Tr N : Nat} {M T D a c : Nat → Nat} {g0 g g' : GS} {w0 w w' : MS}
theorem done2 {N' i q : Nat} (E : EN o x h nr nt ne F M T D Tr c 1176 (N') (g0) (w0) (g) (w)) (hN : N' + 1 < 100000) (hb : rI w 28 0 = rI w 10 3) (hi : i + 3 ≤ 100) (L : LRk nr nt g q w i) : ∃ (v : Int32) (g' : GS) (w' : MS), (v = 0 ∨ v = 1) ∧ V_isDone q x Tr g = some (v, g') ∧ M_does (nI i) w = some (v, w') ∧ EN o x h nr nt ne F M T D Tr c 1176 (N' + 1) (g0) (w0) (g') (w') := by
  have n6 := E.nt6
  have r6 := E.nr6
  have E1 := E.more (N' := N' + 1) (by omega) hN
  have z0 : rA w 22 200 (nI i) = some (rI w 22 i) := rA_nI (by omega) (by omega)
  have z1 : rA w 22 200 (nI (i + 1)) = some (rI w 22 (i + 1)) := rA_nI (by omega) (by omega)
  have z2 : rA w 22 200 (nI i + 2) = some (rI w 22 (i + 2)) := by
    rw [show (2 : Int32) = nI 2 from rfl, nI_add]; exact rA_nI (by omega) (by omega)
  have hin : ∀ t, t < nt → M_isIn 1176 (nI t) w = some (if rI w 25 (1176 + 1 + t) < 0 then 0 else 1) := fun t ht => E.ism ht
  have zb0 : ∀ {α : Type} (k : Option α), zb 0 k = k := fun k => zb_s (Or.inl rfl)
  have zb1 : ∀ {α : Type} (k : Option α), zb 1 k = k := fun k => zb_s (Or.inr rfl)
  unfold M_does
  rw [z0, bd1_s, nI_1, z1, bd1_s]
  rcases L with ⟨k, l0, t, ht, l1, l2⟩ | ⟨k, l0, t, ht, l1, l2, l3⟩ | ⟨k, l0, t, ht, l1, l2⟩ | ⟨k, l0, m, hm, l1, l2⟩ | ⟨k, l0⟩ | ⟨k, l0, t, r, ht, hr, l1, l2, l3, l4⟩
  · have hV : V_isDone q x Tr g = B_X21_isDone q x Tr g := by unfold V_isDone; rw [if_neg (by omega), if_pos k]
    have hq : oI g q 18 18 0 = some (nI t) := by rw [oI_s (by omega) (by omega), l1]
    rw [hV, l0, l2, if_neg (by decide), if_neg (by decide), if_neg (by decide), hin t ht, bd1_s]
    unfold B_X21_isDone
    rw [hq, bd1_s, E.kS, bd1_s, E.isb (by omega), bd1_s]
    by_cases p : rI w 25 (1176 + 1 + t) < 0
    · rw [if_pos p, if00, if00]
      unfold M_does_p69 M_does_p149 M_does_p169 M_does_p198
      rw [if_neg (by decide), if_neg (by decide), if00, if00, if00, if00, zb0]
      exact ⟨_, _, _, Or.inl rfl, rfl, rfl, E1⟩
    · obtain ⟨g1, w1, c1, c2, E2⟩ := climbs2 E1 ht p
      have c2 : M_climbs 1176 (nI t) w = some w1 := c2
      rw [if_neg p, if10, if10]
      unfold M_does_p69 M_does_p149
      rw [if_neg (by decide), if_neg (by decide), if10, if_neg (by decide), if10, if00]
      simp only [c2, bd1_s, zb1, E.kx, c1]
      exact ⟨_, _, _, Or.inr rfl, rfl, rfl, E2⟩
  · have hV : V_isDone q x Tr g = B_X22_isDone q x Tr g := by unfold V_isDone; rw [if_neg (by omega), if_neg (by omega), if_pos k]
    have hq : oI g q 19 19 0 = some (nI t) := by rw [oI_s (by omega) (by omega), l1]
    have hq1 : oI g q 19 19 1 = some (rI w 22 (i + 2)) := by rw [oI_s (by omega) (by omega), l3]
    rw [hV, l0, l2, if_neg (by decide), if_neg (by decide), if_neg (by decide), hin t ht, bd1_s]
    unfold B_X22_isDone
    rw [hq, bd1_s, E.kS, bd1_s, E.isb (by omega), bd1_s]
    by_cases p : rI w 25 (1176 + 1 + t) < 0
    · rw [if_pos p, if00, if00]
      unfold M_does_p69 M_does_p149 M_does_p169 M_does_p198
      rw [if_neg (by decide), if_neg (by decide), if00, if00, if00, if00, zb0]
      exact ⟨_, _, _, Or.inl rfl, rfl, rfl, E1⟩
    · obtain ⟨g1, w1, c1, c2, E2⟩ := frights2 E ht hN (rI w 22 (i + 2))
      have c2 : M_frights 1176 (nI t) (rI w 22 (i + 2)) w = some w1 := c2
      rw [if_neg p, if10, if10]
      unfold M_does_p69 M_does_p149 M_does_p169
      rw [if_neg (by decide), if_neg (by decide), if10, if_neg (by decide), if10, if10, if10, if_pos rfl]
      simp only [z2, c2, bd1_s, zb1, hq1, E.kx, c1]
      exact ⟨_, _, _, Or.inr rfl, rfl, rfl, E2⟩
  · have hV : V_isDone q x Tr g = B_X23_isDone q x Tr g := by unfold V_isDone; rw [if_neg (by omega), if_neg (by omega), if_neg (by omega), if_pos k]
    have hq : oI g q 20 20 0 = some (nI t) := by rw [oI_s (by omega) (by omega), l1]
    rw [hV, l0, l2, if_neg (by decide), if_neg (by decide), if_neg (by decide), hin t ht, bd1_s]
    unfold B_X23_isDone
    rw [hq, bd1_s, E.kS, bd1_s, E.isb (by omega), bd1_s]
    by_cases p : rI w 25 (1176 + 1 + t) < 0
    · rw [if_pos p, if00, if00]
      unfold M_does_p69 M_does_p149 M_does_p169 M_does_p198
      rw [if_neg (by decide), if_neg (by decide), if00, if00, if00, if00, zb0]
      exact ⟨_, _, _, Or.inl rfl, rfl, rfl, E1⟩
    · obtain ⟨l, q1, q2, q3⟩ := E.lasts
      have E2 := E1.cup (t := t) (c := l) (by omega) q1
      have y2 : ∀ v, wA w 25 1288 ((1195 : Int32) + nI t) v = some (wI w 25 (1176 + 19 + t) v) := fun v => by simp (disch := omega) only [L2, L3, L4, L5, L6, L7, L8, L9, L10, L11, L12, L13, L14, L15, L16, L17, L18, L19, L20, L21, L22, L23, L24, L25, L26, L27, L28, L29, L30, L31, L32, L33, L34, L35, L36, L37, L38, L40, L41, L42, L43, L44, L45, L48, L56, L57, L59, L60, L61, L63, L92, L96, L97, L99, L100, L101, L120, L122, L123, L124, L125, L126, L128, L146, L176, L200, L212, L240, L241, L243, L255, L729, L999, L1000, L1002, L1100, L1176, L1177, L1183, L1195, L1232, L1251, L1288, L1446, nI_add0, nI_1, nI_add, pk_mul, rA_nI, wA_nI, bd1_s, bd2_s, bdp_s]
      have y3 : oRn g Tr 4 4 2 = some (c 2) := E.oR (by omega)
      have y4 : ∀ v, xI g (c 2) 40 (nI t) v = some (sI g (c 2) t v) := fun v => E.xI (k := 2) (by omega) (by omega) v
      rw [if_neg p, if10, if10]
      unfold M_does_p69 M_does_p149 M_does_p169 M_does_p198
      rw [if_neg (by decide), if_neg (by decide), if10, if_neg (by decide), if10, if_neg (by decide), if10, if_neg (by decide), if10, q3, y2, bd1_s, zb1, y3, bd1_s, bd1_s, E.xh, bd1_s, q2, bd1_s, y4, bd1_s]
      exact ⟨_, _, _, Or.inr rfl, rfl, rfl, E2⟩
  · have hV : V_isDone q x Tr g = B_X19_isDone q x Tr g := by unfold V_isDone; rw [if_pos k]
    have hq : oI g q 17 17 0 = some (nI m) := by rw [oI_s (by omega) (by omega), l1]
    obtain ⟨g1, w1, s1, p1, p2, E2, -⟩ := pass2 E1 hb (k := m) (by omega) 0
    rw [hV, l0, l2, if_pos rfl]
    unfold B_X19_isDone M_does_p69
    have G := pas_gen (b := 1176) (k := m) (fun n z w => M_does_p79 n (nI m) 1 z w) (fun w => zb (1 : Int32) (some ((1 : Int32), w))) (by omega) (fun n i w => by rw [M_does_p79]; rfl) m 0 FU 0 s1 w w1 (by omega) (by show m < 5000; omega) p2
    simp only [nI_0] at G
    rw [if_pos rfl, G, zb1, hq, bd1_s, E.kx, bd1_s, p1, bd1_s]
    exact ⟨_, _, _, Or.inr rfl, rfl, rfl, E2⟩
  · have hV : V_isDone q x Tr g = B_X20_isDone q x Tr g := by unfold V_isDone; rw [if_neg (by omega), if_neg (by omega), if_neg (by omega), if_neg (by omega), if_neg (by omega), if_pos k]
    obtain ⟨v, g1, w1, c1, c2, E2, -⟩ := collects2 E1
    have c2 : M_noons 1176 w = some (v, w1) := c2
    rw [hV, l0, if_neg (by decide), if_pos rfl]
    unfold B_X20_isDone M_does_p69
    rw [if_neg (by decide), if_pos rfl, c2, bd2_s, zb1, E.kx, bd1_s, c1, bd2_s]
    exact ⟨_, _, _, Or.inr rfl, rfl, rfl, E2⟩
  · have hV : V_isDone q x Tr g = B_X24_isDone q x Tr g := by unfold V_isDone; rw [if_neg (by omega), if_neg (by omega), if_neg (by omega), if_neg (by omega), if_pos k]
    have hq : oI g q 21 21 0 = some (nI t) := by rw [oI_s (by omega) (by omega), l1]
    have hq1 : oI g q 21 21 1 = some (nI r) := by rw [oI_s (by omega) (by omega), l3]
    obtain ⟨v, c1, c2, c3, c4⟩ := move2 E1 ht hr
    have c2 : M_mayMove 1176 (nI t) (nI r) w = some v := c2
    rw [hV, l0, l2, if_neg (by decide), if_neg (by decide), if_pos rfl, z2, bd1_s, l4, c2, bd1_s]
    unfold B_X24_isDone
    rw [hq, bd1_s, hq1, bd1_s, E.kx, bd1_s, c1, bd1_s]
    rcases c3 with rfl | rfl
    · rw [if00, if00]
      unfold M_does_p69 M_does_p149 M_does_p169 M_does_p198
      rw [if_neg (by decide), if_neg (by decide), if00, if00, if00, if00, zb0]
      exact ⟨_, _, _, Or.inl rfl, rfl, rfl, E1⟩
    · obtain ⟨d1, d2⟩ := c4 rfl
      have E2 := E1.room ht hr d1 d2
      have y2 : ∀ v, wA w 25 1288 ((1177 : Int32) + nI t) v = some (wI w 25 (1176 + 1 + t) v) := fun v => by simp (disch := omega) only [L2, L3, L4, L5, L6, L7, L8, L9, L10, L11, L12, L13, L14, L15, L16, L17, L18, L19, L20, L21, L22, L23, L24, L25, L26, L27, L28, L29, L30, L31, L32, L33, L34, L35, L36, L37, L38, L40, L41, L42, L43, L44, L45, L48, L56, L57, L59, L60, L61, L63, L92, L96, L97, L99, L100, L101, L120, L122, L123, L124, L125, L126, L128, L146, L176, L200, L212, L240, L241, L243, L255, L729, L999, L1000, L1002, L1100, L1176, L1177, L1183, L1195, L1232, L1251, L1288, L1446, nI_add0, nI_1, nI_add, pk_mul, rA_nI, wA_nI, bd1_s, bd2_s, bdp_s]
      have y3 : oRn g Tr 4 4 0 = some (c 0) := E.oR (by omega)
      have y4 : ∀ v, xI g (c 0) 40 (nI t) v = some (sI g (c 0) t v) := fun v => E.xI (k := 0) (by omega) (by omega) v
      rw [if10, if10]
      unfold M_does_p69
      rw [if_neg (by decide), if_neg (by decide), if10, if_pos rfl, z2, bd1_s, l4, y2, bd1_s, zb1, y3, bd1_s, bd1_s, bd1_s, y4, bd1_s]
      exact ⟨_, _, _, Or.inr rfl, rfl, rfl, E2⟩
end LIN1
