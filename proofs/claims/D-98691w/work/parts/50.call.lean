/-! calls: owed, room, tenant, lease, share, last -/
set_option maxRecDepth 100000
section CALL1
variable {o : Nat → Nat} {x h nr nt ne F S Tr N : Nat} {M T D a c : Nat → Nat} {g g' : GS} {w w' : MS}
theorem frF_sc (I : INV0 o x h nr nt ne F M T D S a Tr c N (g) (w)) (f : FrB (fun q => q = F) g g') : ScB o x Tr F g g' := f.sc (fun q h => by rw [h]; exact Or.inr (Or.inl I.1.2.2.2.1.2.2.1))
theorem frm23_sc (f : FrM (fun k _ => k = 23 ∨ k = 24) w w') : ScM w w' := f.sc (fun k i p h => by unfold prM at p; omega)
theorem INV0.due (I : INV0 o x h nr nt ne F M T D S a Tr c N (g) (w)) {t : Nat} (ht : t < nt) (hin : ¬ rI w 25 (0 + 1 + t) < 0) : ∃ (v : Nat) (g' : GS) (w' : MS), v ≤ 9999 ∧ B_X1_due x S (nI t) g = some (nI v, g') ∧ M_dueOf 0 (nI t) w = some (nI v, w') ∧ FrB (fun q => q = F) g g' ∧ FrM (fun k _ => k = 23 ∨ k = 24) w w' := by
  have E := I.en
  have n6 := E.nt6
  obtain ⟨r, hr, -, er⟩ := E.rin (by omega) hin
  exact due2 (b := 0) I.1 I.2.1.1 (by omega) ht hr (I.2.1.2.1 4 t (by omega) (by omega)) ((I.2.1.2.1 0 t (by omega) (by omega)).trans er) er
theorem c_owed (I : INV0 o x h nr nt ne F M T D S a Tr c N (g) (w)) (v : Int32) : ∃ r g' w', B_X1_owed x v g = some (r, g') ∧ M_owed v w = some (r, w') ∧ ScB o x Tr F g g' ∧ ScM w w' := by
  have I1 := I.thr 0
  have E := I1.en
  unfold B_X1_owed M_owed
  rcases home2 I1 v with ⟨h1, h2⟩ | ⟨t, ht, rfl, hin, h1, h2⟩
  · simp only [E.kx, bd1_s, bdp_s, h1, h2, if00]
    exact ⟨_, _, _, rfl, rfl, ScB.rf, scM_thr⟩
  · obtain ⟨p, g1, w1, -, p1, p2, f1, f2⟩ := I1.due ht hin
    simp only [E.kx, bd1_s, bd2_s, bdp_s, h1, h2, if10, I1.x4, p1, p2]
    exact ⟨_, _, _, rfl, rfl, frF_sc I1 f1, scM_thr.tr (frm23_sc f2)⟩
theorem c_room (I : INV0 o x h nr nt ne F M T D S a Tr c N (g) (w)) (v m : Int32) : ∃ r w', B_X1_room x v m g = some r ∧ M_room v m w = some (r, w') ∧ ScM w w' := by
  have I1 := I.thr 0
  have E := I1.en
  have n6 := E.nr6
  unfold B_X1_room M_room
  rcases room_b E v with ⟨h1, h2⟩ | ⟨r, hr, rfl, h1, h2⟩
  · simp only [E.kx, bd1_s, bdp_s, h1, h2, if00]
    exact ⟨_, _, rfl, rfl, scM_thr⟩
  · have rm := E.rm hr
    obtain ⟨w1, w2⟩ := who2 E hr
    have w2 : M_whoIn 0 (nI r) (wI w 0 0 0) = _ := w2
    rcases win m (lo := 0) (hi := 3) (by omega) (by omega) with q | ⟨k, -, hk, rfl, q⟩
    · have q : M_within m 0 3 = 0 := q
      have q0 : ¬ m = 0 := fun e => by subst e; exact absurd q (by decide)
      have q1 : ¬ m = 1 := fun e => by subst e; exact absurd q (by decide)
      have q2 : ¬ m = 2 := fun e => by subst e; exact absurd q (by decide)
      have q3 : ¬ m = 3 := fun e => by subst e; exact absurd q (by decide)
      simp only [E.kx, bd1_s, bdp_s, h1, h2, if10, q, if00, E.hd.roo hr, if_neg q0, if_neg q1, if_neg q2, if_neg q3]
      exact ⟨_, _, rfl, rfl, scM_thr⟩
    · have q : M_within (nI k) 0 3 = 1 := q
      rcases (by omega : k = 0 ∨ k = 1 ∨ k = 2 ∨ k = 3) with rfl | rfl | rfl | rfl
      · rw [show nI 0 = (0 : Int32) from rfl] at q ⊢
        simp only [E.kx, bd1_s, bdp_s, h1, h2, if10, q, if00, E.hd.roo hr, rm.1, mro0 (show r < 6 by omega)]
        exact ⟨_, _, rfl, rfl, scM_thr⟩
      · rw [show nI 1 = (1 : Int32) from rfl] at q ⊢
        simp only [E.kx, bd1_s, bdp_s, h1, h2, if10, q, E.hd.roo hr, rm.2.1, mro1 (show r < 6 by omega)]
        exact ⟨_, _, rfl, rfl, scM_thr⟩
      · rw [show nI 2 = (2 : Int32) from rfl] at q ⊢
        simp only [E.kx, bd1_s, bdp_s, h1, h2, if10, q, E.hd.roo hr, rm.2.2, mro2 (show r < 6 by omega)]
        exact ⟨_, _, rfl, rfl, scM_thr⟩
      · rw [show nI 3 = (3 : Int32) from rfl] at q ⊢
        simp only [E.kx, bd1_s, bdp_s, h1, h2, if10, q, E.hd.roo hr, I1.x4, w1, w2]
        exact ⟨_, _, rfl, rfl, scM_thr⟩
theorem c_tenant (I : INV0 o x h nr nt ne F M T D S a Tr c N (g) (w)) (v m : Int32) : ∃ r w', B_X1_tenant x v m g = some r ∧ M_tenant v m w = some (r, w') ∧ ScM w w' := by
  have I1 := I.thr 0
  have E := I1.en
  have n6 := E.nt6
  unfold B_X1_tenant M_tenant
  rcases ten_b E v with ⟨h1, h2⟩ | ⟨t, ht, rfl, h1, h2⟩
  · simp only [E.kx, bd1_s, bdp_s, h1, h2, if00]
    exact ⟨_, _, rfl, rfl, scM_thr⟩
  · have tn := E.tn ht
    have ht6 : t < 6 := by omega
    have A : ∀ k, k < 6 → oRn g S 4 4 k = some (a k) := fun k hk => E.oR hk
    have B : ∀ k, k < 6 → aI g (a k) 40 (nI t) = some (rI (wI w 0 0 0) 25 (0 + ofs k + t)) := fun k hk => E.aI hk ht6
    have d1 : rA (wI w 0 0 0) 25 1288 ((1 : Int32) + nI t) = some (rI (wI w 0 0 0) 25 (0 + 1 + t)) := by
      rw [show (1 : Int32) = nI 1 from rfl, nI_add, rA_nI (by omega) (by omega), Nat.zero_add]
    have d7 : rA (wI w 0 0 0) 25 1288 ((7 : Int32) + nI t) = some (rI (wI w 0 0 0) 25 (0 + 7 + t)) := by
      rw [show (7 : Int32) = nI 7 from rfl, nI_add, rA_nI (by omega) (by omega), Nat.zero_add]
    have d13 : rA (wI w 0 0 0) 25 1288 ((13 : Int32) + nI t) = some (rI (wI w 0 0 0) 25 (0 + 13 + t)) := by
      rw [show (13 : Int32) = nI 13 from rfl, nI_add, rA_nI (by omega) (by omega), Nat.zero_add]
    have d19 : rA (wI w 0 0 0) 25 1288 ((19 : Int32) + nI t) = some (rI (wI w 0 0 0) 25 (0 + 19 + t)) := by
      rw [show (19 : Int32) = nI 19 from rfl, nI_add, rA_nI (by omega) (by omega), Nat.zero_add]
    have d25 : rA (wI w 0 0 0) 25 1288 ((25 : Int32) + nI t) = some (rI (wI w 0 0 0) 25 (0 + 25 + t)) := by
      rw [show (25 : Int32) = nI 25 from rfl, nI_add, rA_nI (by omega) (by omega), Nat.zero_add]
    have d31 : rA (wI w 0 0 0) 25 1288 ((31 : Int32) + nI t) = some (rI (wI w 0 0 0) 25 (0 + 31 + t)) := by
      rw [show (31 : Int32) = nI 31 from rfl, nI_add, rA_nI (by omega) (by omega), Nat.zero_add]
    have d37 : rA (wI w 0 0 0) 25 1288 ((37 : Int32) + nI t) = some (rI (wI w 0 0 0) 25 (0 + 37 + t)) := by
      rw [show (37 : Int32) = nI 37 from rfl, nI_add, rA_nI (by omega) (by omega), Nat.zero_add]
    rcases win m (lo := 0) (hi := 9) (by omega) (by omega) with q | ⟨k, -, hk, rfl, q⟩
    · have q : M_within m 0 9 = 0 := q
      have q0 : ¬ m = 0 := fun e => by subst e; exact absurd q (by decide)
      have q1 : ¬ m = 1 := fun e => by subst e; exact absurd q (by decide)
      have q2 : ¬ m = 2 := fun e => by subst e; exact absurd q (by decide)
      have q3 : ¬ m = 3 := fun e => by subst e; exact absurd q (by decide)
      have q4 : ¬ m = 4 := fun e => by subst e; exact absurd q (by decide)
      have q5 : ¬ m = 5 := fun e => by subst e; exact absurd q (by decide)
      have q6 : ¬ m = 6 := fun e => by subst e; exact absurd q (by decide)
      have q7 : ¬ m = 7 := fun e => by subst e; exact absurd q (by decide)
      have q8 : ¬ m = 8 := fun e => by subst e; exact absurd q (by decide)
      have q9 : ¬ m = 9 := fun e => by subst e; exact absurd q (by decide)
      simp only [E.kx, bd1_s, bdp_s, h1, h2, if10, q, if00, if_neg q0, if_neg q1, if_neg q2, if_neg q3, if_neg q4, if_neg q5, if_neg q6, if_neg q7, if_neg q8, if_neg q9]
      exact ⟨_, _, rfl, rfl, scM_thr⟩
    · have q : M_within (nI k) 0 9 = 1 := q
      rcases (by omega : k = 0 ∨ k = 1 ∨ k = 2 ∨ k = 3 ∨ k = 4 ∨ k = 5 ∨ k = 6 ∨ k = 7 ∨ k = 8 ∨ k = 9) with rfl | rfl | rfl | rfl | rfl | rfl | rfl | rfl | rfl | rfl
      · rw [show nI 0 = (0 : Int32) from rfl] at q ⊢
        simp (decide := true) only [E.kx, bd1_s, bdp_s, h1, h2, if10, q, if_true, if_false, E.hd.tena ht, kind_b E.hd ht, mtn0 ht6]
        exact ⟨_, _, rfl, rfl, scM_thr⟩
      · rw [show nI 1 = (1 : Int32) from rfl] at q ⊢
        simp (decide := true) only [E.kx, bd1_s, bdp_s, h1, h2, if10, q, if_true, if_false, E.hd.tena ht, tn.1, mtn1 ht6]
        exact ⟨_, _, rfl, rfl, scM_thr⟩
      · rw [show nI 2 = (2 : Int32) from rfl] at q ⊢
        simp (decide := true) only [E.kx, bd1_s, bdp_s, h1, h2, if10, q, if_true, if_false, E.hd.tena ht, tn.2.1, mtn2 ht6]
        exact ⟨_, _, rfl, rfl, scM_thr⟩
      · rw [show nI 3 = (3 : Int32) from rfl] at q ⊢
        simp (decide := true) only [E.kx, bd1_s, bdp_s, h1, h2, if10, q, if_true, if_false, I1.x4, A 5 (by omega), B 5 (by omega), d31, ofs5]
        exact ⟨_, _, rfl, rfl, scM_thr⟩
      · rw [show nI 4 = (4 : Int32) from rfl] at q ⊢
        simp (decide := true) only [E.kx, bd1_s, bdp_s, h1, h2, if10, q, if_true, if_false, I1.x4, A 0 (by omega), B 0 (by omega), d1, ofs0]
        exact ⟨_, _, rfl, rfl, scM_thr⟩
      · rw [show nI 5 = (5 : Int32) from rfl] at q ⊢
        simp (decide := true) only [E.kx, bd1_s, bdp_s, h1, h2, if10, q, if_true, if_false, I1.x4, A 1 (by omega), B 1 (by omega), d13, ofs1]
        exact ⟨_, _, rfl, rfl, scM_thr⟩
      · rw [show nI 6 = (6 : Int32) from rfl] at q ⊢
        simp (decide := true) only [E.kx, bd1_s, bdp_s, h1, h2, if10, q, if_true, if_false, I1.x4, A 2 (by omega), B 2 (by omega), d19, ofs2]
        exact ⟨_, _, rfl, rfl, scM_thr⟩
      · rw [show nI 7 = (7 : Int32) from rfl] at q ⊢
        simp (decide := true) only [E.kx, bd1_s, bdp_s, h1, h2, if10, q, if_true, if_false, I1.x4, A 3 (by omega), B 3 (by omega), d25, ofs3]
        exact ⟨_, _, rfl, rfl, scM_thr⟩
      · rw [show nI 8 = (8 : Int32) from rfl] at q ⊢
        simp (decide := true) only [E.kx, bd1_s, bdp_s, h1, h2, if10, q, if_true, if_false, I1.x4, A 4 (by omega), B 4 (by omega), d7, ofs4]
        exact ⟨_, _, rfl, rfl, scM_thr⟩
      · rw [show nI 9 = (9 : Int32) from rfl] at q ⊢
        simp (decide := true) only [E.kx, bd1_s, bdp_s, h1, h2, if10, q, if_true, if_false, I1.x4, E.oI7, mk6_isIn _ ht6, d37]
        refine ⟨_, _, ?_, rfl, scM_thr⟩
        rcases E.sr.2.2.2.2 t ht6 with e | e
        · rw [show goneB (wI w 0 0 0) 0 t = false by unfold goneB; rw [e]; rfl, if_pos (show nI (b2n false) = 0 from rfl), e]
        · rw [show goneB (wI w 0 0 0) 0 t = true by unfold goneB; rw [e]; rfl, if_neg (show ¬ nI (b2n true) = 0 by decide), e]
theorem saved2 (I : INV0 o x h nr nt ne F M T D S a Tr c N (g) (w)) {t u : Nat} (ht : t < nt) (hu : u < nt) (hit : ¬ rI w 25 (0 + 1 + t) < 0) (hiu : ¬ rI w 25 (0 + 1 + u) < 0) : ∃ r g' w', B_X1_saved x (nI t) (nI u) g = some (r, g') ∧ M_savedBy (nI t) (nI u) w = some (r, w') ∧ FrB (fun q => q = F) g g' ∧ FrM (fun k _ => k = 23 ∨ k = 24) w w' := by
  have E := I.en
  have n6 := E.nt6
  have r6 := E.nr6
  obtain ⟨p, hp, -, ep⟩ := E.rin (t := t) (by omega) hit
  obtain ⟨q, hq, -, eq⟩ := E.rin (t := u) (by omega) hiu
  have rp := E.rm hp
  have rq := E.rm hq
  obtain ⟨v1, g1, w1, -, d1, d2, d3, d4⟩ := I.due ht hit
  have I1 := I.sc (frF_sc I d3) (frm23_sc d4)
  have e25 : ∀ i, rI w1 25 i = rI w 25 i := fun i => d4.2 25 i (by omega)
  obtain ⟨v2, g2, w2, -, d5, d6, d7, d8⟩ := I1.due hu (by rw [e25]; exact hiu)
  have I2 := I1.sc (frF_sc I1 d7) (frm23_sc d8)
  have E2 := I2.en
  have e25' : ∀ i, rI w2 25 i = rI w 25 i := fun i => (d8.2 25 i (by omega)).trans (e25 i)
  have e10 : ∀ i, rI w2 10 i = rI w 10 i := fun i => (d8.2 10 i (by omega)).trans (d4.2 10 i (by omega))
  have A : oRn g S 4 4 0 = some (a 0) := E.oR (by omega)
  have B1 : aI g (a 0) 40 (nI t) = some (nI p) := by rw [E.aI (k := 0) (by omega) (by omega)]; exact congrArg some ep
  have B2 : aI g (a 0) 40 (nI u) = some (nI q) := by rw [E.aI (k := 0) (by omega) (by omega)]; exact congrArg some eq
  have A4 : oRn g2 S 4 4 4 = some (a 4) := E2.oR (by omega)
  have C1 : aI g2 (a 4) 40 (nI t) = some (rI w 25 (7 + t)) := by rw [E2.aI (k := 4) (by omega) (by omega), e25', ofs4, Nat.zero_add]
  have C2 : aI g2 (a 4) 40 (nI u) = some (rI w 25 (7 + u)) := by rw [E2.aI (k := 4) (by omega) (by omega), e25', ofs4, Nat.zero_add]
  have m1 : rA w 25 1288 ((1 : Int32) + nI t) = some (nI p) := by rw [show (1 : Int32) = nI 1 from rfl, nI_add, rA_nI (by omega) (by omega), ← ep, Nat.zero_add]
  have m2 : rA w 25 1288 ((1 : Int32) + nI u) = some (nI q) := by rw [show (1 : Int32) = nI 1 from rfl, nI_add, rA_nI (by omega) (by omega), ← eq, Nat.zero_add]
  have m3 : rA w2 25 1288 ((7 : Int32) + nI t) = some (rI w 25 (7 + t)) := by rw [show (7 : Int32) = nI 7 from rfl, nI_add, rA_nI (by omega) (by omega), e25']
  have m4 : rA w2 25 1288 ((7 : Int32) + nI u) = some (rI w 25 (7 + u)) := by rw [show (7 : Int32) = nI 7 from rfl, nI_add, rA_nI (by omega) (by omega), e25']
  obtain ⟨v3, g3, w3, -, d9, d10, d11, d12⟩ := dueBy2 I2.1 (rI w 25 (7 + t) + rI w 25 (7 + u)) (if rI w 10 (8 + 3 * q + 2) ≤ rI w 10 (8 + 3 * p + 2) then rI w 10 (8 + 3 * q + 2) else rI w 10 (8 + 3 * p + 2)) (rI w2 10 (26 + 5 * t))
  refine ⟨nI v1 + nI v2 - nI v3, g3, w3, ?_, ?_, (d3.tr d7).tr d11, (d4.tr d8).tr d12⟩
  · unfold B_X1_saved
    simp only [I.x4, A, B1, B2, E.kx, E.hd.roo hp, E.hd.roo hq, rp.2.2, rq.2.2, bd1_s, bd2_s, bdp_s, d1, I1.x4, I1.en.kx, d5, I2.x4, A4, C1, C2, E2.kx, E2.hd.tena ht, kind_b E2.hd ht, mn_lt_le, d9]
  · unfold M_savedBy
    simp only [m1, m2, mro2 (show p < 6 by omega), mro2 (show q < 6 by omega), bd1_s, bd2_s, bdp_s, d2, d6, m3, m4]
    unfold M_savedBy_p78
    simp only [mtn0 (show t < 6 by omega), bd1_s]
    by_cases k : rI w 10 (8 + 3 * q + 2) ≤ rI w 10 (8 + 3 * p + 2)
    · rw [if_pos k] at d10 ⊢
      rw [d10, bd2_s]
    · rw [if_neg k] at d10 ⊢
      rw [d10, bd2_s]
theorem both2 (I : INV0 o x h nr nt ne F M T D S a Tr c N (g) (w)) (v u : Int32) : (M_areBothIn v u w = some 0 ∧ ((B_X1_isHome x v g = some 0) ∨ (B_X1_isHome x v g = some 1 ∧ B_X1_isHome x u g = some 0) ∨ (B_X1_isHome x v g = some 1 ∧ B_X1_isHome x u g = some 1 ∧ v = u))) ∨ (M_areBothIn v u w = some 1 ∧ B_X1_isHome x v g = some 1 ∧ B_X1_isHome x u g = some 1 ∧ v ≠ u ∧ ∃ t z, t < nt ∧ z < nt ∧ v = nI t ∧ u = nI z ∧ ¬ rI w 25 (0 + 1 + t) < 0 ∧ ¬ rI w 25 (0 + 1 + z) < 0) := by
  unfold M_areBothIn
  rcases home2 I v with ⟨h1, h2⟩ | ⟨t, ht, e1, hin, h1, h2⟩
  · left
    refine ⟨?_, Or.inl h1⟩
    rw [h2, bd1_s, if00]
    split <;> rfl
  · rcases home2 I u with ⟨h3, h4⟩ | ⟨z, hz, e2, hiz, h3, h4⟩
    · left
      refine ⟨?_, Or.inr (Or.inl ⟨h1, h3⟩)⟩
      rw [h2, h4, bd1_s, bd1_s, if00, if10]
      split <;> rfl
    · by_cases q : v = u
      · left
        rw [if_pos q]
        exact ⟨rfl, Or.inr (Or.inr ⟨h1, h3, q⟩)⟩
      · right
        rw [if_neg q, h2, h4, bd1_s, bd1_s, if10, if10]
        exact ⟨rfl, h1, h3, q, t, z, ht, hz, e1, e2, hin, hiz⟩
theorem bdn_0 {α : Type} {k : Option ((α ⊕ Unit) × GS)} (hz : gZ g + 1 ≤ gLC g ∧ gN g + 6 ≤ gLS g) : bdn 0 g k = some (.inr (), g) := by unfold bdn; rw [if_pos hz, if_pos rfl]
theorem bdn_1 {α : Type} {k : Option ((α ⊕ Unit) × GS)} (hz : gZ g + 1 ≤ gLC g ∧ gN g + 6 ≤ gLS g) : bdn 1 g k = k := by unfold bdn; rw [if_pos hz, if_neg (by decide)]
theorem c_lease (I : INV0 o x h nr nt ne F M T D S a Tr c N (g) (w)) (hz : gZ g + 1 ≤ gLC g ∧ gN g + 6 ≤ gLS g) (v u : Int32) : (∃ r g' w', B_X1_lease x v u g = some (.inl r, g') ∧ M_lease v u w = some (r, w') ∧ rI w' 0 0 = 0 ∧ ScB o x Tr F g g' ∧ ScM w w') ∨ ∃ r w', B_X1_lease x v u g = some (.inr (), g) ∧ M_lease v u w = some (r, w') ∧ rI w' 0 0 = 1 ∧ ScM w w' := by
  have E := I.en
  unfold B_X1_lease M_lease
  rcases both2 I v u with ⟨h1, h2⟩ | ⟨h1, h2, h3, h4, t, z, ht, hz', rfl, rfl, hit, hiz⟩
  · right
    refine ⟨0, wI w 0 0 1, ?_, ?_, rI_eq rfl, scM_thr⟩
    · unfold B_X1_lease_p26
      rcases h2 with h2 | ⟨h2, h3⟩ | ⟨h2, h3, h4⟩
      · simp only [E.kx, bd1_s, h2, if00, if_true, bdn_0 hz]
      · simp only [E.kx, bd1_s, h2, h3, if00, if_true, if10, bdn_0 hz]
      · simp only [E.kx, bd1_s, h2, h3, if10, if_pos h4, bdn_0 hz]
    · unfold M_lease_p15
      rw [h1, bd1_s, if00, bdp_s, rI_eq rfl, if_neg (by decide)]
  · left
    have I1 := I.thr 0
    obtain ⟨r, g1, w1, s1, s2, s3, s4⟩ := saved2 I1 ht hz' hit hiz
    refine ⟨r, g1, w1, ?_, ?_, ?_, frF_sc I1 s3, scM_thr.tr (frm23_sc s4)⟩
    · unfold B_X1_lease_p26
      simp only [E.kx, bd1_s, bd2_s, h2, h3, if10, if_neg h4, bdn_1 hz, s1]
    · unfold M_lease_p15
      rw [h1, bd1_s, if10, bdp_s, rI_eq rfl, if_pos (by decide), s2, bd2_s]
    · rw [s4.2 0 0 (by omega), rI_eq rfl]
theorem c_share (I : INV0 o x h nr nt ne F M T D S a Tr c N (g) (w)) (hz : gZ g + 1 ≤ gLC g ∧ gN g + 6 ≤ gLS g) (v u : Int32) : (∃ r g' w', B_X1_share x v u g = some (.inl r, g') ∧ M_share v u w = some (r, w') ∧ rI w' 0 0 = 0 ∧ ScB o x Tr F g g' ∧ ScM w w') ∨ ∃ r w', B_X1_share x v u g = some (.inr (), g) ∧ M_share v u w = some (r, w') ∧ rI w' 0 0 = 1 ∧ ScM w w' := by
  have E := I.en
  unfold B_X1_share M_share
  rcases both2 I v u with ⟨h1, h2⟩ | ⟨h1, h2, h3, h4, t, z, ht, hz', rfl, rfl, hit, hiz⟩
  · right
    refine ⟨0, wI w 0 0 1, ?_, ?_, rI_eq rfl, scM_thr⟩
    · unfold B_X1_share_p26
      rcases h2 with h2 | ⟨h2, h3⟩ | ⟨h2, h3, h4⟩
      · simp only [E.kx, bd1_s, h2, if00, if_true, bdn_0 hz]
      · simp only [E.kx, bd1_s, h2, h3, if00, if_true, if10, bdn_0 hz]
      · simp only [E.kx, bd1_s, h2, h3, if10, if_pos h4, bdn_0 hz]
    · unfold M_share_p15
      rw [h1, bd1_s, if00, bdp_s, rI_eq rfl, if_neg (by decide)]
  · left
    have I1 := I.thr 0
    obtain ⟨p, g0, w0, -, p1, p2, p3, p4⟩ := I1.due ht hit
    have I2 := I1.sc (frF_sc I1 p3) (frm23_sc p4)
    have e25 : ∀ i, rI w0 25 i = rI (wI w 0 0 0) 25 i := fun i => p4.2 25 i (by omega)
    obtain ⟨r, g1, w1, s1, s2, s3, s4⟩ := saved2 I2 ht hz' (by rw [e25]; exact hit) (by rw [e25]; exact hiz)
    refine ⟨nI p - r / 2, g1, w1, ?_, ?_, ?_, (frF_sc I1 p3).tr (frF_sc I2 s3), (scM_thr.tr (frm23_sc p4)).tr (frm23_sc s4)⟩
    · unfold B_X1_share_p26
      simp only [E.kx, bd1_s, bd2_s, h2, h3, if10, if_neg h4, bdn_1 hz, I.x4, p1, I2.en.kx, s1]
    · unfold M_share_p15
      rw [h1, bd1_s, if10, bdp_s, rI_eq rfl, if_pos (by decide), p2, bd2_s, s2, bd2_s]
    · rw [s4.2 0 0 (by omega), p4.2 0 0 (by omega), rI_eq rfl]
theorem last_loop {g0 : GS} {w0 : MS} (I : INV0 o x h nr nt ne F M T D S a Tr c N (g0) (w0)) {t k : Nat} (ht : t < nt) (hk : k ≤ 240) : ∀ (j i n m : Nat) (g : GS) (w : MS), i + j = 20 → j < n → j < m → EN o x h nr nt ne F M T D Tr c 1176 (N) (g0) (w0) (g) (w) → ∃ r g' w', B_X1_last_p34 n x (nI t) (nI k) (nI i) g = some (r, g') ∧ M_last_p39 m (nI t) (nI k) (nI i) w = some (r, w') ∧ EN o x h nr nt ne F M T D Tr c 1176 (N) (g0) (w0) (g') (w') := by
  intro j
  induction j with
  | zero =>
    intro i n m g w hi hn hm E
    obtain ⟨n, rfl⟩ : ∃ k, n = k + 1 := ⟨n - 1, by omega⟩
    obtain ⟨m, rfl⟩ : ∃ k, m = k + 1 := ⟨m - 1, by omega⟩
    obtain rfl : i = 20 := by omega
    exact ⟨nI 20, g, w, by rw [B_X1_last_p34, if_pos (by decide)], by rw [M_last_p39, if_pos (by decide)]; rfl, E⟩
  | succ j ih =>
    intro i n m g w hi hn hm E
    obtain ⟨n, rfl⟩ : ∃ k, n = k + 1 := ⟨n - 1, by omega⟩
    obtain ⟨m, rfl⟩ : ∃ k, m = k + 1 := ⟨m - 1, by omega⟩
    have n6 := E.nt6
    have I1 := I.sc E.scT.1 E.scT.2
    obtain ⟨g1, w1, s', p1, p2, E1, -, -, -⟩ := pass2 E I1.br (k := k) (by omega) 0
    have I2 := I.sc E1.scT.1 E1.scT.2
    obtain ⟨v, g2, w2, q1, q2, E2, -⟩ := collects2 E1
    have q2 : M_noons 1176 w1 = some (v, w2) := q2
    have I3 := I.sc E2.scT.1 E2.scT.2
    have hM : M_last_p39 (m + 1) (nI t) (nI k) (nI i) w = bd1 (M_isIn 1176 (nI t) w2) fun r10 => if r10 = 0 then some (nI i, w2) else M_last_p39 m (nI t) (nI k) (nI i + 1) w2 := by
      rw [M_last_p39, if_neg (show ¬ (20 : Int32) ≤ nI i from nI_ge (b := 20) (by omega) (by omega))]
      have L := pas_gen (b := 1176) (k := k) (fun n z w => M_last_p48 (M_last_p39 m) n (nI t) (nI k) (nI i) z w) (fun w => bd2 (M_noons (1176 : Int32) w) fun r9 w8 => bd1 (M_isIn (1176 : Int32) (nI t) w8) fun r10 => if r10 = 0 then some (nI i, w8) else M_last_p39 m (nI t) (nI k) (nI i + 1) w8) (by omega) (fun n i w => by rw [M_last_p48]; rfl) k 0 FU 0 s' w w1 (by omega) (by show k < 5000; omega) p2
      refine Eq.trans L ?_
      show bd2 (M_noons 1176 w1) _ = _
      rw [q2, bd2_s]
    have hin : M_isIn 1176 (nI t) w2 = some (if rI w2 25 (1176 + 1 + t) < 0 then 0 else 1) := E2.ism ht
    have hB : B_X1_last_p34 (n + 1) x (nI t) (nI k) (nI i) g = if rI w2 25 (1176 + 1 + t) < 0 then some (nI i, g2) else B_X1_last_p34 n x (nI t) (nI k) (nI (i + 1)) g2 := by
      rw [B_X1_last_p34, if_neg (show ¬ (20 : Int32) ≤ nI i from nI_ge (b := 20) (by omega) (by omega))]
      simp only [I1.x5, E.kx, p1, I2.x5, E1.kx, q1, I3.x5, E2.kS, E2.isb (show t < 6 by omega), bd1_s, bd2_s, nI_1]
      by_cases z : rI w2 25 (1176 + 1 + t) < 0
      · simp only [if_pos z, if00, if_true]
      · simp only [if_neg z, if10]
    rw [hM, hin, hB, bd1_s]
    by_cases z : rI w2 25 (1176 + 1 + t) < 0
    · simp only [if_pos z, if00, if_true]
      exact ⟨_, _, _, rfl, rfl, E2⟩
    · simp only [if_neg z, if10, nI_1]
      exact ih (i + 1) n m g2 w2 (by omega) (by omega) (by omega) E2
theorem c_last (I : INV0 o x h nr nt ne F M T D S a Tr c N (g) (w)) (v m : Int32) : ∃ r g' w', B_X1_last x v m g = some (r, g') ∧ M_last v m w = some (r, w') ∧ ScB o x Tr F g g' ∧ ScM w w' := by
  have I1 := I.thr 0
  have E := I1.en
  have n6 := E.nt6
  unfold B_X1_last M_last
  rcases home2 I1 v with ⟨h1, h2⟩ | ⟨t, ht, rfl, hin, h1, h2⟩
  · simp only [E.kx, bd1_s, bdp_s, h1, h2, if00]
    exact ⟨_, _, _, rfl, rfl, ScB.rf, scM_thr⟩
  · rcases win m (lo := 1) (hi := 240) (by omega) (by omega) with q | ⟨k, -, hk, rfl, q⟩
    · have q : M_within m 1 240 = 0 := q
      simp only [E.kx, bd1_s, bdp_s, h1, h2, if10, in_eq, q, if00]
      exact ⟨_, _, _, rfl, rfl, ScB.rf, scM_thr⟩
    · have q : M_within (nI k) 1 240 = 1 := q
      obtain ⟨g1, w1, e1, e2, E1, ⟨s1, s2⟩, u⟩ := I1.be (b := 1176) (Or.inl rfl)
      have e2 : M_copies 0 1176 43 (wI w 0 0 0) = some w1 := e2
      have I2 := I1.sc s1 s2
      obtain ⟨r, g2, w2, p1, p2, E2⟩ := last_loop I2 ht hk 20 0 FU FU g1 w1 (by omega) (by decide) (by decide) E1
      have p1 : B_X1_last_p34 FU x (nI t) (nI k) 0 g1 = some (r, g2) := p1
      have p2 : M_last_p39 FU (nI t) (nI k) 0 w1 = some (r, w2) := p2
      simp only [E.kx, bd1_s, bdp_s, h1, h2, if10, in_eq, q, I1.x4, I1.x5, I1.kT, e1, e2, p1, p2]
      exact ⟨_, _, _, rfl, rfl, s1.tr E2.scT.1, (scM_thr.tr s2).tr E2.scT.2⟩
end CALL1
