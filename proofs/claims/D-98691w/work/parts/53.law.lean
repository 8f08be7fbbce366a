/-! calls: haunt, law -/
set_option maxRecDepth 100000
section CALL2C
variable {o : Nat → Nat} {x h nr nt ne F S Tr N : Nat} {M T D a c : Nat → Nat} {g g' : GS} {w w' : MS}
theorem c_law (I : INV0 o x h nr nt ne F M T D S a Tr c N (g) (w)) (cf mi : Int32) : ∃ r g' w', B_X1_law x cf mi g = some (r, g') ∧ M_law cf mi w = some (r, w') ∧ ScB o x Tr F g g' ∧ ScM w w' := by
  have I1 := I.thr 0
  have E := I1.en
  have n6 := E.nt6
  unfold B_X1_law M_law
  rcases win cf (lo := 0) (hi := 60) (by omega) (by omega) with q | ⟨kc, -, hkc, rfl, q⟩
  · have q : M_within cf 0 60 = 0 := q
    simp only [bdp_s, in_eq, q, if00]
    exact ⟨_, _, _, rfl, rfl, ScB.rf, scM_thr⟩
  · have q : M_within (nI kc) 0 60 = 1 := q
    rcases win mi (lo := 1) (hi := 240) (by omega) (by omega) with q2 | ⟨k, -, hk, rfl, q2⟩
    · have q2 : M_within mi 1 240 = 0 := q2
      simp only [bdp_s, in_eq, q, q2, if10, if00]
      exact ⟨_, _, _, rfl, rfl, ScB.rf, scM_thr⟩
    · have q2 : M_within (nI k) 1 240 = 1 := q2
      obtain ⟨g1, w1, e1, e2, E1, ⟨s1, s2⟩, u⟩ := I1.be (b := 1176) (Or.inl rfl)
      have e2 : M_copies 0 1176 43 (wI w 0 0 0) = some w1 := e2
      have I2 := I1.sc s1 s2
      have hroom : ∀ t, t < 6 → rI w1 25 (1176 + 1 + t) = rI w1 25 (0 + 1 + t) ∧ rI w1 25 (1176 + 37 + t) = rI w1 25 (0 + 37 + t) := fun t ht => by
        have a1 := u (1 + t) (by omega)
        have a2 := u (37 + t) (by omega)
        rw [Nat.add_assoc, Nat.add_assoc, Nat.add_assoc, Nat.add_assoc, a1, a2, s2.m (show prM 25 (0 + (1 + t)) by unfold prM; omega), s2.m (show prM 25 (0 + (37 + t)) by unfold prM; omega)]
        exact ⟨rfl, rfl⟩
      obtain ⟨g2, w2, c1, c2, E2, c3⟩ := law_cup I2 (nI kc) (nI k) nt 0 FU FU g1 w1 (by omega) (by show nt < 5000; omega) (by show nt < 5000; omega) E1 (fun t ht => (hroom t ht).1)
      have E3 : EN o x h nr nt ne F M T D Tr c 1176 (N) (g2) (wI w2 28 0 (nI kc)) (g2) (wI w2 28 0 (nI kc)) := E2.re.mw (by omega)
      obtain ⟨g3, w3, d1, d2, E4, d3⟩ := law_pass (w1 := wI w2 28 0 (nI kc)) I2 (cf := nI kc) hk E2.scT.1 k 0 FU FU g2 (wI w2 28 0 (nI kc)) (by omega) (by show k < 5000; omega) (by show k < 5000; omega) E3 (rI_eq rfl)
      have E5 : EN o x h nr nt ne F M T D Tr c 1176 (N) (g3) (wI w3 28 0 (rI w3 10 3)) (g3) (wI w3 28 0 (rI w3 10 3)) := E4.re.mw (by omega)
      obtain ⟨v, g4, w4, f1, f2, E6, f3⟩ := collects2 E5
      have f2 : M_noons 1176 (wI w3 28 0 (rI w3 10 3)) = some (v, w4) := f2
      have sB : ScB o x Tr F g g4 := ((s1.tr E2.scT.1).tr E4.scT.1).tr E6.scT.1
      have sM8 : ScM8 w w4 := ((((((scM_thr (w := w) (v := 0)).s8.tr s2.s8).tr E2.scT.2.s8).tr scM8_wI).tr E4.scT.2.s8).tr scM8_wI).tr E6.scT.2.s8
      have m28 : rI w4 28 0 = rI w 28 0 := by
        rw [E6.w28, rI_eq rfl, E4.fm.2 10 3 (by omega), rI_nk (by omega), I.br]
        exact (E2.scT.2.m (by unfold prM; omega)).trans ((s2.m (by unfold prM; omega)).trans (rI_nk (by omega)))
      have sM : ScM w w4 := sM8.sc m28
      have I3 := I.sc (((s1.tr E2.scT.1).tr E4.scT.1)) ScM.rf
      have I4 := I.sc sB ScM.rf
      have hS7 : oI g4 S 4 4 7 = some (nI (mk6 (goneB w 0))) := I4.en.oI7
      have hloop := law_set E6.mten n6 nt 0 FU (by omega) (by show nt < 5000; omega)
      have hz : nI (mk6 (fun t => decide (t < 0) && (!decide (rI w4 25 (0 + 1 + t) < 0) && decide (rI w4 25 (1176 + 1 + t) < 0)))) = 0 := by
        rw [mk6_congr (f2 := fun _ => false) (fun t _ => by simp)]
        rfl
      rw [hz] at hloop
      rw [nI_0] at hloop
      -- who is gone
      have key : ∀ t, t < 6 → (goneB w4 1176 t && !goneB w 0 t) = (decide (t < nt) && (!decide (rI w4 25 (0 + 1 + t) < 0) && decide (rI w4 25 (1176 + 1 + t) < 0))) := by
        intro t ht
        have r0 : rI w4 25 (0 + 1 + t) = rI w 25 (0 + 1 + t) := sM.m (by unfold prM; omega)
        have b1 : rI w1 25 (0 + 1 + t) = rI w 25 (0 + 1 + t) := (s2.m (by unfold prM; omega)).trans (rI_nk (by omega))
        have b2 : rI w1 25 (0 + 37 + t) = rI w 25 (0 + 37 + t) := (s2.m (by unfold prM; omega)).trans (rI_nk (by omega))
        have h1 := hroom t ht
        have h2 := c3 t ht
        have h3 := d3 t ht
        have h4 := f3 t ht
        rw [rI_nk (by omega), rI_nk (by omega), h3.1, h3.2, rI_nk (by omega), rI_nk (by omega), h2.1, h2.2, h1.1, h1.2, b1, b2] at h4
        have bi := I.2.2.1.1 t ht
        rw [r0]
        rcases h4 with ⟨p1, p2⟩ | ⟨p1, p2, p3⟩
        · unfold goneB
          rw [p1, p2]
          cases (rI w 25 (0 + 37 + t) == 1) <;> cases decide (rI w 25 (0 + 1 + t) < 0) <;> simp
        · have hg : goneB w 0 t = false := by
            unfold goneB
            rcases bi.2.2.2.2.1 with e | e
            · rw [e]; rfl
            · rw [e.2] at p1; exact absurd (by decide) p1
          have hn : t < nt := by
            rcases bi.1 with e | ⟨_, _, e, _⟩
            · rw [e] at p1; exact absurd (by decide) p1
            · exact e
          rw [hg]
          unfold goneB
          rw [p2, p3]
          simp (decide := true) [hn, p1]
      have ans : (nI (mk6 (goneB w4 1176)) &&& (nI (mk6 (goneB w 0)) ^^^ (-1 : Int32))) = nI (mk6 (fun t => decide (t < nt) && (!decide (rI w4 25 (0 + 1 + t) < 0) && decide (rI w4 25 (1176 + 1 + t) < 0)))) := by
        rw [mk6_andn]
        exact congrArg nI (mk6_congr key)
      rw [nI_0] at c1 c2 d1 d2
      refine ⟨nI (mk6 (fun t => decide (t < nt) && (!decide (rI w4 25 (0 + 1 + t) < 0) && decide (rI w4 25 (1176 + 1 + t) < 0)))), g4, w4, ?_, ?_, sB, sM⟩
      rotate_left 1
      · simp only [bdp_s, q, q2, if10, e2, bd1_s, c2, d2, f2, bd2_s, hloop]
      · simp only [in_eq, q, q2, if10, I1.x5, I1.x4, I1.kT, e1, bd1_s, c1, d1, I3.x5, E5.kx, f1, bd2_s, I4.x5, E6.oI7, I4.x4, hS7, ans]
end CALL2C
