/-! call: count -/
set_option maxRecDepth 100000
theorem coins_m {nt : Nat} {w : MS} (hn : M_tenants w = nI nt) (n6 : nt ≤ 6) : ∀ (j i m : Nat) (s : Int32), i + j = nt → j < m → ∃ s', M_coinsOfAll_p4 m s (nI i) w = some s' ∧ s' = (List.range' i j).foldl (fun z t => z + rI w 25 (31 + t)) s := by
  intro j
  induction j with
  | zero =>
    intro i m s hi hm
    obtain ⟨m, rfl⟩ : ∃ k, m = k + 1 := ⟨m - 1, by omega⟩
    obtain rfl : i = nt := by omega
    exact ⟨s, by rw [M_coinsOfAll_p4, hn, if_pos (nI_le (Nat.le_refl _) (by omega))], rfl⟩
  | succ j ih =>
    intro i m s hi hm
    obtain ⟨m, rfl⟩ : ∃ k, m = k + 1 := ⟨m - 1, by omega⟩
    obtain ⟨s', r1, r2⟩ := ih (i + 1) m (s + rI w 25 (31 + i)) (by omega) (by omega)
    refine ⟨s', ?_, by rw [r2]; rfl⟩
    rw [M_coinsOfAll_p4, hn, if_neg (nI_ge (by omega) (by omega)), show (31 : Int32) = nI 31 from rfl, nI_add, rA_nI (by omega) (by omega), bd1_s, bdp_s, nI_1]
    exact r1
section CNT
variable {o : Nat → Nat} {x h nr nt ne F S Tr N : Nat} {M T D a c : Nat → Nat} {g g' : GS} {w w' : MS}
theorem coins2 (I : INV0 o x h nr nt ne F M T D S a Tr c N (g) (w)) : ∃ s, B_X1_sum (a 5) g = some s ∧ M_coinsOfAll w = some s := by
  have E := I.en
  have n6 := E.nt6
  obtain ⟨s, s1, s2⟩ := coins_m E.mten n6 nt 0 FU 0 (by omega) (by show nt < 5000; omega)
  rw [nI_0] at s1
  have z : ∀ t, nt ≤ t → t < 6 → rI w 25 (31 + t) = 0 := fun t h1 h2 => by
    have := ((E.bi.1 t h2).2.2.2.2.2 h1).1
    rw [Nat.zero_add] at this
    exact this
  have v : ∀ t, t < 6 → gI g (a 5) t = rI w 25 (31 + t) := fun t ht => by
    rw [E.sr.2.1 5 t (by omega) ht, ofs5, Nat.zero_add]
  refine ⟨s, ?_, s1⟩
  rw [sumB (E.st.2.1 5 (by omega)).2, v 0 (by omega), v 1 (by omega), v 2 (by omega), v 3 (by omega), v 4 (by omega), v 5 (by omega), s2]
  rcases (by omega : nt = 0 ∨ nt = 1 ∨ nt = 2 ∨ nt = 3 ∨ nt = 4 ∨ nt = 5 ∨ nt = 6) with e | e | e | e | e | e | e
  · rw [z 0 (by omega) (by omega), z 1 (by omega) (by omega), z 2 (by omega) (by omega), z 3 (by omega) (by omega), z 4 (by omega) (by omega), z 5 (by omega) (by omega), e]; rfl
  · rw [z 1 (by omega) (by omega), z 2 (by omega) (by omega), z 3 (by omega) (by omega), z 4 (by omega) (by omega), z 5 (by omega) (by omega), e]; simp [List.range']
  · rw [z 2 (by omega) (by omega), z 3 (by omega) (by omega), z 4 (by omega) (by omega), z 5 (by omega) (by omega), e]; simp [List.range']
  · rw [z 3 (by omega) (by omega), z 4 (by omega) (by omega), z 5 (by omega) (by omega), e]; simp [List.range']
  · rw [z 4 (by omega) (by omega), z 5 (by omega) (by omega), e]; simp [List.range']
  · rw [z 5 (by omega) (by omega), e]; simp [List.range']
  · rw [e]; simp [List.range']
theorem c_count (I : INV0 o x h nr nt ne F M T D S a Tr c N (g) (w)) {ll nl sm sb ns : Nat} {L : Nat → Nat} (H : LIN o x nr nt ll nl L g w) (P : SMP o x Tr F sm sb ns g w) (h9 : gI g x 9 = rI w 26 0) (h7 : gI g x 7 = rI w 2 0) (v : Int32) : ∃ r w', B_X1_count x v g = some r ∧ M_count v w = some (r, w') ∧ ScM w w' := by
  have I1 := I.thr 0
  have E := I1.en
  have hx := E.hd.1.1
  have n6 := E.nt6
  have hx0 : o x = x ∧ x ≠ 0 ∧ Tr ≠ 0 ∧ F ≠ 0 := ⟨I.1.2.2.2.1.2.2.2.2.1, I.1.2.2.2.1.2.2.2.2.2, I.2.2.2.2.2.1.2.1, I.1.2.2.2.1.2.2.2.1⟩
  have H1 := H.sc hx0 ScB.rf (scM_thr (v := 0))
  have k23 := H1.2.1.1
  obtain ⟨l, l1, l2, l3, -⟩ := E.hd.err
  obtain ⟨cs, cs1, cs2⟩ := coins2 I1
  obtain ⟨i1, i2⟩ := E.ins
  have i1 : M_inMany 0 (wI w 0 0 0) = _ := i1
  have gn : M_goneMany 0 (wI w 0 0 0) = some (nI (cntB (goneB (wI w 0 0 0) 0) 6)) := E.gones
  have a5 : oRn g S 4 4 5 = some (a 5) := E.oR (by omega)
  have r3 : oRn g x 1 1 3 = some ll := by rw [oRn_x I1.1]; exact H1.1
  have q23 : oK g ll 23 23 = some 23 := by rw [oK_s (by omega) (by omega), k23]
  have e18 : oI g x 1 1 18 = some (rI (wI w 0 0 0) 25 43) := by rw [oI_s (by omega) (by omega), P.2.2.1, rI_nk (by omega), P.2.2.2.1]
  have e9 : oI g x 1 1 9 = some (rI (wI w 0 0 0) 26 0) := by rw [oI_s (by omega) (by omega), h9, rI_nk (by omega)]
  have e7 : oI g x 1 1 7 = some (rI (wI w 0 0 0) 2 0) := by rw [oI_s (by omega) (by omega), h7, rI_nk (by omega)]
  have hl0 : rI (wI w 0 0 0) 22 0 = nI nl := H1.2.2.2.1
  have mr : M_rooms (wI w 0 0 0) = nI nr := E.hd.1.2.2.2.2.2.2.1
  have me : M_errandsMany (wI w 0 0 0) = nI ne := E.hd.1.2.2.2.2.2.2.2.2
  have E6 : oI g S 4 4 6 = some (rI (wI w 0 0 0) 25 0) := E.oI6
  unfold B_X1_count M_count
  simp only [E.kx, bd1_s, bdp_s, rooms_b E.hd, E.ten, E.mten, mr, me, E.xh, l1, l2, l3, I1.x4, E6, a5, cs1, cs2, E.kS, i1, i2, count6, E.oI7, gn, E.kh, E.brew, E.every, r3, q23, lst_size H1.2.1, hl0, e18, e9, e7]
  by_cases q0 : v = 0
  · simp only [if_pos q0]
    exact ⟨_, _, rfl, rfl, scM_thr⟩
  by_cases q1 : v = 1
  · simp only [if_neg q0, if_pos q1]
    exact ⟨_, _, rfl, rfl, scM_thr⟩
  by_cases q2 : v = 2
  · simp only [if_neg q0, if_neg q1, if_pos q2]
    exact ⟨_, _, rfl, rfl, scM_thr⟩
  by_cases q3 : v = 3
  · simp only [if_neg q0, if_neg q1, if_neg q2, if_pos q3]
    exact ⟨_, _, rfl, rfl, scM_thr⟩
  by_cases q4 : v = 4
  · simp only [if_neg q0, if_neg q1, if_neg q2, if_neg q3, if_pos q4]
    exact ⟨_, _, rfl, rfl, scM_thr⟩
  by_cases q5 : v = 5
  · simp only [if_neg q0, if_neg q1, if_neg q2, if_neg q3, if_neg q4, if_pos q5]
    exact ⟨_, _, rfl, rfl, scM_thr⟩
  by_cases q6 : v = 6
  · simp only [if_neg q0, if_neg q1, if_neg q2, if_neg q3, if_neg q4, if_neg q5, if_pos q6]
    exact ⟨_, _, rfl, rfl, scM_thr⟩
  by_cases q7 : v = 7
  · simp only [if_neg q0, if_neg q1, if_neg q2, if_neg q3, if_neg q4, if_neg q5, if_neg q6, if_pos q7]
    exact ⟨_, _, rfl, rfl, scM_thr⟩
  by_cases q8 : v = 8
  · simp only [if_neg q0, if_neg q1, if_neg q2, if_neg q3, if_neg q4, if_neg q5, if_neg q6, if_neg q7, if_pos q8]
    exact ⟨_, _, rfl, rfl, scM_thr⟩
  by_cases q9 : v = 9
  · simp only [if_neg q0, if_neg q1, if_neg q2, if_neg q3, if_neg q4, if_neg q5, if_neg q6, if_neg q7, if_neg q8, if_pos q9]
    exact ⟨_, _, rfl, rfl, scM_thr⟩
  by_cases q10 : v = 10
  · simp only [if_neg q0, if_neg q1, if_neg q2, if_neg q3, if_neg q4, if_neg q5, if_neg q6, if_neg q7, if_neg q8, if_neg q9, if_pos q10]
    exact ⟨_, _, rfl, rfl, scM_thr⟩
  by_cases q11 : v = 11
  · simp only [if_neg q0, if_neg q1, if_neg q2, if_neg q3, if_neg q4, if_neg q5, if_neg q6, if_neg q7, if_neg q8, if_neg q9, if_neg q10, if_pos q11]
    exact ⟨_, _, rfl, rfl, scM_thr⟩
  by_cases q12 : v = 12
  · simp only [if_neg q0, if_neg q1, if_neg q2, if_neg q3, if_neg q4, if_neg q5, if_neg q6, if_neg q7, if_neg q8, if_neg q9, if_neg q10, if_neg q11, if_pos q12]
    exact ⟨_, _, rfl, rfl, scM_thr⟩
  simp only [if_neg q0, if_neg q1, if_neg q2, if_neg q3, if_neg q4, if_neg q5, if_neg q6, if_neg q7, if_neg q8, if_neg q9, if_neg q10, if_neg q11, if_neg q12]
  exact ⟨_, _, rfl, rfl, scM_thr⟩
end CNT
