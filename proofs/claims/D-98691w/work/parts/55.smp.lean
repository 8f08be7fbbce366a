/-! call: sampled -/
set_option maxRecDepth 100000
theorem smp_loop {g : GS} {m bd ct : Nat} (hm : m ≤ 30) (hb : bd ≤ m) (hc : ct ≤ m) : ∀ (j i n n' : Nat) (s : Int64) (w : MS), i + j = ct + 1 → j < n → j < n' → ∃ r, B_X1_sampled_p47 n (nI m) (nI bd) (nI ct) s (nI i) g = some r ∧ M_sampled_p52 n' (nI m) (nI bd) (nI ct) s (nI i) w = some (r, w) := by
  intro j
  induction j with
  | zero =>
    intro i n n' s w hi hn hn'
    obtain ⟨n, rfl⟩ : ∃ k, n = k + 1 := ⟨n - 1, by omega⟩
    obtain ⟨n', rfl⟩ : ∃ k, n' = k + 1 := ⟨n' - 1, by omega⟩
    obtain ⟨v, c1, c2, c3⟩ := ch_eq hm (show ct ≤ 30 by omega) g
    have c4 := c3 hc
    have hl : nI ct < nI i := nI_lt (by omega) (by omega)
    rw [B_X1_sampled_p47, M_sampled_p52, if_pos hl, if_pos hl, c1, c2, bd1_s, bd1_s]
    unfold o_ldiv
    rw [if_neg c4, bd1_s, bd1_s]
    exact ⟨_, rfl, rfl⟩
  | succ j ih =>
    intro i n n' s w hi hn hn'
    obtain ⟨n, rfl⟩ : ∃ k, n = k + 1 := ⟨n - 1, by omega⟩
    obtain ⟨n', rfl⟩ : ∃ k, n' = k + 1 := ⟨n' - 1, by omega⟩
    obtain ⟨v, c1, c2, -⟩ := ch_eq (n := bd) (k := i) (by omega) (by omega) g
    obtain ⟨u, d1, d2, -⟩ := ch_eq (n := m - bd) (k := ct - i) (by omega) (by omega) g
    have hl : ¬ nI ct < nI i := nI_nlt (by omega) (by omega)
    rw [B_X1_sampled_p47, M_sampled_p52, if_neg hl, if_neg hl, c1, c2, bd1_s, bd1_s, nI_sub hb, nI_sub (show i ≤ ct by omega), d1, d2, bd1_s, bd1_s, bdp_s, bdp_s, nI_1]
    exact ih (i + 1) n n' _ w (by omega) (by omega) (by omega)
theorem c_sampled (x : Nat) (g : GS) (w : MS) (x1 x2 x3 x4 : Int32) : ∃ r w', B_X1_sampled x x1 x2 x3 x4 g = some r ∧ M_sampled x1 x2 x3 x4 w = some (r, w') ∧ ScM w w' := by
  unfold B_X1_sampled M_sampled
  rcases win x1 (lo := 1) (hi := 30) (by omega) (by omega) with q1 | ⟨m, -, hm, rfl, q1⟩
  · have q1 : M_within x1 1 30 = 0 := q1
    simp only [bdp_s, in_eq, q1, if00]
    exact ⟨_, _, rfl, rfl, scM_thr⟩
  · have q1 : M_within (nI m) 1 30 = 1 := q1
    rcases win x2 (lo := 0) (hi := m) (by omega) (by omega) with q2 | ⟨bd, -, hb, rfl, q2⟩
    · rw [nI_0] at q2
      simp only [bdp_s, in_eq, q1, q2, if00, if10]
      exact ⟨_, _, rfl, rfl, scM_thr⟩
    · rw [nI_0] at q2
      rcases win x3 (lo := 0) (hi := m) (by omega) (by omega) with q3 | ⟨ct, -, hc, rfl, q3⟩
      · rw [nI_0] at q3
        simp only [bdp_s, in_eq, q1, q2, q3, if00, if10]
        exact ⟨_, _, rfl, rfl, scM_thr⟩
      · rw [nI_0] at q3
        rcases win x4 (lo := 0) (hi := ct) (by omega) (by omega) with q4 | ⟨tm, -, ht, rfl, q4⟩
        · rw [nI_0] at q4
          simp only [bdp_s, in_eq, q1, q2, q3, q4, if00, if10]
          exact ⟨_, _, rfl, rfl, scM_thr⟩
        · rw [nI_0] at q4
          obtain ⟨r, r1, r2⟩ := smp_loop (g := g) hm hb hc (ct + 1 - tm) tm FU FU 0 (wI w 0 0 0) (by omega) (by show ct + 1 - tm < 5000; omega) (by show ct + 1 - tm < 5000; omega)
          simp only [bdp_s, in_eq, q1, q2, q3, q4, if10, r1, r2]
          exact ⟨_, _, rfl, rfl, scM_thr⟩
