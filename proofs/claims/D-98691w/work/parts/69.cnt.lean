/-! call: count -/
set_option maxRecDepth 100000
theorem coins_m {nt : Nat} {w : MS} (hn : M_tenants w = nI nt) (n6 : nt ≤ 6) : ∀ (j i m : Nat) (s : Int32), i + j = nt → j < m → ∃ s', M_coinsOfAll_p4 m s (nI i) w = some s' ∧ s' = (List.range' i j).foldl (fun z t => z + rI w 25 (31 + t)) s := by
  intro j
  induction j with
  | zero =>
    intro i m s hi hm
    obtain ⟨m, rfl⟩ : ∃ k, m = k + 1 := ⟨m - 1, by omega⟩
    obtain rfl : i = nt := by omega
    exact ⟨s, by rw [M_coinsOfAll_p4, hn, if_pos (nI_le (Nat.le_refl _) (by omega))], rfl⟩
  | succ j ih =>
    intro i m s hi hm
    obtain ⟨m, rfl⟩ : ∃ k, m = k + 1 := ⟨m - 1, by omega⟩
    obtain ⟨s', r1, r2⟩ := ih (i + 1) m (s + rI w 25 (31 + i)) (by omega) (by omega)
    refine ⟨s', ?_, by rw [r2]; rfl⟩
    rw [M_coinsOfAll_p4, hn, if_neg (nI_ge (by omega) (by omega)), show (31 : Int32) = nI 31 from rfl, nI_add, rA_nI (by omega) (by omega), bd1_s, bdp_s, nI_1]
    exact r1
