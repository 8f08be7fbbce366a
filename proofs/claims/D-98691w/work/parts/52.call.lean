/-! calls: haunt, law -/
set_option maxRecDepth 100000
theorem w01 (v lo hi : Int32) : M_within v lo hi = 0 ∨ M_within v lo hi = 1 := by
  unfold M_within
  split
  · exact Or.inl rfl
  · split
    · exact Or.inl rfl
    · exact Or.inr rfl
section CALL2B
variable {o : Nat → Nat} {x h nr nt ne F S Tr N : Nat} {M T D a c : Nat → Nat} {g g' : GS} {w w' : MS}
theorem c_haunt (I : INV0 o x h nr nt ne F M T D S a Tr c N (g) (w)) (v fr bt wh : Int32) : ∃ r g' w', B_X1_haunt x v fr bt wh g = some (r, g') ∧ M_haunt v fr bt wh w = some (r, w') ∧ ScB o x Tr F g g' ∧ ScM w w' := by
  have I1 := I.thr 0
  have E := I1.en
  unfold B_X1_haunt M_haunt
  rcases home2 I1 v with ⟨h1, h2⟩ | ⟨t, ht, rfl, hin, h1, h2⟩
  · simp only [E.kx, bd1_s, bdp_s, h1, h2, if00]
    exact ⟨_, _, _, rfl, rfl, ScB.rf, scM_thr⟩
  · rcases w01 fr 1 3 with q1 | q1
    · have b1 : B_X1_in fr 1 3 = 0 := q1
      simp only [E.kx, bd1_s, bdp_s, h1, h2, if10, if00, b1, q1]
      exact ⟨_, _, _, rfl, rfl, ScB.rf, scM_thr⟩
    · have b1 : B_X1_in fr 1 3 = 1 := q1
      rcases w01 bt 1 99 with q2 | q2
      · have b2 : B_X1_in bt 1 99 = 0 := q2
        simp only [E.kx, bd1_s, bdp_s, h1, h2, if10, if00, b1, b2, q1, q2]
        exact ⟨_, _, _, rfl, rfl, ScB.rf, scM_thr⟩
      · have b2 : B_X1_in bt 1 99 = 1 := q2
        rcases w01 wh 0 1 with q3 | q3
        · have b3 : B_X1_in wh 0 1 = 0 := q3
          simp only [E.kx, bd1_s, bdp_s, h1, h2, if10, if00, b1, b2, b3, q1, q2, q3]
          exact ⟨_, _, _, rfl, rfl, ScB.rf, scM_thr⟩
        · have b3 : B_X1_in wh 0 1 = 1 := q3
          simp only [E.kx, bd1_s, bdp_s, h1, h2, if10, b1, b2, b3, q1, q2, q3]
          have hf : 4096 < FU := by unfold FU; omega
          obtain ⟨n, hn⟩ : ∃ n, n = 4096 := ⟨_, rfl⟩
          obtain ⟨r, g1, w1, r1, r2, r3, r4⟩ := haunt_out (x := x) ht fr bt wh n 0 FU FU 0 (-1) g (wI w 0 0 0) (by omega) (by omega) (by omega) (by decide) I1
          rw [nI_0] at r1 r2
          rw [r1, r2]
          exact ⟨_, _, _, rfl, rfl, r3, scM_thr.tr r4⟩
end CALL2B
