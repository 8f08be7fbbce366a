/-! call: errands -/
set_option maxRecDepth 100000
section ERR4
variable {o : Nat → Nat} {x h nr nt ne F S Tr N : Nat} {M T D a c : Nat → Nat} {g0 g g' : GS} {w0 w w' : MS}
theorem clamp_n {v : Int32} {c : Nat} (h : v = nI c) (hc : c < 2 ^ 31) : v = nI v.toNatClampNeg ∧ v.toNatClampNeg = c := by
  subst h
  rw [nI_clamp hc]
  exact ⟨rfl, rfl⟩
theorem INV0.ed (I : INV0 o x h nr nt ne F M T D S a Tr c N (g) (w)) {t : Nat} (ht : t < nt) : ∃ r k1, ED w t ne r k1 (fun e => (rI w 10 (92 + 3 * e)).toNatClampNeg) (fun e => (rI w 10 (92 + 3 * e + 1)).toNatClampNeg) (fun e => (rI w 10 (92 + 3 * e + 2)).toNatClampNeg) := by
  have E := I.en
  have n6 := E.nt6
  have H := E.hr
  obtain ⟨⟨q, q1, q2, q3⟩, -⟩ := H.2.1 t ht
  refine ⟨q + (if rI w 10 (26 + 5 * t) = 3 then 20 else 0), decide (rI w 10 (26 + 5 * t) = 1), ⟨by omega, ?_, by split <;> omega, rfl⟩, E.hd.1.2.2.2.2.2.2.2.2, E.hd.1.2.2.2.2.2.1, fun e he => ?_⟩
  · rw [q3]
    split
    · exact nI_add q 20
    · exact nI_add0 q
  · obtain ⟨⟨a1, a2, a3⟩, ⟨b1, b2, b3, b4⟩, ⟨c1, c2, c3⟩⟩ := H.2.2.2.1 e he
    obtain ⟨u1, u2⟩ := clamp_n a3 (by omega)
    obtain ⟨v1, v2⟩ := clamp_n b4 (by omega)
    obtain ⟨z1, z2⟩ := clamp_n c3 (by omega)
    exact ⟨u1, by show (rI w 10 (92 + 3 * e)).toNatClampNeg ≤ 99; omega, v1, by show (rI w 10 (92 + 3 * e + 1)).toNatClampNeg ≤ 20; omega, z1, by show (rI w 10 (92 + 3 * e + 2)).toNatClampNeg ≤ 60; omega⟩
theorem c_errands (I : INV0 o x h nr nt ne F M T D S a Tr c N (g) (w)) {O Bo : Nat} (A : SCE o x O Bo g) (v m : Int32) : ∃ r g' w', B_X1_errands x v m g = some (r, g') ∧ M_errands v m w = some (r, w') ∧ ScB o x Tr F g g' ∧ ScM w w' := by
  have I1 := I.thr 0
  have E := I1.en
  have n6 := E.nt6
  have hx := E.hd.1.1
  have e6 : ne ≤ 6 := E.hd.1.2.2.2.2.2.1
  obtain ⟨l, l1, l2, l3, -⟩ := E.hd.err
  have hM : M_errandsMany (wI w 0 0 0) = nI ne := E.hd.1.2.2.2.2.2.2.2.2
  unfold B_X1_errands M_errands
  rcases ten_b E v with ⟨h1, h2⟩ | ⟨t, ht, rfl, h1, h2⟩
  · simp only [E.kx, bd1_s, bdp_s, h1, h2, if00]
    exact ⟨_, _, _, rfl, rfl, ScB.rf, scM_thr⟩
  · rcases win m (lo := 0) (hi := ne) (by omega) (by omega) with q | ⟨k, -, hk, rfl, q⟩
    · rw [nI_0] at q
      simp only [E.kx, bd1_s, bdp_s, h1, h2, if10, E.xh, l1, l2, l3, hM, in_eq, q, if00]
      exact ⟨_, _, _, rfl, rfl, ScB.rf, scM_thr⟩
    · rw [nI_0] at q
      have sg : ScB o x Tr F g (sI g x 12 (-1)) := scB_x (by omega)
      have sw : ScM (wI w 0 0 0) (wI (wI w 0 0 0) 31 0 (-1)) := ScM.wI (by unfold prM; omega)
      have I2 := I1.sc sg sw
      have E2 := I2.en
      obtain ⟨r, k1, H⟩ := I2.ed ht
      have A2 : SCE o x O Bo (sI g x 12 (-1)) := A
      have R : RBx x ne Bo (sI g x 12 (-1)) (wI (wI w 0 0 0) 31 0 (-1)) := ⟨by rw [gi_sI, if_pos ⟨rfl, rfl⟩, rI_eq rfl], Or.inl (rI_eq rfl)⟩
      obtain ⟨g3, w3, r1, r2, r3, r4, r5, -, r6⟩ := goes2 I2 ht H A2 ne 8 0 (fun _ => false) (fun i => i) _ _ (by omega) (by omega) ScB.rf ScM.rf R (fun i hi => by omega)
      rw [show nI (mk6 (fun _ => false)) = 0 from rfl, runE, nI_0] at r1
      rw [show nI (mk6 (fun _ => false)) = 0 from rfl, nI_0] at r2
      have hp : pI g x 1 1 12 (-1) = some (sI g x 12 (-1)) := pI_s (by omega) (by omega)
      have I3 := I2.sc r3 r4
      have hx3 := I3.en.hd.1.1
      have h12 : oI g3 x 1 1 12 = some (rI w3 31 0) := by rw [oI_s (by omega) (by omega), r5.1]
      have h11 : oRn g3 x 1 1 11 = some Bo := by rw [oRn_x I3.1, r3.r]; exact A2.2.2.2.1
      have kB : gK g3 Bo = (40, 6) := by rw [r3.k]; exact A2.2.2.2.2.1
      simp only [E.kx, bd1_s, bdp_s, h1, h2, if10, E.xh, l1, l2, l3, hM, in_eq, q, hp, E2.kx, E2.hd.tena ht, r1, r2, h12, h11]
      by_cases k0 : k = 0
      · subst k0
        rw [nI_0]
        simp only [if00, if_true]
        exact ⟨_, _, _, rfl, rfl, sg.tr r3, (scM_thr.tr sw).tr r4⟩
      · obtain ⟨k, rfl⟩ : ∃ z, k = z + 1 := ⟨k - 1, by omega⟩
        have hk0 : ¬ nI (k + 1) = 0 := nI_ne0 (by omega) (by omega)
        rw [if_neg hk0, if_neg hk0, nI_pred, aI_s (by rw [kB]) (by rw [kB]; show k < 6; omega) (by rw [kB]; omega), bd1_s, rA_nI (by omega) (by omega), bd1_s]
        rcases r5.2 with hb | ⟨b, -, -, hb3⟩
        · have hc : cntB (fun _ => false) ne ≤ 0 := by
            rw [cntB_ext (n := 0) (by omega) (fun _ _ _ => rfl)]
            exact Nat.le_refl _
          exact absurd hb (r6 (Or.inr hc))
        · rw [hb3 k (by omega)]
          exact ⟨_, _, _, rfl, rfl, sg.tr r3, (scM_thr.tr sw).tr r4⟩
end ERR4
