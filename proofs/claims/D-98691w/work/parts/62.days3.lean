/-! days: the look through all days -/
set_option maxRecDepth 100000
theorem sI_same {g : GS} {a k : Nat} {v : Int32} (h : gI g a k = v) : sI g a k v = g := by
  refine Prod.ext rfl (Prod.ext (funext fun a' => funext fun k' => ?_) rfl)
  show gI (sI g a k v) a' k' = gI g a' k'
  rw [gi_sI]
  by_cases c : a' = a ∧ k' = k
  · rw [if_pos c, c.1, c.2, h]
  · rw [if_neg c]
section DAYS3
variable {o : Nat → Nat} {x h nr nt ne F S Tr N : Nat} {M T D a c : Nat → Nat} {g0 g g' : GS} {w0 w w' : MS}
def FIT (x : Nat) (g : GS) (w : MS) : Prop := gI g x 21 = rI w 37 0 ∧ gI g x 22 = rI w 38 0
def FITn (w : MS) (day : Nat) : Prop := ∃ k, k ≤ day ∧ rI w 37 0 = nI k ∧ (k ≠ 0 → ∃ d, d < 729 ∧ rI w 38 0 = nI d)
theorem scx (I : INV0 o x h nr nt ne F M T D S a Tr c N (g) (w)) : o x = x ∧ x ≠ Tr ∧ x ≠ F ∧ x ≠ 1 := ⟨I.1.2.2.2.1.2.2.2.2.1, I.2.2.2.2.2.2.1.2.2.2.2.2.2.2.1, I.2.2.2.2.2.2.1.2.2.2.2.2.2.2.2.1, I.2.2.2.2.2.2.1.2.2.2.2.2.2.2.2.2⟩
theorem days_loop (I : INV0 o x h nr nt ne F M T D S a Tr c N (g0) (w0)) {t Q al sm sb ns : Nat} {rw' : Nat → Nat} (ht : t < nt) (P : SMP o x Tr F sm sb ns g0 w0) (A : ALK o x Q al rw' g0) : ∀ (j day n n' : Nat) (g : GS) (w : MS), day + j = 729 → j < n → j < n' → ScB o x Tr F g0 g → ScM w0 w → ALV rw' g w → FIT x g w → FITn w day → ∃ g' w', B_X1_looks_p50 n x (T t) (nI day) g = some g' ∧ M_findDays_p34 n' (nI t) (nI day) w = some w' ∧ ScB o x Tr F g0 g' ∧ ScM w0 w' ∧ ALV rw' g' w' ∧ FIT x g' w' ∧ FITn w' 729 := by
  have xx := scx I
  have nQ : x ≠ Q := fun e => by have := A.1.2.2; rw [← e, xx.1] at this; exact xx.2.2.2 this
  have nR : ∀ m, m < 6 → x ≠ rw' m := fun m hm e => by have := (A.2.2.2.1 m hm).2.2.1; rw [← e, xx.1] at this; exact xx.2.2.2 this
  intro j
  induction j with
  | zero =>
    intro day n n' g w hd hn hn' s1 s2 V Fi Fn
    obtain ⟨n, rfl⟩ : ∃ k, n = k + 1 := ⟨n - 1, by omega⟩
    obtain ⟨n', rfl⟩ : ∃ k, n' = k + 1 := ⟨n' - 1, by omega⟩
    obtain rfl : day = 729 := by omega
    exact ⟨g, w, by rw [B_X1_looks_p50, if_pos (by decide)], by rw [M_findDays_p34, if_pos (by decide)], s1, s2, V, Fi, Fn⟩
  | succ j ih =>
    intro day n n' g w hd hn hn' s1 s2 V Fi Fn
    obtain ⟨n, rfl⟩ : ∃ k, n = k + 1 := ⟨n - 1, by omega⟩
    obtain ⟨n', rfl⟩ : ∃ k, n' = k + 1 := ⟨n' - 1, by omega⟩
    have I1 := I.sc s1 s2
    have A1 := A.sc s1
    obtain ⟨g1, w1, l1, l2, l3, l4, l5⟩ := lives2 I1 ht A1.1 (show day < 729 by omega)
    have t1 : ScB o x Tr F g g1 := l3.sc (fun q h => by rw [h]; exact Or.inr (Or.inr A.1.2.2))
    have t2 : ScM w w1 := l4.sc (fun k i p h => by unfold prM at p; omega)
    have I2 := I1.sc t1 t2
    have A2 := A1.sc t1
    have P2 := P.sc xx (s1.tr t1) (s2.tr t2)
    have E2 := I2.en
    have hx := E2.hd.1.1
    have V2 : ALV rw' g1 w1 := fun m b hm hb => by
      rw [l3.i (A.2.2.2.1 m hm).2.2.2, l4.2 36 _ (by omega)]; exact V m b hm hb
    have Fi2 : FIT x g1 w1 := ⟨by rw [l3.i nQ, l4.2 37 0 (by omega)]; exact Fi.1, by rw [l3.i nQ, l4.2 38 0 (by omega)]; exact Fi.2⟩
    have Fn2 : FITn w1 day := by
      obtain ⟨k, k1, k2, k3⟩ := Fn
      exact ⟨k, k1, by rw [l4.2 37 0 (by omega)]; exact k2, fun h => by rw [l4.2 38 0 (by omega)]; exact k3 h⟩
    obtain ⟨v, v0, v1, v2⟩ := smp_fit P2 hx ⟨A2.1.1, A2.1.2.1⟩ l5 (M_findDays_p34 n') (nI t) (nI day) ns 0 FU FU (by omega) (by have := P.2.2.2.2.1; show ns < 5000; omega) (by have := P.2.2.2.2.1; show ns + 1 < 5000; omega)
    rw [nI_0] at v1 v2
    have hB : B_X1_looks_p50 (n + 1) x (T t) (nI day) g = (if v = 0 then B_X1_looks_p50 n x (T t) (nI day + 1) g1 else bd1 (oI g1 x 1 1 21) fun v8 => bd1 (pI g1 x 1 1 21 (v8 + (1 : Int32))) fun w9 => if v8 = 0 then bd1 (pI w9 x 1 1 22 (nI day)) fun w18 => B_X1_looks_p94 (B_X1_looks_p50 n) FU x (T t) (nI day) (0 : Int32) w18 else B_X1_looks_p94 (B_X1_looks_p50 n) FU x (T t) (nI day) (0 : Int32) w9) := by
      rw [B_X1_looks_p50, if_neg (show ¬ (729 : Int32) ≤ nI day from nI_ge (b := 729) (by omega) (by omega)), I1.en.kx, bd1_s, l1, bd1_s, E2.kx, bd1_s]
      unfold B_X1_isSampled
      rw [v1, bd1_s]
    have hM : M_findDays_p34 (n' + 1) (nI t) (nI day) w = M_findDays_p114 (M_findDays_p34 n') (nI t) (nI day) v w1 := by
      rw [M_findDays_p34, if_neg (show ¬ (729 : Int32) ≤ nI day from nI_ge (b := 729) (by omega) (by omega)), l2, bd1_s, v2]
    rw [hB, hM]
    unfold M_findDays_p114
    rcases v0 with rfl | rfl
    · rw [if00, if00, nI_1]
      exact ih (day + 1) n n' g1 w1 (by omega) (by omega) (by omega) (s1.tr t1) (s2.tr t2) V2 Fi2 (by obtain ⟨k, k1, k2, k3⟩ := Fn2; exact ⟨k, by omega, k2, k3⟩)
    · rw [if10, if10]
      have h21 : oI g1 x 1 1 21 = some (rI w1 37 0) := by rw [oI_s (by omega) (by omega), Fi2.1]
      -- the first day that fits, how many
      have key : ∀ fd : Int32, (∃ d, d < 729 ∧ fd = nI d) → ∃ g' w', B_X1_looks_p94 (B_X1_looks_p50 n) FU x (T t) (nI day) 0 (sI (sI g1 x 21 (rI w1 37 0 + 1)) x 22 fd) = some g' ∧ M_findDays_p134 (M_findDays_p34 n') (nI t) (nI day) fd w1 = some w' ∧ ScB o x Tr F g0 g' ∧ ScM w0 w' ∧ ALV rw' g' w' ∧ FIT x g' w' ∧ FITn w' 729 := by
        intro fd hfd
        have u1 : ScB o x Tr F g1 (sI (sI g1 x 21 (rI w1 37 0 + 1)) x 22 fd) := (scB_x (by omega)).tr (scB_x (by omega))
        have u2 : ScM w1 (wI (wI w1 38 0 fd) 37 0 (rI w1 37 0 + 1)) := (ScM.wI (by unfold prM; omega)).tr (ScM.wI (by unfold prM; omega))
        obtain ⟨g3, w3, p1, p2, p3, p4, p5⟩ := alike_add (o := o) (x := x) (B_X1_looks_p50 n) (M_findDays_p34 n') (T t) (nI t) (nI day) 6 0 FU FU (sI (sI g1 x 21 (rI w1 37 0 + 1)) x 22 fd) (wI (wI w1 38 0 fd) 37 0 (rI w1 37 0 + 1)) (by omega) (by decide) (by decide) hx (A2.sc u1) (fun m b hm hb => by
          rw [gi_sI, if_neg (fun z => nR m hm z.1.symm), gi_sI, if_neg (fun z => nR m hm z.1.symm), rI_nk (by omega), rI_nk (by omega)]; exact V2 m b hm hb) (fun i hi => by
          obtain ⟨q, q1, q2, q3⟩ := l5 i hi
          exact ⟨q, q1, by rw [gi_sI, if_neg (fun z => nQ z.1.symm), gi_sI, if_neg (fun z => nQ z.1.symm)]; exact q2, by rw [rI_nk (by omega), rI_nk (by omega)]; exact q3⟩)
        rw [nI_0] at p1 p2
        have y1 : ScB o x Tr F (sI (sI g1 x 21 (rI w1 37 0 + 1)) x 22 fd) g3 := p4.sc (fun q ⟨z, hz, h⟩ => by rw [h]; exact Or.inr (Or.inr (A.2.2.2.1 z hz).2.2.1))
        have y2 : ScM (wI (wI w1 38 0 fd) 37 0 (rI w1 37 0 + 1)) w3 := p5.sc (fun k i p h => by unfold prM at p; omega)
        have nx : ¬ ∃ z, z < 6 ∧ x = rw' z := fun ⟨z, hz, e⟩ => nR z hz e
        have Fi3 : FIT x g3 w3 := ⟨by rw [p4.i nx, gi_sI, if_neg (by omega), gi_sI, if_pos ⟨rfl, rfl⟩, p5.2 37 0 (by omega), rI_eq rfl], by rw [p4.i nx, gi_sI, if_pos ⟨rfl, rfl⟩, p5.2 38 0 (by omega), rI_nk (by omega), rI_eq rfl]⟩
        obtain ⟨g4, w4, r1, r2, r3⟩ := ih (day + 1) n n' g3 w3 (by omega) (by omega) (by omega) (((s1.tr t1).tr u1).tr y1) (((s2.tr t2).tr u2).tr y2) p3 Fi3 (by
          obtain ⟨k, k1, k2, k3⟩ := Fn2
          obtain ⟨d, d1, d2⟩ := hfd
          exact ⟨k + 1, by omega, by rw [p5.2 37 0 (by omega), rI_eq rfl, k2, nI_1], fun _ => ⟨d, d1, by rw [p5.2 38 0 (by omega), rI_nk (by omega), rI_eq rfl, d2]⟩⟩)
        refine ⟨g4, w4, ?_, ?_, r3⟩
        · rw [p1, nI_1]; exact r1
        · unfold M_findDays_p134
          rw [bdp_s, bdp_s, rI_nk (by omega), p2, nI_1]; exact r2
      rw [h21, bd1_s, pI_s (by omega) (by omega), bd1_s]
      by_cases q : rI w1 37 0 = 0
      · rw [if_pos q, if_pos q, pI_s (by rw [gk_sI]; omega) (by rw [gk_sI]; omega), bd1_s]
        exact key (nI day) ⟨day, by omega, rfl⟩
      · rw [if_neg q, if_neg q]
        have := key (rI w1 38 0) (by
          obtain ⟨k, k1, k2, k3⟩ := Fn2
          exact k3 (fun e => q (by rw [k2, e]; rfl)))
        rw [show sI (sI g1 x 21 (rI w1 37 0 + 1)) x 22 (rI w1 38 0) = sI g1 x 21 (rI w1 37 0 + 1) from sI_same (by rw [gi_sI, if_neg (by omega)]; exact Fi2.2)] at this
        exact this
end DAYS3
