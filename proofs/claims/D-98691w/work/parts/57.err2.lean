/-! errands: what is cut off changes nothing; steps of the class -/
set_option maxRecDepth 100000
theorem m6_bitM : ∀ b0 b1 b2 b3 b4 b5 : Bool, ((nI (m6 b0 b1 b2 b3 b4 b5) >>> (nI 0 &&& 31)) &&& (1 : Int32)) = nI (b2n b0) ∧ ((nI (m6 b0 b1 b2 b3 b4 b5) >>> (nI 1 &&& 31)) &&& (1 : Int32)) = nI (b2n b1) ∧ ((nI (m6 b0 b1 b2 b3 b4 b5) >>> (nI 2 &&& 31)) &&& (1 : Int32)) = nI (b2n b2) ∧ ((nI (m6 b0 b1 b2 b3 b4 b5) >>> (nI 3 &&& 31)) &&& (1 : Int32)) = nI (b2n b3) ∧ ((nI (m6 b0 b1 b2 b3 b4 b5) >>> (nI 4 &&& 31)) &&& (1 : Int32)) = nI (b2n b4) ∧ ((nI (m6 b0 b1 b2 b3 b4 b5) >>> (nI 5 &&& 31)) &&& (1 : Int32)) = nI (b2n b5) := by decide +kernel
theorem mk6_bitM (f : Nat → Bool) {t : Nat} (ht : t < 6) : ((nI (mk6 f) >>> (nI t &&& 31)) &&& (1 : Int32)) = nI (b2n (f t)) := by
  obtain ⟨h0, h1, h2, h3, h4, h5⟩ := m6_bitM (f 0) (f 1) (f 2) (f 3) (f 4) (f 5)
  rcases (by omega : t = 0 ∨ t = 1 ∨ t = 2 ∨ t = 3 ∨ t = 4 ∨ t = 5) with rfl | rfl | rfl | rfl | rfl | rfl <;> assumption
theorem mk6_or (f : Nat → Bool) {t : Nat} (ht : t < 6) : nI (mk6 f) ||| ((1 : Int32) <<< (nI t &&& 31)) = nI (mk6 (setB f t)) := mk6_set f ht
def odS (od : Nat → Nat) (k e : Nat) : Nat → Nat := fun i => if i = k then e else od i
theorem runE_odS {r : Nat} {k1 : Bool} {op tk ad od : Nat → Nat} {k e : Nat} : runE r k1 op tk ad (odS od k e) (k + 1) = stE r k1 (op e) (tk e) (ad e) (runE r k1 op tk ad od k) := by
  rw [runE, runE_congr (od' := od) (fun i hi => by unfold odS; rw [if_neg (by omega)])]
  unfold odS
  rw [if_pos rfl]
section PRU
variable {t ne r : Nat} {k1 : Bool} {op tk ad : Nat → Nat}
theorem od_prune {b : Nat} (hb : b < 2 ^ 31) : ∀ (m d k : Nat) (f : Nat → Bool) (od : Nat → Nat) (w : MS), k + m = ne → m < d → ED w t ne r k1 op tk ad → (∀ i, i < k → od i < ne ∧ rI w 29 i = nI (od i)) → rI w 31 0 = nI b → b ≤ (runE r k1 op tk ad od k).2.2 → ∃ w', M_orders d (nI t) (nI k) (nI (mk6 f)) w = some w' ∧ FrM (fun q i => q = 29 ∧ k ≤ i) w w' := by
  intro m
  induction m with
  | zero =>
    intro d k f od w hk hd H ho hf hbn
    obtain ⟨d, rfl⟩ : ∃ z, d = z + 1 := ⟨d - 1, by omega⟩
    obtain rfl : k = ne := by omega
    have ok := runE_ok H (od := od) (k := k) (fun i hi => (ho i hi).1)
    have n6 := H.2.2.1
    obtain ⟨o1, -, o3⟩ := ok
    refine ⟨w, ?_, FrM.rf⟩
    rw [M_orders]
    unfold M_orders_b
    rw [show M_errandsMany w = nI k from H.2.1, if_pos rfl, by_m H ho, bd1_s, hf, if_neg (nI_pos hb), if_pos (nI_le hbn (by omega))]
  | succ m ih =>
    intro d k f od w hk hd H ho hf hbn
    obtain ⟨d, rfl⟩ : ∃ z, d = z + 1 := ⟨d - 1, by omega⟩
    have n6 := H.2.2.1
    have loop : ∀ (j e n : Nat) (w1 : MS), e + j = ne → j < n → FrM (fun q i => q = 29 ∧ k ≤ i) w w1 → ∃ w', M_orders_b_p70 (M_orders d) n (nI t) (nI k) (nI (mk6 f)) (nI e) w1 = some w' ∧ FrM (fun q i => q = 29 ∧ k ≤ i) w w' := by
      intro j
      induction j with
      | zero =>
        intro e n w1 he hn F1
        obtain ⟨n, rfl⟩ : ∃ z, n = z + 1 := ⟨n - 1, by omega⟩
        obtain rfl : e = ne := by omega
        exact ⟨w1, by rw [M_orders_b_p70, show M_errandsMany w1 = nI e from (F1.2 10 2 (by omega)).trans H.2.1, if_pos (nI_le (Nat.le_refl _) (by omega))], F1⟩
      | succ j ihj =>
        intro e n w1 he hn F1
        obtain ⟨n, rfl⟩ : ∃ z, n = z + 1 := ⟨n - 1, by omega⟩
        rw [M_orders_b_p70, show M_errandsMany w1 = nI ne from (F1.2 10 2 (by omega)).trans H.2.1, if_neg (nI_ge (by omega) (by omega)), mk6_bitM f (show e < 6 by omega)]
        cases hfe : f e
        · rw [if_pos (show nI (b2n false) = 0 from rfl), wA_nI (by omega) (by omega), bd1_s, mk6_or f (show e < 6 by omega), nI_1]
          have F2 : FrM (fun q i => q = 29 ∧ k ≤ i) w (wI w1 29 k (nI e)) := frm_wI F1 ⟨rfl, Nat.le_refl _⟩
          have H2 : ED (wI w1 29 k (nI e)) t ne r k1 op tk ad := H.fr (fun i => F2.2 10 i (by omega))
          have hE := H.2.2.2 e (by omega)
          have ok := runE_ok H (od := od) (k := k) (fun i hi => (ho i hi).1)
          have grow := (stE_ok (k1 := k1) H.1.2.2.1 hE.2.1 hE.2.2.2.1 hE.2.2.2.2.2 ok).2
          obtain ⟨w2, p1, p2⟩ := ih d (k + 1) (setB f e) (odS od k e) (wI w1 29 k (nI e)) (by omega) (by omega) H2 (fun i hi => by
            unfold odS
            by_cases q : i = k
            · rw [if_pos q, q, rI_eq rfl]; exact ⟨by omega, rfl⟩
            · rw [if_neg q, rI_ne q, F1.2 29 i (by omega)]; exact ho i (by omega)) (by rw [F2.2 31 0 (by omega)]; exact hf) (by rw [runE_odS]; omega)
          rw [p1, bd1_s, nI_1]
          exact ihj (e + 1) n w2 (by omega) (by omega) (F2.tr (p2.mono (fun q i h => ⟨h.1, by omega⟩)))
        · rw [if_neg (show ¬ nI (b2n true) = 0 by decide), nI_1]
          exact ihj (e + 1) n w1 (by omega) (by omega) F1
    obtain ⟨w', p1, p2⟩ := loop ne 0 FU w (by omega) (by show ne < 5000; omega) FrM.rf
    refine ⟨w', ?_, p2⟩
    rw [M_orders]
    unfold M_orders_b
    rw [show M_errandsMany w = nI ne from H.2.1, if_neg (fun e => by have := (nI_eq (by omega) (by omega)).mp e; omega), ← nI_0]
    exact p1
end PRU
section GOB
variable {g : GS} {x0 x1 x8 r opv tkv adv : Nat} {k1 : Bool} {gf : Nat → Nat → Int32 → Int32 → Int32 → Int32 → Int32 → GS → Option GS} {k52 : Nat → Nat → Int32 → Int32 → Int32 → Int32 → Int32 → Int32 → GS → Option GS} {x2 x3 x4 x5 x6 x7 : Int32}
theorem go_wait (h1 : oI g x8 12 12 1 = some (nI opv)) (ho : opv ≤ 99) (hr : V_rest x1 g = some (nI r)) (hs : ∀ s, s ≤ 1000 → V_settles x1 (nI s) g = some (nI (calE k1 s))) : ∀ (j m at' : Nat) (p : Nat × Nat), j = opv - at' → at' < 100000 → j < m → p.1 ≤ 60 → B_X1_goes_p108 gf k52 m x0 x1 x2 x3 x4 x5 x6 x7 x8 (nI at') (nI p.1) (nI p.2) g = B_X1_goes_p147 gf k52 FU x0 x1 x2 x3 x4 x5 x6 x7 x8 (nI (at' + j)) (nI (itE r k1 0 j p).1) (nI (itE r k1 0 j p).2) 0 g := by
  intro j
  induction j with
  | zero =>
    intro m at' p hj ha hm hp
    obtain ⟨m, rfl⟩ : ∃ k, m = k + 1 := ⟨m - 1, by omega⟩
    rw [B_X1_goes_p108, h1, bd1_s, if_pos (nI_le (by omega) (by omega)), itE, Nat.add_zero]
  | succ j ih =>
    intro m at' p hj ha hm hp
    obtain ⟨m, rfl⟩ : ∃ k, m = k + 1 := ⟨m - 1, by omega⟩
    have hc := calE_le k1 p.1
    rw [B_X1_goes_p108, h1, bd1_s, if_neg (nI_ge (by omega) (by omega)), hr, bd1_s, bdp_s, hs _ (by omega), bd1_s, nI_1, nI_add, nI_add, itE]
    have := ih m (at' + 1) (calE k1 p.1, p.2 + (r + p.1 + 0)) (by omega) (by omega) (by omega) (by show calE k1 p.1 ≤ 60; omega)
    rw [show at' + 1 + j = at' + (j + 1) by omega] at this
    exact this
theorem go_take (h2 : oI g x8 12 12 2 = some (nI tkv)) (h3 : oI g x8 12 12 3 = some (nI adv)) (ht : tkv ≤ 20) (hr : V_rest x1 g = some (nI r)) (hs : ∀ s, s ≤ 1000 → V_settles x1 (nI s) g = some (nI (calE k1 s))) (x9 : Int32) : ∀ (j i m : Nat) (p : Nat × Nat), i + j = tkv → j < m → p.1 ≤ 60 → B_X1_goes_p147 gf k52 m x0 x1 x2 x3 x4 x5 x6 x7 x8 x9 (nI p.1) (nI p.2) (nI i) g = bd1 (oRn g x0 1 1 10) fun a19 => bd1 (xI g a19 40 x2 x7) fun w20 => bd1 (oI w20 x8 12 12 2) fun v21 => bd1 (oI w20 x8 12 12 3) fun v22 => bd1 (oK w20 x0 1 1) fun _ => bd1 (gf x0 x1 (x2 + (1 : Int32)) (x3 ||| ((1 : Int32) <<< (x7 &&& 31))) (x9 + v21) (if nI (itE r k1 adv j p).1 < v22 then v22 else nI (itE r k1 adv j p).1) (nI (itE r k1 adv j p).2) w20) fun w23 => k52 x0 x1 x2 x3 x4 x5 x6 (x7 + (1 : Int32)) w23 := by
  intro j
  induction j with
  | zero =>
    intro i m p hi hm hp
    obtain ⟨m, rfl⟩ : ∃ k, m = k + 1 := ⟨m - 1, by omega⟩
    rw [B_X1_goes_p147, h2, bd1_s, if_pos (nI_le (by omega) (by omega)), itE]
  | succ j ih =>
    intro i m p hi hm hp
    obtain ⟨m, rfl⟩ : ∃ k, m = k + 1 := ⟨m - 1, by omega⟩
    have hc := calE_le k1 p.1
    rw [B_X1_goes_p147, h2, bd1_s, if_neg (nI_ge (by omega) (by omega)), hr, bd1_s, h3, bd1_s, bdp_s, hs _ (by omega), bd1_s, nI_1, nI_add, nI_add, nI_add, itE]
    exact ih (i + 1) m (calE k1 p.1, p.2 + (r + p.1 + adv)) (by omega) (by omega) (by show calE k1 p.1 ≤ 60; omega)
end GOB
