/-! days: what one did, a day on both sides -/
set_option maxRecDepth 100000
theorem did_loop {g : GS} : ∀ (j i n y : Nat), i + j = 6 → j < n → y < 100000 → B_X1_didIn_p6 n (nI y) (nI i) g = some (nI (y / 3 ^ j % 3)) := by
  intro j
  induction j with
  | zero =>
    intro i n y hi hn hy
    obtain ⟨n, rfl⟩ : ∃ k, n = k + 1 := ⟨n - 1, by omega⟩
    obtain rfl : i = 6 := by omega
    rw [B_X1_didIn_p6, if_pos (by decide), show (3 : Int32) = nI 3 from rfl, pk_rem (by omega) (by omega) (by omega), Nat.pow_zero, Nat.div_one]
  | succ j ih =>
    intro i n y hi hn hy
    obtain ⟨n, rfl⟩ : ∃ k, n = k + 1 := ⟨n - 1, by omega⟩
    rw [B_X1_didIn_p6, if_neg (show ¬ (6 : Int32) ≤ nI i from nI_ge (b := 6) (by omega) (by omega)), bdp_s, show (3 : Int32) = nI 3 from rfl, pk_div (by omega) (by omega) (by omega), nI_1, ih (i + 1) n (y / 3) (by omega) (by omega) (by have := Nat.div_le_self y 3; omega), Nat.div_div_eq_div_mul, Nat.pow_succ, Nat.mul_comm 3]
theorem did_b {g : GS} {day m : Nat} (hd : day < 100000) (hm : m < 6) : B_X1_didIn (nI day) (nI m) g = some (nI (day / 3 ^ (5 - m) % 3)) := by
  unfold B_X1_didIn
  rw [bdp_s, nI_1]
  exact did_loop (5 - m) (m + 1) FU day (by omega) (by show 5 - m < 5000; omega) hd
section DAYS
variable {o : Nat → Nat} {x h nr nt ne F S Tr N : Nat} {M T D a c : Nat → Nat} {g0 g g' : GS} {w0 w w' : MS}
theorem lives_loop (I : INV0 o x h nr nt ne F M T D S a Tr c N (g0) (w0)) {t Q day : Nat} (ht : t < nt) (hq : gR g0 x 19 = some Q ∧ gK g0 Q = (40, 6) ∧ o Q = 1) (hd : day < 729) : ∀ (j m n n' s hb : Nat) (lf : Int32) (g : GS) (w : MS), m + j = 6 → j < n → j < n' → s ≤ 100 → hb ≤ m → (m < 6 → lf = nI (3 ^ (5 - m))) → FrB (fun q => q = Q) g0 g → FrM (fun k _ => k = 35) w0 w → (∀ i, i < m → ∃ v, v ≤ 240 ∧ gI g Q i = nI v ∧ rI w 35 i = nI v) → ∃ g' w', B_X1_lives_p8 n x (T t) (nI day) (nI s) (nI hb) (nI m) g = some g' ∧ M_laysDay_p13 n' (nI t) (nI day) (nI s) (nI hb) lf (nI m) w = some w' ∧ FrB (fun q => q = Q) g0 g' ∧ FrM (fun k _ => k = 35) w0 w' ∧ ∀ i, i < 6 → ∃ v, v ≤ 240 ∧ gI g' Q i = nI v ∧ rI w' 35 i = nI v := by
  intro j
  induction j with
  | zero =>
    intro m n n' s hb lf g w hm hn hn' hs hh hl fB fM hv
    obtain ⟨n, rfl⟩ : ∃ k, n = k + 1 := ⟨n - 1, by omega⟩
    obtain ⟨n', rfl⟩ : ∃ k, n' = k + 1 := ⟨n' - 1, by omega⟩
    obtain rfl : m = 6 := by omega
    exact ⟨g, w, by rw [B_X1_lives_p8, if_pos (by decide)], by rw [M_laysDay_p13, if_pos (by decide)], fB, fM, hv⟩
  | succ j ih =>
    intro m n n' s hb lf g w hm hn hn' hs hh hl fB fM hv
    obtain ⟨n, rfl⟩ : ∃ k, n = k + 1 := ⟨n - 1, by omega⟩
    obtain ⟨n', rfl⟩ : ∃ k, n' = k + 1 := ⟨n' - 1, by omega⟩
    have sB : ScB o x Tr F g0 g := fB.sc (fun q h => by rw [h]; exact Or.inr (Or.inr hq.2.2))
    have sM : ScM w0 w := fM.sc (fun k i p h => by unfold prM at p; omega)
    have I1 := I.sc sB sM
    have E := I1.en
    have n6 := E.nt6
    have hl := hl (by omega)
    subst hl
    obtain ⟨⟨told, t1, t2, t3⟩, ⟨cm, c1, c2⟩, -⟩ := E.hr.2.1 t ht
    have tn := E.tn ht
    -- rest
    have hr : ∃ r, r ≤ 119 ∧ V_rest (T t) g = some (nI r) ∧ M_restOf (nI t) w = some (nI r) := by
      refine ⟨told + (if rI w 10 (26 + 5 * t) = 3 then 20 else 0), by split <;> omega, ?_, ?_⟩
      · rw [rest_b E.hd ht, t3]
        split
        · exact congrArg some (nI_add told 20)
        · exact congrArg some (nI_add0 told)
      · rw [rest_m (by omega), t3]
        split
        · exact congrArg some (nI_add told 20)
        · exact congrArg some (nI_add0 told)
    obtain ⟨r, r1, r2, r3⟩ := hr
    have hp : 0 < 3 ^ (5 - m) := Nat.pow_pos (by omega)
    have hp2 : 3 ^ (5 - m) ≤ 243 := by
      have := Nat.pow_le_pow_right (n := 3) (by omega) (show 5 - m ≤ 5 by omega)
      simpa using this
    have hdiv : o_idiv (nI day) (nI (3 ^ (5 - m))) = some (nI (day / 3 ^ (5 - m))) := by
      unfold o_idiv
      rw [if_neg (nI_ne0 hp (by omega)), pk_div (by omega) hp (by omega)]
    have hlt : day / 3 ^ (5 - m) < 100000 := by have := Nat.div_le_self day (3 ^ (5 - m)); omega
    have hrem : nI (day / 3 ^ (5 - m)) - nI (day / 3 ^ (5 - m)) / (3 : Int32) * (3 : Int32) = nI (day / 3 ^ (5 - m) % 3) := pk_rem (d := 3) (by omega) (by omega) (by omega)
    have hleft : nI (3 ^ (5 - m)) / (3 : Int32) = nI (3 ^ (5 - m) / 3) := pk_div (d := 3) (by omega) (by omega) (by omega)
    have hleft2 : m + 1 < 6 → nI (3 ^ (5 - m) / 3) = nI (3 ^ (5 - (m + 1))) := fun h => by
      rw [show 5 - m = (5 - (m + 1)) + 1 by omega, Nat.pow_succ, Nat.mul_div_cancel _ (by omega)]
    have d3 : day / 3 ^ (5 - m) % 3 < 3 := Nat.mod_lt _ (by omega)
    generalize hdd : day / 3 ^ (5 - m) % 3 = d at *
    -- the end of a minute, from what stirs
    have fin : ∀ s2 hb2 : Nat, s2 ≤ 140 → hb2 ≤ m + 1 → ∃ g' w', B_X1_lives_p66 (B_X1_lives_p8 n) x (T t) (nI day) (nI s2) (nI hb2) (nI m) g = some g' ∧ (∀ z : Int32, ∀ y : Int32, y + z = nI hb2 → M_laysDay_p95 (M_laysDay_p13 n') (nI t) (nI day) (nI s2) (nI (3 ^ (5 - m) / 3)) (nI m) z y w = some w') ∧ FrB (fun q => q = Q) g0 g' ∧ FrM (fun k _ => k = 35) w0 w' ∧ ∀ i, i < 6 → ∃ v, v ≤ 240 ∧ gI g' Q i = nI v ∧ rI w' 35 i = nI v := by
      intro s2 hb2 hs2 hh2
      have hQ : oRn g x 1 1 19 = some Q := by rw [oRn_x I1.1, sB.r]; exact hq.1
      have kQ : gK g Q = (40, 6) := by rw [sB.k]; exact hq.2.1
      have hmin : (if nI (r + s2) < 240 then nI (r + s2) else 240) = nI (min (r + s2) 240) := by
        by_cases q : r + s2 < 240
        · rw [if_pos (show nI (r + s2) < 240 from nI_lt (b := 240) q (by omega)), Nat.min_eq_left (by omega)]
        · rw [if_neg (show ¬ nI (r + s2) < 240 from nI_nlt (b := 240) (by omega) (by omega)), Nat.min_eq_right (by omega)]
          rfl
      have fB2 : FrB (fun q => q = Q) g0 (sI g Q m (nI (min (r + s2) 240))) := frb_sI fB rfl
      have fM2 : FrM (fun k _ => k = 35) w0 (wI w 35 m (nI (min (r + s2) 240))) := frm_wI fM rfl
      have I2 := I.sc (fB2.sc (o := o) (x := x) (Tr := Tr) (F := F) (fun q h => by rw [h]; exact Or.inr (Or.inr hq.2.2))) (fM2.sc (fun k i p h => by unfold prM at p; omega))
      have hk1 : rI (wI w 35 m (nI (min (r + s2) 240))) 10 (26 + 5 * t) = rI w 10 (26 + 5 * t) := rI_nk (by omega)
      have set : V_settles (T t) (nI s2) (sI g Q m (nI (min (r + s2) 240))) = some (nI (calE (decide (rI w 10 (26 + 5 * t) = 1)) s2)) := by
        rw [settles_b I2.en.hd ht, hk1, cal_n (by omega) rfl]
      have cal : M_calmed (nI t) (nI s2) (wI w 35 m (nI (min (r + s2) 240))) = some (nI (calE (decide (rI w 10 (26 + 5 * t) = 1)) s2)) := by
        rw [calmed_m (by omega), hk1, cal_n (by omega) rfl]
      have hc : calE (decide (rI w 10 (26 + 5 * t) = 1)) s2 ≤ 100 := by unfold calE; split <;> omega
      obtain ⟨g', w', p1, p2, p3⟩ := ih (m + 1) n n' (calE (decide (rI w 10 (26 + 5 * t) = 1)) s2) hb2 (nI (3 ^ (5 - m) / 3)) (sI g Q m (nI (min (r + s2) 240))) (wI w 35 m (nI (min (r + s2) 240))) (by omega) (by omega) (by omega) hc hh2 hleft2 fB2 fM2 (fun i hi => by
        by_cases e : i = m
        · subst e
          exact ⟨min (r + s2) 240, by omega, by rw [gi_sI, if_pos ⟨rfl, rfl⟩], rI_eq rfl⟩
        · obtain ⟨v, v1, v2, v3⟩ := hv i (by omega)
          exact ⟨v, v1, by rw [gi_sI, if_neg (fun z => e z.2)]; exact v2, by rw [rI_ne e]; exact v3⟩)
      refine ⟨g', w', ?_, fun z y hzy => ?_, p3⟩
      · unfold B_X1_lives_p66
        rw [hQ, bd1_s, r2, bd1_s, nI_add, hmin, xI_s (by rw [kQ]) (by rw [kQ]; show m < 6; omega) (by rw [kQ]; omega), bd1_s, set, bd1_s, nI_1]
        exact p1
      · unfold M_laysDay_p95 M_laysDay_p129
        rw [bdp_s, hzy, r3, bd1_s, bdp_s, nI_add]
        rw [mn_lt_le] at hmin
        by_cases q : nI (r + s2) ≤ 240
        · rw [if_pos q] at hmin
          rw [if_pos q, hmin, wA_nI (by omega) (by omega), bd1_s, cal, bd1_s, nI_1]
          exact p2
        · rw [if_neg q] at hmin
          rw [if_neg q, hmin, wA_nI (by omega) (by omega), bd1_s, cal, bd1_s, nI_1]
          exact p2
    rw [B_X1_lives_p8, if_neg (show ¬ (6 : Int32) ≤ nI m from nI_ge (b := 6) (by omega) (by omega)), did_b (by omega) (by omega), bd1_s, hdd, M_laysDay_p13, if_neg (show ¬ (6 : Int32) ≤ nI m from nI_ge (b := 6) (by omega) (by omega)), hdiv, bd1_s, bdp_s, bdp_s, hrem, hleft]
    rcases (by omega : d = 0 ∨ d = 1 ∨ d = 2) with rfl | rfl | rfl
    · obtain ⟨g', w', p1, p2, p3⟩ := fin s hb (by omega) (by omega)
      refine ⟨g', w', ?_, ?_, p3⟩
      · rw [if_neg (by decide)]
        unfold B_X1_lives_p38
        rw [if_neg (by decide)]
        exact p1
      · rw [if_neg (by decide), if_neg (by decide)]
        unfold M_laysDay_p80
        rw [bdp_s, Int32.add_zero, if_neg (by decide)]
        exact p2 0 (nI hb) (Int32.add_zero _)
    · have hcl : ∃ cl, cl ≤ 20 ∧ V_climbs (T t) 20 g = some (nI cl) ∧ (if rI w 10 (26 + 5 * t) = 2 then M_laysDay_p80 (M_laysDay_p13 n') (nI t) (nI day) (nI hb) (nI (3 ^ (5 - m) / 3)) (nI m) (nI 1) (10 : Int32) (nI s) w else M_laysDay_p80 (M_laysDay_p13 n') (nI t) (nI day) (nI hb) (nI (3 ^ (5 - m) / 3)) (nI m) (nI 1) (20 : Int32) (nI s) w) = M_laysDay_p80 (M_laysDay_p13 n') (nI t) (nI day) (nI hb) (nI (3 ^ (5 - m) / 3)) (nI m) (nI 1) (nI cl) (nI s) w := by
        by_cases q : rI w 10 (26 + 5 * t) = 2
        · exact ⟨10, by omega, by rw [climbs_b E.hd ht, if_pos q]; rfl, by rw [if_pos q]; rfl⟩
        · exact ⟨20, by omega, by rw [climbs_b E.hd ht, if_neg q]; rfl, by rw [if_neg q]; rfl⟩
      obtain ⟨cl, k1, k2, k3⟩ := hcl
      obtain ⟨g', w', p1, p2, p3⟩ := fin (s + cl) hb (by omega) (by omega)
      refine ⟨g', w', ?_, ?_, p3⟩
      · rw [if_pos (by decide), k2, bd1_s, bdp_s, nI_add]
        unfold B_X1_lives_p38
        rw [if_neg (by decide)]
        exact p1
      · rw [if_pos (by decide), mtn0 (by omega), bd1_s, k3]
        unfold M_laysDay_p80
        rw [bdp_s, nI_add, if_neg (by decide)]
        exact p2 0 (nI hb) (Int32.add_zero _)
    · have h40 : (40 : Int32) - rI w 10 (26 + 5 * t + 2) = nI (40 - cm) := by
        rw [c2]; exact nI_sub (a := 40) c1
      have h1h : (1 : Int32) + nI hb = nI (1 + hb) := nI_add 1 hb
      have hq1 : (40 - cm) / (1 + hb) ≤ 40 := by have := Nat.div_le_self (40 - cm) (1 + hb); omega
      obtain ⟨f1, f2⟩ := fr_div ((40 : Int32) - rI w 10 (26 + 5 * t + 2)) (c := hb) (by omega)
      have hval : (if 0 ≤ (40 : Int32) - rI w 10 (26 + 5 * t + 2) then ((40 : Int32) - rI w 10 (26 + 5 * t + 2)) / (1 + nI hb) else 0) = nI ((40 - cm) / (1 + hb)) := by
        rw [h40, if_pos (nI_pos' (by omega)), h1h, pk_div (by omega) (by omega) (by omega)]
      obtain ⟨g', w', p1, p2, p3⟩ := fin (s + (40 - cm) / (1 + hb)) (hb + 1) (by omega) (by omega)
      refine ⟨g', w', ?_, ?_, p3⟩
      · rw [if_neg (by decide)]
        unfold B_X1_lives_p38
        rw [if_pos (by decide), tn.2.1, bd1_s, f1, bd1_s, hval, bdp_s, nI_add, nI_1]
        exact p1
      · rw [if_neg (by decide), if_pos (by decide)]
        have hfr : M_frightened (nI t) 40 (nI hb) w = some (nI ((40 - cm) / (1 + hb))) := by
          unfold M_frightened
          have f3 := f2 (fun d => (some d : Option Int32))
          rw [mtn2 (by omega), bd1_s, bdp_s, f3, hval]
        rw [hfr, bd1_s]
        unfold M_laysDay_p80
        rw [bdp_s, nI_add, if_pos (by decide)]
        exact p2 1 (nI hb) (nI_1 hb)
theorem lives2 (I : INV0 o x h nr nt ne F M T D S a Tr c N (g) (w)) {t Q day : Nat} (ht : t < nt) (hq : gR g x 19 = some Q ∧ gK g Q = (40, 6) ∧ o Q = 1) (hd : day < 729) : ∃ g' w', B_X1_lives x (T t) (nI day) g = some g' ∧ M_laysDay (nI t) (nI day) w = some w' ∧ FrB (fun q => q = Q) g g' ∧ FrM (fun k _ => k = 35) w w' ∧ ∀ i, i < 6 → ∃ v, v ≤ 240 ∧ gI g' Q i = nI v ∧ rI w' 35 i = nI v := by
  have := lives_loop I ht hq hd 6 0 FU FU 0 0 (nI 243) g w (by omega) (by decide) (by decide) (by omega) (by omega) (fun _ => rfl) FrB.rf FrM.rf (fun i hi => by omega)
  rw [nI_0] at this
  exact this
end DAYS
