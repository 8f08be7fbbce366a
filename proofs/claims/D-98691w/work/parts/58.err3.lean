/-! errands: both sides -/
set_option maxRecDepth 100000
theorem p40_loop {ne : Nat} (n6 : ne ≤ 6) (od : Int32 → Int32 → Int32 → MS → Option MS) : ∀ (j i n : Nat) (w : MS), i + j = ne → j < n → ∃ w', M_orders_b_p40 od n (nI ne) (nI i) w = some w' ∧ (∀ z, i ≤ z → z < ne → rI w' 30 z = rI w 29 z) ∧ FrM (fun q z => q = 30 ∧ i ≤ z) w w' := by
  intro j
  induction j with
  | zero =>
    intro i n w hi hn
    obtain ⟨n, rfl⟩ : ∃ k, n = k + 1 := ⟨n - 1, by omega⟩
    obtain rfl : i = ne := by omega
    exact ⟨w, by rw [M_orders_b_p40, if_pos (nI_le (Nat.le_refl _) (by omega))], fun z a b => by omega, FrM.rf⟩
  | succ j ih =>
    intro i n w hi hn
    obtain ⟨n, rfl⟩ : ∃ k, n = k + 1 := ⟨n - 1, by omega⟩
    obtain ⟨w', r1, r2, r3⟩ := ih (i + 1) n (wI w 30 i (rI w 29 i)) (by omega) (by omega)
    refine ⟨w', ?_, fun z a b => ?_, (FrM.wI ⟨rfl, Nat.le_refl _⟩).tr (r3.mono (fun q z h => ⟨h.1, by omega⟩))⟩
    · rw [M_orders_b_p40, if_neg (nI_ge (by omega) (by omega)), rA_nI (by omega) (by omega), bd1_s, wA_nI (by omega) (by omega), bd1_s, nI_1]
      exact r1
    · by_cases e : z = i
      · subst e
        rw [r3.2 30 z (by omega), rI_eq rfl]
      · rw [r2 z (by omega) b, rI_nk (by omega)]
theorem cnt_free {f : Nat → Bool} : ∀ {n : Nat}, cntB f n < n → ∃ e, e < n ∧ f e = false
  | 0, h => by omega
  | n + 1, h => by
    cases e : f n
    · exact ⟨n, by omega, e⟩
    · rw [cntB, e] at h
      obtain ⟨z, h1, h2⟩ := cnt_free (f := f) (n := n) (by have : b2n true = 1 := rfl; omega)
      exact ⟨z, by omega, h2⟩
theorem cnt_set (f : Nat → Bool) (e : Nat) : ∀ n, cntB (setB f e) n ≤ cntB f n + (if e < n then 1 else 0)
  | 0 => by rw [cntB]; omega
  | n + 1 => by
    have ih := cnt_set f e n
    rw [cntB, cntB]
    unfold setB at ih ⊢
    by_cases q : n = e
    · subst q
      rw [if_pos rfl, if_pos (by omega)]
      rw [if_neg (by omega)] at ih
      have : b2n true = 1 := rfl
      omega
    · rw [if_neg q]
      by_cases z : e < n
      · rw [if_pos z] at ih; rw [if_pos (by omega)]; omega
      · rw [if_neg z] at ih; rw [if_neg (by omega)]; omega
theorem nI_nm1 {n : Nat} (h : n < 2 ^ 31) : nI n ≠ -1 := fun e => nI_pos h (by rw [e]; decide)
section ERR3
variable {o : Nat → Nat} {x h nr nt ne F S Tr N : Nat} {M T D a c : Nat → Nat} {g0 g g' : GS} {w0 w w' : MS}
theorem HD.err (H : HD g x h nr nt ne M T D w) : ∃ l, oRn g h 3 3 2 = some l ∧ oK g l 23 23 = some 23 ∧ B_J2_size l g = some (nI ne) ∧ ∀ e, e < ne → B_J2_get l (nI e) g = some (D e) ∧ oK g (D e) 12 12 = some 12 ∧ oI g (D e) 12 12 1 = some (rI w 10 (92 + 3 * e)) ∧ oI g (D e) 12 12 2 = some (rI w 10 (92 + 3 * e + 1)) ∧ oI g (D e) 12 12 3 = some (rI w 10 (92 + 3 * e + 2)) := by
  obtain ⟨⟨-, -, ⟨h3, -, -, ⟨l, h4, h5⟩, -, -, h6⟩, -⟩, -, -, he, -⟩ := H
  have k := h5.1
  refine ⟨l, by rw [oRn_s (by omega) (by omega)]; exact h4, by rw [oK_s (by omega) (by omega), k], lst_size h5, fun e hh => ?_⟩
  have k2 := h6 e hh
  obtain ⟨q1, q2, q3⟩ := he e hh
  refine ⟨lst_get h5 hh, by rw [oK_s (by omega) (by omega), k2], ?_, ?_, ?_⟩
  · rw [oI_s (by omega) (by omega), q1]
  · rw [oI_s (by omega) (by omega), q2]
  · rw [oI_s (by omega) (by omega), q3]
/-- orders and best orders on both sides -/
def RBx (x ne Bo : Nat) (g : GS) (w : MS) : Prop := gI g x 12 = rI w 31 0 ∧ (rI w 31 0 = -1 ∨ ∃ b, b < 2 ^ 31 ∧ rI w 31 0 = nI b ∧ ∀ i, i < ne → gI g Bo i = rI w 30 i)
/-- two arrays of scratch -/
def SCE (o : Nat → Nat) (x O Bo : Nat) (g : GS) : Prop := gR g x 10 = some O ∧ gK g O = (40, 6) ∧ o O = 1 ∧ gR g x 11 = some Bo ∧ gK g Bo = (40, 6) ∧ o Bo = 1 ∧ O ≠ Bo
theorem scB_arr {q k : Nat} {v : Int32} (hq : o q = 1) : ScB o x Tr F g (sI g q k v) := (FrB.sI (P := fun z => z = q) rfl).sc (fun z hz => by rw [hz]; exact Or.inr (Or.inr hq))
theorem scB_x {k : Nat} {v : Int32} (hk : k ≠ 7 ∧ k ≠ 9 ∧ k ≠ 18) : ScB o x Tr F g (sI g x k v) := ⟨rfl, rfl, rfl, fun q z _ _ _ hz => by
  rw [gi_sI, if_neg]
  rintro ⟨rfl, rfl⟩
  rcases hz with h | h | h | h
  · exact h rfl
  · exact hk.1 h
  · exact hk.2.1 h
  · exact hk.2.2 h⟩
theorem goes2 (I : INV0 o x h nr nt ne F M T D S a Tr c N (g0) (w0)) {t r O Bo : Nat} {k1 : Bool} {op tk ad : Nat → Nat} (ht : t < nt) (H0 : ED w0 t ne r k1 op tk ad) (A : SCE o x O Bo g0) : ∀ (m d k : Nat) (f : Nat → Bool) (od : Nat → Nat) (g : GS) (w : MS), k + m = ne → m < d → ScB o x Tr F g0 g → ScM w0 w → RBx x ne Bo g w → (∀ i, i < k → od i < ne ∧ rI w 29 i = nI (od i) ∧ gI g O i = nI (od i)) → ∃ g' w', B_X1_goes d x (T t) (nI k) (nI (mk6 f)) (nI (runE r k1 op tk ad od k).1) (nI (runE r k1 op tk ad od k).2.1) (nI (runE r k1 op tk ad od k).2.2) g = some g' ∧ M_orders d (nI t) (nI k) (nI (mk6 f)) w = some w' ∧ ScB o x Tr F g0 g' ∧ ScM w0 w' ∧ RBx x ne Bo g' w' ∧ (∀ i, i < k → rI w' 29 i = rI w 29 i ∧ gI g' O i = gI g O i) ∧ ((rI w 31 0 ≠ -1 ∨ cntB f ne ≤ k) → rI w' 31 0 ≠ -1) := by
  have n6 := H0.2.2.1
  have x1 : o x = x := I.1.2.2.2.1.2.2.2.2.1
  have nx : x ≠ O ∧ x ≠ Bo := ⟨fun e => by have := A.2.2.1; rw [← e, x1] at this; exact I.2.2.2.2.2.2.1.2.2.2.2.2.2.2.2.2 this, fun e => by have := A.2.2.2.2.2.1; rw [← e, x1] at this; exact I.2.2.2.2.2.2.1.2.2.2.2.2.2.2.2.2 this⟩
  intro m
  induction m with
  | zero =>
    intro d k f od g w hk hd sB sM R ho
    obtain ⟨d, rfl⟩ : ∃ z, d = z + 1 := ⟨d - 1, by omega⟩
    obtain rfl : k = ne := by omega
    have I1 := I.sc sB sM
    have E := I1.en
    have hx := E.hd.1.1
    have H : ED w t k r k1 op tk ad := H0.fr (fun i => sM.m (by unfold prM; omega))
    have ok := runE_ok H (od := od) (k := k) (fun i hi => (ho i hi).1)
    obtain ⟨o1, -, o3⟩ := ok
    obtain ⟨l, l1, l2, l3, -⟩ := E.hd.err
    have h12 : oI g x 1 1 12 = some (rI w 31 0) := by rw [oI_s (by omega) (by omega), R.1]
    have hby := by_m H (fun i hi => ⟨(ho i hi).1, (ho i hi).2.1⟩)
    -- the new best
    have new : ∃ g' w', B_X1_goes_p17 (B_X1_goes d) x (T t) (nI k) (nI (mk6 f)) (nI (runE r k1 op tk ad od k).1) (nI (runE r k1 op tk ad od k).2.1) (nI (runE r k1 op tk ad od k).2.2) g = some g' ∧ M_orders_b_p40 (M_orders d) FU (nI k) 0 (wI w 31 0 (nI (runE r k1 op tk ad od k).2.2)) = some w' ∧ ScB o x Tr F g0 g' ∧ ScM w0 w' ∧ RBx x k Bo g' w' ∧ (∀ i, i < k → rI w' 29 i = rI w 29 i ∧ gI g' O i = gI g O i) ∧ ((rI w 31 0 ≠ -1 ∨ cntB f k ≤ k) → rI w' 31 0 ≠ -1) := by
      have kO : gK (sI g x 12 (nI (runE r k1 op tk ad od k).2.2)) O = (40, 6) := by rw [gk_sI, sB.k]; exact A.2.1
      have kB : gK (sI g x 12 (nI (runE r k1 op tk ad od k).2.2)) Bo = (40, 6) := by rw [gk_sI, sB.k]; exact A.2.2.2.2.1
      obtain ⟨g2, c1, c2, c3⟩ := copB (L := 6) (by omega) A.2.2.2.2.2.2 kO kB
      obtain ⟨w2, m1, m2, m3⟩ := p40_loop n6 (M_orders d) k 0 FU (wI w 31 0 (nI (runE r k1 op tk ad od k).2.2)) (by omega) (by show k < 5000; omega)
      rw [nI_0] at m1
      have r10 : gR (sI g x 12 (nI (runE r k1 op tk ad od k).2.2)) x 10 = some O := by rw [gr_sI, sB.r]; exact A.1
      have r11 : gR (sI g x 12 (nI (runE r k1 op tk ad od k).2.2)) x 11 = some Bo := by rw [gr_sI, sB.r]; exact A.2.2.2.1
      refine ⟨g2, w2, ?_, m1, (sB.tr (scB_x (by omega))).tr (c3.sc (fun q h => by rw [h]; exact Or.inr (Or.inr A.2.2.2.2.2.1))), (sM.tr (ScM.wI (by unfold prM; omega))).tr (m3.sc (fun q i p h => by unfold prM at p; omega)), ⟨?_, Or.inr ⟨(runE r k1 op tk ad od k).2.2, by omega, ?_, fun i hi => ?_⟩⟩, fun i hi => ⟨?_, ?_⟩, fun _ => ?_⟩
      · unfold B_X1_goes_p17
        simp (disch := first | omega | (simp only [gk_sI]; omega)) only [E.xh, l1, l2, l3, bd1_s, if_true, pI_s, oRn_s, r10, r11, c1]
      · rw [c3.i nx.2, gi_sI, if_pos ⟨rfl, rfl⟩, m3.2 31 0 (by omega), rI_eq rfl]
      · rw [m3.2 31 0 (by omega), rI_eq rfl]
      · rw [c2 i (by omega), gi_sI, if_neg (fun e => nx.1 e.1.symm), (ho i hi).2.2, m2 i (by omega) hi, rI_nk (by omega), (ho i hi).2.1]
      · rw [m3.2 29 i (by omega), rI_nk (by omega)]
      · rw [c3.i A.2.2.2.2.2.2, gi_sI, if_neg (fun e => nx.1 e.1.symm)]
      · rw [m3.2 31 0 (by omega), rI_eq rfl]; exact nI_nm1 (by omega)
    rw [B_X1_goes, M_orders]
    unfold B_X1_goesb M_orders_b
    rw [h12, show M_errandsMany w = nI k from H.2.1, if_pos rfl, hby]
    simp only [bd1_s]
    rcases R.2 with hb | ⟨b, hb1, hb2, hb3⟩
    · rw [hb] at new ⊢
      rw [if_pos (by decide), if_pos (by decide), bdp_s]
      exact new
    · rw [hb2] at new
      rw [hb2, if_neg (nI_pos hb1), if_neg (nI_pos hb1)]
      by_cases q : (runE r k1 op tk ad od k).2.2 < b
      · rw [if_pos (nI_lt q hb1), if_neg (nI_ge q hb1), bdp_s]
        exact new
      · rw [if_neg (nI_nlt (by omega) (by omega)), if_pos (nI_le (by omega) (by omega))]
        exact ⟨g, w, rfl, rfl, sB, sM, R, fun i _ => ⟨rfl, rfl⟩, fun _ => by rw [hb2]; exact nI_nm1 hb1⟩
  | succ m ih =>
    intro d k f od g w hk hd sB sM R ho
    obtain ⟨d, rfl⟩ : ∃ z, d = z + 1 := ⟨d - 1, by omega⟩
    have H : ED w t ne r k1 op tk ad := H0.fr (fun i => sM.m (by unfold prM; omega))
    have ok := runE_ok H (od := od) (k := k) (fun i hi => (ho i hi).1)
    have ok' := ok
    obtain ⟨o1, o2, o3⟩ := ok
    have hx : (gK g x).1 = 1 := (I.sc sB sM).en.hd.1.1
    have h12 : oI g x 1 1 12 = some (rI w 31 0) := by rw [oI_s (by omega) (by omega), R.1]
    have kne : ¬ nI k = nI ne := fun e => by have := (nI_eq (by omega) (by omega)).mp e; omega
    have loop : ∀ (j e n n' : Nat) (g1 : GS) (w1 : MS), e + j = ne → j < n → j < n' → ScB o x Tr F g0 g1 → ScM w0 w1 → RBx x ne Bo g1 w1 → (∀ i, i < k → rI w1 29 i = rI w 29 i ∧ gI g1 O i = gI g O i) → ∃ g' w', B_X1_goes_p52 (B_X1_goes d) n x (T t) (nI k) (nI (mk6 f)) (nI (runE r k1 op tk ad od k).1) (nI (runE r k1 op tk ad od k).2.1) (nI (runE r k1 op tk ad od k).2.2) (nI e) g1 = some g' ∧ M_orders_b_p70 (M_orders d) n' (nI t) (nI k) (nI (mk6 f)) (nI e) w1 = some w' ∧ ScB o x Tr F g0 g' ∧ ScM w0 w' ∧ RBx x ne Bo g' w' ∧ (∀ i, i < k → rI w' 29 i = rI w 29 i ∧ gI g' O i = gI g O i) ∧ ((rI w1 31 0 ≠ -1 ∨ ∃ z, e ≤ z ∧ z < ne ∧ f z = false ∧ cntB f ne ≤ k) → rI w' 31 0 ≠ -1) := by
      intro j
      induction j with
      | zero =>
        intro e n n' g1 w1 he hn hn' s1 s2 R1 p1
        obtain ⟨n, rfl⟩ : ∃ z, n = z + 1 := ⟨n - 1, by omega⟩
        obtain ⟨n', rfl⟩ : ∃ z, n' = z + 1 := ⟨n' - 1, by omega⟩
        have E := (I.sc s1 s2).en
        obtain ⟨l, l1, l2, l3, -⟩ := E.hd.err
        have hM : M_errandsMany w1 = nI ne := E.hd.1.2.2.2.2.2.2.2.2
        obtain rfl : e = ne := by omega
        refine ⟨g1, w1, ?_, ?_, s1, s2, R1, p1, fun h => h.elim (fun h => h) (fun ⟨z, h1, h2, _⟩ => by omega)⟩
        · rw [B_X1_goes_p52, E.xh, bd1_s, l1, bd1_s, l2, bd1_s, l3, bd1_s, if_pos (nI_le (Nat.le_refl _) (by omega))]
        · rw [M_orders_b_p70, hM, if_pos (nI_le (Nat.le_refl _) (by omega))]
      | succ j ihj =>
        intro e n n' g1 w1 he hn hn' s1 s2 R1 p1
        obtain ⟨n, rfl⟩ : ∃ z, n = z + 1 := ⟨n - 1, by omega⟩
        obtain ⟨n', rfl⟩ : ∃ z, n' = z + 1 := ⟨n' - 1, by omega⟩
        have I1 := I.sc s1 s2
        have E := I1.en
        have hx1 := E.hd.1.1
        obtain ⟨l, l1, l2, l3, l4⟩ := E.hd.err
        have hM : M_errandsMany w1 = nI ne := E.hd.1.2.2.2.2.2.2.2.2
        rw [B_X1_goes_p52, E.xh, bd1_s, l1, bd1_s, l2, bd1_s, l3, bd1_s, if_neg (nI_ge (by omega) (by omega)), M_orders_b_p70, hM, if_neg (nI_ge (by omega) (by omega)), mk6_bitM f (show e < 6 by omega), mk6_isIn f (show e < 6 by omega)]
        cases hfe : f e
        · rw [if_pos (show nI (b2n false) = 0 from rfl), if_pos (show nI (b2n false) = 0 from rfl)]
          obtain ⟨e1, e2, e3, e4, e5⟩ := l4 e (by omega)
          have H1 : ED w1 t ne r k1 op tk ad := H0.fr (fun i => s2.m (by unfold prM; omega))
          have hE := H1.2.2.2 e (by omega)
          rw [hE.1] at e3
          rw [hE.2.2.1] at e4
          rw [hE.2.2.2.2.1] at e5
          have hr : V_rest (T t) g1 = some (nI r) := by rw [rest_b E.hd ht, H1.1.2.1]
          have hs : ∀ s, s ≤ 1000 → V_settles (T t) (nI s) g1 = some (nI (calE k1 s)) := fun s hs => by rw [settles_b E.hd ht, cal_n hs H1.1.2.2.2]
          have b := itE_b (r := r) (k1 := k1) (ad := 0) (op e - (runE r k1 op tk ad od k).1) (runE r k1 op tk ad od k).2
          have b2 := itE_b (r := r) (k1 := k1) (ad := ad e) (tk e) (itE r k1 0 (op e - (runE r k1 op tk ad od k).1) (runE r k1 op tk ad od k).2)
          have grow := stE_ok (k1 := k1) H1.1.2.2.1 hE.2.1 hE.2.2.2.1 hE.2.2.2.2.2 ok'
          -- the child
          have sg2 : ScB o x Tr F g1 (sI g1 O k (nI e)) := scB_arr A.2.2.1
          have sw2 : ScM w1 (wI w1 29 k (nI e)) := ScM.wI (by unfold prM; omega)
          have I2 := I1.sc sg2 sw2
          have R2 : RBx x ne Bo (sI g1 O k (nI e)) (wI w1 29 k (nI e)) := by
            refine ⟨by rw [gi_sI, if_neg (fun e => nx.1 e.1), rI_nk (by omega)]; exact R1.1, ?_⟩
            rw [rI_nk (by omega)]
            rcases R1.2 with hb | ⟨b, hb1, hb2, hb3⟩
            · exact Or.inl hb
            · exact Or.inr ⟨b, hb1, hb2, fun i hi => by rw [gi_sI, if_neg (fun e => A.2.2.2.2.2.2 e.1.symm), rI_nk (by omega)]; exact hb3 i hi⟩
          obtain ⟨g3, w3, q1, q2, q3, q4, q5, q6, q7⟩ := ih d (k + 1) (setB f e) (odS od k e) (sI g1 O k (nI e)) (wI w1 29 k (nI e)) (by omega) (by omega) (s1.tr sg2) (s2.tr sw2) R2 (fun i hi => by
            unfold odS
            by_cases q : i = k
            · rw [if_pos q, q, rI_eq rfl, gi_sI, if_pos ⟨rfl, rfl⟩]; exact ⟨by omega, rfl, rfl⟩
            · rw [if_neg q, rI_ne q, gi_sI, if_neg (fun e => q e.2), (p1 i (by omega)).1, (p1 i (by omega)).2]; exact ho i (by omega))
          obtain ⟨g4, w4, u1, u2, u3, u4, u5, u6, u7⟩ := ihj (e + 1) n n' g3 w3 (by omega) (by omega) (by omega) q3 q4 q5 (fun i hi => by
            rw [(q6 i (by omega)).1, (q6 i (by omega)).2, rI_ne (by omega), gi_sI, if_neg (by omega)]; exact p1 i hi)
          refine ⟨g4, w4, ?_, ?_, u3, u4, u5, u6, fun hh => u7 (Or.inl (q7 (hh.elim (fun h => Or.inl (by rw [rI_nk (by omega)]; exact h)) (fun ⟨z, h1, h2, h3, h4⟩ => Or.inr (by have := cnt_set f e ne; rw [if_pos (by omega)] at this; omega)))))⟩
          · rw [bd1_s, l1, bd1_s, l2, bd1_s, e1, bd1_s, e2, bd1_s, go_wait e3 hE.2.1 hr hs (op e - (runE r k1 op tk ad od k).1) FU _ _ rfl (by omega) (by show _ < 5000; omega) o2, ← nI_0, go_take e4 e5 hE.2.2.2.1 hr hs _ (tk e) 0 FU _ (by omega) (by show _ < 5000; omega) (by omega)]
            have r10 : oRn g1 x 1 1 10 = some O := by rw [oRn_x I1.1, s1.r]; exact A.1
            have kO : gK g1 O = (40, 6) := by rw [s1.k]; exact A.2.1
            have x2 : oI (sI g1 O k (nI e)) (D e) 12 12 2 = some (nI (tk e)) := by
              have := (I2.en.hd.err).choose_spec.2.2.2 e (by omega)
              rw [this.2.2.2.1, rI_nk (by omega), hE.2.2.1]
            have x3 : oI (sI g1 O k (nI e)) (D e) 12 12 3 = some (nI (ad e)) := by
              have := (I2.en.hd.err).choose_spec.2.2.2 e (by omega)
              rw [this.2.2.2.2, rI_nk (by omega), hE.2.2.2.2.1]
            have hmax : (if nI (itE r k1 (ad e) (tk e) (itE r k1 0 (op e - (runE r k1 op tk ad od k).1) (runE r k1 op tk ad od k).2)).1 < nI (ad e) then nI (ad e) else nI (itE r k1 (ad e) (tk e) (itE r k1 0 (op e - (runE r k1 op tk ad od k).1) (runE r k1 op tk ad od k).2)).1) = nI (max (itE r k1 (ad e) (tk e) (itE r k1 0 (op e - (runE r k1 op tk ad od k).1) (runE r k1 op tk ad od k).2)).1 (ad e)) := by
              by_cases z : (itE r k1 (ad e) (tk e) (itE r k1 0 (op e - (runE r k1 op tk ad od k).1) (runE r k1 op tk ad od k).2)).1 < ad e
              · rw [if_pos (nI_lt z (by omega)), Nat.max_eq_right (by omega)]
              · rw [if_neg (nI_nlt (by omega) (by omega)), Nat.max_eq_left (by omega)]
            rw [r10, bd1_s, xI_s (by rw [kO]) (by rw [kO]; show k < 6; omega) (by rw [kO]; omega), bd1_s, x2, bd1_s, x3, bd1_s, I2.en.kx, bd1_s, hmax, mk6_or f (show e < 6 by omega), nI_1, nI_add]
            rw [runE_odS] at q1
            unfold stE at q1
            rw [q1, bd1_s, nI_1]
            exact u1
          · rw [wA_nI (by omega) (by omega), bd1_s, mk6_or f (show e < 6 by omega), nI_1, q2, bd1_s, nI_1]
            exact u2
        · rw [if_neg (show ¬ nI (b2n true) = 0 by decide), if_neg (show ¬ nI (b2n true) = 0 by decide), nI_1]
          obtain ⟨g4, w4, u1, u2, u3, u4, u5, u6, u7⟩ := ihj (e + 1) n n' g1 w1 (by omega) (by omega) (by omega) s1 s2 R1 p1
          exact ⟨g4, w4, u1, u2, u3, u4, u5, u6, fun hh => u7 (hh.elim Or.inl (fun ⟨z, h1, h2, h3, h4⟩ => Or.inr ⟨z, by
            by_cases q : z = e
            · rw [q, hfe] at h3; cases h3
            · omega, h2, h3, h4⟩))⟩
    have go : ∃ g' w', B_X1_goes_p17 (B_X1_goes d) x (T t) (nI k) (nI (mk6 f)) (nI (runE r k1 op tk ad od k).1) (nI (runE r k1 op tk ad od k).2.1) (nI (runE r k1 op tk ad od k).2.2) g = some g' ∧ M_orders (d + 1) (nI t) (nI k) (nI (mk6 f)) w = some w' ∧ ScB o x Tr F g0 g' ∧ ScM w0 w' ∧ RBx x ne Bo g' w' ∧ (∀ i, i < k → rI w' 29 i = rI w 29 i ∧ gI g' O i = gI g O i) ∧ ((rI w 31 0 ≠ -1 ∨ cntB f ne ≤ k) → rI w' 31 0 ≠ -1) := by
      have E := (I.sc sB sM).en
      obtain ⟨l, l1, l2, l3, -⟩ := E.hd.err
      obtain ⟨g', w', v1, v2, v3, v4, v5, v6, v7⟩ := loop ne 0 FU FU g w (by omega) (by show ne < 5000; omega) (by show ne < 5000; omega) sB sM R (fun i _ => ⟨rfl, rfl⟩)
      rw [nI_0] at v1 v2
      refine ⟨g', w', ?_, ?_, v3, v4, v5, v6, fun hh => v7 (hh.elim Or.inl (fun h => by
        obtain ⟨z, h1, h2⟩ := cnt_free (f := f) (n := ne) (by omega)
        exact Or.inr ⟨z, by omega, h1, h2, h⟩))⟩
      · unfold B_X1_goes_p17
        rw [E.xh, bd1_s, l1, bd1_s, l2, bd1_s, l3, bd1_s, if_neg kne]
        exact v1
      · rw [M_orders]
        unfold M_orders_b
        rw [show M_errandsMany w = nI ne from H.2.1, if_neg kne]
        exact v2
    rw [B_X1_goes]
    unfold B_X1_goesb
    rw [h12, bd1_s]
    rcases R.2 with hb | ⟨b, hb1, hb2, hb3⟩
    · rw [hb] at go ⊢
      rw [if_pos (by decide)]
      exact go
    · rw [hb2] at go
      rw [hb2, if_neg (nI_pos hb1), bd1_s]
      by_cases q : (runE r k1 op tk ad od k).2.2 < b
      · rw [if_pos (nI_lt q hb1)]
        exact go
      · rw [if_neg (nI_nlt (by omega) (by omega))]
        obtain ⟨w2, p1, p2⟩ := od_prune hb1 (m + 1) (d + 1) k f od w (by omega) (by omega) H (fun i hi => ⟨(ho i hi).1, (ho i hi).2.1⟩) hb2 (by omega)
        refine ⟨g, w2, rfl, p1, sB, sM.tr (p2.sc (fun q i p h => by unfold prM at p; omega)), ⟨?_, ?_⟩, fun i hi => ⟨p2.2 29 i (by omega), rfl⟩, fun _ => by rw [p2.2 31 0 (by omega), hb2]; exact nI_nm1 hb1⟩
        · rw [p2.2 31 0 (by omega)]; exact R.1
        · rw [p2.2 31 0 (by omega)]
          exact Or.inr ⟨b, hb1, hb2, fun i hi => by rw [p2.2 30 i (by omega)]; exact hb3 i hi⟩
end ERR3
