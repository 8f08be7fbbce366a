/-! calls: days, did, next -/
set_option maxRecDepth 100000
theorem did_m {w : MS} {mi : Nat} (hm : mi < 6) : ∀ (j i n : Nat) (y : Nat), i = mi + j → i < 6 → j < n → y < 100000 → M_did_p37 n (nI mi) (nI y) (nI i) w = if rI w 37 0 = 0 then some (-1, w) else some (nI (y / 3 ^ j % 3), w) := by
  intro j
  induction j with
  | zero =>
    intro i n y hi h6 hn hy
    obtain ⟨n, rfl⟩ : ∃ k, n = k + 1 := ⟨n - 1, by omega⟩
    obtain rfl : i = mi := by omega
    rw [M_did_p37, if_pos (nI_le (Nat.le_refl _) (by omega)), show (3 : Int32) = nI 3 from rfl, pk_rem (by omega) (by omega) (by omega), Nat.pow_zero, Nat.div_one]
  | succ j ih =>
    intro i n y hi h6 hn hy
    obtain ⟨n, rfl⟩ : ∃ k, n = k + 1 := ⟨n - 1, by omega⟩
    obtain ⟨i, rfl⟩ : ∃ k, i = k + 1 := ⟨i - 1, by omega⟩
    rw [M_did_p37, if_neg (nI_ge (by omega) (by omega)), bdp_s, show (3 : Int32) = nI 3 from rfl, pk_div (by omega) (by omega) (by omega), nI_pm, ih i n (y / 3) (by omega) (by omega) (by omega) (by have := Nat.div_le_self y 3; omega), Nat.div_div_eq_div_mul, Nat.pow_succ, Nat.mul_comm 3]
theorem did_m0 {w : MS} {mi : Nat} (hm : mi < 6) (h0 : rI w 37 0 = 0) : ∀ (j i n : Nat) (y : Int32), i = mi + j → i < 6 → j < n → M_did_p37 n (nI mi) y (nI i) w = some (-1, w) := by
  intro j
  induction j with
  | zero =>
    intro i n y hi h6 hn
    obtain ⟨n, rfl⟩ : ∃ k, n = k + 1 := ⟨n - 1, by omega⟩
    obtain rfl : i = mi := by omega
    rw [M_did_p37, if_pos (nI_le (Nat.le_refl _) (by omega)), if_pos h0]
  | succ j ih =>
    intro i n y hi h6 hn
    obtain ⟨n, rfl⟩ : ∃ k, n = k + 1 := ⟨n - 1, by omega⟩
    obtain ⟨i, rfl⟩ : ∃ k, i = k + 1 := ⟨i - 1, by omega⟩
    rw [M_did_p37, if_neg (nI_ge (by omega) (by omega)), bdp_s, nI_pm]
    exact ih i n _ (by omega) (by omega) (by omega)
section DAYS5
variable {o : Nat → Nat} {x h nr nt ne F S Tr N : Nat} {M T D a c : Nat → Nat} {g0 g g' : GS} {w0 w w' : MS}
theorem smp_thr {sm sb ns : Nat} (I : INV0 o x h nr nt ne F M T D S a Tr c N (g) (w)) (P : SMP o x Tr F sm sb ns g w) : SMP o x Tr F sm sb ns g (wI w 0 0 0) := P.sc (scx I) ScB.rf scM_thr
theorem c_days (I : INV0 o x h nr nt ne F M T D S a Tr c N (g) (w)) {Q al sm sb ns : Nat} {rw' : Nat → Nat} (P : SMP o x Tr F sm sb ns g w) (A : ALK o x Q al rw' g) (v : Int32) : ∃ r g' w', B_X1_days x v g = some (r, g') ∧ M_days v w = some (r, w') ∧ ScB o x Tr F g g' ∧ ScM w w' := by
  have I1 := I.thr 0
  have E := I1.en
  unfold B_X1_days M_days
  rcases ten_b E v with ⟨h1, h2⟩ | ⟨t, ht, rfl, h1, h2⟩
  · simp only [E.kx, bd1_s, bdp_s, h1, h2, if00]
    exact ⟨_, _, _, rfl, rfl, ScB.rf, scM_thr⟩
  · obtain ⟨g1, w1, l1, l2, l3, l4, l5, l6, l7⟩ := looks2 I1 ht (smp_thr I P) A
    have hx := (I1.sc l3 l4).en.hd.1.1
    have h21 : oI g1 x 1 1 21 = some (rI w1 37 0) := by rw [oI_s (by omega) (by omega), l6.1]
    simp only [E.kx, bd1_s, bdp_s, h1, h2, if10, E.hd.tena ht, l1, l2, h21]
    exact ⟨_, _, _, rfl, rfl, l3, scM_thr.tr l4⟩
theorem c_did (I : INV0 o x h nr nt ne F M T D S a Tr c N (g) (w)) {Q al sm sb ns : Nat} {rw' : Nat → Nat} (P : SMP o x Tr F sm sb ns g w) (A : ALK o x Q al rw' g) (v m : Int32) : ∃ r g' w', B_X1_did x v m g = some (r, g') ∧ M_did v m w = some (r, w') ∧ ScB o x Tr F g g' ∧ ScM w w' := by
  have I1 := I.thr 0
  have E := I1.en
  unfold B_X1_did M_did
  rcases ten_b E v with ⟨h1, h2⟩ | ⟨t, ht, rfl, h1, h2⟩
  · simp only [E.kx, bd1_s, bdp_s, h1, h2, if00]
    exact ⟨_, _, _, rfl, rfl, ScB.rf, scM_thr⟩
  · rcases win m (lo := 0) (hi := 5) (by omega) (by omega) with q | ⟨k, -, hk, rfl, q⟩
    · have q : M_within m 0 5 = 0 := q
      simp only [E.kx, bd1_s, bdp_s, h1, h2, if10, in_eq, q, if00]
      exact ⟨_, _, _, rfl, rfl, ScB.rf, scM_thr⟩
    · have q : M_within (nI k) 0 5 = 1 := q
      obtain ⟨g1, w1, l1, l2, l3, l4, l5, l6, l7⟩ := looks2 I1 ht (smp_thr I P) A
      have hx := (I1.sc l3 l4).en.hd.1.1
      have h21 : oI g1 x 1 1 21 = some (rI w1 37 0) := by rw [oI_s (by omega) (by omega), l6.1]
      have h22 : oI g1 x 1 1 22 = some (rI w1 38 0) := by rw [oI_s (by omega) (by omega), l6.2]
      simp only [E.kx, bd1_s, bdp_s, h1, h2, if10, in_eq, q, E.hd.tena ht, l1, l2, h21, h22]
      obtain ⟨kk, k1, k2, k3⟩ := l7
      by_cases z : rI w1 37 0 = 0
      · have := did_m0 (w := w1) (mi := k) (by omega) z (5 - k) 5 FU (rI w1 38 0) (by omega) (by omega) (by show 5 - k < 5000; omega)
        rw [if_pos z, show (5 : Int32) = nI 5 from rfl, this]
        exact ⟨_, _, _, rfl, rfl, l3, scM_thr.tr l4⟩
      · obtain ⟨d, d1, d2⟩ := k3 (fun e => z (by rw [k2, e]; rfl))
        have := did_m (w := w1) (mi := k) (by omega) (5 - k) 5 FU d (by omega) (by omega) (by show 5 - k < 5000; omega) (by omega)
        rw [if_neg z, d2, show (5 : Int32) = nI 5 from rfl, this, if_neg z, did_b (by omega) (by omega), bd1_s]
        exact ⟨_, _, _, rfl, rfl, l3, scM_thr.tr l4⟩
theorem next_in {al Q m : Nat} {rw' : Nat → Nat} (hx : (gK g x).1 = 1) (A : ALK o x Q al rw' g) (V : ALV rw' g w) (hm : m < 6) (k29 : Nat → Int32 → Int32 → Int32 → GS → Option (Int32 × GS)) (k30 : Int32 → Int32 → Int32 → MS → Option (Int32 × MS)) (x2 x3 : Int32) : ∀ (j b n n' : Nat) (x5 : Int32), b + j = 241 → j < n → j < n' → ∃ y : Int32, B_X1_next_p42 k29 n x x2 x3 (nI m) x5 (nI b) g = (if y < x3 then k29 x (nI m) y (nI (m + 1)) g else k29 x x2 x3 (nI (m + 1)) g) ∧ M_next_p43 k30 n' x2 x3 (nI m) x5 (nI b) w = (if y < x3 then k30 (nI m) y (nI (m + 1)) w else k30 x2 x3 (nI (m + 1)) w) := by
  obtain ⟨-, a1, a2, a3, a4⟩ := A
  obtain ⟨r1, r2, -, -⟩ := a3 m hm
  have z1 : oRn g x 1 1 20 = some al := by rw [oRn_s (by omega) (by omega)]; exact a1
  have z2 : aRn g al 46 (nI m) = some (rw' m) := by rw [aRn_s (by rw [a2]) (by rw [a2]; show m < 6; omega) (by rw [a2]; omega)]; exact r1
  intro j
  induction j with
  | zero =>
    intro b n n' x5 hb hn hn'
    obtain ⟨n, rfl⟩ : ∃ k, n = k + 1 := ⟨n - 1, by omega⟩
    obtain ⟨n', rfl⟩ : ∃ k, n' = k + 1 := ⟨n' - 1, by omega⟩
    refine ⟨x5, ?_, ?_⟩
    · rw [B_X1_next_p42, if_pos (show (240 : Int32) < nI b from nI_lt (a := 240) (by omega) (by omega)), nI_1]
    · rw [M_next_p43, if_pos (show (241 : Int32) ≤ nI b from nI_le (a := 241) (by omega) (by omega))]
      unfold M_next_p109
      by_cases q : x5 < x3
      · rw [if_neg (Int32.not_le.mpr q), if_neg (Int32.not_le.mpr q), if_pos q, nI_1]
      · rw [if_pos (Int32.not_lt.mp q), if_pos (Int32.not_lt.mp q), if_neg q, nI_1]
  | succ j ih =>
    intro b n n' x5 hb hn hn'
    obtain ⟨n, rfl⟩ : ∃ k, n = k + 1 := ⟨n - 1, by omega⟩
    obtain ⟨n', rfl⟩ : ∃ k, n' = k + 1 := ⟨n' - 1, by omega⟩
    have z3 : aI g (rw' m) 40 (nI b) = some (rI w 36 (241 * m + b)) := by rw [aI_s (by rw [r2]) (by rw [r2]; show b < 241; omega) (by rw [r2]; omega), V m b hm (by omega)]
    have m1 : rA w 36 1446 ((241 : Int32) * nI m + nI b) = some (rI w 36 (241 * m + b)) := by simp (disch := omega) only [L2, L3, L4, L5, L6, L7, L8, L9, L10, L11, L12, L13, L14, L15, L16, L17, L18, L19, L20, L21, L22, L23, L24, L25, L26, L27, L28, L29, L30, L31, L32, L33, L34, L35, L36, L37, L38, L40, L41, L42, L43, L44, L45, L48, L56, L57, L59, L60, L61, L63, L92, L96, L97, L99, L100, L101, L120, L122, L123, L124, L125, L126, L128, L146, L176, L200, L212, L240, L241, L243, L255, L729, L999, L1000, L1002, L1100, L1176, L1177, L1183, L1195, L1232, L1251, L1288, L1446, nI_add0, nI_1, nI_add, pk_mul, rA_nI, wA_nI, bd1_s, bd2_s, bdp_s]
    obtain ⟨y, p1, p2⟩ := ih (b + 1) n n' (if x5 < rI w 36 (241 * m + b) then rI w 36 (241 * m + b) else x5) (by omega) (by omega) (by omega)
    refine ⟨y, ?_, ?_⟩
    · rw [B_X1_next_p42, if_neg (show ¬ (240 : Int32) < nI b from nI_nlt (b := b) (a := 240) (by omega) (by omega)), z1, bd1_s, z2, bd1_s, z3, bd1_s, bdp_s, nI_1]
      exact p1
    · rw [M_next_p43, if_neg (show ¬ (241 : Int32) ≤ nI b from nI_ge (b := 241) (by omega) (by omega)), m1, bd1_s, bd1_s, nI_1, ← p2]
      by_cases q : x5 < rI w 36 (241 * m + b)
      · rw [if_neg (Int32.not_le.mpr q), if_pos q]
      · rw [if_pos (Int32.not_lt.mp q), if_neg q]
theorem next_out {al Q : Nat} {rw' : Nat → Nat} (hx : (gK g x).1 = 1) (A : ALK o x Q al rw' g) (V : ALV rw' g w) : ∀ (j m n n' : Nat) (x2 x3 : Int32), m + j = 6 → j < n → j < n' → ∃ r, B_X1_next_p29 n x x2 x3 (nI m) g = some (r, g) ∧ M_next_p30 n' x2 x3 (nI m) w = some (r, w) := by
  intro j
  induction j with
  | zero =>
    intro m n n' x2 x3 hm hn hn'
    obtain ⟨n, rfl⟩ : ∃ k, n = k + 1 := ⟨n - 1, by omega⟩
    obtain ⟨n', rfl⟩ : ∃ k, n' = k + 1 := ⟨n' - 1, by omega⟩
    obtain rfl : m = 6 := by omega
    exact ⟨x2, by rw [B_X1_next_p29, if_pos (by decide)], by rw [M_next_p30, if_pos (by decide)]⟩
  | succ j ih =>
    intro m n n' x2 x3 hm hn hn'
    obtain ⟨n, rfl⟩ : ∃ k, n = k + 1 := ⟨n - 1, by omega⟩
    obtain ⟨n', rfl⟩ : ∃ k, n' = k + 1 := ⟨n' - 1, by omega⟩
    obtain ⟨y, p1, p2⟩ := next_in hx A V (show m < 6 by omega) (B_X1_next_p29 n) (M_next_p30 n') x2 x3 241 0 FU FU 0 (by omega) (by show 241 < 5000; omega) (by show 241 < 5000; omega)
    rw [nI_0] at p1 p2
    rw [B_X1_next_p29, if_neg (show ¬ (6 : Int32) ≤ nI m from nI_ge (b := 6) (by omega) (by omega)), p1, M_next_p30, if_neg (show ¬ (6 : Int32) ≤ nI m from nI_ge (b := 6) (by omega) (by omega)), p2]
    by_cases q : y < x3
    · rw [if_pos q, if_pos q]
      exact ih (m + 1) n n' (nI m) y (by omega) (by omega) (by omega)
    · rw [if_neg q, if_neg q]
      exact ih (m + 1) n n' x2 x3 (by omega) (by omega) (by omega)
theorem c_next (I : INV0 o x h nr nt ne F M T D S a Tr c N (g) (w)) {Q al sm sb ns : Nat} {rw' : Nat → Nat} (P : SMP o x Tr F sm sb ns g w) (A : ALK o x Q al rw' g) (v : Int32) : ∃ r g' w', B_X1_next x v g = some (r, g') ∧ M_next v w = some (r, w') ∧ ScB o x Tr F g g' ∧ ScM w w' := by
  have I1 := I.thr 0
  have E := I1.en
  unfold B_X1_next M_next
  rcases ten_b E v with ⟨h1, h2⟩ | ⟨t, ht, rfl, h1, h2⟩
  · simp only [E.kx, bd1_s, bdp_s, h1, h2, if00]
    exact ⟨_, _, _, rfl, rfl, ScB.rf, scM_thr⟩
  · obtain ⟨g1, w1, l1, l2, l3, l4, l5, l6, l7⟩ := looks2 I1 ht (smp_thr I P) A
    have hx := (I1.sc l3 l4).en.hd.1.1
    have h21 : oI g1 x 1 1 21 = some (rI w1 37 0) := by rw [oI_s (by omega) (by omega), l6.1]
    obtain ⟨r, r1, r2⟩ := next_out hx (A.sc l3) l5 6 0 FU FU (-1) (rI w1 37 0) (by omega) (by decide) (by decide)
    rw [nI_0] at r1 r2
    simp only [E.kx, bd1_s, bdp_s, h1, h2, if10, E.hd.tena ht, l1, l2, h21, r1, r2]
    exact ⟨_, _, _, rfl, rfl, l3, scM_thr.tr l4⟩
end DAYS5
