/-! days: samples, those that fit -/
set_option maxRecDepth 100000
/-- samples of the State now -/
def SMP (o : Nat → Nat) (x Tr F sm sb ns : Nat) (g : GS) (w : MS) : Prop := (gR g x 16 = some sm ∧ gK g sm = (40, 6) ∧ gR g x 17 = some sb ∧ gK g sb = (40, 6) ∧ sm ≠ sb ∧ sm ≠ x ∧ sb ≠ x) ∧ (o sm = sm ∧ o sb = sb ∧ sm ≠ Tr ∧ sm ≠ F ∧ sm ≠ 1 ∧ sb ≠ Tr ∧ sb ≠ F ∧ sb ≠ 1) ∧ gI g x 18 = nI ns ∧ rI w 25 43 = nI ns ∧ ns ≤ 6 ∧ ∀ k, k < ns → ∃ p b, p < 6 ∧ b ≤ 240 ∧ gI g sm k = nI p ∧ rI w 25 (44 + 2 * k) = nI p ∧ gI g sb k = nI b ∧ rI w 25 (44 + 2 * k + 1) = nI b
theorem SMP.sc {o : Nat → Nat} {x Tr F sm sb ns : Nat} {g g' : GS} {w w' : MS} (H : SMP o x Tr F sm sb ns g w) (hx : o x = x ∧ x ≠ Tr ∧ x ≠ F ∧ x ≠ 1) (s : ScB o x Tr F g g') (m : ScM w w') : SMP o x Tr F sm sb ns g' w' := by
  obtain ⟨⟨a1, a2, a3, a4, a5, a6, a7⟩, ⟨b1, b2, b3, b4, b5, b6, b7, b8⟩, c1, c2, c3, c4⟩ := H
  refine ⟨⟨by rw [s.r]; exact a1, by rw [s.k]; exact a2, by rw [s.r]; exact a3, by rw [s.k]; exact a4, a5, a6, a7⟩, ⟨b1, b2, b3, b4, b5, b6, b7, b8⟩, ?_, by rw [m.m (by unfold prM; omega)]; exact c2, c3, fun k hk => ?_⟩
  · rw [s.2.2.2 x 18 (by rw [hx.1]; exact hx.2.1) (by rw [hx.1]; exact hx.2.2.1) (by rw [hx.1]; exact hx.2.2.2) (Or.inr (Or.inr (Or.inr rfl)))]; exact c1
  · rw [s.2.2.2 sm k (by rw [b1]; exact b3) (by rw [b1]; exact b4) (by rw [b1]; exact b5) (Or.inl a6), s.2.2.2 sb k (by rw [b2]; exact b6) (by rw [b2]; exact b7) (by rw [b2]; exact b8) (Or.inl a7), m.m (by unfold prM; omega), m.m (by unfold prM; omega)]
    exact c4 k hk
theorem smp_fit {o : Nat → Nat} {x Tr F sm sb ns Q : Nat} {g : GS} {w : MS} (H : SMP o x Tr F sm sb ns g w) (hx : (gK g x).1 = 1) (hq : gR g x 19 = some Q ∧ gK g Q = (40, 6)) (hv : ∀ i, i < 6 → ∃ v, v ≤ 240 ∧ gI g Q i = nI v ∧ rI w 35 i = nI v) (k34 : Int32 → Int32 → MS → Option MS) (tt dd : Int32) : ∀ (j i n n' : Nat), i + j = ns → j < n → j + 1 < n' → ∃ v : Int32, (v = 0 ∨ v = 1) ∧ B_X1_isSampled_p2 n x (nI i) g = some v ∧ M_findDays_p52 k34 n' tt dd 1 (nI i) w = M_findDays_p114 k34 tt dd v w := by
  obtain ⟨⟨a1, a2, a3, a4, -⟩, -, c1, c2, c3, c4⟩ := H
  have h18 : oI g x 1 1 18 = some (nI ns) := by rw [oI_s (by omega) (by omega), c1]
  intro j
  induction j with
  | zero =>
    intro i n n' hi hn hn'
    obtain ⟨n, rfl⟩ : ∃ k, n = k + 1 := ⟨n - 1, by omega⟩
    obtain ⟨n', rfl⟩ : ∃ k, n' = k + 1 := ⟨n' - 1, by omega⟩
    obtain rfl : i = ns := by omega
    exact ⟨1, Or.inr rfl, by rw [B_X1_isSampled_p2, h18, bd1_s, if_pos (nI_le (Nat.le_refl _) (by omega))], by rw [M_findDays_p52, c2, if_pos (nI_le (Nat.le_refl _) (by omega))]⟩
  | succ j ih =>
    intro i n n' hi hn hn'
    obtain ⟨n, rfl⟩ : ∃ k, n = k + 1 := ⟨n - 1, by omega⟩
    obtain ⟨n', rfl⟩ : ∃ k, n' = k + 1 + 1 := ⟨n' - 2, by omega⟩
    obtain ⟨p, b, p1, b1, e1, e2, e3, e4⟩ := c4 i (by omega)
    obtain ⟨v, v1, v2, v3⟩ := hv p p1
    have z1 : oRn g x 1 1 19 = some Q := by rw [oRn_s (by omega) (by omega)]; exact hq.1
    have z2 : oRn g x 1 1 16 = some sm := by rw [oRn_s (by omega) (by omega)]; exact a1
    have z3 : oRn g x 1 1 17 = some sb := by rw [oRn_s (by omega) (by omega)]; exact a3
    have z4 : aI g sm 40 (nI i) = some (nI p) := by rw [aI_s (by rw [a2]) (by rw [a2]; show i < 6; omega) (by rw [a2]; omega), e1]
    have z5 : aI g sb 40 (nI i) = some (nI b) := by rw [aI_s (by rw [a4]) (by rw [a4]; show i < 6; omega) (by rw [a4]; omega), e3]
    have z6 : aI g Q 40 (nI p) = some (nI v) := by rw [aI_s (by rw [hq.2]) (by rw [hq.2]; exact p1) (by rw [hq.2]; omega), v2]
    have m1 : rA w 25 1288 ((44 : Int32) + (2 : Int32) * nI i) = some (nI p) := by rw [← e2]; simp (disch := omega) only [L2, L3, L4, L5, L6, L7, L8, L9, L10, L11, L12, L13, L14, L15, L16, L17, L18, L19, L20, L21, L22, L23, L24, L25, L26, L27, L28, L29, L30, L31, L32, L33, L34, L35, L36, L37, L38, L40, L41, L42, L43, L44, L45, L48, L56, L57, L59, L60, L61, L63, L92, L96, L97, L99, L100, L101, L120, L122, L123, L124, L125, L126, L128, L146, L176, L200, L212, L240, L241, L243, L255, L729, L999, L1000, L1002, L1100, L1176, L1177, L1183, L1195, L1232, L1251, L1288, L1446, nI_add0, nI_1, nI_add, pk_mul, rA_nI, wA_nI, bd1_s, bd2_s, bdp_s]
    have m2 : rA w 25 1288 ((44 : Int32) + (2 : Int32) * nI i + (1 : Int32)) = some (nI b) := by rw [← e4]; simp (disch := omega) only [L2, L3, L4, L5, L6, L7, L8, L9, L10, L11, L12, L13, L14, L15, L16, L17, L18, L19, L20, L21, L22, L23, L24, L25, L26, L27, L28, L29, L30, L31, L32, L33, L34, L35, L36, L37, L38, L40, L41, L42, L43, L44, L45, L48, L56, L57, L59, L60, L61, L63, L92, L96, L97, L99, L100, L101, L120, L122, L123, L124, L125, L126, L128, L146, L176, L200, L212, L240, L241, L243, L255, L729, L999, L1000, L1002, L1100, L1176, L1177, L1183, L1195, L1232, L1251, L1288, L1446, nI_add0, nI_1, nI_add, pk_mul, rA_nI, wA_nI, bd1_s, bd2_s, bdp_s]
    have m3 : rA w 35 6 (nI p) = some (nI v) := by rw [rA_nI p1 (by omega), v3]
    rw [B_X1_isSampled_p2, h18, bd1_s, if_neg (nI_ge (by omega) (by omega)), z1, bd1_s, z2, bd1_s, z4, bd1_s, z6, bd1_s, z3, bd1_s, z5, bd1_s, M_findDays_p52, c2, if_neg (nI_ge (by omega) (by omega)), if10, m1, bd1_s, m3, bd1_s, m2, bd1_s]
    by_cases q : nI v = nI b
    · rw [if_pos q, if_pos q, nI_1]
      exact ih (i + 1) n (n' + 1) (by omega) (by omega) (by omega)
    · rw [if_neg q, if_neg q, M_findDays_p52, c2, if00]
      refine ⟨0, Or.inl rfl, rfl, ?_⟩
      split <;> rfl
/-- rows of days alike -/
def ALK (o : Nat → Nat) (x Q al : Nat) (rw' : Nat → Nat) (g : GS) : Prop := (gR g x 19 = some Q ∧ gK g Q = (40, 6) ∧ o Q = 1) ∧ gR g x 20 = some al ∧ gK g al = (46, 6) ∧ (∀ m, m < 6 → gR g al m = some (rw' m) ∧ gK g (rw' m) = (40, 241) ∧ o (rw' m) = 1 ∧ rw' m ≠ Q) ∧ ∀ i j, i < 6 → j < 6 → rw' i = rw' j → i = j
def ALV (rw' : Nat → Nat) (g : GS) (w : MS) : Prop := ∀ m b, m < 6 → b < 241 → gI g (rw' m) b = rI w 36 (241 * m + b)
theorem ALK.sc {o : Nat → Nat} {x Tr F Q al : Nat} {rw' : Nat → Nat} {g g' : GS} (A : ALK o x Q al rw' g) (s : ScB o x Tr F g g') : ALK o x Q al rw' g' :=
  ⟨⟨by rw [s.r]; exact A.1.1, by rw [s.k]; exact A.1.2.1, A.1.2.2⟩, by rw [s.r]; exact A.2.1, by rw [s.k]; exact A.2.2.1, fun m hm => by rw [s.r, s.k]; exact A.2.2.2.1 m hm, A.2.2.2.2⟩
section DAYS2
variable {o : Nat → Nat} {x h nr nt ne F S Tr N : Nat} {M T D a c : Nat → Nat} {g0 g g' : GS} {w0 w w' : MS}
theorem alike_add {Q al : Nat} {rw' : Nat → Nat} (k50 : Nat → Nat → Int32 → GS → Option GS) (k34 : Int32 → Int32 → MS → Option MS) (tb : Nat) (tt dd : Int32) : ∀ (j m n n' : Nat) (g : GS) (w : MS), m + j = 6 → j < n → j < n' → (gK g x).1 = 1 → ALK o x Q al rw' g → ALV rw' g w → (∀ i, i < 6 → ∃ v, v ≤ 240 ∧ gI g Q i = nI v ∧ rI w 35 i = nI v) → ∃ g' w', B_X1_looks_p94 k50 n x tb dd (nI m) g = k50 x tb (dd + 1) g' ∧ M_findDays_p150 k34 n' tt dd (nI m) w = k34 tt (dd + 1) w' ∧ ALV rw' g' w' ∧ FrB (fun q => ∃ z, z < 6 ∧ q = rw' z) g g' ∧ FrM (fun k _ => k = 36) w w' := by
  intro j
  induction j with
  | zero =>
    intro m n n' g w hm hn hn' hx A V hv
    obtain ⟨n, rfl⟩ : ∃ k, n = k + 1 := ⟨n - 1, by omega⟩
    obtain ⟨n', rfl⟩ : ∃ k, n' = k + 1 := ⟨n' - 1, by omega⟩
    obtain rfl : m = 6 := by omega
    exact ⟨g, w, by rw [B_X1_looks_p94, if_pos (by decide)], by rw [M_findDays_p150, if_pos (by decide)], V, FrB.rf, FrM.rf⟩
  | succ j ih =>
    intro m n n' g w hm hn hn' hx A V hv
    obtain ⟨n, rfl⟩ : ∃ k, n = k + 1 := ⟨n - 1, by omega⟩
    obtain ⟨n', rfl⟩ : ∃ k, n' = k + 1 := ⟨n' - 1, by omega⟩
    obtain ⟨v, v1, v2, v3⟩ := hv m (by omega)
    obtain ⟨⟨q1, q2, q3⟩, a1, a2, a3, a4⟩ := A
    obtain ⟨r1, r2, r3, r4⟩ := a3 m (by omega)
    have z1 : oRn g x 1 1 20 = some al := by rw [oRn_s (by omega) (by omega)]; exact a1
    have z2 : aRn g al 46 (nI m) = some (rw' m) := by rw [aRn_s (by rw [a2]) (by rw [a2]; show m < 6; omega) (by rw [a2]; omega)]; exact r1
    have z3 : oRn g x 1 1 19 = some Q := by rw [oRn_s (by omega) (by omega)]; exact q1
    have z4 : aI g Q 40 (nI m) = some (nI v) := by rw [aI_s (by rw [q2]) (by rw [q2]; show m < 6; omega) (by rw [q2]; omega), v2]
    have z5 : aI g (rw' m) 40 (nI v) = some (rI w 36 (241 * m + v)) := by rw [aI_s (by rw [r2]) (by rw [r2]; show v < 241; omega) (by rw [r2]; omega), V m v (by omega) (by omega)]
    have z6 : ∀ u, xI g (rw' m) 40 (nI v) u = some (sI g (rw' m) v u) := fun u => xI_s (by rw [r2]) (by rw [r2]; show v < 241; omega) (by rw [r2]; omega)
    have m1 : rA w 35 6 (nI m) = some (nI v) := by rw [rA_nI (by omega) (by omega), v3]
    have m2 : rA w 36 1446 ((241 : Int32) * nI m + nI v) = some (rI w 36 (241 * m + v)) := by simp (disch := omega) only [L2, L3, L4, L5, L6, L7, L8, L9, L10, L11, L12, L13, L14, L15, L16, L17, L18, L19, L20, L21, L22, L23, L24, L25, L26, L27, L28, L29, L30, L31, L32, L33, L34, L35, L36, L37, L38, L40, L41, L42, L43, L44, L45, L48, L56, L57, L59, L60, L61, L63, L92, L96, L97, L99, L100, L101, L120, L122, L123, L124, L125, L126, L128, L146, L176, L200, L212, L240, L241, L243, L255, L729, L999, L1000, L1002, L1100, L1176, L1177, L1183, L1195, L1232, L1251, L1288, L1446, nI_add0, nI_1, nI_add, pk_mul, rA_nI, wA_nI, bd1_s, bd2_s, bdp_s]
    have m3 : ∀ u, wA w 36 1446 ((241 : Int32) * nI m + nI v) u = some (wI w 36 (241 * m + v) u) := fun u => by simp (disch := omega) only [L2, L3, L4, L5, L6, L7, L8, L9, L10, L11, L12, L13, L14, L15, L16, L17, L18, L19, L20, L21, L22, L23, L24, L25, L26, L27, L28, L29, L30, L31, L32, L33, L34, L35, L36, L37, L38, L40, L41, L42, L43, L44, L45, L48, L56, L57, L59, L60, L61, L63, L92, L96, L97, L99, L100, L101, L120, L122, L123, L124, L125, L126, L128, L146, L176, L200, L212, L240, L241, L243, L255, L729, L999, L1000, L1002, L1100, L1176, L1177, L1183, L1195, L1232, L1251, L1288, L1446, nI_add0, nI_1, nI_add, pk_mul, rA_nI, wA_nI, bd1_s, bd2_s, bdp_s]
    have fB : FrB (fun q => ∃ z, z < 6 ∧ q = rw' z) g (sI g (rw' m) v (rI w 36 (241 * m + v) + 1)) := FrB.sI ⟨m, by omega, rfl⟩
    obtain ⟨g', w', p1, p2, p3, p4, p5⟩ := ih (m + 1) n n' (sI g (rw' m) v (rI w 36 (241 * m + v) + 1)) (wI w 36 (241 * m + v) (rI w 36 (241 * m + v) + 1)) (by omega) (by omega) (by omega) hx ⟨⟨q1, q2, q3⟩, a1, a2, a3, a4⟩ (fun m' b' hm' hb' => by
      rw [gi_sI, rI_wI]
      by_cases e : m' = m ∧ b' = v
      · rw [if_pos ⟨by rw [e.1], e.2⟩, if_pos ⟨rfl, by rw [e.1, e.2]⟩]
      · rw [if_neg (fun z => e ⟨a4 m' m hm' (by omega) z.1, z.2⟩), if_neg (fun z => e (by have := z.2; omega))]
        exact V m' b' hm' hb') (fun i hi => by
      obtain ⟨u, u1, u2, u3⟩ := hv i hi
      exact ⟨u, u1, by rw [gi_sI, if_neg (fun z => r4 z.1.symm)]; exact u2, by rw [rI_nk (by omega)]; exact u3⟩)
    refine ⟨g', w', ?_, ?_, p3, fB.tr p4, (FrM.wI (P := fun k _ => k = 36) rfl).tr p5⟩
    · rw [B_X1_looks_p94, if_neg (show ¬ (6 : Int32) ≤ nI m from nI_ge (b := 6) (by omega) (by omega)), z1, bd1_s, z2, bd1_s, z3, bd1_s, z4, bd1_s, z5, bd1_s, z6, bd1_s, nI_1]
      exact p1
    · rw [M_findDays_p150, if_neg (show ¬ (6 : Int32) ≤ nI m from nI_ge (b := 6) (by omega) (by omega)), m1, bd1_s, m2, bd1_s, m3, bd1_s, nI_1]
      exact p2
end DAYS2
