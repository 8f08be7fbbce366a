/-! the engine, two-sided -/
set_option maxRecDepth 100000
/-- what the reference's field 10 holds of the house at h -/
def HD (g : GS) (x h nr nt ne : Nat) (M T D : Nat → Nat) (w : MS) : Prop :=
  ((gK g x).1 = 1 ∧ gR g x 2 = some h ∧ isHs g h nr nt ne M T D ∧ nr ≤ 6 ∧ nt ≤ 6 ∧ ne ≤ 6 ∧ rI w 10 0 = nI nr ∧ rI w 10 1 = nI nt ∧ rI w 10 2 = nI ne) ∧
  (∀ r, r < nr → gI g (M r) 1 = rI w 10 (8 + 3 * r) ∧ gI g (M r) 2 = rI w 10 (8 + 3 * r + 1) ∧ gI g (M r) 3 = rI w 10 (8 + 3 * r + 2)) ∧
  (∀ t, t < nt → (∃ k, k < 4 ∧ (gK g (T t)).1 = 8 + k ∧ rI w 10 (26 + 5 * t) = nI k) ∧ gI g (T t) 1 = rI w 10 (26 + 5 * t + 1) ∧ gI g (T t) 2 = rI w 10 (26 + 5 * t + 2) ∧ gI g (T t) 3 = rI w 10 (26 + 5 * t + 3) ∧ gI g (T t) 4 = rI w 10 (26 + 5 * t + 4) ∧ gI g (T t) 5 = nI (mk6 (fun e => rI w 10 (56 + 6 * t + e) == 1)) ∧ ∀ e, nt ≤ e → e < 6 → rI w 10 (56 + 6 * t + e) = 0) ∧
  (∀ e, e < ne → gI g (D e) 1 = rI w 10 (92 + 3 * e) ∧ gI g (D e) 2 = rI w 10 (92 + 3 * e + 1) ∧ gI g (D e) 3 = rI w 10 (92 + 3 * e + 2)) ∧
  (if 0 ≤ gI g h 3 then gI g h 3 else 20) = rI w 10 3 ∧ gI g h 4 = rI w 10 4 ∧ (if 0 ≤ gI g h 5 then gI g h 5 else 1) = rI w 10 5 ∧ (∃ e, 1 ≤ e ∧ e ≤ 30 ∧ rI w 10 5 = nI e)
theorem rest_m {w : MS} {t : Nat} (ht : t < 6) : M_restOf (nI t) w = some (rI w 10 (26 + 5 * t + 1) + (if rI w 10 (26 + 5 * t) = 3 then 20 else 0)) := by
  unfold M_restOf
  rw [show (1 : Int32) = nI 1 from rfl, show (0 : Int32) = nI 0 from rfl, M_tenantOf_s ht (by omega), M_tenantOf_s ht (by omega)]
  simp only [bd1_s, Nat.add_zero]
  by_cases c : rI w 10 (26 + 5 * t) = 3
  · rw [if_pos c, if_pos c]
  · rw [if_neg c, if_neg c]
theorem rest_b {g : GS} {x h nr nt ne t : Nat} {M T D : Nat → Nat} {w : MS} (H : HD g x h nr nt ne M T D w) (ht : t < nt) : V_rest (T t) g = some (rI w 10 (26 + 5 * t + 1) + (if rI w 10 (26 + 5 * t) = 3 then 20 else 0)) := by
  obtain ⟨⟨k, hk, h1, h2⟩, h3, -⟩ := H.2.2.1 t ht
  rcases (by omega : k = 0 ∨ k = 1 ∨ k = 2 ∨ k = 3) with rfl | rfl | rfl | rfl
  all_goals
    unfold V_rest B_X8_rest B_X11_rest
    rw [h1, h2]
    simp (disch := first | omega | (simp only [gk_sI]; omega)) only [L2, L3, L4, L5, L6, L7, L8, L9, L10, L11, L12, L13, L14, L15, L16, L17, L18, L19, L20, L21, L22, L23, L24, L25, L26, L27, L28, L29, L30, L31, L32, L33, L34, L35, L36, L37, L38, L40, L41, L42, L43, L44, L45, L48, L56, L57, L59, L60, L61, L63, L92, L96, L97, L99, L100, L101, L120, L122, L123, L124, L125, L126, L128, L146, L176, L200, L212, L240, L241, L243, L255, L729, L999, L1000, L1002, L1100, L1176, L1177, L1183, L1195, L1232, L1251, L1288, L1446, nI_add0, nI_1, nI_add, pk_mul, rA_nI, wA_nI, bd1_s, bd2_s, bdp_s, oI_s, oK_s, oRn_s, oR_s, pI_s, pR_s, aI_s, aRn_s, xI_s, gk_sI, h3]
    simp (decide := true)
theorem kind_b {g : GS} {x h nr nt ne t : Nat} {M T D : Nat → Nat} {w : MS} (H : HD g x h nr nt ne M T D w) (ht : t < nt) : V_kind (T t) g = some (rI w 10 (26 + 5 * t)) := by
  obtain ⟨⟨k, hk, h1, h2⟩, h3, -⟩ := H.2.2.1 t ht
  rcases (by omega : k = 0 ∨ k = 1 ∨ k = 2 ∨ k = 3) with rfl | rfl | rfl | rfl
  all_goals
    unfold V_kind B_X8_kind B_X9_kind B_X10_kind B_X11_kind
    rw [h1, h2]
    simp (decide := true)
theorem settles_b {g : GS} {x h nr nt ne t : Nat} {M T D : Nat → Nat} {w : MS} (H : HD g x h nr nt ne M T D w) (ht : t < nt) (v : Int32) : V_settles (T t) v g = some (if rI w 10 (26 + 5 * t) = 1 then v / 4 else v / 2) := by
  obtain ⟨⟨k, hk, h1, h2⟩, h3, -⟩ := H.2.2.1 t ht
  rcases (by omega : k = 0 ∨ k = 1 ∨ k = 2 ∨ k = 3) with rfl | rfl | rfl | rfl
  all_goals
    unfold V_settles B_X8_settles B_X9_settles
    rw [h1, h2]
    simp (decide := true)
theorem calmed_m {w : MS} {t : Nat} (ht : t < 6) (v : Int32) : M_calmed (nI t) v w = some (if rI w 10 (26 + 5 * t) = 1 then v / 4 else v / 2) := by
  unfold M_calmed
  rw [show (0 : Int32) = nI 0 from rfl, M_tenantOf_s ht (by omega)]
  simp only [bd1_s, Nat.add_zero]
  by_cases c : rI w 10 (26 + 5 * t) = 1
  · rw [if_pos c, if_pos c]
  · rw [if_neg c, if_neg c]
theorem climbs_b {g : GS} {x h nr nt ne t : Nat} {M T D : Nat → Nat} {w : MS} (H : HD g x h nr nt ne M T D w) (ht : t < nt) (v : Int32) : V_climbs (T t) v g = some (if rI w 10 (26 + 5 * t) = 2 then v / 2 else v) := by
  obtain ⟨⟨k, hk, h1, h2⟩, h3, -⟩ := H.2.2.1 t ht
  rcases (by omega : k = 0 ∨ k = 1 ∨ k = 2 ∨ k = 3) with rfl | rfl | rfl | rfl
  all_goals
    unfold V_climbs B_X8_climbs B_X10_climbs
    rw [h1, h2]
    simp (decide := true)
theorem mayLack_b {g : GS} {x h nr nt ne t : Nat} {M T D : Nat → Nat} {w : MS} (H : HD g x h nr nt ne M T D w) (ht : t < nt) : V_mayLack (T t) g = some (if rI w 10 (26 + 5 * t) = 3 then 99 else 0) := by
  obtain ⟨⟨k, hk, h1, h2⟩, h3, -⟩ := H.2.2.1 t ht
  rcases (by omega : k = 0 ∨ k = 1 ∨ k = 2 ∨ k = 3) with rfl | rfl | rfl | rfl
  all_goals
    unfold V_mayLack B_X8_mayLack B_X11_mayLack
    rw [h1, h2]
    simp (decide := true)
theorem HD.ten {g : GS} {x h nr nt ne : Nat} {M T D : Nat → Nat} {w : MS} (H : HD g x h nr nt ne M T D w) : B_X1_tenants x g = some (nI nt) := tenants_s H.1.1 H.1.2.1 H.1.2.2.1
theorem HD.tena {g : GS} {x h nr nt ne t : Nat} {M T D : Nat → Nat} {w : MS} (H : HD g x h nr nt ne M T D w) (ht : t < nt) : B_X1_tenant_2 x (nI t) g = some (T t) := tenant_s H.1.1 H.1.2.1 H.1.2.2.1 ht
theorem HD.roo {g : GS} {x h nr nt ne r : Nat} {M T D : Nat → Nat} {w : MS} (H : HD g x h nr nt ne M T D w) (hr : r < nr) : B_X1_room_2 x (nI r) g = some (M r) := by
  obtain ⟨⟨h0, h1, ⟨h2, ⟨l, h3, h4⟩, -, -, h5, -⟩, -⟩, -⟩ := H
  have h6 := h4.1
  have h7 := h5 r hr
  unfold B_X1_room_2
  simp (disch := first | omega | (simp only [gk_sI]; omega)) only [L2, L3, L4, L5, L6, L7, L8, L9, L10, L11, L12, L13, L14, L15, L16, L17, L18, L19, L20, L21, L22, L23, L24, L25, L26, L27, L28, L29, L30, L31, L32, L33, L34, L35, L36, L37, L38, L40, L41, L42, L43, L44, L45, L48, L56, L57, L59, L60, L61, L63, L92, L96, L97, L99, L100, L101, L120, L122, L123, L124, L125, L126, L128, L146, L176, L200, L212, L240, L241, L243, L255, L729, L999, L1000, L1002, L1100, L1176, L1177, L1183, L1195, L1232, L1251, L1288, L1446, nI_add0, nI_1, nI_add, pk_mul, rA_nI, wA_nI, bd1_s, bd2_s, bdp_s, oI_s, oK_s, oRn_s, oR_s, pI_s, pR_s, aI_s, aRn_s, xI_s, gk_sI, h1, h3, lst_get h4 hr]
theorem isIn_b {g : GS} {S t : Nat} {a : Nat → Nat} (h : stS g S a) (ht : t < 6) : B_X4_isIn S (nI t) g = some (if gI g (a 0) t < 0 then 0 else 1) := by
  obtain ⟨h1, h2, -⟩ := h
  obtain ⟨h3, h4⟩ := h2 0 (by omega)
  have h5 : (gK g (a 0)).1 = 40 := by rw [h4]
  have h6 : (gK g (a 0)).2 = 6 := by rw [h4]
  unfold B_X4_isIn
  simp (disch := first | omega | (simp only [gk_sI]; omega)) only [L2, L3, L4, L5, L6, L7, L8, L9, L10, L11, L12, L13, L14, L15, L16, L17, L18, L19, L20, L21, L22, L23, L24, L25, L26, L27, L28, L29, L30, L31, L32, L33, L34, L35, L36, L37, L38, L40, L41, L42, L43, L44, L45, L48, L56, L57, L59, L60, L61, L63, L92, L96, L97, L99, L100, L101, L120, L122, L123, L124, L125, L126, L128, L146, L176, L200, L212, L240, L241, L243, L255, L729, L999, L1000, L1002, L1100, L1176, L1177, L1183, L1195, L1232, L1251, L1288, L1446, nI_add0, nI_1, nI_add, pk_mul, rA_nI, wA_nI, bd1_s, bd2_s, bdp_s, oI_s, oK_s, oRn_s, oR_s, pI_s, pR_s, aI_s, aRn_s, xI_s, gk_sI, h3]
  by_cases c : gI g (a 0) t < 0
  · rw [if_pos c, if_pos c]
  · rw [if_neg c, if_neg c]
def inB (g : GS) (a : Nat → Nat) : Nat → Bool := fun t => !decide (gI g (a 0) t < 0)
theorem in_loop {g : GS} {S : Nat} {a : Nat → Nat} (h : stS g S a) : ∀ (j i n : Nat), i + j = 6 → j < n → B_X4_in_p4 n S (nI (mk6 (fun t => decide (t < i) && inB g a t))) (nI i) g = some (nI (mk6 (inB g a))) := by
  intro j
  induction j with
  | zero =>
    intro i n hi hn
    obtain ⟨n, rfl⟩ : ∃ k, n = k + 1 := ⟨n - 1, by omega⟩
    have : i = 6 := by omega
    subst this
    rw [B_X4_in_p4, if_pos (by decide)]
    rfl
  | succ j ih =>
    intro i n hi hn
    obtain ⟨n, rfl⟩ : ∃ k, n = k + 1 := ⟨n - 1, by omega⟩
    have h1 := h.1
    rw [B_X4_in_p4, if_neg (show ¬ (6 : Int32) ≤ nI i from nI_ge (b := 6) (by omega) (by omega))]
    simp (disch := first | omega | (simp only [gk_sI]; omega)) only [L2, L3, L4, L5, L6, L7, L8, L9, L10, L11, L12, L13, L14, L15, L16, L17, L18, L19, L20, L21, L22, L23, L24, L25, L26, L27, L28, L29, L30, L31, L32, L33, L34, L35, L36, L37, L38, L40, L41, L42, L43, L44, L45, L48, L56, L57, L59, L60, L61, L63, L92, L96, L97, L99, L100, L101, L120, L122, L123, L124, L125, L126, L128, L146, L176, L200, L212, L240, L241, L243, L255, L729, L999, L1000, L1002, L1100, L1176, L1177, L1183, L1195, L1232, L1251, L1288, L1446, nI_add0, nI_1, nI_add, pk_mul, rA_nI, wA_nI, bd1_s, bd2_s, bdp_s, oI_s, oK_s, oRn_s, oR_s, pI_s, pR_s, aI_s, aRn_s, xI_s, gk_sI, isIn_b h (show i < 6 by omega)]
    have key : ∀ f1 f2 : Nat → Bool, (∀ t, t < 6 → f1 t = f2 t) → mk6 f1 = mk6 f2 := by
      intro f1 f2 e
      unfold mk6
      rw [e 0 (by omega), e 1 (by omega), e 2 (by omega), e 3 (by omega), e 4 (by omega), e 5 (by omega)]
    by_cases c : gI g (a 0) i < 0
    · rw [if_pos c, if_pos rfl, ← ih (i + 1) n (by omega) (by omega)]
      congr 2
      apply key
      intro t ht
      by_cases e : t = i
      · subst e; simp [inB, c]
      · rw [decide_eq_decide.mpr (show t < i ↔ t < i + 1 by omega)]
    · rw [if_neg c, if_neg (by decide), mk6_set _ (show i < 6 by omega), ← ih (i + 1) n (by omega) (by omega)]
      congr 2
      apply key
      intro t ht
      unfold setB
      by_cases e : t = i
      · subst e; simp [inB, c]
      · rw [if_neg e]
        show (decide (t < i) && inB g a t) = _
        rw [decide_eq_decide.mpr (show t < i ↔ t < i + 1 by omega)]
theorem in_b {g : GS} {S : Nat} {a : Nat → Nat} (h : stS g S a) : B_X4_in S g = some (nI (mk6 (inB g a))) := by
  unfold B_X4_in
  have := in_loop h 6 0 FU (by omega) (by decide)
  rw [← this]
  rfl
/-- whom t loves is in, of those below n -/
def loveB (w : MS) (b t n : Nat) : Bool := (List.range n).any (fun e => (rI w 10 (56 + 6 * t + e) == 1) && !decide (rI w 25 (b + 1 + e) < 0))
theorem loveB_succ (w : MS) (b t n : Nat) : loveB w b t (n + 1) = (loveB w b t n || ((rI w 10 (56 + 6 * t + n) == 1) && !decide (rI w 25 (b + 1 + n) < 0))) := by
  unfold loveB
  rw [List.range_succ, List.any_append]
  simp
theorem loving_loop {w : MS} {nt b t : Nat} (hn : rI w 10 1 = nI nt) (hnt : nt ≤ 6) (hb : b + 56 ≤ 1288) (ht : t < 6) : ∀ (j i n : Nat), i + j = nt → j < n → M_isLoving_p5 n (nI b) (nI t) (nI (b2n (loveB w b t i))) (nI i) w = some (nI (b2n (loveB w b t nt))) := by
  intro j
  induction j with
  | zero =>
    intro i n hi hn2
    obtain ⟨n, rfl⟩ : ∃ k, n = k + 1 := ⟨n - 1, by omega⟩
    have : i = nt := by omega
    subst this
    rw [M_isLoving_p5, M_tenants, hn, if_pos (nI_le (Nat.le_refl _) (by omega))]
    refine zb_s ?_
    cases loveB w b t i
    · exact Or.inl rfl
    · exact Or.inr rfl
  | succ j ih =>
    intro i n hi hn2
    obtain ⟨n, rfl⟩ : ∃ k, n = k + 1 := ⟨n - 1, by omega⟩
    have e := ih (i + 1) n (by omega) (by omega)
    rw [M_isLoving_p5, M_tenants, hn, if_neg (nI_ge (by omega) (by omega))]
    cases hL : loveB w b t i
    · rw [if_pos (show nI (b2n false) = 0 from rfl)]
      simp (disch := omega) only [L2, L3, L4, L5, L6, L7, L8, L9, L10, L11, L12, L13, L14, L15, L16, L17, L18, L19, L20, L21, L22, L23, L24, L25, L26, L27, L28, L29, L30, L31, L32, L33, L34, L35, L36, L37, L38, L40, L41, L42, L43, L44, L45, L48, L56, L57, L59, L60, L61, L63, L92, L96, L97, L99, L100, L101, L120, L122, L123, L124, L125, L126, L128, L146, L176, L200, L212, L240, L241, L243, L255, L729, L999, L1000, L1002, L1100, L1176, L1177, L1183, L1195, L1232, L1251, L1288, L1446, nI_add0, nI_1, nI_add, pk_mul, rA_nI, wA_nI, bd1_s, bd2_s, bdp_s]
      by_cases c1 : rI w 10 (56 + 6 * t + i) = 1
      · rw [if_pos c1, M_isIn_t hn hnt (by omega) hb]
        simp only [bd1_s]
        by_cases c2 : rI w 25 (b + 1 + i) < 0
        · rw [if_pos c2, if_pos rfl]
          rw [show loveB w b t (i + 1) = false by rw [loveB_succ, hL]; simp [c2]] at e
          exact e
        · rw [if_neg c2, if_neg (by decide)]
          rw [show loveB w b t (i + 1) = true by rw [loveB_succ, hL]; simp [c1, c2]] at e
          exact e
      · rw [if_neg c1]
        rw [show loveB w b t (i + 1) = false by rw [loveB_succ, hL]; simp [c1]] at e
        exact e
    · rw [if_neg (show ¬ nI (b2n true) = 0 by decide)]
      simp (disch := omega) only [L2, L3, L4, L5, L6, L7, L8, L9, L10, L11, L12, L13, L14, L15, L16, L17, L18, L19, L20, L21, L22, L23, L24, L25, L26, L27, L28, L29, L30, L31, L32, L33, L34, L35, L36, L37, L38, L40, L41, L42, L43, L44, L45, L48, L56, L57, L59, L60, L61, L63, L92, L96, L97, L99, L100, L101, L120, L122, L123, L124, L125, L126, L128, L146, L176, L200, L212, L240, L241, L243, L255, L729, L999, L1000, L1002, L1100, L1176, L1177, L1183, L1195, L1232, L1251, L1288, L1446, nI_add0, nI_1, nI_add, pk_mul, rA_nI, wA_nI, bd1_s, bd2_s, bdp_s]
      rw [show loveB w b t (i + 1) = true by rw [loveB_succ, hL]; simp] at e
      exact e
theorem loving_m {w : MS} {nt b t : Nat} (hn : rI w 10 1 = nI nt) (hnt : nt ≤ 6) (hb : b + 56 ≤ 1288) (ht : t < 6) : M_isLoving (nI b) (nI t) w = some (nI (b2n (loveB w b t nt))) := loving_loop hn hnt hb ht nt 0 FU (by omega) (by show nt < 5000; omega)
