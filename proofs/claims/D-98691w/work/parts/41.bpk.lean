/-! plain kit of the heap -/
set_option maxRecDepth 100000
theorem oI_s {g : GS} {a lo hi k : Nat} (h1 : lo ≤ (gK g a).1) (h2 : (gK g a).1 ≤ hi) : oI g a lo hi k = some (gI g a k) := if_pos ⟨h1, h2⟩
theorem oK_s {g : GS} {a lo hi : Nat} (h1 : lo ≤ (gK g a).1) (h2 : (gK g a).1 ≤ hi) : oK g a lo hi = some (gK g a).1 := if_pos ⟨h1, h2⟩
theorem oRn_s {g : GS} {a lo hi k : Nat} (h1 : lo ≤ (gK g a).1) (h2 : (gK g a).1 ≤ hi) : oRn g a lo hi k = gR g a k := if_pos ⟨h1, h2⟩
theorem oR_s {g : GS} {a lo hi k : Nat} (h1 : lo ≤ (gK g a).1) (h2 : (gK g a).1 ≤ hi) : oR g a lo hi k = some (gR g a k) := if_pos ⟨h1, h2⟩
theorem pI_s {g : GS} {a lo hi k : Nat} {v : Int32} (h1 : lo ≤ (gK g a).1) (h2 : (gK g a).1 ≤ hi) : pI g a lo hi k v = some (sI g a k v) := if_pos ⟨h1, h2⟩
theorem pR_s {g : GS} {a lo hi k : Nat} {v : Option Nat} (h1 : lo ≤ (gK g a).1) (h2 : (gK g a).1 ≤ hi) : pR g a lo hi k v = some (sR g a k v) := if_pos ⟨h1, h2⟩
theorem aI_s {g : GS} {a t j : Nat} (h : (gK g a).1 = t) (h2 : j < (gK g a).2) (h3 : (gK g a).2 < 2 ^ 31) : aI g a t (nI j) = some (gI g a j) := by
  unfold aI
  rw [if_pos ⟨h, nI_in h2 h3⟩, nI_clamp (by omega)]
theorem aRn_s {g : GS} {a t j : Nat} (h : (gK g a).1 = t) (h2 : j < (gK g a).2) (h3 : (gK g a).2 < 2 ^ 31) : aRn g a t (nI j) = gR g a j := by
  unfold aRn
  rw [if_pos ⟨h, nI_in h2 h3⟩, nI_clamp (by omega)]
theorem xI_s {g : GS} {a t j : Nat} {v : Int32} (h : (gK g a).1 = t) (h2 : j < (gK g a).2) (h3 : (gK g a).2 < 2 ^ 31) : xI g a t (nI j) v = some (sI g a j v) := by
  unfold xI
  rw [if_pos ⟨h, nI_in h2 h3⟩, nI_clamp (by omega)]
/-- a list's n elements are f 0 .. -/
def isLst (g : GS) (l n : Nat) (f : Nat → Nat) : Prop := (gK g l).1 = 23 ∧ gI g l 2 = nI n ∧ ∃ e, gR g l 1 = some e ∧ (gK g e).1 = 43 ∧ n ≤ (gK g e).2 ∧ (gK g e).2 < 1000 ∧ ∀ i, i < n → gR g e i = some (f i)
theorem checkIndex_s {g : GS} {i n : Nat} (h : i < n) (hn : n < 2 ^ 31) : B_J3_checkIndex (nI i) (nI n) g = some (nI i) := by
  unfold B_J3_checkIndex B_J4_checkIndex
  rw [if_neg (nI_pos (by omega)), if_pos (nI_lt h hn)]
  rfl
theorem lst_get {g : GS} {l n i : Nat} {f : Nat → Nat} (h : isLst g l n f) (hi : i < n) : B_J2_get l (nI i) g = some (f i) := by
  obtain ⟨h1, h2, e, h3, h4, h5, h6, h7⟩ := h
  unfold B_J2_get B_J2_elementData
  simp (disch := first | omega | (simp only [gk_sI]; omega)) only [L2, L3, L4, L5, L6, L7, L8, L9, L10, L11, L12, L13, L14, L15, L16, L17, L18, L19, L20, L21, L22, L23, L24, L25, L26, L27, L28, L29, L30, L31, L32, L33, L34, L35, L36, L37, L38, L40, L41, L42, L43, L44, L45, L48, L56, L57, L59, L60, L61, L63, L92, L96, L97, L99, L100, L101, L120, L122, L123, L124, L125, L126, L128, L146, L176, L200, L212, L240, L241, L243, L255, L729, L999, L1000, L1002, L1100, L1176, L1177, L1183, L1195, L1232, L1251, L1288, L1446, nI_add0, nI_1, nI_add, pk_mul, rA_nI, wA_nI, bd1_s, bd2_s, bdp_s, oI_s, oK_s, oRn_s, oR_s, pI_s, pR_s, aI_s, aRn_s, xI_s, gk_sI, h2, h3, checkIndex_s]
  rw [h7 i hi]
  rfl
theorem lst_size {g : GS} {l n : Nat} {f : Nat → Nat} (h : isLst g l n f) : B_J2_size l g = some (nI n) := by
  obtain ⟨h1, h2, -⟩ := h
  unfold B_J2_size
  simp (disch := first | omega | (simp only [gk_sI]; omega)) only [L2, L3, L4, L5, L6, L7, L8, L9, L10, L11, L12, L13, L14, L15, L16, L17, L18, L19, L20, L21, L22, L23, L24, L25, L26, L27, L28, L29, L30, L31, L32, L33, L34, L35, L36, L37, L38, L40, L41, L42, L43, L44, L45, L48, L56, L57, L59, L60, L61, L63, L92, L96, L97, L99, L100, L101, L120, L122, L123, L124, L125, L126, L128, L146, L176, L200, L212, L240, L241, L243, L255, L729, L999, L1000, L1002, L1100, L1176, L1177, L1183, L1195, L1232, L1251, L1288, L1446, nI_add0, nI_1, nI_add, pk_mul, rA_nI, wA_nI, bd1_s, bd2_s, bdp_s, oI_s, oK_s, oRn_s, oR_s, pI_s, pR_s, aI_s, aRn_s, xI_s, gk_sI, h2]
/-- PulseRent at x, its house at h, of nt tenants T and nr rooms M and ne errands D -/
def isHs (g : GS) (h nr nt ne : Nat) (M T D : Nat → Nat) : Prop := (gK g h).1 = 3 ∧ (∃ l, gR g h 0 = some l ∧ isLst g l nr M) ∧ (∃ l, gR g h 1 = some l ∧ isLst g l nt T) ∧ (∃ l, gR g h 2 = some l ∧ isLst g l ne D) ∧
  (∀ r, r < nr → (gK g (M r)).1 = 7) ∧ (∀ t, t < nt → 8 ≤ (gK g (T t)).1 ∧ (gK g (T t)).1 ≤ 11) ∧ ∀ e, e < ne → (gK g (D e)).1 = 12
theorem tenants_s {g : GS} {x h nr nt ne : Nat} {M T D : Nat → Nat} (hx : (gK g x).1 = 1) (hr : gR g x 2 = some h) (hs : isHs g h nr nt ne M T D) : B_X1_tenants x g = some (nI nt) := by
  obtain ⟨h1, -, ⟨l, h2, h3⟩, -⟩ := hs
  have h4 := h3.1
  unfold B_X1_tenants
  simp (disch := first | omega | (simp only [gk_sI]; omega)) only [L2, L3, L4, L5, L6, L7, L8, L9, L10, L11, L12, L13, L14, L15, L16, L17, L18, L19, L20, L21, L22, L23, L24, L25, L26, L27, L28, L29, L30, L31, L32, L33, L34, L35, L36, L37, L38, L40, L41, L42, L43, L44, L45, L48, L56, L57, L59, L60, L61, L63, L92, L96, L97, L99, L100, L101, L120, L122, L123, L124, L125, L126, L128, L146, L176, L200, L212, L240, L241, L243, L255, L729, L999, L1000, L1002, L1100, L1176, L1177, L1183, L1195, L1232, L1251, L1288, L1446, nI_add0, nI_1, nI_add, pk_mul, rA_nI, wA_nI, bd1_s, bd2_s, bdp_s, oI_s, oK_s, oRn_s, oR_s, pI_s, pR_s, aI_s, aRn_s, xI_s, gk_sI, hr, h2, lst_size h3]
theorem tenant_s {g : GS} {x h nr nt ne t : Nat} {M T D : Nat → Nat} (hx : (gK g x).1 = 1) (hr : gR g x 2 = some h) (hs : isHs g h nr nt ne M T D) (ht : t < nt) : B_X1_tenant_2 x (nI t) g = some (T t) := by
  obtain ⟨h1, -, ⟨l, h2, h3⟩, -, -, h5, -⟩ := hs
  have h4 := h3.1
  have h6 := h5 t ht
  unfold B_X1_tenant_2
  simp (disch := first | omega | (simp only [gk_sI]; omega)) only [L2, L3, L4, L5, L6, L7, L8, L9, L10, L11, L12, L13, L14, L15, L16, L17, L18, L19, L20, L21, L22, L23, L24, L25, L26, L27, L28, L29, L30, L31, L32, L33, L34, L35, L36, L37, L38, L40, L41, L42, L43, L44, L45, L48, L56, L57, L59, L60, L61, L63, L92, L96, L97, L99, L100, L101, L120, L122, L123, L124, L125, L126, L128, L146, L176, L200, L212, L240, L241, L243, L255, L729, L999, L1000, L1002, L1100, L1176, L1177, L1183, L1195, L1232, L1251, L1288, L1446, nI_add0, nI_1, nI_add, pk_mul, rA_nI, wA_nI, bd1_s, bd2_s, bdp_s, oI_s, oK_s, oRn_s, oR_s, pI_s, pR_s, aI_s, aRn_s, xI_s, gk_sI, hr, h2, lst_get h3 ht]
