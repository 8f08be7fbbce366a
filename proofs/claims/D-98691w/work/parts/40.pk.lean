/-! plain kit: symbolic runs of the plain functions -/
set_option maxRecDepth 100000
theorem L2 : (2 : Int32) = nI 2 := rfl
theorem L3 : (3 : Int32) = nI 3 := rfl
theorem L4 : (4 : Int32) = nI 4 := rfl
theorem L5 : (5 : Int32) = nI 5 := rfl
theorem L6 : (6 : Int32) = nI 6 := rfl
theorem L7 : (7 : Int32) = nI 7 := rfl
theorem L8 : (8 : Int32) = nI 8 := rfl
theorem L9 : (9 : Int32) = nI 9 := rfl
theorem L10 : (10 : Int32) = nI 10 := rfl
theorem L11 : (11 : Int32) = nI 11 := rfl
theorem L12 : (12 : Int32) = nI 12 := rfl
theorem L13 : (13 : Int32) = nI 13 := rfl
theorem L14 : (14 : Int32) = nI 14 := rfl
theorem L15 : (15 : Int32) = nI 15 := rfl
theorem L16 : (16 : Int32) = nI 16 := rfl
theorem L17 : (17 : Int32) = nI 17 := rfl
theorem L18 : (18 : Int32) = nI 18 := rfl
theorem L19 : (19 : Int32) = nI 19 := rfl
theorem L20 : (20 : Int32) = nI 20 := rfl
theorem L21 : (21 : Int32) = nI 21 := rfl
theorem L22 : (22 : Int32) = nI 22 := rfl
theorem L23 : (23 : Int32) = nI 23 := rfl
theorem L24 : (24 : Int32) = nI 24 := rfl
theorem L25 : (25 : Int32) = nI 25 := rfl
theorem L26 : (26 : Int32) = nI 26 := rfl
theorem L27 : (27 : Int32) = nI 27 := rfl
theorem L28 : (28 : Int32) = nI 28 := rfl
theorem L29 : (29 : Int32) = nI 29 := rfl
theorem L30 : (30 : Int32) = nI 30 := rfl
theorem L31 : (31 : Int32) = nI 31 := rfl
theorem L32 : (32 : Int32) = nI 32 := rfl
theorem L33 : (33 : Int32) = nI 33 := rfl
theorem L34 : (34 : Int32) = nI 34 := rfl
theorem L35 : (35 : Int32) = nI 35 := rfl
theorem L36 : (36 : Int32) = nI 36 := rfl
theorem L37 : (37 : Int32) = nI 37 := rfl
theorem L38 : (38 : Int32) = nI 38 := rfl
theorem L40 : (40 : Int32) = nI 40 := rfl
theorem L41 : (41 : Int32) = nI 41 := rfl
theorem L42 : (42 : Int32) = nI 42 := rfl
theorem L43 : (43 : Int32) = nI 43 := rfl
theorem L44 : (44 : Int32) = nI 44 := rfl
theorem L45 : (45 : Int32) = nI 45 := rfl
theorem L48 : (48 : Int32) = nI 48 := rfl
theorem L56 : (56 : Int32) = nI 56 := rfl
theorem L57 : (57 : Int32) = nI 57 := rfl
theorem L59 : (59 : Int32) = nI 59 := rfl
theorem L60 : (60 : Int32) = nI 60 := rfl
theorem L61 : (61 : Int32) = nI 61 := rfl
theorem L63 : (63 : Int32) = nI 63 := rfl
theorem L92 : (92 : Int32) = nI 92 := rfl
theorem L96 : (96 : Int32) = nI 96 := rfl
theorem L97 : (97 : Int32) = nI 97 := rfl
theorem L99 : (99 : Int32) = nI 99 := rfl
theorem L100 : (100 : Int32) = nI 100 := rfl
theorem L101 : (101 : Int32) = nI 101 := rfl
theorem L120 : (120 : Int32) = nI 120 := rfl
theorem L122 : (122 : Int32) = nI 122 := rfl
theorem L123 : (123 : Int32) = nI 123 := rfl
theorem L124 : (124 : Int32) = nI 124 := rfl
theorem L125 : (125 : Int32) = nI 125 := rfl
theorem L126 : (126 : Int32) = nI 126 := rfl
theorem L128 : (128 : Int32) = nI 128 := rfl
theorem L146 : (146 : Int32) = nI 146 := rfl
theorem L176 : (176 : Int32) = nI 176 := rfl
theorem L200 : (200 : Int32) = nI 200 := rfl
theorem L212 : (212 : Int32) = nI 212 := rfl
theorem L240 : (240 : Int32) = nI 240 := rfl
theorem L241 : (241 : Int32) = nI 241 := rfl
theorem L243 : (243 : Int32) = nI 243 := rfl
theorem L255 : (255 : Int32) = nI 255 := rfl
theorem L729 : (729 : Int32) = nI 729 := rfl
theorem L999 : (999 : Int32) = nI 999 := rfl
theorem L1000 : (1000 : Int32) = nI 1000 := rfl
theorem L1002 : (1002 : Int32) = nI 1002 := rfl
theorem L1100 : (1100 : Int32) = nI 1100 := rfl
theorem L1176 : (1176 : Int32) = nI 1176 := rfl
theorem L1177 : (1177 : Int32) = nI 1177 := rfl
theorem L1183 : (1183 : Int32) = nI 1183 := rfl
theorem L1195 : (1195 : Int32) = nI 1195 := rfl
theorem L1232 : (1232 : Int32) = nI 1232 := rfl
theorem L1251 : (1251 : Int32) = nI 1251 := rfl
theorem L1288 : (1288 : Int32) = nI 1288 := rfl
theorem L1446 : (1446 : Int32) = nI 1446 := rfl
theorem L2200 : (2200 : Int32) = nI 2200 := rfl
theorem L4096 : (4096 : Int32) = nI 4096 := rfl
theorem L9999 : (9999 : Int32) = nI 9999 := rfl
theorem L252645135 : (252645135 : Int32) = nI 252645135 := rfl
theorem L858993459 : (858993459 : Int32) = nI 858993459 := rfl
theorem L1431655765 : (1431655765 : Int32) = nI 1431655765 := rfl
theorem L2147483639 : (2147483639 : Int32) = nI 2147483639 := rfl
theorem nI_add0 (a : Nat) : nI a + 0 = nI a := nI_add a 0
theorem rA_nI {w : MS} {k n j : Nat} (h : j < n) (hn : n < 2 ^ 31) : rA w k n (nI j) = some (rI w k j) := by
  unfold rA
  rw [if_neg (nI_in h hn), nI_clamp (by omega)]
theorem wA_nI {w : MS} {k n j : Nat} {v : Int32} (h : j < n) (hn : n < 2 ^ 31) : wA w k n (nI j) v = some (wI w k j v) := by
  unfold wA
  rw [if_neg (nI_in h hn), nI_clamp (by omega)]
theorem bd1_s {α β : Type} (a : α) (k : α → Option β) : bd1 (some a) k = k a := Eq.trans rfl rfl
theorem bd2_s {α β γ : Type} (a : α) (b : β) (k : α → β → Option γ) : bd2 (some (a, b)) k = k a b := Eq.trans rfl rfl
theorem bdp_s {α β : Type} (a : α) (k : α → β) : bdp a k = k a := Eq.trans rfl rfl
theorem zb_s {α : Type} {v : Int32} {k : Option α} (h : v = 0 ∨ v = 1) : zb v k = k := if_pos h
theorem rI_wI {w : MS} {k i k' i' : Nat} {v : Int32} : rI (wI w k i v) k' i' = if k' = k ∧ i' = i then v else rI w k' i' := by
  show va_up w.1 k (upd (w.1 k) i v) k' i' = _
  unfold va_up upd rI
  by_cases h : k' = k
  · subst h; by_cases h2 : i' = i <;> simp [h2]
  · simp [h]
theorem rL_wI {w : MS} {k i k' i' : Nat} {v : Int32} : rL (wI w k i v) k' i' = rL w k' i' := rfl
theorem M_roomOf_s {w : MS} {r j : Nat} (hr : r < 6) (hj : j < 3) : M_roomOf (nI r) (nI j) w = some (rI w 10 (8 + 3 * r + j)) := by
  unfold M_roomOf
  simp (disch := omega) only [L2, L3, L4, L5, L6, L7, L8, L9, L10, L11, L12, L13, L14, L15, L16, L17, L18, L19, L20, L21, L22, L23, L24, L25, L26, L27, L28, L29, L30, L31, L32, L33, L34, L35, L36, L37, L38, L40, L41, L42, L43, L44, L45, L48, L56, L57, L59, L60, L61, L63, L92, L96, L97, L99, L100, L101, L120, L122, L123, L124, L125, L126, L128, L146, L176, L200, L212, L240, L241, L243, L255, L729, L999, L1000, L1002, L1100, L1176, L1177, L1183, L1195, L1232, L1251, L1288, L1446, nI_add0, nI_1, nI_add, pk_mul, rA_nI, wA_nI, bd1_s, bd2_s, bdp_s]
theorem M_tenantOf_s {w : MS} {t j : Nat} (ht : t < 6) (hj : j < 5) : M_tenantOf (nI t) (nI j) w = some (rI w 10 (26 + 5 * t + j)) := by
  unfold M_tenantOf
  simp (disch := omega) only [L2, L3, L4, L5, L6, L7, L8, L9, L10, L11, L12, L13, L14, L15, L16, L17, L18, L19, L20, L21, L22, L23, L24, L25, L26, L27, L28, L29, L30, L31, L32, L33, L34, L35, L36, L37, L38, L40, L41, L42, L43, L44, L45, L48, L56, L57, L59, L60, L61, L63, L92, L96, L97, L99, L100, L101, L120, L122, L123, L124, L125, L126, L128, L146, L176, L200, L212, L240, L241, L243, L255, L729, L999, L1000, L1002, L1100, L1176, L1177, L1183, L1195, L1232, L1251, L1288, L1446, nI_add0, nI_1, nI_add, pk_mul, rA_nI, wA_nI, bd1_s, bd2_s, bdp_s]
theorem M_isTenant_s {w : MS} {nt : Nat} (hn : rI w 10 1 = nI nt) (hnt : nt ≤ 6) (x : Int32) : (M_isTenant x w = 0 ∧ ∀ t, t < nt → x ≠ nI t) ∨ ∃ t, t < nt ∧ x = nI t ∧ M_isTenant x w = 1 := by
  unfold M_isTenant M_tenants
  rw [hn]
  rcases pk_ix x (n := nt) (by omega) with h | h | ⟨j, hj, rfl⟩
  · left
    rw [if_pos h]
    refine ⟨rfl, fun t ht e => ?_⟩
    subst e
    exact nI_pos (by omega) h
  · left
    refine ⟨?_, fun t ht e => ?_⟩
    · by_cases c : x < 0
      · rw [if_pos c]
      · rw [if_neg c, if_pos h]
    · subst e
      exact nI_ge ht (by omega) h
  · right
    exact ⟨j, hj, rfl, by rw [if_neg (nI_pos (by omega)), if_neg (nI_ge hj (by omega))]⟩
theorem M_isTenant_t {w : MS} {nt t : Nat} (hn : rI w 10 1 = nI nt) (hnt : nt ≤ 6) (ht : t < nt) : M_isTenant (nI t) w = 1 := by
  unfold M_isTenant M_tenants
  rw [hn, if_neg (nI_pos (by omega)), if_neg (nI_ge ht (by omega))]
theorem M_isIn_t {w : MS} {nt t b : Nat} (hn : rI w 10 1 = nI nt) (hnt : nt ≤ 6) (ht : t < nt) (hb : b + 56 ≤ 1288) : M_isIn (nI b) (nI t) w = some (if rI w 25 (b + 1 + t) < 0 then 0 else 1) := by
  unfold M_isIn
  rw [M_isTenant_t hn hnt ht, if_neg (by decide)]
  simp (disch := omega) only [L2, L3, L4, L5, L6, L7, L8, L9, L10, L11, L12, L13, L14, L15, L16, L17, L18, L19, L20, L21, L22, L23, L24, L25, L26, L27, L28, L29, L30, L31, L32, L33, L34, L35, L36, L37, L38, L40, L41, L42, L43, L44, L45, L48, L56, L57, L59, L60, L61, L63, L92, L96, L97, L99, L100, L101, L120, L122, L123, L124, L125, L126, L128, L146, L176, L200, L212, L240, L241, L243, L255, L729, L999, L1000, L1002, L1100, L1176, L1177, L1183, L1195, L1232, L1251, L1288, L1446, nI_add0, nI_1, nI_add, pk_mul, rA_nI, wA_nI, bd1_s, bd2_s, bdp_s]
  by_cases c : rI w 25 (b + 1 + t) < 0
  · rw [if_pos c, if_pos c]
  · rw [if_neg c, if_neg c]
