/-! errands: plain numbers -/
set_option maxRecDepth 100000
def calE (k1 : Bool) (s : Nat) : Nat := if k1 then s / 4 else s / 2
theorem calE_le (k1 : Bool) (s : Nat) : calE k1 s ≤ s := by
  unfold calE
  split <;> omega
/-- k minutes: what stirs, beats -/
def itE (r : Nat) (k1 : Bool) (ad : Nat) : Nat → Nat × Nat → Nat × Nat
  | 0, p => p
  | k + 1, p => itE r k1 ad k (calE k1 p.1, p.2 + (r + p.1 + ad))
theorem itE_b {r : Nat} {k1 : Bool} {ad : Nat} : ∀ (k : Nat) (p : Nat × Nat), (itE r k1 ad k p).1 ≤ p.1 ∧ p.2 ≤ (itE r k1 ad k p).2 ∧ (itE r k1 ad k p).2 ≤ p.2 + k * (r + p.1 + ad)
  | 0, p => by rw [itE]; omega
  | k + 1, p => by
    rw [itE]
    obtain ⟨h1, h2, h3⟩ := itE_b (r := r) (k1 := k1) (ad := ad) k (calE k1 p.1, p.2 + (r + p.1 + ad))
    have := calE_le k1 p.1
    have h4 : k * (r + calE k1 p.1 + ad) ≤ k * (r + p.1 + ad) := Nat.mul_le_mul_left k (by omega)
    have h5 : (k + 1) * (r + p.1 + ad) = k * (r + p.1 + ad) + (r + p.1 + ad) := Nat.succ_mul _ _
    simp only at h1 h2 h3
    omega
/-- an errand: minute, what stirs, beats -/
def stE (r : Nat) (k1 : Bool) (op tk ad : Nat) (q : Nat × Nat × Nat) : Nat × Nat × Nat :=
  (q.1 + (op - q.1) + tk, max (itE r k1 ad tk (itE r k1 0 (op - q.1) q.2)).1 ad, (itE r k1 ad tk (itE r k1 0 (op - q.1) q.2)).2)
/-- what holds of numbers on the way: i errands done -/
def okE (i : Nat) (q : Nat × Nat × Nat) : Prop := q.1 ≤ 99 + 20 * i ∧ q.2.1 ≤ 60 ∧ q.2.2 ≤ 240 * q.1
theorem stE_ok {r : Nat} {k1 : Bool} {op tk ad i : Nat} {q : Nat × Nat × Nat} (hr : r ≤ 119) (ho : op ≤ 99) (ht : tk ≤ 20) (ha : ad ≤ 60) (h : okE i q) : okE (i + 1) (stE r k1 op tk ad q) ∧ q.2.2 ≤ (stE r k1 op tk ad q).2.2 := by
  obtain ⟨h1, h2, h3⟩ := h
  obtain ⟨a1, a2, a3⟩ := itE_b (r := r) (k1 := k1) (ad := 0) (op - q.1) q.2
  obtain ⟨b1, b2, b3⟩ := itE_b (r := r) (k1 := k1) (ad := ad) tk (itE r k1 0 (op - q.1) q.2)
  have e1 : (op - q.1) * (r + q.2.1 + 0) ≤ (op - q.1) * 240 := Nat.mul_le_mul_left _ (by omega)
  have e2 : tk * (r + (itE r k1 0 (op - q.1) q.2).1 + ad) ≤ tk * 240 := Nat.mul_le_mul_left _ (by omega)
  unfold stE
  refine ⟨⟨?_, ?_, ?_⟩, ?_⟩
  · show q.1 + (op - q.1) + tk ≤ 99 + 20 * (i + 1)
    omega
  · show max (itE r k1 ad tk (itE r k1 0 (op - q.1) q.2)).1 ad ≤ 60
    omega
  · show (itE r k1 ad tk (itE r k1 0 (op - q.1) q.2)).2 ≤ 240 * (q.1 + (op - q.1) + tk)
    omega
  · show q.2.2 ≤ (itE r k1 ad tk (itE r k1 0 (op - q.1) q.2)).2
    omega
/-- some errands one behind the other -/
def runE (r : Nat) (k1 : Bool) (op tk ad : Nat → Nat) (od : Nat → Nat) : Nat → Nat × Nat × Nat
  | 0 => (0, 0, 0)
  | k + 1 => stE r k1 (op (od k)) (tk (od k)) (ad (od k)) (runE r k1 op tk ad od k)
theorem runE_congr {r : Nat} {k1 : Bool} {op tk ad od od' : Nat → Nat} : ∀ {k : Nat}, (∀ i, i < k → od i = od' i) → runE r k1 op tk ad od k = runE r k1 op tk ad od' k
  | 0, _ => rfl
  | k + 1, h => by rw [runE, runE, h k (by omega), runE_congr (fun i hi => h i (by omega))]
/-- what the house tells of a tenant and of errands -/
def ED (w : MS) (t ne r : Nat) (k1 : Bool) (op tk ad : Nat → Nat) : Prop := (t < 6 ∧ rI w 10 (26 + 5 * t + 1) + (if rI w 10 (26 + 5 * t) = 3 then 20 else 0) = nI r ∧ r ≤ 119 ∧ k1 = decide (rI w 10 (26 + 5 * t) = 1)) ∧ rI w 10 2 = nI ne ∧ ne ≤ 6 ∧ ∀ e, e < ne → rI w 10 (92 + 3 * e) = nI (op e) ∧ op e ≤ 99 ∧ rI w 10 (92 + 3 * e + 1) = nI (tk e) ∧ tk e ≤ 20 ∧ rI w 10 (92 + 3 * e + 2) = nI (ad e) ∧ ad e ≤ 60
theorem runE_ok {w : MS} {t ne r : Nat} {k1 : Bool} {op tk ad od : Nat → Nat} (H : ED w t ne r k1 op tk ad) : ∀ {k : Nat}, (∀ i, i < k → od i < ne) → okE k (runE r k1 op tk ad od k)
  | 0, _ => ⟨by show 0 ≤ 99 + 20 * 0; omega, by show 0 ≤ 60; omega, by show 0 ≤ 240 * 0; omega⟩
  | k + 1, h => by
    have e := H.2.2.2 (od k) (h k (by omega))
    exact (stE_ok H.1.2.2.1 e.2.1 e.2.2.2.1 e.2.2.2.2.2 (runE_ok H (fun i hi => h i (by omega)))).1
theorem ED.fr {w w' : MS} {t ne r : Nat} {k1 : Bool} {op tk ad : Nat → Nat} (H : ED w t ne r k1 op tk ad) (e : ∀ i, rI w' 10 i = rI w 10 i) : ED w' t ne r k1 op tk ad := by
  unfold ED
  simp only [e]
  exact H
theorem ED.rest {w : MS} {t ne r : Nat} {k1 : Bool} {op tk ad : Nat → Nat} (H : ED w t ne r k1 op tk ad) : M_restOf (nI t) w = some (nI r) := by rw [rest_m H.1.1, H.1.2.1]
theorem cal_n {v : Int32} {k1 : Bool} {s : Nat} (hs : s ≤ 1000) (hk : k1 = decide (v = 1)) : (if v = 1 then nI s / 4 else nI s / 2) = nI (calE k1 s) := by
  unfold calE
  by_cases q : v = 1
  · rw [if_pos q, hk, decide_eq_true q, if_pos rfl]
    exact pk_div (d := 4) (by omega) (by omega) (by omega)
  · rw [if_neg q, hk, decide_eq_false q, if_neg (by decide)]
    exact pk_div (d := 2) (by omega) (by omega) (by omega)
theorem ED.calm {w : MS} {t ne r s : Nat} {k1 : Bool} {op tk ad : Nat → Nat} (H : ED w t ne r k1 op tk ad) (hs : s ≤ 1000) : M_calmed (nI t) (nI s) w = some (nI (calE k1 s)) := by rw [calmed_m H.1.1, cal_n hs H.1.2.2.2]
theorem errOf_s {w : MS} {e j : Nat} (he : e < 6) (hj : j < 3) : M_errandOf (nI e) (nI j) w = some (rI w 10 (92 + 3 * e + j)) := by
  unfold M_errandOf
  simp (disch := omega) only [L2, L3, L4, L5, L6, L7, L8, L9, L10, L11, L12, L13, L14, L15, L16, L17, L18, L19, L20, L21, L22, L23, L24, L25, L26, L27, L28, L29, L30, L31, L32, L33, L34, L35, L36, L37, L38, L40, L41, L42, L43, L44, L45, L48, L56, L57, L59, L60, L61, L63, L92, L96, L97, L99, L100, L101, L120, L122, L123, L124, L125, L126, L128, L146, L176, L200, L212, L240, L241, L243, L255, L729, L999, L1000, L1002, L1100, L1176, L1177, L1183, L1195, L1232, L1251, L1288, L1446, nI_add0, nI_1, nI_add, pk_mul, rA_nI, wA_nI, bd1_s, bd2_s, bdp_s]
theorem ED.op {w : MS} {t ne r e : Nat} {k1 : Bool} {op tk ad : Nat → Nat} (H : ED w t ne r k1 op tk ad) (he : e < ne) : M_errandOf (nI e) 0 w = some (nI (op e)) ∧ M_errandOf (nI e) 1 w = some (nI (tk e)) ∧ M_errandOf (nI e) 2 w = some (nI (ad e)) := by
  have n6 := H.2.2.1
  have h := H.2.2.2 e he
  refine ⟨?_, ?_, ?_⟩
  · rw [← nI_0, errOf_s (by omega) (by omega)]; exact congrArg some h.1
  · rw [show (1 : Int32) = nI 1 from rfl, errOf_s (by omega) (by omega)]; exact congrArg some h.2.2.1
  · rw [show (2 : Int32) = nI 2 from rfl, errOf_s (by omega) (by omega)]; exact congrArg some h.2.2.2.2.1
section BBY
variable {w : MS} {t ne r : Nat} {k1 : Bool} {op tk ad : Nat → Nat}
theorem by_take (H : ED w t ne r k1 op tk ad) {e : Nat} (he : e < ne) (k10 : Int32 → Int32 → Int32 → Int32 → Int32 → MS → Option Int32) (x5 : Int32) : ∀ (j i m at' : Nat) (p : Nat × Nat), i + j = tk e → j < m → p.1 ≤ 60 → M_beatsBy_p68 k10 m (nI t) (nI p.2) (nI at') (nI p.1) x5 (nI e) (nI i) w = k10 (nI t) (nI (itE r k1 (ad e) j p).2) (nI (at' + j)) (nI (max (itE r k1 (ad e) j p).1 (ad e))) (x5 + 1) w := by
  have h := H.2.2.2 e he
  obtain ⟨o0, o1, o2⟩ := H.op he
  intro j
  induction j with
  | zero =>
    intro i m at' p hi hm hp
    obtain ⟨m, rfl⟩ : ∃ k, m = k + 1 := ⟨m - 1, by omega⟩
    rw [M_beatsBy_p68, o1, bd1_s, if_pos (nI_le (by omega) (by omega)), o2, bd1_s, itE]
    by_cases q : ad e ≤ p.1
    · rw [if_pos (nI_le q (by omega)), Nat.max_eq_left q]; rfl
    · rw [if_neg (nI_ge (by omega) (by omega)), bd1_s, Nat.max_eq_right (by omega)]; rfl
  | succ j ih =>
    intro i m at' p hi hm hp
    obtain ⟨m, rfl⟩ : ∃ k, m = k + 1 := ⟨m - 1, by omega⟩
    have hc := calE_le k1 p.1
    rw [M_beatsBy_p68, o1, bd1_s, if_neg (nI_ge (by omega) (by omega)), H.rest, bd1_s, o2, bd1_s, bdp_s, H.calm (by omega), bd1_s, nI_1, nI_1, nI_add, nI_add, nI_add, itE]
    have := ih (i + 1) m (at' + 1) (calE k1 p.1, p.2 + (r + p.1 + ad e)) (by omega) (by omega) (by show calE k1 p.1 ≤ 60; omega)
    rw [show at' + 1 + j = at' + (j + 1) by omega] at this
    exact this
theorem by_wait (H : ED w t ne r k1 op tk ad) {e : Nat} (he : e < ne) (k10 : Int32 → Int32 → Int32 → Int32 → Int32 → MS → Option Int32) (x5 : Int32) : ∀ (j m at' : Nat) (p : Nat × Nat), j = op e - at' → at' < 100000 → j < m → p.1 ≤ 60 → M_beatsBy_p28 k10 m (nI t) (nI p.2) (nI at') (nI p.1) x5 (nI e) w = M_beatsBy_p68 k10 FU (nI t) (nI (itE r k1 0 j p).2) (nI (at' + j)) (nI (itE r k1 0 j p).1) x5 (nI e) 0 w := by
  have h := H.2.2.2 e he
  obtain ⟨o0, o1, o2⟩ := H.op he
  intro j
  induction j with
  | zero =>
    intro m at' p hj ha hm hp
    obtain ⟨m, rfl⟩ : ∃ k, m = k + 1 := ⟨m - 1, by omega⟩
    rw [M_beatsBy_p28, o0, bd1_s, if_pos (nI_le (by omega) (by omega)), itE, Nat.add_zero]
  | succ j ih =>
    intro m at' p hj ha hm hp
    obtain ⟨m, rfl⟩ : ∃ k, m = k + 1 := ⟨m - 1, by omega⟩
    have hc := calE_le k1 p.1
    rw [M_beatsBy_p28, o0, bd1_s, if_neg (nI_ge (by omega) (by omega)), H.rest, bd1_s, bdp_s, H.calm (by omega), bd1_s, nI_1, nI_add, nI_add, itE]
    have := ih m (at' + 1) (calE k1 p.1, p.2 + (r + p.1 + 0)) (by omega) (by omega) (by omega) (by show calE k1 p.1 ≤ 60; omega)
    rw [show at' + 1 + j = at' + (j + 1) by omega] at this
    exact this
/-- beats of an order that lies in field 29 -/
theorem by_run (H : ED w t ne r k1 op tk ad) {od : Nat → Nat} (ho : ∀ i, i < ne → od i < ne ∧ rI w 29 i = nI (od i)) : ∀ (j k m : Nat), k + j = ne → j < m → M_beatsBy_p10 m (nI t) (nI (runE r k1 op tk ad od k).2.2) (nI (runE r k1 op tk ad od k).1) (nI (runE r k1 op tk ad od k).2.1) (nI k) w = some (nI (runE r k1 op tk ad od ne).2.2) := by
  have n6 := H.2.2.1
  have hn : M_errandsMany w = nI ne := H.2.1
  intro j
  induction j with
  | zero =>
    intro k m hk hm
    obtain ⟨m, rfl⟩ : ∃ z, m = z + 1 := ⟨m - 1, by omega⟩
    obtain rfl : k = ne := by omega
    rw [M_beatsBy_p10, hn, if_pos (nI_le (Nat.le_refl _) (by omega))]
  | succ j ih =>
    intro k m hk hm
    obtain ⟨m, rfl⟩ : ∃ z, m = z + 1 := ⟨m - 1, by omega⟩
    obtain ⟨h1, h2⟩ := ho k (by omega)
    have ok := runE_ok H (od := od) (k := k) (fun i hi => (ho i (by omega)).1)
    obtain ⟨k1', k2', k3'⟩ := ok
    have e := H.2.2.2 (od k) h1
    have b := itE_b (r := r) (k1 := k1) (ad := 0) (op (od k) - (runE r k1 op tk ad od k).1) (runE r k1 op tk ad od k).2
    have := ih (k + 1) m (by omega) (by omega)
    rw [M_beatsBy_p10, hn, if_neg (nI_ge (by omega) (by omega)), rA_nI (by omega) (by omega), bd1_s, h2, by_wait H h1 _ _ (op (od k) - (runE r k1 op tk ad od k).1) FU _ _ rfl (by omega) (by show _ < 5000; omega) k2', ← nI_0, by_take H h1 _ _ (tk (od k)) 0 FU _ _ (by omega) (by show _ < 5000; omega) (by omega), nI_1]
    exact this
theorem by_m (H : ED w t ne r k1 op tk ad) {od : Nat → Nat} (ho : ∀ i, i < ne → od i < ne ∧ rI w 29 i = nI (od i)) : M_beatsBy (nI t) w = some (nI (runE r k1 op tk ad od ne).2.2) := by
  have n6 := H.2.2.1
  have := by_run H ho ne 0 FU (by omega) (by show ne < 5000; omega)
  unfold M_beatsBy
  rw [← nI_0]
  exact this
end BBY
