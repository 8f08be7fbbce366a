/-! choices, by a finite look -/
set_option maxRecDepth 100000
def g00 : GS := ((fun _ => (0, 0)), (fun _ _ => 0), (fun _ _ => none), (fun _ _ => 0), 0, 0, 0, 0, fun _ => none)
def chOK (n k : Nat) : Bool := (M_choose (nI n) (nI k) == B_X1_choices (nI n) (nI k) g00) && (match M_choose (nI n) (nI k) with
  | none => false
  | some v => (Nat.blt n k || !(v == 0)))
theorem ch_all : ((List.range 31).all fun n => (List.range 31).all fun k => chOK n k) = true := by decide +kernel
theorem ch_p14 (g : GS) : ∀ (n : Nat) (a b : Int32) (c : Int64) (d : Int32), B_X1_choices_p14 n a b c d g = B_X1_choices_p14 n a b c d g00
  | 0, _, _, _, _ => by rw [B_X1_choices_p14, B_X1_choices_p14]
  | n + 1, a, b, c, d => by
    rw [B_X1_choices_p14, B_X1_choices_p14]
    simp only [ch_p14 g n]
theorem ch_eq {n k : Nat} (hn : n ≤ 30) (hk : k ≤ 30) (g : GS) : ∃ v : Int64, M_choose (nI n) (nI k) = some v ∧ B_X1_choices (nI n) (nI k) g = some v ∧ (k ≤ n → v ≠ 0) := by
  have h := List.all_eq_true.mp (List.all_eq_true.mp ch_all n (List.mem_range.mpr (by omega))) k (List.mem_range.mpr (by omega))
  unfold chOK at h
  rw [Bool.and_eq_true] at h
  obtain ⟨h1, h2⟩ := h
  have h1 := eq_of_beq h1
  have h3 : B_X1_choices (nI n) (nI k) g = B_X1_choices (nI n) (nI k) g00 := by
    unfold B_X1_choices
    rw [ch_p14 g, ch_p14 g]
  cases e : M_choose (nI n) (nI k) with
  | none => rw [e] at h2; cases h2
  | some v =>
    rw [e] at h1 h2
    refine ⟨v, rfl, by rw [h3, ← h1], fun hkn e0 => ?_⟩
    subst e0
    simp at h2
    omega
