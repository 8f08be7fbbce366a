/-! wishes on both sides -/
set_option maxRecDepth 100000
theorem wish_ring (n s b : Int32) : -n * 3 - s - b = 0 - n * 3 - b - s := by
  rw [Int32.sub_eq_add_neg, Int32.sub_eq_add_neg, Int32.sub_eq_add_neg, Int32.sub_eq_add_neg, Int32.sub_eq_add_neg, Int32.neg_mul, Int32.zero_add]
  ac_rfl
theorem wish_ring2 (n b : Int32) : -n * 3 - b = 0 - n * 3 - b - 0 := by
  rw [Int32.sub_zero, Int32.sub_eq_add_neg, Int32.sub_eq_add_neg, Int32.sub_eq_add_neg, Int32.neg_mul, Int32.zero_add]
section WISH
variable {o : Nat → Nat} {x h nr nt ne F : Nat} {M T D : Nat → Nat} {g : GS} {w : MS}
theorem wish2 (C : CX o x h nr nt ne F M T D g w) {t r : Nat} (ht : t < nt) (hr : r < nr) : ∃ (v : Int32) (g' : GS) (w' : MS), B_X1_wish x (nI t) (nI r) g = some (v, g') ∧ M_wishOf (nI t) (nI r) w = some (v, w') ∧ FrB (fun q => q = F) g g' ∧ FrM (fun k _ => k = 23 ∨ k = 24) w w' := by
  have H := C.1
  have HO0 := C.2.1
  obtain ⟨-, -, -, ⟨f1, f2, f3, f4, -⟩, -, L⟩ := C
  have n6 : nt ≤ 6 := H.1.2.2.2.2.1
  have r6 : nr ≤ 6 := H.1.2.2.2.1
  have hx := H.1.1
  have h3 := H.1.2.2.1.1
  have k7 := H.1.2.2.1.2.2.2.2.1 r hr
  have fk : (gK g F).1 = 40 := by rw [f2]
  have fl' : (gK g F).2 = 4 := by rw [f2]
  obtain ⟨e1, e2, e3⟩ := H.2.1 r hr
  have nF : ∀ q, o q = 0 → ¬ q = F := fun q hq e => by rw [e, f3] at hq; exact f4 hq
  have f0 : FrM (fun k _ => k = 23 ∨ k = 24) w (wI (wI (wI (wI w 23 1 (rI w 10 (8 + 3 * r + 2))) 23 2 (rI w 10 (26 + 5 * t))) 23 3 (rI w 10 (8 + 3 * r))) 23 4 (rI w 10 (8 + 3 * r + 1))) := frm_wI (frm_wI (frm_wI (FrM.wI (Or.inl rfl)) (Or.inl rfl)) (Or.inl rfl)) (Or.inl rfl)
  have hM : M_wishOf (nI t) (nI r) w = (if rI w 10 (26 + 5 * t) = 2 then M_wishOf_p85 0 (0 - rI w 10 (8 + 3 * r + 1) * 3 - rI w 10 (8 + 3 * r + 2)) (wI (wI (wI (wI w 23 1 (rI w 10 (8 + 3 * r + 2))) 23 2 (rI w 10 (26 + 5 * t))) 23 3 (rI w 10 (8 + 3 * r))) 23 4 (rI w 10 (8 + 3 * r + 1))) else M_wishOf_p85 (rI w 10 (8 + 3 * r)) (0 - rI w 10 (8 + 3 * r + 1) * 3 - rI w 10 (8 + 3 * r + 2)) (wI (wI (wI (wI w 23 1 (rI w 10 (8 + 3 * r + 2))) 23 2 (rI w 10 (26 + 5 * t))) 23 3 (rI w 10 (8 + 3 * r))) 23 4 (rI w 10 (8 + 3 * r + 1)))) := by
    unfold M_wishOf
    simp (disch := omega) only [nI_1, bd1_s, bd2_s, bdp_s, rd0, rd1, rd1', rd7, rd13, rd19, rd25, rd31, rd37, wr0, wr1, wr1', wr7, wr13, wr19, wr25, wr31, wr37, mro0, mro1, mro2, mtn0, mtn1, mtn2, mtn3, mtn4, rI_ne, rI_nk, rI_eq, rest_m, calmed_m]
  rcases L with ⟨l1, l2⟩ | ⟨e, p, q, d, l1, l2, l3, l4, l5, l6⟩
  · have hp : ∀ a b, M_wishOf_p85 a b (wI (wI (wI (wI w 23 1 (rI w 10 (8 + 3 * r + 2))) 23 2 (rI w 10 (26 + 5 * t))) 23 3 (rI w 10 (8 + 3 * r))) 23 4 (rI w 10 (8 + 3 * r + 1))) = some (b - a, (wI (wI (wI (wI w 23 1 (rI w 10 (8 + 3 * r + 2))) 23 2 (rI w 10 (26 + 5 * t))) 23 3 (rI w 10 (8 + 3 * r))) 23 4 (rI w 10 (8 + 3 * r + 1)))) := by
      intro a b
      unfold M_wishOf_p85
      rw [bdp_s, f0.2 10 7 (by omega), l2, if_neg (by decide)]
    refine ⟨if rI w 10 (26 + 5 * t) = 2 then 0 - rI w 10 (8 + 3 * r + 1) * 3 - rI w 10 (8 + 3 * r + 2) - 0 else 0 - rI w 10 (8 + 3 * r + 1) * 3 - rI w 10 (8 + 3 * r + 2) - rI w 10 (8 + 3 * r), g, _, ?_, ?_, FrB.rf, f0⟩
    · have hw : V_wish (T t) (M r) g = some (if rI w 10 (26 + 5 * t) = 2 then 0 - rI w 10 (8 + 3 * r + 1) * 3 - rI w 10 (8 + 3 * r + 2) - 0 else 0 - rI w 10 (8 + 3 * r + 1) * 3 - rI w 10 (8 + 3 * r + 2) - rI w 10 (8 + 3 * r)) := by
        obtain ⟨⟨k, hk, h1, h2⟩, -⟩ := H.2.2.1 t ht
        rcases (by omega : k = 0 ∨ k = 1 ∨ k = 2 ∨ k = 3) with rfl | rfl | rfl | rfl
        all_goals
          unfold V_wish B_X8_wish B_X10_wish
          rw [h1, h2]
          simp (disch := omega) only [oI_s, e1, e2, e3, bd1_s]
          first
          | (rw [← wish_ring2, ← wish_ring]; simp (decide := true))
          | (rw [← wish_ring]; simp (decide := true))
      unfold B_X1_wish
      simp (disch := omega) only [oRn_s, oR_s, oK_s, H.1.2.1, bd1_s, l1, bq_none, H.tena ht, H.roo hr, hw]
    · rw [hM, hp, hp]
      split <;> rfl
  · have hpq := tr_gt l3
    have fB : FrB (fun q => q = F) g (sI (sI (sI (sI g F 0 (rI w 10 (8 + 3 * r))) F 1 (rI w 10 (8 + 3 * r + 1))) F 2 (rI w 10 (8 + 3 * r + 2))) F 3 (rI w 10 (26 + 5 * t))) := frb_sI (frb_sI (frb_sI (FrB.sI rfl) rfl) rfl) rfl
    have l3' : tr o (sI (sI (sI (sI g F 0 (rI w 10 (8 + 3 * r))) F 1 (rI w 10 (8 + 3 * r + 1))) F 2 (rI w 10 (8 + 3 * r + 2))) F 3 (rI w 10 (26 + 5 * t))) (wI (wI (wI (wI w 23 1 (rI w 10 (8 + 3 * r + 2))) 23 2 (rI w 10 (26 + 5 * t))) 23 3 (rI w 10 (8 + 3 * r))) 23 4 (rI w 10 (8 + 3 * r + 1))) fmw 4 d e p q := tr.fr (o := o) (o' := o) (g := g) (g' := sI (sI (sI (sI g F 0 (rI w 10 (8 + 3 * r))) F 1 (rI w 10 (8 + 3 * r + 1))) F 2 (rI w 10 (8 + 3 * r + 2))) F 3 (rI w 10 (26 + 5 * t))) (w := w) (fun q hq => ⟨hq, rfl, fB.i (nF q hq) 0, fun _ => rfl⟩) l3 (fun i _ _ => ⟨f0.2 11 i (by omega), f0.2 12 i (by omega)⟩)
    obtain ⟨y, w', r1, r2, r3⟩ := worth2 (g := sI (sI (sI (sI g F 0 (rI w 10 (8 + 3 * r))) F 1 (rI w 10 (8 + 3 * r + 1))) F 2 (rI w 10 (8 + 3 * r + 2))) F 3 (rI w 10 (26 + 5 * t))) (F := F) (L := 4) (nf := 4) (fm := fmw) fk fl' (by omega) (by omega) (fun f hf => by unfold fmw; split <;> (try split) <;> (try split) <;> omega) l3' l6 (by rw [f0.2 11 q (by omega)]; exact l4) l5 (fun f hf => by
      rcases (by omega : f = 0 ∨ f = 1 ∨ f = 2 ∨ f = 3) with rfl | rfl | rfl | rfl
      · simp (disch := omega) [gi_sI, rI_ne, rI_eq, fmw]
      · simp (disch := omega) [gi_sI, rI_ne, rI_eq, fmw]
      · simp (disch := omega) [gi_sI, rI_ne, rI_eq, fmw]
      · simp (disch := omega) [gi_sI, rI_ne, rI_eq, fmw])
    have hp : ∀ a b, M_wishOf_p85 a b (wI (wI (wI (wI w 23 1 (rI w 10 (8 + 3 * r + 2))) 23 2 (rI w 10 (26 + 5 * t))) 23 3 (rI w 10 (8 + 3 * r))) 23 4 (rI w 10 (8 + 3 * r + 1))) = some (y, w') := by
      intro a b
      unfold M_wishOf_p85
      rw [bdp_s, f0.2 10 7 (by omega), l2, if_pos (nI_pos' (by omega)), r2, bd2_s]
    have hR : ∀ g' : GS, FrB (fun q => q = F) g g' → B_X1_room_2 x (nI r) g' = some (M r) ∧ B_X1_tenant_2 x (nI t) g' = some (T t) ∧ V_kind (T t) g' = some (rI w 10 (26 + 5 * t)) ∧ gI g' (M r) 1 = rI w 10 (8 + 3 * r) ∧ gI g' (M r) 2 = rI w 10 (8 + 3 * r + 1) ∧ gI g' (M r) 3 = rI w 10 (8 + 3 * r + 2) := by
      intro g' f
      have H' := H.fr HO0 f nF (w' := w) (fun _ => rfl)
      exact ⟨H'.roo hr, H'.tena ht, kind_b H' ht, (H'.2.1 r hr).1, (H'.2.1 r hr).2.1, (H'.2.1 r hr).2.2⟩
    have R0 := hR g FrB.rf
    have R1 := hR (sI g F 0 (rI w 10 (8 + 3 * r))) (FrB.sI rfl)
    have R2 := hR (sI (sI g F 0 (rI w 10 (8 + 3 * r))) F 1 (rI w 10 (8 + 3 * r + 1))) (frb_sI (FrB.sI rfl) rfl)
    have R3 := hR (sI (sI (sI g F 0 (rI w 10 (8 + 3 * r))) F 1 (rI w 10 (8 + 3 * r + 1))) F 2 (rI w 10 (8 + 3 * r + 2))) (frb_sI (frb_sI (FrB.sI rfl) rfl) rfl)
    refine ⟨y, _, w', ?_, ?_, fB, f0.tr (r3.mono (fun k i h => Or.inr h))⟩
    · unfold B_X1_wish
      simp (disch := first | omega | (simp only [gk_sI]; omega)) only [oRn_s, oR_s, oK_s, oI_s, gr_sI, H.1.2.1, f1, bd1_s, l1, bq_some, xI0, xI1, xI2, xI3, R0.1, R0.2.2.2.1, R1.1, R1.2.2.2.2.1, R2.1, R2.2.2.2.2.2, R3.2.1, R3.2.2.1, r1]
    · rw [hM, hp, hp]
      split <;> rfl
end WISH
