/-! call: sample -/
set_option maxRecDepth 100000
section SAM
variable {o : Nat → Nat} {x h nr nt ne F S Tr N : Nat} {M T D a c : Nat → Nat} {g g' : GS} {w w' : MS}
/-- what a sample changes: two arrays and a number of x; the block now behind 42 -/
theorem c_sample {sm sb ns : Nat} (hx : (gK g x).1 = 1) (P : SMP o x Tr F sm sb ns g w) (mi bt : Int32) : ∃ (r : Int32) (g' : GS) (w' : MS) (ns' : Nat), B_X1_sample x mi bt g = some (r, g') ∧ M_sample mi bt w = some (r, w') ∧ SMP o x Tr F sm sb ns' g' w' ∧ (g'.1 = g.1 ∧ g'.2.2 = g.2.2 ∧ ∀ q k, q ≠ sm → q ≠ sb → (q ≠ x ∨ k ≠ 18) → gI g' q k = gI g q k) ∧ FrM (fun k i => k = 0 ∨ k = 25 ∧ 43 ≤ i ∧ i < 56) w w' := by
  obtain ⟨⟨a1, a2, a3, a4, a5, a6, a7⟩, b, c1, c2, c3, c4⟩ := P
  have e18 : oI g x 1 1 18 = some (nI ns) := by rw [oI_s (by omega) (by omega), c1]
  have r16 : oRn g x 1 1 16 = some sm := by rw [oRn_s (by omega) (by omega)]; exact a1
  have f0 : FrM (fun k i => k = 0 ∨ k = 25 ∧ 43 ≤ i ∧ i < 56) w (wI w 0 0 0) := FrM.wI (Or.inl rfl)
  have P0 : SMP o x Tr F sm sb ns g (wI w 0 0 0) := ⟨⟨a1, a2, a3, a4, a5, a6, a7⟩, b, c1, by rw [rI_nk (by omega)]; exact c2, c3, fun k hk => by rw [rI_nk (by omega), rI_nk (by omega)]; exact c4 k hk⟩
  unfold B_X1_sample M_sample
  rcases win mi (lo := 0) (hi := 5) (by omega) (by omega) with q1 | ⟨p, -, hp, rfl, q1⟩
  · have q1 : M_within mi 0 5 = 0 := q1
    simp only [bdp_s, in_eq, q1, if00]
    exact ⟨_, _, _, _, rfl, rfl, P0, ⟨rfl, rfl, fun _ _ _ _ _ => rfl⟩, f0⟩
  · have q1 : M_within (nI p) 0 5 = 1 := q1
    rcases win bt (lo := 0) (hi := 240) (by omega) (by omega) with q2 | ⟨b', -, hb', rfl, q2⟩
    · have q2 : M_within bt 0 240 = 0 := q2
      simp only [bdp_s, in_eq, q1, q2, if00, if10]
      exact ⟨_, _, _, _, rfl, rfl, P0, ⟨rfl, rfl, fun _ _ _ _ _ => rfl⟩, f0⟩
    · have q2 : M_within (nI b') 0 240 = 1 := q2
      have c2' : rI (wI w 0 0 0) 25 43 = nI ns := P0.2.2.2.1
      by_cases z : ns = 6
      · subst z
        have z6 : nI 6 = (6 : Int32) := rfl
        simp only [bdp_s, in_eq, q1, q2, if10, e18, bd1_s, c2', z6, if_true]
        exact ⟨_, _, _, _, rfl, rfl, P0, ⟨rfl, rfl, fun _ _ _ _ _ => rfl⟩, f0⟩
      · have z6 : ¬ nI ns = (6 : Int32) := fun e => z ((nI_eq (b := 6) (by omega) (by omega)).mp e)
        have r17 : oRn (sI g sm ns (nI p)) x 1 1 17 = some sb := by rw [oRn_s (by rw [gk_sI]; omega) (by rw [gk_sI]; omega), gr_sI]; exact a3
        have e18' : oI (sI g sm ns (nI p)) x 1 1 18 = some (nI ns) := by rw [oI_s (by rw [gk_sI]; omega) (by rw [gk_sI]; omega), gi_sI, if_neg (fun e => a6 e.1.symm), c1]
        have x1 : xI g sm 40 (nI ns) (nI p) = some (sI g sm ns (nI p)) := xI_s (by rw [a2]) (by rw [a2]; show ns < 6; omega) (by rw [a2]; omega)
        have p1 : pI (sI g sm ns (nI p)) x 1 1 18 (nI (ns + 1)) = some (sI (sI g sm ns (nI p)) x 18 (nI (ns + 1))) := by rw [pI_s (by rw [gk_sI]; omega) (by rw [gk_sI]; omega)]
        have x2 : xI (sI (sI g sm ns (nI p)) x 18 (nI (ns + 1))) sb 40 (nI ns) (nI b') = some (sI (sI (sI g sm ns (nI p)) x 18 (nI (ns + 1))) sb ns (nI b')) := xI_s (by rw [gk_sI, gk_sI, a4]) (by rw [gk_sI, gk_sI, a4]; show ns < 6; omega) (by rw [gk_sI, gk_sI, a4]; omega)
        have m1 : wA (wI w 0 0 0) 25 1288 ((44 : Int32) + (2 : Int32) * nI ns) (nI p) = some (wI (wI w 0 0 0) 25 (44 + 2 * ns) (nI p)) := by simp (disch := omega) only [L2, L3, L4, L5, L6, L7, L8, L9, L10, L11, L12, L13, L14, L15, L16, L17, L18, L19, L20, L21, L22, L23, L24, L25, L26, L27, L28, L29, L30, L31, L32, L33, L34, L35, L36, L37, L38, L40, L41, L42, L43, L44, L45, L48, L56, L57, L59, L60, L61, L63, L92, L96, L97, L99, L100, L101, L120, L122, L123, L124, L125, L126, L128, L146, L176, L200, L212, L240, L241, L243, L255, L729, L999, L1000, L1002, L1100, L1176, L1177, L1183, L1195, L1232, L1251, L1288, L1446, nI_add0, nI_1, nI_add, pk_mul, rA_nI, wA_nI, bd1_s, bd2_s, bdp_s]
        have m2 : wA (wI (wI w 0 0 0) 25 (44 + 2 * ns) (nI p)) 25 1288 ((44 : Int32) + (2 : Int32) * nI ns + (1 : Int32)) (nI b') = some (wI (wI (wI w 0 0 0) 25 (44 + 2 * ns) (nI p)) 25 (44 + 2 * ns + 1) (nI b')) := by simp (disch := omega) only [L2, L3, L4, L5, L6, L7, L8, L9, L10, L11, L12, L13, L14, L15, L16, L17, L18, L19, L20, L21, L22, L23, L24, L25, L26, L27, L28, L29, L30, L31, L32, L33, L34, L35, L36, L37, L38, L40, L41, L42, L43, L44, L45, L48, L56, L57, L59, L60, L61, L63, L92, L96, L97, L99, L100, L101, L120, L122, L123, L124, L125, L126, L128, L146, L176, L200, L212, L240, L241, L243, L255, L729, L999, L1000, L1002, L1100, L1176, L1177, L1183, L1195, L1232, L1251, L1288, L1446, nI_add0, nI_1, nI_add, pk_mul, rA_nI, wA_nI, bd1_s, bd2_s, bdp_s]
        have c3' : rI (wI (wI w 0 0 0) 25 (44 + 2 * ns) (nI p)) 25 43 = nI ns := by rw [rI_ne (by omega)]; exact c2'
        have c4' : rI (wI (wI (wI w 0 0 0) 25 (44 + 2 * ns) (nI p)) 25 (44 + 2 * ns + 1) (nI b')) 25 43 = nI ns := by rw [rI_ne (by omega)]; exact c3'
        simp only [bdp_s, in_eq, q1, q2, if10, e18, bd1_s, c2', if_neg z6, r16, x1, r17, e18', p1, x2, m1, c3', m2, c4', nI_1]
        refine ⟨_, _, _, ns + 1, rfl, rfl, ⟨⟨a1, a2, a3, a4, a5, a6, a7⟩, b, ?_, rI_eq rfl, by omega, fun k hk => ?_⟩, ⟨rfl, rfl, fun q k h1 h2 h3 => ?_⟩, frm_wI (frm_wI (frm_wI f0 (Or.inr ⟨rfl, by omega, by omega⟩)) (Or.inr ⟨rfl, by omega, by omega⟩)) (Or.inr ⟨rfl, by omega, by omega⟩)⟩
        · rw [gi_sI, if_neg (fun e => a7 e.1.symm), gi_sI, if_pos ⟨rfl, rfl⟩]
        · by_cases e : k = ns
          · subst e
            refine ⟨p, b', by omega, by omega, ?_, ?_, ?_, ?_⟩
            · rw [gi_sI, if_neg (fun e => a5 e.1), gi_sI, if_neg (fun e => a6 e.1), gi_sI, if_pos ⟨rfl, rfl⟩]
            · rw [rI_ne (by omega), rI_ne (by omega), rI_eq rfl]
            · rw [gi_sI, if_pos ⟨rfl, rfl⟩]
            · rw [rI_ne (by omega), rI_eq rfl]
          · obtain ⟨p', b'', u1, u2, u3, u4, u5, u6⟩ := c4 k (by omega)
            refine ⟨p', b'', u1, u2, ?_, ?_, ?_, ?_⟩
            · rw [gi_sI, if_neg (fun e => a5 e.1), gi_sI, if_neg (fun e => a6 e.1), gi_sI, if_neg (fun z => e z.2)]; exact u3
            · rw [rI_ne (by omega), rI_ne (by omega), rI_ne (by omega), rI_nk (by omega)]; exact u4
            · rw [gi_sI, if_neg (fun z => e z.2), gi_sI, if_neg (fun e => a7 e.1), gi_sI, if_neg (fun e => a5 e.1.symm)]; exact u5
            · rw [rI_ne (by omega), rI_ne (by omega), rI_ne (by omega), rI_nk (by omega)]; exact u6
        · rw [gi_sI, if_neg (fun e => h2 e.1), gi_sI, if_neg (fun e => h3.elim (fun h => h e.1) (fun h => h e.2)), gi_sI, if_neg (fun e => h1 e.1)]
end SAM
