/-! states and their rows, two-sided -/
set_option maxRecDepth 100000
theorem FrM.mono {P Q : Nat → Nat → Prop} {w w' : MS} (h : FrM P w w') (hpq : ∀ k i, P k i → Q k i) : FrM Q w w' := ⟨h.1, fun k i hq => h.2 k i (fun hp => hq (hpq k i hp))⟩
theorem FrB.mono {P Q : Nat → Prop} {g g' : GS} (h : FrB P g g') (hpq : ∀ q, P q → Q q) : FrB Q g g' := ⟨h.1, h.2.1, fun q hq => h.2.2 q (fun hp => hq (hpq q hp))⟩
theorem rI_ne {w : MS} {k i j : Nat} {v : Int32} (h : j ≠ i) : rI (wI w k i v) k j = rI w k j := by
  rw [rI_wI, if_neg (fun e => h e.2)]
theorem rI_nk {w : MS} {k k' i j : Nat} {v : Int32} (h : k' ≠ k) : rI (wI w k i v) k' j = rI w k' j := by
  rw [rI_wI, if_neg (fun e => h e.1)]
theorem rI_eq {w : MS} {k i j : Nat} {v : Int32} (h : j = i) : rI (wI w k i v) k j = v := by
  rw [rI_wI, if_pos ⟨rfl, h⟩]
theorem ofs0 : ofs 0 = 1 := rfl
theorem ofs1 : ofs 1 = 13 := rfl
theorem ofs2 : ofs 2 = 19 := rfl
theorem ofs3 : ofs 3 = 25 := rfl
theorem ofs4 : ofs 4 = 7 := rfl
theorem ofs5 : ofs 5 = 31 := rfl
theorem ofs_inj (k : Nat) (hk : k < 6) (k' : Nat) (hk' : k' < 6) (t : Nat) (ht : t < 6) (t' : Nat) (ht' : t' < 6) (e : ofs k + t = ofs k' + t') : k = k' ∧ t = t' := by
  rcases (by omega : k = 0 ∨ k = 1 ∨ k = 2 ∨ k = 3 ∨ k = 4 ∨ k = 5) with rfl | rfl | rfl | rfl | rfl | rfl <;> rcases (by omega : k' = 0 ∨ k' = 1 ∨ k' = 2 ∨ k' = 3 ∨ k' = 4 ∨ k' = 5) with rfl | rfl | rfl | rfl | rfl | rfl <;> simp only [ofs0, ofs1, ofs2, ofs3, ofs4, ofs5] at e <;> omega
theorem ofs_b : ∀ k, k < 6 → 1 ≤ ofs k ∧ ofs k ≤ 31 := by decide +kernel
theorem mk6_congr {f1 f2 : Nat → Bool} (e : ∀ t, t < 6 → f1 t = f2 t) : mk6 f1 = mk6 f2 := by
  unfold mk6
  rw [e 0 (by omega), e 1 (by omega), e 2 (by omega), e 3 (by omega), e 4 (by omega), e 5 (by omega)]
theorem st_ne {g : GS} {S k : Nat} {a : Nat → Nat} (h : stS g S a) (hk : k < 6) : a k ≠ S := by
  intro e
  have h1 := (h.2.1 k hk).2
  rw [e] at h1
  have h2 := h.1
  rw [h1] at h2
  exact absurd h2 (by decide)
theorem SR.set {g : GS} {S : Nat} {a : Nat → Nat} {w : MS} {b k t : Nat} (h : SR g S a w b) (hk : k < 6) (ht : t < 6) (v : Int32) : SR (sI g (a k) t v) S a (wI w 25 (b + ofs k + t) v) b := by
  obtain ⟨h1, h2, h3, h4, h5⟩ := h
  have hb := ofs_b k hk
  have e0 : ∀ i, i < 6 → rI (wI w 25 (b + ofs k + t) v) 25 (b + 37 + i) = rI w 25 (b + 37 + i) := fun i hi => rI_ne (by omega)
  refine ⟨h1, fun k' t' hk' ht' => ?_, ?_, ?_, fun i hi => by rw [e0 i hi]; exact h5 i hi⟩
  · rw [gi_sI, rI_wI]
    by_cases c : k' = k ∧ t' = t
    · obtain ⟨rfl, rfl⟩ := c
      rw [if_pos ⟨rfl, rfl⟩, if_pos ⟨rfl, rfl⟩]
    · have n1 : ¬ (a k' = a k ∧ t' = t) := fun ⟨e, e2⟩ => c ⟨h1.2.2 k' k hk' hk e, e2⟩
      have n2 : ¬ (25 = 25 ∧ b + ofs k' + t' = b + ofs k + t) := fun ⟨_, e⟩ => c (ofs_inj k' hk' k hk t' ht' t ht (by omega))
      rw [if_neg n1, if_neg n2, h2 k' t' hk' ht']
  · rw [gi_sI, if_neg (fun e => st_ne h1 hk e.1.symm), h3, rI_ne (by omega)]
  · rw [gi_sI, if_neg (fun e => st_ne h1 hk e.1.symm), h4]
    exact congrArg nI (mk6_congr fun i hi => by unfold goneB; rw [e0 i hi])
theorem SR.min {g : GS} {S : Nat} {a : Nat → Nat} {w : MS} {b : Nat} (h : SR g S a w b) (v : Int32) : SR (sI g S 6 v) S a (wI w 25 b v) b := by
  obtain ⟨h1, h2, h3, h4, h5⟩ := h
  have e0 : ∀ i, i < 6 → rI (wI w 25 b v) 25 (b + 37 + i) = rI w 25 (b + 37 + i) := fun i hi => rI_ne (by omega)
  refine ⟨h1, fun k' t' hk' ht' => ?_, ?_, ?_, fun i hi => by rw [e0 i hi]; exact h5 i hi⟩
  · have hb := ofs_b k' hk'
    rw [gi_sI, if_neg (fun e => st_ne h1 hk' e.1), rI_ne (by omega)]
    exact h2 k' t' hk' ht'
  · rw [gi_sI, if_pos ⟨rfl, rfl⟩, rI_eq rfl]
  · rw [gi_sI, if_neg (by omega), h4]
    exact congrArg nI (mk6_congr fun i hi => by unfold goneB; rw [e0 i hi])
theorem SR.gone {g : GS} {S : Nat} {a : Nat → Nat} {w : MS} {b t : Nat} (h : SR g S a w b) (ht : t < 6) : SR (sI g S 7 (gI g S 7 ||| ((1 : Int32) <<< (nI t &&& nI 31)))) S a (wI w 25 (b + 37 + t) 1) b := by
  obtain ⟨h1, h2, h3, h4, h5⟩ := h
  refine ⟨h1, fun k' t' hk' ht' => ?_, ?_, ?_, fun i hi => ?_⟩
  · have hb := ofs_b k' hk'
    rw [gi_sI, if_neg (fun e => st_ne h1 hk' e.1), rI_ne (by omega)]
    exact h2 k' t' hk' ht'
  · rw [gi_sI, if_neg (by omega), h3, rI_ne (by omega)]
  · rw [gi_sI, if_pos ⟨rfl, rfl⟩, h4, mk6_set _ ht]
    refine congrArg nI (mk6_congr fun i hi => ?_)
    unfold setB goneB
    by_cases e : i = t
    · rw [if_pos e, rI_eq (by omega)]; rfl
    · rw [if_neg e, rI_ne (by omega)]
  · by_cases e : i = t
    · rw [rI_eq (by omega)]; exact Or.inr rfl
    · rw [rI_ne (by omega)]; exact h5 i hi
/-- what always holds of a block -/
def BI (w : MS) (b nr nt N : Nat) : Prop := (∀ t, t < 6 → (rI w 25 (b + 1 + t) = -1 ∨ ∃ r, r < nr ∧ t < nt ∧ rI w 25 (b + 1 + t) = nI r) ∧ (∃ c, c ≤ 120 ∧ rI w 25 (b + 19 + t) = nI c) ∧ (∃ c, c ≤ N ∧ rI w 25 (b + 25 + t) = nI c) ∧ (∃ c, c ≤ 9999 ∧ rI w 25 (b + 31 + t) = nI c) ∧ (rI w 25 (b + 37 + t) = 0 ∨ rI w 25 (b + 37 + t) = 1 ∧ rI w 25 (b + 1 + t) = -1) ∧ (nt ≤ t → rI w 25 (b + 31 + t) = 0 ∧ rI w 25 (b + 37 + t) = 0)) ∧ ∀ t u, t < 6 → u < 6 → t ≠ u → rI w 25 (b + 1 + t) = rI w 25 (b + 1 + u) → rI w 25 (b + 1 + t) = -1
theorem BI.congr {w w' : MS} {b nr nt N : Nat} (h : BI w b nr nt N) (e : ∀ i, 1 ≤ i ∧ i < 7 ∨ 19 ≤ i ∧ i < 43 → rI w' 25 (b + i) = rI w 25 (b + i)) : BI w' b nr nt N := by
  have e' : ∀ i t, t < 6 → (i = 1 ∨ i = 19 ∨ i = 25 ∨ i = 31 ∨ i = 37) → rI w' 25 (b + i + t) = rI w 25 (b + i + t) := fun i t ht hi => by rw [Nat.add_assoc]; exact e (i + t) (by omega)
  refine ⟨fun t ht => ?_, fun t u ht hu hn => ?_⟩
  · rw [e' 1 t ht (by omega), e' 19 t ht (by omega), e' 25 t ht (by omega), e' 31 t ht (by omega), e' 37 t ht (by omega)]
    exact h.1 t ht
  · rw [e' 1 t ht (by omega), e' 1 u hu (by omega)]
    exact h.2 t u ht hu hn
theorem BI.cup {w : MS} {b nr nt N t c : Nat} (h : BI w b nr nt N) (ht : t < 6) (hc : c ≤ 120) : BI (wI w 25 (b + 19 + t) (nI c)) b nr nt N := by
  refine ⟨fun u hu => ?_, fun u v hu hv hn => ?_⟩
  · obtain ⟨h1, h2, h3, h4, h5, h6⟩ := h.1 u hu
    by_cases e : u = t
    · subst e
      simp (disch := omega) only [rI_ne, rI_eq]
      exact ⟨h1, ⟨c, hc, rfl⟩, h3, h4, h5, h6⟩
    · simp (disch := omega) only [rI_ne]
      exact ⟨h1, h2, h3, h4, h5, h6⟩
  · simp (disch := omega) only [rI_ne]
    exact h.2 u v hu hv hn
theorem BI.hab {w : MS} {b nr nt N t c : Nat} (h : BI w b nr nt N) (ht : t < 6) (hc : c ≤ N) : BI (wI w 25 (b + 25 + t) (nI c)) b nr nt N := by
  refine ⟨fun u hu => ?_, fun u v hu hv hn => ?_⟩
  · obtain ⟨h1, h2, h3, h4, h5, h6⟩ := h.1 u hu
    by_cases e : u = t
    · subst e
      simp (disch := omega) only [rI_ne, rI_eq]
      exact ⟨h1, h2, ⟨c, hc, rfl⟩, h4, h5, h6⟩
    · simp (disch := omega) only [rI_ne]
      exact ⟨h1, h2, h3, h4, h5, h6⟩
  · simp (disch := omega) only [rI_ne]
    exact h.2 u v hu hv hn
theorem BI.coin {w : MS} {b nr nt N t c : Nat} (h : BI w b nr nt N) (ht : t < 6) (hc : c ≤ 9999) (hn : t < nt) : BI (wI w 25 (b + 31 + t) (nI c)) b nr nt N := by
  refine ⟨fun u hu => ?_, fun u v hu hv hn => ?_⟩
  · obtain ⟨h1, h2, h3, h4, h5, h6⟩ := h.1 u hu
    by_cases e : u = t
    · subst e
      simp (disch := omega) only [rI_ne, rI_eq]
      exact ⟨h1, h2, h3, ⟨c, hc, rfl⟩, h5, fun h => by omega⟩
    · simp (disch := omega) only [rI_ne]
      exact ⟨h1, h2, h3, h4, h5, h6⟩
  · simp (disch := omega) only [rI_ne]
    exact h.2 u v hu hv hn
theorem BI.out {w : MS} {b nr nt N t : Nat} (h : BI w b nr nt N) (ht : t < 6) (hn : t < nt) : BI (wI (wI w 25 (b + 1 + t) (-1)) 25 (b + 37 + t) 1) b nr nt N := by
  refine ⟨fun u hu => ?_, fun u v hu hv hn => ?_⟩
  · obtain ⟨h1, h2, h3, h4, h5, h6⟩ := h.1 u hu
    by_cases e : u = t
    · subst e
      simp (disch := omega) only [rI_ne, rI_eq]
      exact ⟨by simp, h2, h3, h4, by simp, fun h => by omega⟩
    · simp (disch := omega) only [rI_ne]
      exact ⟨h1, h2, h3, h4, h5, h6⟩
  · by_cases e1 : u = t
    · subst e1
      simp (disch := omega) only [rI_ne, rI_eq]
      exact fun _ => trivial
    · by_cases e2 : v = t
      · subst e2
        simp (disch := omega) only [rI_ne, rI_eq]
        exact fun h => h
      · simp (disch := omega) only [rI_ne]
        exact h.2 u v hu hv hn
theorem BI.room {w : MS} {b nr nt N t r : Nat} (h : BI w b nr nt N) (ht : t < 6) (hn : t < nt) (hr : r < nr) (h6 : nr ≤ 6) (h0 : rI w 25 (b + 37 + t) = 0) (hf : ∀ u, u < 6 → rI w 25 (b + 1 + u) ≠ nI r) : BI (wI w 25 (b + 1 + t) (nI r)) b nr nt N := by
  refine ⟨fun u hu => ?_, fun u v hu hv hn => ?_⟩
  · obtain ⟨h1, h2, h3, h4, h5, h6⟩ := h.1 u hu
    by_cases e : u = t
    · subst e
      simp (disch := omega) only [rI_ne, rI_eq]
      exact ⟨Or.inr ⟨r, hr, hn, rfl⟩, h2, h3, h4, Or.inl h0, h6⟩
    · simp (disch := omega) only [rI_ne]
      exact ⟨h1, h2, h3, h4, h5, h6⟩
  · by_cases e1 : u = t
    · subst e1
      simp (disch := omega) only [rI_ne, rI_eq]
      exact fun e => absurd e.symm (hf v hv)
    · by_cases e2 : v = t
      · subst e2
        simp (disch := omega) only [rI_ne, rI_eq]
        exact fun e => absurd e (hf u hu)
      · simp (disch := omega) only [rI_ne]
        exact h.2 u v hu hv hn
theorem BI.more {w : MS} {b nr nt N N' : Nat} (h : BI w b nr nt N) (hN : N ≤ N') : BI w b nr nt N' := by
  refine ⟨fun t ht => ?_, h.2⟩
  obtain ⟨h1, h2, ⟨c, hc, h3⟩, h4⟩ := h.1 t ht
  exact ⟨h1, h2, ⟨c, by omega, h3⟩, h4⟩
/-! trees against codes -/
def wy (c k : Int32) : Prop := (c = 43 ∧ k = 4) ∨ (c = 45 ∧ k = 5) ∨ (c = 42 ∧ k = 6) ∨ (c = 60 ∧ k = 7) ∨ (c = 61 ∧ k = 8) ∨ (c = 38 ∧ k = 9) ∨ (c = 124 ∧ k = 10)
/-- the tree at e, of depth at most d, is told by the codes from p on, ahead of q -/
def tr (o : Nat → Nat) (g : GS) (w : MS) (fm : Nat → Nat) (nf : Nat) : Nat → Nat → Nat → Nat → Prop
  | 0, _, _, _ => False
  | d + 1, e, p, q => o e = 0 ∧ (((gK g e).1 = 13 ∧ q = p + 1 ∧ rI w 11 p = 1 ∧ rI w 12 p = gI g e 0) ∨ ((gK g e).1 = 14 ∧ q = p + 1 ∧ rI w 11 p = 2 ∧ ∃ f, f < nf ∧ gI g e 0 = nI f ∧ rI w 12 p = nI (fm f)) ∨ ((gK g e).1 = 15 ∧ ∃ e1 p1, gR g e 0 = some e1 ∧ tr o g w fm nf d e1 p p1 ∧ q = p1 + 1 ∧ rI w 11 p1 = 3) ∨ ((gK g e).1 = 16 ∧ ∃ e1 e2 p1 p2, gR g e 1 = some e1 ∧ gR g e 2 = some e2 ∧ tr o g w fm nf d e1 p p1 ∧ tr o g w fm nf d e2 p1 p2 ∧ q = p2 + 1 ∧ wy (gI g e 0) (rI w 11 p2)))
theorem tr_gt {o : Nat → Nat} {g : GS} {w : MS} {fm : Nat → Nat} {nf : Nat} : ∀ {d e p q : Nat}, tr o g w fm nf d e p q → p < q
  | 0, _, _, _, h => by rw [tr] at h; exact h.elim
  | d + 1, e, p, q, h => by
    rw [tr] at h
    obtain ⟨-, ⟨-, h, -⟩ | ⟨-, h, -⟩ | ⟨-, e1, p1, -, h1, h, -⟩ | ⟨-, e1, e2, p1, p2, -, -, h1, h2, h, -⟩⟩ := h
    · omega
    · omega
    · have := tr_gt h1; omega
    · have := tr_gt h1; have := tr_gt h2; omega
theorem tr.more {o : Nat → Nat} {g : GS} {w : MS} {fm : Nat → Nat} {nf : Nat} : ∀ {d d' e p q : Nat}, tr o g w fm nf d e p q → d ≤ d' → tr o g w fm nf d' e p q
  | 0, _, _, _, _, h, _ => by rw [tr] at h; exact h.elim
  | d + 1, 0, _, _, _, _, h => by omega
  | d + 1, d' + 1, e, p, q, h, hd => by
    rw [tr] at h
    rw [tr]
    obtain ⟨h0, h | h | ⟨k, e1, p1, h2, h1, h⟩ | ⟨k, e1, e2, p1, p2, h3, h4, h1, h2, h⟩⟩ := h
    · exact ⟨h0, Or.inl h⟩
    · exact ⟨h0, Or.inr (Or.inl h)⟩
    · exact ⟨h0, Or.inr (Or.inr (Or.inl ⟨k, e1, p1, h2, h1.more (by omega), h⟩))⟩
    · exact ⟨h0, Or.inr (Or.inr (Or.inr ⟨k, e1, e2, p1, p2, h3, h4, h1.more (by omega), h2.more (by omega), h⟩))⟩
/-- what tr reads -/
theorem tr.fr {o o' : Nat → Nat} {g g' : GS} {w w' : MS} {fm : Nat → Nat} {nf : Nat} (ho : ∀ q, o q = 0 → o' q = 0 ∧ gK g' q = gK g q ∧ gI g' q 0 = gI g q 0 ∧ ∀ k, gR g' q k = gR g q k) : ∀ {d e p q : Nat}, tr o g w fm nf d e p q → (∀ i, p ≤ i → i < q → rI w' 11 i = rI w 11 i ∧ rI w' 12 i = rI w 12 i) → tr o' g' w' fm nf d e p q
  | 0, _, _, _, h, _ => by rw [tr] at h; exact h.elim
  | d + 1, e, p, q, h, hw => by
    rw [tr] at h
    rw [tr]
    obtain ⟨h0, h⟩ := h
    obtain ⟨i0, i1, i2, i3⟩ := ho e h0
    rw [i1, i2, i3 0, i3 1, i3 2]
    refine ⟨i0, ?_⟩
    obtain ⟨k, h1, h2, h3⟩ | ⟨k, h1, h2, h3⟩ | ⟨k, e1, p1, h2, h1, h3, h4⟩ | ⟨k, e1, e2, p1, p2, h3, h4, h1, h2, h5, h6⟩ := h
    · have := hw p (by omega) (by omega)
      rw [this.1, this.2]
      exact Or.inl ⟨k, h1, h2, h3⟩
    · have := hw p (by omega) (by omega)
      rw [this.1, this.2]
      exact Or.inr (Or.inl ⟨k, h1, h2, h3⟩)
    · have g1 := tr_gt h1
      refine Or.inr (Or.inr (Or.inl ⟨k, e1, p1, h2, tr.fr ho h1 (fun i a b => hw i a (by omega)), h3, ?_⟩))
      rw [(hw p1 (by omega) (by omega)).1]
      exact h4
    · have g1 := tr_gt h1
      have g2 := tr_gt h2
      refine Or.inr (Or.inr (Or.inr ⟨k, e1, e2, p1, p2, h3, h4, tr.fr ho h1 (fun i a b => hw i a (by omega)), tr.fr ho h2 (fun i a b => hw i (by omega) (by omega)), h5, ?_⟩))
      rw [(hw p2 (by omega) (by omega)).1]
      exact h6
theorem nI_pm (k : Nat) : nI (k + 1) + (-1 : Int32) = nI k := by
  exact (Int32.sub_eq_add_neg _ _).symm.trans (nI_pred k)
theorem both_wy {c k x y : Int32} (h : wy c k) : k ≠ 0 ∧ k ≠ 1 ∧ k ≠ 2 ∧ k ≠ 3 ∧ (if c = (38 : Int32) then if x = 0 then some (0 : Int32) else if y = 0 then some (0 : Int32) else some (1 : Int32) else if c = (42 : Int32) then some (x * y) else if c = (43 : Int32) then some (x + y) else if c = (45 : Int32) then some (x - y) else if c = (60 : Int32) then if y ≤ x then some (0 : Int32) else some (1 : Int32) else if c = (61 : Int32) then if x = y then some (1 : Int32) else some (0 : Int32) else if x = 0 then if y = 0 then some (0 : Int32) else some (1 : Int32) else some (1 : Int32)) = some (M_both k x y) := by
  unfold M_both
  rcases h with ⟨rfl, rfl⟩ | ⟨rfl, rfl⟩ | ⟨rfl, rfl⟩ | ⟨rfl, rfl⟩ | ⟨rfl, rfl⟩ | ⟨rfl, rfl⟩ | ⟨rfl, rfl⟩
  all_goals
    refine ⟨by decide, by decide, by decide, by decide, ?_⟩
    by_cases hx : x = 0 <;> by_cases hy : y = 0 <;> (try simp (decide := true) [hx, hy]) <;> (try (split <;> rfl))
theorem worth_run {o : Nat → Nat} {g : GS} {fm : Nat → Nat} {nf F L : Nat} (hF : (gK g F).1 = 40) (hL : (gK g F).2 = L) (hn : nf ≤ L) (hL2 : L < 100) (hfm : ∀ f, f < nf → fm f < 5) : ∀ {d e p q : Nat} {s : Nat} {w : MS}, tr o g w fm nf d e p q → (∀ f, f < nf → gI g F f = rI w 23 (fm f)) → s + (q - p) ≤ 1100 → q ≤ 1100 → ∃ (v : Int32) (w' : MS), V_worked d e F g = some v ∧ (∀ n, M_worthAt_p4 (n + (q - p)) (nI s) (nI p) w = M_worthAt_p4 n (nI (s + 1)) (nI q) w') ∧ rI w' 24 s = v ∧ FrM (fun k i => k = 24 ∧ s ≤ i) w w'
  | 0, _, _, _, _, _, h, _, _, _ => by rw [tr] at h; exact h.elim
  | d + 1, e, p, q, s, w, h, hf, hs, hq => by
    rw [tr] at h
    obtain ⟨-, ⟨k, h1, h2, h3⟩ | ⟨k, h1, h2, f, h3, h4, h5⟩ | ⟨k, e1, p1, h2, h1, h3, h4⟩ | ⟨k, e1, e2, p1, p2, h3, h4, h1, h2, h5, h6⟩⟩ := h
    · subst h1
      refine ⟨gI g e 0, wI w 24 s (gI g e 0), ?_, fun n => ?_, rI_eq rfl, FrM.wI ⟨rfl, Nat.le_refl _⟩⟩
      · rw [V_worked]
        show (if (gK g e).1 = 13 then B_X14_worked (V_worked d) e F g else _) = _
        rw [if_pos k]
        unfold B_X14_worked
        simp (disch := first | omega | (simp only [gk_sI]; omega)) only [L2, L3, L4, L5, L6, L7, L8, L9, L10, L11, L12, L13, L14, L15, L16, L17, L18, L19, L20, L21, L22, L23, L24, L25, L26, L27, L28, L29, L30, L31, L32, L33, L34, L35, L36, L37, L38, L40, L41, L42, L43, L44, L45, L48, L56, L57, L59, L60, L61, L63, L92, L96, L97, L99, L100, L101, L120, L122, L123, L124, L125, L126, L128, L146, L176, L200, L212, L240, L241, L243, L255, L729, L999, L1000, L1002, L1100, L1176, L1177, L1183, L1195, L1232, L1251, L1288, L1446, nI_add0, nI_1, nI_add, pk_mul, rA_nI, wA_nI, bd1_s, bd2_s, bdp_s, oI_s, oK_s, oRn_s, oR_s, pI_s, pR_s, aI_s, aRn_s, xI_s, gk_sI]
      · rw [show n + (p + 1 - p) = n + 1 by omega, M_worthAt_p4]
        simp (disch := omega) only [L2, L3, L4, L5, L6, L7, L8, L9, L10, L11, L12, L13, L14, L15, L16, L17, L18, L19, L20, L21, L22, L23, L24, L25, L26, L27, L28, L29, L30, L31, L32, L33, L34, L35, L36, L37, L38, L40, L41, L42, L43, L44, L45, L48, L56, L57, L59, L60, L61, L63, L92, L96, L97, L99, L100, L101, L120, L122, L123, L124, L125, L126, L128, L146, L176, L200, L212, L240, L241, L243, L255, L729, L999, L1000, L1002, L1100, L1176, L1177, L1183, L1195, L1232, L1251, L1288, L1446, nI_add0, nI_1, nI_add, pk_mul, rA_nI, wA_nI, bd1_s, bd2_s, bdp_s, h2]
        rw [if_neg (by decide), if_pos (by decide)]
        unfold M_worthAt_p33
        rw [if_pos (by decide)]
        simp (disch := omega) only [L2, L3, L4, L5, L6, L7, L8, L9, L10, L11, L12, L13, L14, L15, L16, L17, L18, L19, L20, L21, L22, L23, L24, L25, L26, L27, L28, L29, L30, L31, L32, L33, L34, L35, L36, L37, L38, L40, L41, L42, L43, L44, L45, L48, L56, L57, L59, L60, L61, L63, L92, L96, L97, L99, L100, L101, L120, L122, L123, L124, L125, L126, L128, L146, L176, L200, L212, L240, L241, L243, L255, L729, L999, L1000, L1002, L1100, L1176, L1177, L1183, L1195, L1232, L1251, L1288, L1446, nI_add0, nI_1, nI_add, pk_mul, rA_nI, wA_nI, bd1_s, bd2_s, bdp_s, h3]
    · subst h1
      have hm := hfm f h3
      refine ⟨gI g F f, wI w 24 s (gI g F f), ?_, fun n => ?_, rI_eq rfl, FrM.wI ⟨rfl, Nat.le_refl _⟩⟩
      · rw [V_worked]
        show (if (gK g e).1 = 13 then _ else if (gK g e).1 = 14 then B_X15_worked (V_worked d) e F g else _) = _
        rw [if_neg (by omega), if_pos k]
        unfold B_X15_worked
        simp (disch := first | omega | (simp only [gk_sI]; omega)) only [L2, L3, L4, L5, L6, L7, L8, L9, L10, L11, L12, L13, L14, L15, L16, L17, L18, L19, L20, L21, L22, L23, L24, L25, L26, L27, L28, L29, L30, L31, L32, L33, L34, L35, L36, L37, L38, L40, L41, L42, L43, L44, L45, L48, L56, L57, L59, L60, L61, L63, L92, L96, L97, L99, L100, L101, L120, L122, L123, L124, L125, L126, L128, L146, L176, L200, L212, L240, L241, L243, L255, L729, L999, L1000, L1002, L1100, L1176, L1177, L1183, L1195, L1232, L1251, L1288, L1446, nI_add0, nI_1, nI_add, pk_mul, rA_nI, wA_nI, bd1_s, bd2_s, bdp_s, oI_s, oK_s, oRn_s, oR_s, pI_s, pR_s, aI_s, aRn_s, xI_s, gk_sI, h4]
      · rw [show n + (p + 1 - p) = n + 1 by omega, M_worthAt_p4]
        simp (disch := omega) only [L2, L3, L4, L5, L6, L7, L8, L9, L10, L11, L12, L13, L14, L15, L16, L17, L18, L19, L20, L21, L22, L23, L24, L25, L26, L27, L28, L29, L30, L31, L32, L33, L34, L35, L36, L37, L38, L40, L41, L42, L43, L44, L45, L48, L56, L57, L59, L60, L61, L63, L92, L96, L97, L99, L100, L101, L120, L122, L123, L124, L125, L126, L128, L146, L176, L200, L212, L240, L241, L243, L255, L729, L999, L1000, L1002, L1100, L1176, L1177, L1183, L1195, L1232, L1251, L1288, L1446, nI_add0, nI_1, nI_add, pk_mul, rA_nI, wA_nI, bd1_s, bd2_s, bdp_s, h2]
        rw [if_neg (by decide), if_neg (by decide), if_pos (by decide)]
        unfold M_worthAt_p33
        rw [if_neg (by decide)]
        simp (disch := omega) only [L2, L3, L4, L5, L6, L7, L8, L9, L10, L11, L12, L13, L14, L15, L16, L17, L18, L19, L20, L21, L22, L23, L24, L25, L26, L27, L28, L29, L30, L31, L32, L33, L34, L35, L36, L37, L38, L40, L41, L42, L43, L44, L45, L48, L56, L57, L59, L60, L61, L63, L92, L96, L97, L99, L100, L101, L120, L122, L123, L124, L125, L126, L128, L146, L176, L200, L212, L240, L241, L243, L255, L729, L999, L1000, L1002, L1100, L1176, L1177, L1183, L1195, L1232, L1251, L1288, L1446, nI_add0, nI_1, nI_add, pk_mul, rA_nI, wA_nI, bd1_s, bd2_s, bdp_s, h5]
        rw [hf f h3]
    · subst h3
      have g1 := tr_gt h1
      obtain ⟨v, w1, r1, r2, r3, r4⟩ := worth_run (s := s) hF hL hn hL2 hfm h1 hf (by omega) (by omega)
      have e11 : rI w1 11 p1 = 3 := by rw [r4.2 11 p1 (by omega)]; exact h4
      refine ⟨if v = 0 then 1 else 0, wI w1 24 s (if v = 0 then 1 else 0), ?_, fun n => ?_, rI_eq rfl, r4.tr (FrM.wI ⟨rfl, Nat.le_refl _⟩)⟩
      · rw [V_worked]
        show (if (gK g e).1 = 13 then _ else if (gK g e).1 = 14 then _ else if (gK g e).1 = 15 then B_X16_worked (V_worked d) e F g else _) = _
        rw [if_neg (by omega), if_neg (by omega), if_pos k]
        unfold B_X16_worked
        simp (disch := first | omega | (simp only [gk_sI]; omega)) only [L2, L3, L4, L5, L6, L7, L8, L9, L10, L11, L12, L13, L14, L15, L16, L17, L18, L19, L20, L21, L22, L23, L24, L25, L26, L27, L28, L29, L30, L31, L32, L33, L34, L35, L36, L37, L38, L40, L41, L42, L43, L44, L45, L48, L56, L57, L59, L60, L61, L63, L92, L96, L97, L99, L100, L101, L120, L122, L123, L124, L125, L126, L128, L146, L176, L200, L212, L240, L241, L243, L255, L729, L999, L1000, L1002, L1100, L1176, L1177, L1183, L1195, L1232, L1251, L1288, L1446, nI_add0, nI_1, nI_add, pk_mul, rA_nI, wA_nI, bd1_s, bd2_s, bdp_s, oI_s, oK_s, oRn_s, oR_s, pI_s, pR_s, aI_s, aRn_s, xI_s, gk_sI, h2, r1]
        split <;> rfl
      · rw [show n + (p1 + 1 - p) = (n + 1) + (p1 - p) by omega, r2 (n + 1), M_worthAt_p4]
        simp (disch := omega) only [L2, L3, L4, L5, L6, L7, L8, L9, L10, L11, L12, L13, L14, L15, L16, L17, L18, L19, L20, L21, L22, L23, L24, L25, L26, L27, L28, L29, L30, L31, L32, L33, L34, L35, L36, L37, L38, L40, L41, L42, L43, L44, L45, L48, L56, L57, L59, L60, L61, L63, L92, L96, L97, L99, L100, L101, L120, L122, L123, L124, L125, L126, L128, L146, L176, L200, L212, L240, L241, L243, L255, L729, L999, L1000, L1002, L1100, L1176, L1177, L1183, L1195, L1232, L1251, L1288, L1446, nI_add0, nI_1, nI_add, pk_mul, rA_nI, wA_nI, bd1_s, bd2_s, bdp_s, e11]
        rw [if_neg (by decide), if_neg (by decide), if_neg (by decide), if_pos (by decide)]
        simp (disch := omega) only [L2, L3, L4, L5, L6, L7, L8, L9, L10, L11, L12, L13, L14, L15, L16, L17, L18, L19, L20, L21, L22, L23, L24, L25, L26, L27, L28, L29, L30, L31, L32, L33, L34, L35, L36, L37, L38, L40, L41, L42, L43, L44, L45, L48, L56, L57, L59, L60, L61, L63, L92, L96, L97, L99, L100, L101, L120, L122, L123, L124, L125, L126, L128, L146, L176, L200, L212, L240, L241, L243, L255, L729, L999, L1000, L1002, L1100, L1176, L1177, L1183, L1195, L1232, L1251, L1288, L1446, nI_add0, nI_1, nI_add, pk_mul, rA_nI, wA_nI, bd1_s, bd2_s, bdp_s, nI_pred, r3]
        by_cases c : v = 0
        · rw [if_pos c, if_pos c]
        · rw [if_neg c, if_neg c]
    · subst h5
      have g1 := tr_gt h1
      have g2 := tr_gt h2
      obtain ⟨v, w1, r1, r2, r3, r4⟩ := worth_run (s := s) hF hL hn hL2 hfm h1 hf (by omega) (by omega)
      obtain ⟨v2, w2, s1, s2, s3, s4⟩ := worth_run (s := s + 1) (w := w1) hF hL hn hL2 hfm (tr.fr (g := g) (g' := g) (o := o) (o' := o) (fun q hq => ⟨hq, rfl, rfl, fun _ => rfl⟩) h2 (fun i _ _ => ⟨r4.2 11 i (by omega), r4.2 12 i (by omega)⟩)) (fun f h => by rw [r4.2 23 _ (by omega)]; exact hf f h) (by omega) (by omega)
      have e11 : rI w2 11 p2 = rI w 11 p2 := by rw [s4.2 11 p2 (by omega), r4.2 11 p2 (by omega)]
      have e24 : rI w2 24 s = v := by rw [s4.2 24 s (by omega)]; exact r3
      obtain ⟨c0, c1, c2, c3, c4⟩ := both_wy (x := v) (y := v2) h6
      refine ⟨M_both (rI w 11 p2) v v2, wI w2 24 s (M_both (rI w 11 p2) v v2), ?_, fun n => ?_, rI_eq rfl, (r4.tr (FrM.mono s4 (fun k i h => ⟨h.1, by omega⟩))).tr (FrM.wI ⟨rfl, Nat.le_refl _⟩)⟩
      · rw [V_worked]
        show (if (gK g e).1 = 13 then _ else if (gK g e).1 = 14 then _ else if (gK g e).1 = 15 then _ else if (gK g e).1 = 16 then B_X17_worked (V_worked d) e F g else _) = _
        rw [if_neg (by omega), if_neg (by omega), if_neg (by omega), if_pos k]
        unfold B_X17_worked
        simp (disch := omega) only [oRn_s, oI_s, h3, h4, r1, s1, bd1_s]
        exact c4
      · rw [show n + (p2 + 1 - p) = (n + 1 + (p2 - p1)) + (p1 - p) by omega, r2, s2, M_worthAt_p4]
        rw [rA_nI (by omega) (by omega)]
        simp only [bd1_s, e11]
        rw [if_neg c0, if_neg c1, if_neg c2, if_neg c3]
        simp (disch := omega) only [L2, L3, L4, L5, L6, L7, L8, L9, L10, L11, L12, L13, L14, L15, L16, L17, L18, L19, L20, L21, L22, L23, L24, L25, L26, L27, L28, L29, L30, L31, L32, L33, L34, L35, L36, L37, L38, L40, L41, L42, L43, L44, L45, L48, L56, L57, L59, L60, L61, L63, L92, L96, L97, L99, L100, L101, L120, L122, L123, L124, L125, L126, L128, L146, L176, L200, L212, L240, L241, L243, L255, L729, L999, L1000, L1002, L1100, L1176, L1177, L1183, L1195, L1232, L1251, L1288, L1446, nI_add0, nI_1, nI_add, pk_mul, rA_nI, wA_nI, bd1_s, bd2_s, bdp_s, nI_pm, nI_pred, s3, e24]
