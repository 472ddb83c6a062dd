/-! what z may be: the other calls -/
theorem pz_okP_same {z z' : pz_Z} (h : pz_okP z) (e1 : ∀ c, 10 ≤ c → c ≤ 22 → z'.1.2 c = z.1.2 c) (e2 : z'.1.1 0 = z.1.1 0) (e3 : z'.1.1 4 = z.1.1 4) (e4 : z'.2.1 = z.2.1) : pz_okP z' := by
  intro p h0 h8
  have hPP : ∀ id, id ≤ 12 → pz_P z' p id = pz_P z p id := fun id hid => by unfold pz_P; rw [e1 (10 + id) (by omega) (by omega)]
  have := h p h0 h8
  unfold pu_pok pu_Lok pu_gd at this ⊢
  rw [hPP 0 (by omega), hPP 1 (by omega), hPP 2 (by omega), hPP 3 (by omega), hPP 4 (by omega), hPP 5 (by omega), hPP 6 (by omega), hPP 7 (by omega), hPP 8 (by omega), e1 13 (by omega) (by omega), e1 15 (by omega) (by omega), e1 19 (by omega) (by omega), e1 20 (by omega) (by omega), e1 21 (by omega) (by omega), e1 22 (by omega) (by omega), e2, e3, e4]
  exact this
theorem pz_okM_same {z z' : pz_Z} (h : pz_okM z) (e2 : z'.1.1 0 = z.1.1 0) (e4 : z'.2.2 = z.2.2) : pz_okM z' := by
  unfold pz_okM
  rw [e2, e4]
  exact h
theorem pz_parent_ok {z : pz_Z} {k p : Int} (h : pz_ok z) : pz_ok (pz_parent k p z).2 ∧ (pz_parent k p z).2.1.1 = z.1.1 := by
  unfold pz_parent
  by_cases h1 : ¬ ((0 ≤ k ∧ k < 16) ∧ (-1 ≤ p ∧ p < k))
  · rw [pz_if_t h1]; exact ⟨h, rfl⟩
  · rw [pz_if_f h1]
    by_cases h2 : ∃ i, 0 ≤ i ∧ i < z.1.1 4 0 ∧ z.1.2 20 i 0 ≠ 0
    · rw [pz_if_t h2]; exact ⟨h, rfl⟩
    · rw [pz_if_f h2]
      have hk := Classical.not_not.mp h1
      clear h1 h2
      have e3 : ∀ c, c ≠ 3 → (eh_sA z.1 3 0 k p).2 c = z.1.2 c := fun c hc => eh_sA_c hc
      refine ⟨⟨?_, pz_okP_same h.2.1 (fun c a b => e3 c (by omega)) rfl rfl rfl, pz_okM_same h.2.2 rfl rfl⟩, rfl⟩
      obtain ⟨a1, a2, a3, a4, a5, a6⟩ := h.1
      have e1 : (eh_sA z.1 3 0 k p).2 1 = z.1.2 1 := e3 1 (by decide)
      have e4 : (eh_sA z.1 3 0 k p).2 4 = z.1.2 4 := e3 4 (by decide)
      have e0 : (eh_sA z.1 3 0 k p).2 0 = z.1.2 0 := e3 0 (by decide)
      refine ⟨a1, a2, a3, ⟨fun j h0 h1 => ?_, fun e h0 h1 => ?_⟩, ?_, ?_⟩
      · show -1 ≤ (eh_sA z.1 3 0 k p).2 3 0 j ∧ (eh_sA z.1 3 0 k p).2 3 0 j < j
        by_cases hj : j = k
        · rw [hj, eh_sA_p]; omega
        · rw [eh_sA_n hj]; exact a4.1 j h0 h1
      · show (0 ≤ (eh_sA z.1 3 0 k p).2 0 0 e ∧ (eh_sA z.1 3 0 k p).2 0 0 e < 16) ∧ (0 ≤ (eh_sA z.1 3 0 k p).2 1 0 e ∧ (eh_sA z.1 3 0 k p).2 1 0 e ≤ 100000)
        rw [e0, e1]
        exact a4.2 e h0 h1
      · show ∀ i j, z.1.1 0 0 ≤ i → i < j → j < z.1.1 1 0 → (eh_sA z.1 3 0 k p).2 1 0 i < (eh_sA z.1 3 0 k p).2 1 0 j ∨ (eh_sA z.1 3 0 k p).2 1 0 i = (eh_sA z.1 3 0 k p).2 1 0 j ∧ (eh_sA z.1 3 0 k p).2 4 0 i < (eh_sA z.1 3 0 k p).2 4 0 j
        rw [e1, e4]
        exact a5
      · show ∀ i, z.1.1 0 0 ≤ i → i < z.1.1 1 0 → z.1.1 3 0 ≤ (eh_sA z.1 3 0 k p).2 1 0 i
        rw [e1]
        exact a6
theorem pz_okE_same {z z' : pz_Z} (h : pz_okE z) (e1 : ∀ c, c ≤ 4 → z'.1.2 c = z.1.2 c) (e2 : ∀ v, v ≠ 4 → v ≠ 2 → z'.1.1 v = z.1.1 v) (e3 : 0 ≤ z'.1.1 4 0 ∧ z'.1.1 4 0 ≤ 8) : pz_okE z' := by
  obtain ⟨a1, a2, a3, a4, a5, a6⟩ := h
  unfold pz_okE pu_eok pz_E
  rw [e1 0 (by omega), e1 1 (by omega), e1 3 (by omega), e1 4 (by omega), e2 0 (by decide) (by decide), e2 1 (by decide) (by decide), e2 3 (by decide) (by decide)]
  exact ⟨a1, e3, a3, a4, a5, a6⟩
theorem pz_fields_ok {z : pz_Z} {a b c d : Int} (h : pz_ok z) : pz_ok (pz_fields a b c d z).2 ∧ (pz_fields a b c d z).2.1.1 = z.1.1 := by
  unfold pz_fields
  by_cases h1 : ¬ ((-1000 ≤ a ∧ a ≤ 1000) ∧ (-1000 ≤ b ∧ b ≤ 1000) ∧ (-1000 ≤ c ∧ c ≤ 1000) ∧ (-1000 ≤ d ∧ d ≤ 1000))
  · rw [pz_if_t h1]; exact ⟨h, rfl⟩
  · rw [pz_if_f h1]
    have e3 : ∀ c', c' ≠ 5 → (eh_sA (eh_sA (eh_sA (eh_sA z.1 5 0 0 a) 5 0 1 b) 5 0 2 c) 5 0 3 d).2 c' = z.1.2 c' := fun c' h => by rw [eh_sA_c h, eh_sA_c h, eh_sA_c h, eh_sA_c h]
    exact ⟨⟨pz_okE_same h.1 (fun c hc => e3 c (by omega)) (fun _ _ _ => rfl) h.1.2.1, pz_okP_same h.2.1 (fun c x y => e3 c (by omega)) rfl rfl rfl, pz_okM_same h.2.2 rfl rfl⟩, rfl⟩
theorem pz_pattern_ok {z : pz_Z} {a w c : Int} (h : pz_ok z) : pz_ok (pz_pattern a w c z).2 ∧ (∀ v, v ≠ 4 → (pz_pattern a w c z).2.1.1 v = z.1.1 v) := by
  unfold pz_pattern
  by_cases h1 : ¬ ((1 ≤ a ∧ a ≤ 1000) ∧ (0 ≤ w ∧ w ≤ 1) ∧ (-1 ≤ c ∧ c ≤ 3))
  · rw [pz_if_t h1]; exact ⟨h, fun _ _ => rfl⟩
  · rw [pz_if_f h1]
    by_cases h2 : z.1.1 4 0 = 8
    · rw [pz_if_t h2]; exact ⟨h, fun _ _ => rfl⟩
    · rw [pz_if_f h2]
      have hr := Classical.not_not.mp h1
      have hnp := pz_np h
      generalize hs : eh_sV (eh_sA (eh_sA (eh_sA z.1 17 (z.1.1 4 0) 0 a) 18 (z.1.1 4 0) 0 w) 16 (z.1.1 4 0) 0 c) 4 0 (z.1.1 4 0 + 1) = s
      have e3 : ∀ c', c' ≠ 16 → c' ≠ 17 → c' ≠ 18 → s.2 c' = z.1.2 c' := fun c' x1 x2 x3 => by rw [← hs, eh_sV_2, eh_sA_c x1, eh_sA_c x3, eh_sA_c x2]
      have e4 : ∀ v, v ≠ 4 → s.1 v = z.1.1 v := fun v hv => by rw [← hs, eh_sV_v hv]; rfl
      have e40 : s.1 4 0 = z.1.1 4 0 + 1 := by rw [← hs, eh_sV_p]
      have eq : ∀ c' q, q ≠ z.1.1 4 0 → s.2 c' q = z.1.2 c' q := fun c' q hq => by rw [← hs, eh_sV_2, eh_sA_r (fun x => hq x.2), eh_sA_r (fun x => hq x.2), eh_sA_r (fun x => hq x.2)]
      have e16 : s.2 16 (z.1.1 4 0) 0 = c := by rw [← hs, eh_sV_2, eh_sA_p]
      have e17 : s.2 17 (z.1.1 4 0) 0 = a := by rw [← hs, eh_sV_2, eh_sA_c (by decide), eh_sA_c (by decide), eh_sA_p]
      have e18 : s.2 18 (z.1.1 4 0) 0 = w := by rw [← hs, eh_sV_2, eh_sA_c (by decide), eh_sA_p]
      refine ⟨⟨pz_okE_same h.1 (fun c hc => e3 c (by omega) (by omega) (by omega)) (fun v hv _ => e4 v hv) (by show 0 ≤ s.1 4 0 ∧ s.1 4 0 ≤ 8; omega), fun q h0 h8 => ?_, pz_okM_same h.2.2 (e4 0 (by decide)) rfl⟩, fun v hv => e4 v hv⟩
      obtain ⟨c1, c2, c3, c4, c5, c6, c7, c8, c9, c10⟩ := h.2.1 q h0 h8
      have f0 : (s, z.2).1.1 0 0 = z.1.1 0 0 := by show s.1 0 0 = _; rw [e4 0 (by decide)]
      have f15 : s.2 15 = z.1.2 15 := e3 15 (by decide) (by decide) (by decide)
      have f13 : s.2 13 = z.1.2 13 := e3 13 (by decide) (by decide) (by decide)
      have f19 : s.2 19 = z.1.2 19 := e3 19 (by decide) (by decide) (by decide)
      have f20 : s.2 20 = z.1.2 20 := e3 20 (by decide) (by decide) (by decide)
      have f21 : s.2 21 = z.1.2 21 := e3 21 (by decide) (by decide) (by decide)
      have f22 : s.2 22 = z.1.2 22 := e3 22 (by decide) (by decide) (by decide)
      rw [f0]
      show pu_pok (pz_P (s, z.2) q) ∧ (∀ j, 0 ≤ j → j < s.2 15 q 0 → 0 ≤ s.2 13 q j ∧ s.2 13 q j ≤ 3) ∧ (0 ≤ s.2 19 q 0 ∧ s.2 19 q 0 ≤ z.1.1 0 0) ∧ (s.2 20 q 0 = 0 ∨ s.2 20 q 0 = 1) ∧ (s.2 21 q 0 = 0 ∨ s.2 21 q 0 = 1) ∧ (0 ≤ s.2 22 q 0 ∧ s.2 22 q 0 ≤ 201 * z.1.1 0 0) ∧ pu_Lok (pz_P (s, z.2) q) (z.1.1 0 0) (z.2.1 q) ∧ (s.2 20 q 0 = 0 → z.2.1 q = []) ∧ (s.2 20 q 0 ≠ 0 → 0 < s.2 15 q 0) ∧ (s.1 4 0 ≤ q → s.2 15 q 0 = 0 ∧ s.2 20 q 0 = 0 ∧ s.2 21 q 0 = 0 ∧ s.2 22 q 0 = 0)
      rw [f15, f13, f19, f20, f21, f22, e40]
      by_cases hq : q = z.1.1 4 0
      · have hz0 := c10 (by omega)
        have hr0 := c8 hz0.2.1
        refine ⟨⟨?_, fun j a1 a2 => ?_, ?_, ?_, ?_, fun hh => ?_, fun j a1 a2 => ?_, fun j a1 a2 => ?_⟩, c2, c3, c4, c5, c6, by rw [hr0]; exact ⟨Nat.zero_le _, fun x hx => by cases hx⟩, c8, c9, fun hh => by omega⟩
        · show 0 ≤ s.2 15 q 0 ∧ s.2 15 q 0 ≤ 6
          rw [f15]; omega
        · have : j < s.2 15 q 0 := a2
          rw [f15] at this; omega
        · show -1 ≤ s.2 16 q 0 ∧ s.2 16 q 0 ≤ 3
          rw [hq, e16]; omega
        · show 0 ≤ s.2 17 q 0 ∧ s.2 17 q 0 ≤ 1000
          rw [hq, e17]; omega
        · show s.2 18 q 0 = 0 ∨ s.2 18 q 0 = 1
          rw [hq, e18]; omega
        · have : 0 < s.2 15 q 0 := hh
          rw [f15] at this; omega
        · have : j < s.2 15 q 0 := a2
          rw [f15] at this; omega
        · have : j < s.2 15 q 0 := a2
          rw [f15] at this; omega
      · have hPP : ∀ id, pz_P (s, z.2) q id = pz_P z q id := fun id => by unfold pz_P; funext j; show s.2 (10 + id) q j = _; rw [eq _ q hq]
        have hPP' : pz_P (s, z.2) q = pz_P z q := by funext id; exact hPP id
        rw [hPP']
        exact ⟨c1, c2, c3, c4, c5, c6, c7, c8, c9, fun hh => c10 (by omega)⟩
theorem pz_step_ok {z : pz_Z} {p s o t f c : Int} (h : pz_ok z) : pz_ok (pz_step p s o t f c z).2 ∧ (pz_step p s o t f c z).2.1.1 = z.1.1 := by
  unfold pz_step
  by_cases h1 : ¬ ((0 ≤ p ∧ p < z.1.1 4 0) ∧ (0 ≤ s ∧ s ≤ 3) ∧ (0 ≤ o ∧ o < 16) ∧ pz_test z p t f c ∧ pz_stand z p s)
  · rw [pz_if_t h1]; exact ⟨h, rfl⟩
  · rw [pz_if_f h1]
    by_cases h2 : z.1.2 20 p 0 ≠ 0
    · rw [pz_if_t h2]; exact ⟨h, rfl⟩
    · rw [pz_if_f h2]
      by_cases h3 : z.1.2 15 p 0 = 6
      · rw [pz_if_t h3]; exact ⟨h, rfl⟩
      · rw [pz_if_f h3]
        obtain ⟨b1, b2, b3, b4, b5⟩ := Classical.not_not.mp h1
        have hnp := pz_np h
        have hb0 : z.1.2 20 p 0 = 0 := Classical.not_not.mp h2
        have e3 : ∀ id, id < 10 → (pz_stepS p s o t f c z).2 id = z.1.2 id := fun id hid => by
          funext i j
          simp only [pz_stepS]
          repeat rw [if_neg (by omega)]
        have eq : ∀ id q, q ≠ p → (pz_stepS p s o t f c z).2 id q = z.1.2 id q := fun id q hq => by
          funext j
          simp only [pz_stepS]
          repeat rw [if_neg (by omega)]
        refine ⟨⟨pz_okE_same h.1 (fun c hc => e3 c (by omega)) (fun _ _ _ => rfl) hnp, fun q h0 h8 => ?_, pz_okM_same h.2.2 rfl rfl⟩, rfl⟩
        obtain ⟨c1, c2, c3, c4, c5, c6, c7, c8, c9, c10⟩ := h.2.1 q h0 h8
        by_cases hq : q = p
        · subst hq
          obtain ⟨p1, p2, p3, p4, p5, p6, p7, p8⟩ := c1
          have hst : 0 ≤ z.1.2 15 q 0 ∧ z.1.2 15 q 0 ≤ 6 := p1
          have hr0 := c8 hb0
          have f15 : (pz_stepS q s o t f c z).2 15 q 0 = z.1.2 15 q 0 + 1 := by simp [pz_stepS]
          have f16 : (pz_stepS q s o t f c z).2 16 q 0 = z.1.2 16 q 0 := by simp [pz_stepS]
          have f17 : (pz_stepS q s o t f c z).2 17 q 0 = z.1.2 17 q 0 := by simp [pz_stepS]
          have f18 : (pz_stepS q s o t f c z).2 18 q 0 = z.1.2 18 q 0 := by simp [pz_stepS]
          have f20 : (pz_stepS q s o t f c z).2 20 q 0 = z.1.2 20 q 0 := by simp [pz_stepS]
          have f21 : (pz_stepS q s o t f c z).2 21 q 0 = z.1.2 21 q 0 := by simp [pz_stepS]
          have f22 : (pz_stepS q s o t f c z).2 22 q 0 = z.1.2 22 q 0 := by simp [pz_stepS]
          have f19 : (pz_stepS q s o t f c z).2 19 q 0 = (if z.1.2 15 q 0 = 0 then z.1.1 0 0 else z.1.2 19 q 0) := by
            by_cases hh : z.1.2 15 q 0 = 0 <;> simp [pz_stepS, hh]
          have fo : ∀ id j, 10 ≤ id → id ≤ 14 → j ≠ z.1.2 15 q 0 → (pz_stepS q s o t f c z).2 id q j = z.1.2 id q j := fun id j a1 a2 a3 => by
            simp only [pz_stepS]
            repeat rw [if_neg (by omega)]
          have g10 : (pz_stepS q s o t f c z).2 10 q (z.1.2 15 q 0) = s := by simp [pz_stepS]
          have g11 : (pz_stepS q s o t f c z).2 11 q (z.1.2 15 q 0) = o := by simp [pz_stepS]
          have g12 : (pz_stepS q s o t f c z).2 12 q (z.1.2 15 q 0) = t := by simp [pz_stepS]
          have g13 : (pz_stepS q s o t f c z).2 13 q (z.1.2 15 q 0) = (if t = 0 then 0 else f) := by simp [pz_stepS]
          have g14 : (pz_stepS q s o t f c z).2 14 q (z.1.2 15 q 0) = (if t = 0 then 0 else c) := by simp [pz_stepS]
          have hE := h.1.1
          show pu_pok (pz_P (pz_stepS q s o t f c z, z.2) q) ∧ (∀ j, 0 ≤ j → j < (pz_stepS q s o t f c z).2 15 q 0 → 0 ≤ (pz_stepS q s o t f c z).2 13 q j ∧ (pz_stepS q s o t f c z).2 13 q j ≤ 3) ∧ (0 ≤ (pz_stepS q s o t f c z).2 19 q 0 ∧ (pz_stepS q s o t f c z).2 19 q 0 ≤ z.1.1 0 0) ∧ ((pz_stepS q s o t f c z).2 20 q 0 = 0 ∨ (pz_stepS q s o t f c z).2 20 q 0 = 1) ∧ ((pz_stepS q s o t f c z).2 21 q 0 = 0 ∨ (pz_stepS q s o t f c z).2 21 q 0 = 1) ∧ (0 ≤ (pz_stepS q s o t f c z).2 22 q 0 ∧ (pz_stepS q s o t f c z).2 22 q 0 ≤ 201 * z.1.1 0 0) ∧ pu_Lok (pz_P (pz_stepS q s o t f c z, z.2) q) (z.1.1 0 0) (z.2.1 q) ∧ ((pz_stepS q s o t f c z).2 20 q 0 = 0 → z.2.1 q = []) ∧ ((pz_stepS q s o t f c z).2 20 q 0 ≠ 0 → 0 < (pz_stepS q s o t f c z).2 15 q 0) ∧ (z.1.1 4 0 ≤ q → (pz_stepS q s o t f c z).2 15 q 0 = 0 ∧ (pz_stepS q s o t f c z).2 20 q 0 = 0 ∧ (pz_stepS q s o t f c z).2 21 q 0 = 0 ∧ (pz_stepS q s o t f c z).2 22 q 0 = 0)
          rw [f15, f20, f21, f22, f19]
          refine ⟨⟨?_, fun j a1 a2 => ?_, ?_, ?_, ?_, fun _ => ?_, fun j a1 a2 a3 => ?_, fun j a1 a2 a3 => ?_⟩, fun j a1 a2 => ?_, by split <;> omega, c4, c5, c6, by rw [hr0]; exact ⟨Nat.zero_le _, fun x hx => by cases hx⟩, c8, fun _ => by omega, fun hh => by omega⟩
          · show 0 ≤ (pz_stepS q s o t f c z).2 15 q 0 ∧ (pz_stepS q s o t f c z).2 15 q 0 ≤ 6
            rw [f15]; omega
          · have a2 : j < (pz_stepS q s o t f c z).2 15 q 0 := a2
            rw [f15] at a2
            show (0 ≤ (pz_stepS q s o t f c z).2 10 q j ∧ (pz_stepS q s o t f c z).2 10 q j ≤ 3) ∧ (0 ≤ (pz_stepS q s o t f c z).2 11 q j ∧ (pz_stepS q s o t f c z).2 11 q j < 16) ∧ (0 ≤ (pz_stepS q s o t f c z).2 12 q j ∧ (pz_stepS q s o t f c z).2 12 q j ≤ 6) ∧ ((pz_stepS q s o t f c z).2 12 q j ≠ 0 → 0 ≤ (pz_stepS q s o t f c z).2 13 q j ∧ (pz_stepS q s o t f c z).2 13 q j ≤ 3) ∧ (3 < (pz_stepS q s o t f c z).2 12 q j → 0 ≤ (pz_stepS q s o t f c z).2 14 q j ∧ (pz_stepS q s o t f c z).2 14 q j < j)
            by_cases hj : j = z.1.2 15 q 0
            · rw [hj, g10, g11, g12, g13, g14]
              refine ⟨b2, b3, b4.1, fun hh => ?_, fun hh => ?_⟩
              · rw [if_neg hh]; exact (b4.2 hh).1
              · rw [if_neg (by omega)]; exact (b4.2 (by omega)).2.2 (by omega)
            · rw [fo 10 j (by omega) (by omega) hj, fo 11 j (by omega) (by omega) hj, fo 12 j (by omega) (by omega) hj, fo 13 j (by omega) (by omega) hj, fo 14 j (by omega) (by omega) hj]
              exact p2 j a1 (by show j < z.1.2 15 q 0; omega)
          · show -1 ≤ (pz_stepS q s o t f c z).2 16 q 0 ∧ (pz_stepS q s o t f c z).2 16 q 0 ≤ 3
            rw [f16]; exact p3
          · show 0 ≤ (pz_stepS q s o t f c z).2 17 q 0 ∧ (pz_stepS q s o t f c z).2 17 q 0 ≤ 1000
            rw [f17]; exact p4
          · show (pz_stepS q s o t f c z).2 18 q 0 = 0 ∨ (pz_stepS q s o t f c z).2 18 q 0 = 1
            rw [f18]; exact p5
          · show (pz_stepS q s o t f c z).2 10 q 0 ≤ 1
            by_cases hh : (0 : Int) = z.1.2 15 q 0
            · have := b5.1 hh.symm
              rw [← hh] at g10
              rw [g10]; omega
            · rw [fo 10 0 (by omega) (by omega) hh]
              exact p6 (by show 0 < z.1.2 15 q 0; omega)
          · have a2 : j < (pz_stepS q s o t f c z).2 15 q 0 := a2
            have a3 : (pz_stepS q s o t f c z).2 10 q j = 3 := a3
            rw [f15] at a2
            show (pz_stepS q s o t f c z).2 10 q (j - 1) ≤ 1
            rw [fo 10 (j - 1) (by omega) (by omega) (by omega)]
            by_cases hj : j = z.1.2 15 q 0
            · rw [hj, g10] at a3
              have := (b5.2 (by omega)).1 a3
              rw [hj]; omega
            · rw [fo 10 j (by omega) (by omega) hj] at a3
              exact p7 j a1 (by show j < z.1.2 15 q 0; omega) a3
          · have a2 : j < (pz_stepS q s o t f c z).2 15 q 0 := a2
            have a3 : (pz_stepS q s o t f c z).2 10 q j = 2 := a3
            rw [f15] at a2
            show (pz_stepS q s o t f c z).2 10 q (j - 1) ≠ 3
            rw [fo 10 (j - 1) (by omega) (by omega) (by omega)]
            by_cases hj : j = z.1.2 15 q 0
            · rw [hj, g10] at a3
              have := (b5.2 (by omega)).2 (by omega)
              rw [hj]
              rcases this with hh | hh
              · exact absurd a3 hh
              · exact hh
            · rw [fo 10 j (by omega) (by omega) hj] at a3
              exact p8 j a1 (by show j < z.1.2 15 q 0; omega) a3
          · by_cases hj : j = z.1.2 15 q 0
            · rw [hj, g13]
              split
              · omega
              · exact (b4.2 (by assumption)).1
            · rw [fo 13 j (by omega) (by omega) hj]
              exact c2 j a1 (by omega)
        · have hPP' : pz_P (pz_stepS p s o t f c z, z.2) q = pz_P z q := by
            funext id j
            show (pz_stepS p s o t f c z).2 (10 + id) q j = _
            rw [eq _ q hq]
            rfl
          show pu_pok (pz_P (pz_stepS p s o t f c z, z.2) q) ∧ (∀ j, 0 ≤ j → j < (pz_stepS p s o t f c z).2 15 q 0 → 0 ≤ (pz_stepS p s o t f c z).2 13 q j ∧ (pz_stepS p s o t f c z).2 13 q j ≤ 3) ∧ (0 ≤ (pz_stepS p s o t f c z).2 19 q 0 ∧ (pz_stepS p s o t f c z).2 19 q 0 ≤ z.1.1 0 0) ∧ ((pz_stepS p s o t f c z).2 20 q 0 = 0 ∨ (pz_stepS p s o t f c z).2 20 q 0 = 1) ∧ ((pz_stepS p s o t f c z).2 21 q 0 = 0 ∨ (pz_stepS p s o t f c z).2 21 q 0 = 1) ∧ (0 ≤ (pz_stepS p s o t f c z).2 22 q 0 ∧ (pz_stepS p s o t f c z).2 22 q 0 ≤ 201 * z.1.1 0 0) ∧ pu_Lok (pz_P (pz_stepS p s o t f c z, z.2) q) (z.1.1 0 0) (z.2.1 q) ∧ ((pz_stepS p s o t f c z).2 20 q 0 = 0 → z.2.1 q = []) ∧ ((pz_stepS p s o t f c z).2 20 q 0 ≠ 0 → 0 < (pz_stepS p s o t f c z).2 15 q 0) ∧ (z.1.1 4 0 ≤ q → (pz_stepS p s o t f c z).2 15 q 0 = 0 ∧ (pz_stepS p s o t f c z).2 20 q 0 = 0 ∧ (pz_stepS p s o t f c z).2 21 q 0 = 0 ∧ (pz_stepS p s o t f c z).2 22 q 0 = 0)
          rw [hPP', eq 15 q hq, eq 13 q hq, eq 19 q hq, eq 20 q hq, eq 21 q hq, eq 22 q hq]
          exact ⟨c1, c2, c3, c4, c5, c6, c7, c8, c9, c10⟩
/-! where an event is put -/
theorem pp_sum_one {f : Int → Int} : ∀ (k : Nat) (t a : Int), t ≤ a → a ≤ t + k → (∀ i, t ≤ i → i < a → f i = 1) → (∀ i, a ≤ i → i < t + k → f i = 0) → pp_sum f k t = a - t := by
  intro k
  induction k with
  | zero => intro t a h1 h2 _ _; rw [pp_sum]; omega
  | succ k ih =>
    intro t a h1 h2 h3 h4
    rw [pp_sum]
    by_cases hta : t = a
    · rw [h4 t (by omega) (by omega), pp_sum_z _ _ (fun i x y => h4 i (by omega) (by omega))]
      omega
    · rw [h3 t (by omega) (by omega), ih (t + 1) a (by omega) (by omega) (fun i x y => h3 i (by omega) y) (fun i x y => h4 i x (by omega))]
      omega
theorem pz_at_eq {z : pz_Z} {m n a : Int} (h1 : z.1.1 0 0 ≤ a) (h2 : a ≤ z.1.1 1 0) (h3 : ∀ i, z.1.1 0 0 ≤ i → i < a → pz_ahead z m n i) (h4 : ∀ i, a ≤ i → i < z.1.1 1 0 → ¬ pz_ahead z m n i) : pz_at z m n = a := by
  unfold pz_at
  rw [pp_sum_one (z.1.1 1 0 - z.1.1 0 0).toNat (z.1.1 0 0) a h1 (by omega) (fun i x y => bz_t (h3 i x y)) (fun i x y => bz_f (h4 i x (by omega)))]
  omega
theorem pz_ahead_suf {z : pz_Z} {m n i j : Int} (ho : pz_okE0 z) (h : ¬ pz_ahead z m n i) (h0 : z.1.1 0 0 ≤ i) (hij : i < j) (hj : j < z.1.1 1 0) : ¬ pz_ahead z m n j ∧ ¬ (z.1.2 1 0 j = m ∧ z.1.2 4 0 j = n) := by
  have := ho.2.2.2.2 i j h0 hij hj
  unfold pz_ahead at *
  omega
theorem pz_ahead_pre {z : pz_Z} {m n i j : Int} (ho : pz_okE0 z) (h : pz_ahead z m n j) (h0 : z.1.1 0 0 ≤ i) (hij : i < j) (hj : j < z.1.1 1 0) : pz_ahead z m n i := by
  have := ho.2.2.2.2 i j h0 hij hj
  unfold pz_ahead at *
  omega
theorem pz_at_ex {z : pz_Z} (m n : Int) (ho : pz_okE0 z) : (z.1.1 0 0 ≤ pz_at z m n ∧ pz_at z m n ≤ z.1.1 1 0) ∧ (∀ i, z.1.1 0 0 ≤ i → i < pz_at z m n → pz_ahead z m n i) ∧ ∀ i, pz_at z m n ≤ i → i < z.1.1 1 0 → ¬ pz_ahead z m n i := by
  have hb := ho.1
  have key : ∀ (k : Nat) (a : Int), z.1.1 0 0 ≤ a → a ≤ z.1.1 1 0 → a - z.1.1 0 0 < k → (∀ i, a ≤ i → i < z.1.1 1 0 → ¬ pz_ahead z m n i) → ∃ a, (z.1.1 0 0 ≤ a ∧ a ≤ z.1.1 1 0) ∧ (∀ i, z.1.1 0 0 ≤ i → i < a → pz_ahead z m n i) ∧ ∀ i, a ≤ i → i < z.1.1 1 0 → ¬ pz_ahead z m n i := by
    intro k
    induction k with
    | zero => intro a h1 h2 h3; omega
    | succ k ih =>
      intro a h1 h2 h3 h4
      by_cases ha : a = z.1.1 0 0
      · exact ⟨a, ⟨h1, h2⟩, fun i x y => by omega, h4⟩
      · by_cases hh : pz_ahead z m n (a - 1)
        · refine ⟨a, ⟨h1, h2⟩, fun i x y => ?_, h4⟩
          by_cases hi : i = a - 1
          · rw [hi]; exact hh
          · exact pz_ahead_pre ho hh x (by omega) (by omega)
        · refine ih (a - 1) (by omega) (by omega) (by omega) (fun i x y => ?_)
          by_cases hi : i = a - 1
          · rw [hi]; exact hh
          · exact h4 i (by omega) y
  obtain ⟨a, h1, h2, h3⟩ := key 1001 (z.1.1 1 0) (by omega) (Int.le_refl _) (by omega) (fun i x y => by omega)
  rw [pz_at_eq h1.1 h1.2 h2 h3]
  exact ⟨h1, h2, h3⟩
theorem pz_put_ok {z : pz_Z} {k m n : Int} (h : pz_ok z) : pz_ok (pz_put k m n z).2 ∧ (pz_put k m n z).2.1.1 0 = z.1.1 0 ∧ (pz_put k m n z).2.1.1 1 0 ≤ z.1.1 1 0 + 1 := by
  unfold pz_put
  by_cases h1 : ¬ ((0 ≤ k ∧ k < 16) ∧ (0 ≤ m ∧ m ≤ 100000) ∧ (0 ≤ n ∧ n ≤ 9999))
  · rw [pz_if_t h1]; exact ⟨h, rfl, by dsimp only; omega⟩
  · rw [pz_if_f h1]
    by_cases h2 : m < z.1.1 3 0
    · rw [pz_if_t h2]
      have ev : ∀ v, v ≠ 2 → (eh_sV z.1 2 0 (eh_wr (z.1.1 2 0 + 1))).1 v = z.1.1 v := fun v hv => eh_sV_v hv
      refine ⟨⟨pz_okE_same h.1 (fun _ _ => rfl) (fun v _ hv => ev v hv) (by show 0 ≤ (eh_sV z.1 2 0 (eh_wr (z.1.1 2 0 + 1))).1 4 0 ∧ _; rw [ev 4 (by decide)]; exact h.1.2.1), pz_okP_same h.2.1 (fun _ _ _ => rfl) (ev 0 (by decide)) (ev 4 (by decide)) rfl, pz_okM_same h.2.2 (ev 0 (by decide)) rfl⟩, ev 0 (by decide), ?_⟩
      show (eh_sV z.1 2 0 (eh_wr (z.1.1 2 0 + 1))).1 1 0 ≤ _
      rw [ev 1 (by decide)]; omega
    · rw [pz_if_f h2]
      by_cases h3 : ∃ i, z.1.1 0 0 ≤ i ∧ i < z.1.1 1 0 ∧ z.1.2 1 0 i = m ∧ z.1.2 4 0 i = n
      · rw [pz_if_t h3]; exact ⟨h, rfl, by dsimp only; omega⟩
      · rw [pz_if_f h3]
        by_cases h4 : z.1.1 1 0 - z.1.1 0 0 = 100 ∨ z.1.1 1 0 = 1000
        · rw [pz_if_t h4]; exact ⟨h, rfl, by dsimp only; omega⟩
        · rw [pz_if_f h4]
          obtain ⟨r1, r2, r3⟩ := Classical.not_not.mp h1
          obtain ⟨q1, q2, q3⟩ := pz_at_ex m n (pz_ok_0 h).1
          have hne : ∀ i, z.1.1 0 0 ≤ i → i < z.1.1 1 0 → ¬ (z.1.2 1 0 i = m ∧ z.1.2 4 0 i = n) := fun i x y hh => h3 ⟨i, x, y, hh.1, hh.2⟩
          clear h1 h3
          generalize pz_at z m n = a at q1 q2 q3
          obtain ⟨a1, a2, a3, a4, a5, a6⟩ := h.1
          have e1 : (pz_putS k m n a z).1 1 0 = z.1.1 1 0 + 1 := by simp [pz_putS]
          have ev : ∀ v, v ≠ 1 → (pz_putS k m n a z).1 v = z.1.1 v := fun v hv => by funext i; simp [pz_putS, hv]
          have ec : ∀ c, c ≠ 0 → c ≠ 1 → c ≠ 2 → c ≠ 4 → (pz_putS k m n a z).2 c = z.1.2 c := fun c x1 x2 x3 x4 => by funext i j; simp [pz_putS, x1, x2, x3, x4]
          have g0 : ∀ j, (pz_putS k m n a z).2 0 0 j = pz_ins (z.1.2 0 0) a k j := fun j => by simp [pz_putS]
          have g1 : ∀ j, (pz_putS k m n a z).2 1 0 j = pz_ins (z.1.2 1 0) a m j := fun j => by simp [pz_putS]
          have g4 : ∀ j, (pz_putS k m n a z).2 4 0 j = pz_ins (z.1.2 4 0) a n j := fun j => by simp [pz_putS]
          have iL : ∀ (f : Int → Int) (v j : Int), j < a → pz_ins f a v j = f j := fun f v j hj => if_pos hj
          have iE : ∀ (f : Int → Int) (v : Int), pz_ins f a v a = v := fun f v => by unfold pz_ins; rw [if_neg (by omega), if_pos rfl]
          have iG : ∀ (f : Int → Int) (v j : Int), a < j → pz_ins f a v j = f (j - 1) := fun f v j hj => by unfold pz_ins; rw [if_neg (by omega), if_neg (by omega)]
          refine ⟨⟨?_, pz_okP_same h.2.1 (fun c x y => ec c (by omega) (by omega) (by omega) (by omega)) (ev 0 (by decide)) (ev 4 (by decide)) rfl, pz_okM_same h.2.2 (ev 0 (by decide)) rfl⟩, ev 0 (by decide), by show (pz_putS k m n a z).1 1 0 ≤ _; omega⟩
          unfold pz_okE pu_eok pz_E
          show (0 ≤ (pz_putS k m n a z).1 0 0 ∧ (pz_putS k m n a z).1 0 0 ≤ (pz_putS k m n a z).1 1 0 ∧ (pz_putS k m n a z).1 1 0 ≤ 1000 ∧ (pz_putS k m n a z).1 1 0 - (pz_putS k m n a z).1 0 0 ≤ 100) ∧ (0 ≤ (pz_putS k m n a z).1 4 0 ∧ (pz_putS k m n a z).1 4 0 ≤ 8) ∧ (0 ≤ (pz_putS k m n a z).1 3 0 ∧ (pz_putS k m n a z).1 3 0 ≤ 200000) ∧ ((∀ k', 0 ≤ k' → k' < 16 → -1 ≤ (pz_putS k m n a z).2 3 0 k' ∧ (pz_putS k m n a z).2 3 0 k' < k') ∧ ∀ e, 0 ≤ e → e < (pz_putS k m n a z).1 1 0 → (0 ≤ (pz_putS k m n a z).2 0 0 e ∧ (pz_putS k m n a z).2 0 0 e < 16) ∧ 0 ≤ (pz_putS k m n a z).2 1 0 e ∧ (pz_putS k m n a z).2 1 0 e ≤ 100000) ∧ (∀ i j, (pz_putS k m n a z).1 0 0 ≤ i → i < j → j < (pz_putS k m n a z).1 1 0 → (pz_putS k m n a z).2 1 0 i < (pz_putS k m n a z).2 1 0 j ∨ (pz_putS k m n a z).2 1 0 i = (pz_putS k m n a z).2 1 0 j ∧ (pz_putS k m n a z).2 4 0 i < (pz_putS k m n a z).2 4 0 j) ∧ ∀ i, (pz_putS k m n a z).1 0 0 ≤ i → i < (pz_putS k m n a z).1 1 0 → (pz_putS k m n a z).1 3 0 ≤ (pz_putS k m n a z).2 1 0 i
          rw [e1, ev 0 (by decide), ev 4 (by decide), ev 3 (by decide), ec 3 (by decide) (by decide) (by decide) (by decide)]
          refine ⟨by omega, a2, a3, ⟨a4.1, fun e x y => ?_⟩, fun i j x y w => ?_, fun i x y => ?_⟩
          · rw [g0, g1]
            rcases (show e < a ∨ e = a ∨ a < e by omega) with hc | hc | hc
            · rw [iL _ _ _ hc, iL _ _ _ hc]; exact a4.2 e x (by omega)
            · rw [hc, iE, iE]; exact ⟨r1, r2⟩
            · rw [iG _ _ _ hc, iG _ _ _ hc]; exact a4.2 (e - 1) (by omega) (by omega)
          · rw [g1, g1, g4, g4]
            rcases (show i < a ∨ i = a ∨ a < i by omega) with hi | hi | hi
            · rcases (show j < a ∨ j = a ∨ a < j by omega) with hj | hj | hj
              · rw [iL _ _ _ hi, iL _ _ _ hj, iL _ _ _ hi, iL _ _ _ hj]; exact a5 i j x y (by omega)
              · rw [hj, iL _ _ _ hi, iE, iL _ _ _ hi, iE]
                exact q2 i x hi
              · rw [iL _ _ _ hi, iG _ _ _ hj, iL _ _ _ hi, iG _ _ _ hj]; exact a5 i (j - 1) x (by omega) (by omega)
            · subst hi
              rw [iE, iE, iG _ _ _ y, iG _ _ _ y]
              have u1 := q3 (j - 1) (by omega) (by omega)
              have u2 := hne (j - 1) (by omega) (by omega)
              unfold pz_ahead at u1
              omega
            · rw [iG _ _ _ hi, iG _ _ _ (show a < j by omega), iG _ _ _ hi, iG _ _ _ (show a < j by omega)]; exact a5 (i - 1) (j - 1) (by omega) (by omega) (by omega)
          · rw [g1]
            rcases (show i < a ∨ i = a ∨ a < i by omega) with hi | hi | hi
            · rw [iL _ _ _ hi]; exact a6 i x (by omega)
            · rw [hi, iE]; omega
            · rw [iG _ _ _ hi]; exact a6 (i - 1) (by omega) (by omega)
