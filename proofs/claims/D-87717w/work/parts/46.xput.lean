/-! EventHunter: put -/
def Tx_isAhead : eh_T := eh_R0 fun as σ _ K => ∃ a m n : Int, as = [.inl a, .inl m, .inl n] ∧ (0 ≤ a ∧ a < 1000) ∧ (eh_r m ∧ eh_r n) ∧ K (some (.inl (bz (σ.2 102 0 a < m ∨ σ.2 102 0 a = m ∧ σ.2 103 0 a < n)))) σ
theorem cx_isAhead (l : Launch) (D : va_G) (tc : Nat → ClassId) (ad : Nat → Int → Nat) (h99 : ∀ a : Int, ad 99 a = a.toNat) : eh_M l D tc ad eh_LX yX0_isAhead cX0_isAhead 4 (some .boolean) 0 Tx_isAhead := by
  refine eh_mk (rb := 1) (nm := eh_nX) (fl := eh_fl0) (kn := eh_kn0) (cs := (fun _ => none)) (ss := (fun _ => none)) (by decide) (eh_worldX h99) eh_fl0_ok eh_kn0_ok (fun _ _ _ h => by cases h) (fun _ _ _ h => by cases h) ?_
  rintro as σ bd K ⟨_, rfl, a, m, n, rfl, ha, ⟨hm, hn⟩, hK⟩
  refine ⟨Nat.le_of_ble_eq_true rfl, fun X hX => ?_⟩
  exact bX0_isAhead_0 hX (fun hok => ⟨ha, hm, fun h => eh_b1 hK (Or.inl h), fun h => ⟨fun h2 => ⟨hn, fun h3 => eh_b0 hK (by omega), fun h3 => eh_b1 hK (Or.inr ⟨h2, by omega⟩)⟩, fun h2 => eh_b0 hK (by omega)⟩⟩)
/-- one event over another -/
def xu_mv (σ σ' : eh_S) (a b : Int) : Prop := (∀ j, σ'.2 101 0 j = (if j = b then σ.2 101 0 a else σ.2 101 0 j) ∧ σ'.2 102 0 j = (if j = b then σ.2 102 0 a else σ.2 102 0 j) ∧ σ'.2 103 0 j = (if j = b then σ.2 103 0 a else σ.2 103 0 j)) ∧ ∀ j, σ'.2 104 0 j = (if 4 * b ≤ j ∧ j < 4 * b + 4 then σ.2 104 0 (4 * a + (j - 4 * b)) else σ.2 104 0 j)
theorem eh_sC_c {σ : eh_S} {c0 c1 c : Nat} {i0 i1 sp dp n : Int} (h : c ≠ c1) : (eh_sC σ c0 i0 c1 i1 sp dp n).2 c = σ.2 c := by
  funext i j
  exact if_neg (fun q => h q.1)
def Tx_move : eh_T := eh_R0 fun as σ _ K => ∃ a b : Int, as = [.inl a, .inl b] ∧ (0 ≤ a ∧ a < 1000) ∧ (0 ≤ b ∧ b < 1000) ∧ ∀ σ', eh_fr [] [101, 102, 103, 104] σ σ' → xu_mv σ σ' a b → K none σ'
theorem cx_move (l : Launch) (D : va_G) (tc : Nat → ClassId) (ad : Nat → Int → Nat) (h99 : ∀ a : Int, ad 99 a = a.toNat) : eh_M l D tc ad eh_LX yX0_move cX0_move 3 none 1 Tx_move := by
  refine eh_mk (rb := 2) (nm := eh_nX) (fl := eh_fl0) (kn := eh_kn0) (cs := (fun _ => none)) (ss := (fun kk => match kk with | 142 => some (5, (eh_Tcopy eh_nX)) | _ => none)) (by decide) (eh_worldX h99) eh_fl0_ok eh_kn0_ok (fun _ _ _ h => by cases h) (fun kk n T h => by
    split at h
    · cases h; exact eh_copy q314 (by decide) (eh_worldX h99)
    · cases h) ?_
  rintro as σ bd K ⟨_, rfl, a, b, rfl, ha, hb, hK⟩
  refine ⟨Nat.le_of_ble_eq_true rfl, fun X hX => ?_⟩
  refine bX0_move_0 hX (T142 := eh_Tcopy eh_nX) rfl (fun hok => ⟨ha, hb, 104, 0, a * 4, 104, 0, b * 4, 4, rfl, ⟨by decide, by decide⟩, ⟨by decide, by decide⟩, rfl, rfl, ⟨by omega, by omega, by show a * 4 + 4 ≤ 4000; omega⟩, ⟨by omega, by show b * 4 + 4 ≤ 4000; omega⟩, ?_⟩)
  refine bX0_move_54 hX (fun hok => hK _ ⟨fun _ _ => rfl, fun c hc => ?_⟩ ⟨fun j => ⟨?_, ?_, ?_⟩, fun j => ?_⟩)
  · simp only [List.mem_cons, List.not_mem_nil, or_false, not_or] at hc
    rw [eh_sC_c (by omega), eh_sA_c (by omega), eh_sA_c (by omega), eh_sA_c (by omega)]
  · rw [eh_sC_c (by decide), eh_sA_c (by decide), eh_sA_c (by decide)]
    by_cases hj : j = b
    · rw [if_pos hj, hj, eh_sA_p]
    · rw [if_neg hj, eh_sA_n hj]
  · rw [eh_sC_c (by decide), eh_sA_c (by decide)]
    by_cases hj : j = b
    · rw [if_pos hj, hj, eh_sA_p]
    · rw [if_neg hj, eh_sA_n hj, eh_sA_c (by decide)]
  · rw [eh_sC_c (by decide)]
    by_cases hj : j = b
    · rw [if_pos hj, hj, eh_sA_p]
    · rw [if_neg hj, eh_sA_n hj, eh_sA_c (by decide), eh_sA_c (by decide)]
  · generalize hs : eh_sA (eh_sA (eh_sA σ 101 0 b (σ.2 101 0 a)) 102 0 b (σ.2 102 0 a)) 103 0 b (σ.2 103 0 a) = s
    have e4 : s.2 104 = σ.2 104 := by rw [← hs, eh_sA_c (by decide), eh_sA_c (by decide), eh_sA_c (by decide)]
    show (if 104 = 104 ∧ (0 : Int) = 0 ∧ b * 4 ≤ j ∧ j < b * 4 + 4 then s.2 104 0 (a * 4 + (j - b * 4)) else s.2 104 0 j) = _
    rw [e4]
    by_cases hj : 4 * b ≤ j ∧ j < 4 * b + 4
    · rw [if_pos ⟨rfl, rfl, by omega, by omega⟩, if_pos hj, show a * 4 + (j - b * 4) = 4 * a + (j - 4 * b) by omega]
    · rw [if_neg (fun q => hj (by omega)), if_neg hj]
/-- those from j on have moved up by one -/
def xu_up (σ σ' : eh_S) (j t : Int) : Prop := (∀ i, σ'.2 101 0 i = (if j < i ∧ i ≤ t then σ.2 101 0 (i - 1) else σ.2 101 0 i) ∧ σ'.2 102 0 i = (if j < i ∧ i ≤ t then σ.2 102 0 (i - 1) else σ.2 102 0 i) ∧ σ'.2 103 0 i = (if j < i ∧ i ≤ t then σ.2 103 0 (i - 1) else σ.2 103 0 i)) ∧ ∀ i, σ'.2 104 0 i = (if 4 * j + 4 ≤ i ∧ i < 4 * t + 4 then σ.2 104 0 (i - 4) else σ.2 104 0 i)
theorem xu_up_step {σ σ' σ'' : eh_S} {j t : Int} (h : xu_up σ σ' j t) (hj : j ≤ t) (h2 : xu_mv σ' σ'' (j - 1) j) : xu_up σ σ'' (j - 1) t := by
  obtain ⟨h1, h4⟩ := h
  obtain ⟨k1, k4⟩ := h2
  refine ⟨fun i => ?_, fun i => ?_⟩
  · obtain ⟨a1, a2, a3⟩ := k1 i
    obtain ⟨b1, b2, b3⟩ := h1 i
    obtain ⟨c1, c2, c3⟩ := h1 (j - 1)
    rw [if_neg (by omega)] at c1 c2 c3
    by_cases hi : i = j
    · rw [if_pos hi] at a1 a2 a3
      rw [a1, a2, a3, c1, c2, c3, if_pos (by omega), if_pos (by omega), if_pos (by omega), hi]
      exact ⟨rfl, rfl, rfl⟩
    · rw [if_neg hi] at a1 a2 a3
      rw [a1, a2, a3, b1, b2, b3]
      by_cases hc : j < i ∧ i ≤ t
      · rw [if_pos hc, if_pos hc, if_pos hc, if_pos (by omega), if_pos (by omega), if_pos (by omega)]
        exact ⟨rfl, rfl, rfl⟩
      · rw [if_neg hc, if_neg hc, if_neg hc, if_neg (by omega), if_neg (by omega), if_neg (by omega)]
        exact ⟨rfl, rfl, rfl⟩
  · rw [k4 i]
    by_cases hi : 4 * j ≤ i ∧ i < 4 * j + 4
    · rw [if_pos hi, h4, if_neg (by omega), if_pos (by omega), show 4 * (j - 1) + (i - 4 * j) = i - 4 by omega]
    · rw [if_neg hi, h4]
      by_cases hc : 4 * j + 4 ≤ i ∧ i < 4 * t + 4
      · rw [if_pos hc, if_pos (by omega)]
      · rw [if_neg hc, if_neg (by omega)]
def Tx_put : eh_T := eh_R0 fun as σ _ K => ∃ (k m n : Int) (z : pz_Z), as = [.inl k, .inl m, .inl n] ∧ (eh_r k ∧ eh_r m ∧ eh_r n) ∧ xz σ z ∧ pz_ok z ∧ xk (pz_put k m n z) σ K
theorem cx_put (l : Launch) (D : va_G) (tc : Nat → ClassId) (ad : Nat → Int → Nat) (h99 : ∀ a : Int, ad 99 a = a.toNat) : eh_M l D tc ad eh_LX yX0_put cX0_put 6 (some .int) 2 Tx_put := by
  refine eh_mk (rb := 0) (nm := eh_nX) (fl := eh_fl0) (kn := eh_kn0) (cs := (fun kk => match kk with | 135 => some (4, Tx_isAhead) | 138 => some (3, Tx_move) | _ => none)) (ss := (fun kk => match kk with | 77 => some (3, Tx_within) | 142 => some (5, (eh_Tcopy eh_nX)) | _ => none)) (by decide) (eh_worldX h99) eh_fl0_ok eh_kn0_ok (fun kk n T h => by
    split at h
    · cases h; exact eh_callV (c0 := 0) (cx_isAhead l D tc ad h99) q306 q308 qs1 q45 q309 (by decide +kernel) (by decide) (by decide) (by decide) rfl (eh_worldX h99) (fun _ _ _ _ h => eh_R0_rec h)
    · cases h; exact eh_callV (c0 := 0) (cx_move l D tc ad h99) q310 q312 qs2 q45 q313 (by decide +kernel) (by decide) (by decide) (by decide) rfl (eh_worldX h99) (fun _ _ _ _ h => eh_R0_rec h)
    · cases h) (fun kk n T h => by
    split at h
    · cases h; exact eh_callS (cx_within l D tc ad h99) q283 q284 q45 q285 (by decide +kernel) (by decide) (by decide)
    · cases h; exact eh_copy q314 (by decide) (eh_worldX h99)
    · cases h) ?_
  rintro as σ bd K ⟨_, rfl, k, m, n, z, rfl, ⟨hk, hm, hn⟩, hz, ho, hK⟩
  refine ⟨Nat.le_of_ble_eq_true rfl, fun X hX => ?_⟩
  have hz' := hz
  obtain ⟨a1, a2, a3, a4, a5, a6, a7⟩ := hz
  have hE := ho.1.1
  have hE0 := (pz_ok_0 ho).1
  have h105 := a4.1
  have h106 := a2.1
  unfold pz_put at hK
  refine bX0_put_0 hX (T77 := Tx_within) rfl (fun hok => wi hk (eh_rc (by omega)) (eh_rc (by omega)) ?_)
  refine bX0_put_7 hX (T77 := Tx_within) rfl (fun hok => ⟨bz_r _, fun h => ?_, fun h1 => wi hm (eh_rc (by omega)) (eh_rc (by omega)) ?_⟩)
  · rw [pz_if_t (by have := bz_0.mp h; omega)] at hK
    exact xk_s hK hz'
  refine bX0_put_17 hX (T77 := Tx_within) rfl (fun hok => ⟨bz_r _, fun h => ?_, fun h2 => wi hn (eh_rc (by omega)) (eh_rc (by omega)) ?_⟩)
  · rw [pz_if_t (by have := bz_0.mp h; omega)] at hK
    exact xk_s hK hz'
  have b1 := bz_n.mp h1
  have b2 := bz_n.mp h2
  -- the place is found
  have fin : (0 ≤ n ∧ n ≤ 9999) → ¬ m < z.1.1 3 0 → ∀ a : Int, (z.1.1 0 0 ≤ a ∧ a ≤ z.1.1 1 0) → (∀ i, z.1.1 0 0 ≤ i → i < a → pz_ahead z m n i) → (∀ i, a ≤ i → i < z.1.1 1 0 → ¬ pz_ahead z m n i) → (∀ i, z.1.1 0 0 ≤ i → i < z.1.1 1 0 → ¬ (z.1.2 1 0 i = m ∧ z.1.2 4 0 i = n)) → (z.1.1 1 0 - z.1.1 0 0 = 100 → K (some (.inl (-4))) σ) ∧ (¬ z.1.1 1 0 - z.1.1 0 0 = 100 → ((z.1.1 1 0 = 1000 → K (some (.inl (-4))) σ) ∧ (¬ z.1.1 1 0 = 1000 → X 154 [some (.inr (some (0, 0))), some (.inl k), some (.inl m), some (.inl n), some (.inl a), some (.inl (z.1.1 1 0))] [] σ (0, 0)))) := by
    intro b3 hmk a ha hpre hsuf hne
    rw [pz_if_f (by omega), pz_if_f hmk, pz_if_f (fun ⟨i, x1, x2, x3, x4⟩ => hne i x1 x2 ⟨x3, x4⟩)] at hK
    refine ⟨fun h => ?_, fun h => ⟨fun h5 => ?_, fun h5 => ?_⟩⟩
    · rw [pz_if_t (Or.inl h)] at hK; exact xk_s hK hz'
    · rw [pz_if_t (Or.inr h5)] at hK; exact xk_s hK hz'
    · rw [pz_if_f (by omega), pz_at_eq ha.1 ha.2 hpre hsuf] at hK
      have key : ∀ (d : Nat) (σ' : eh_S) (j : Int), (a ≤ j ∧ j ≤ z.1.1 1 0) → j - a < d → eh_fr [] [101, 102, 103, 104] σ σ' → xu_up σ σ' j (z.1.1 1 0) → X 154 [some (.inr (some (0, 0))), some (.inl k), some (.inl m), some (.inl n), some (.inl a), some (.inl j)] [] σ' (0, 0) := by
        intro d
        induction d with
        | zero => intro σ' j hj hd; omega
        | succ d ih =>
          intro σ' j hj hd hf hu
          refine bX0_put_154 hX (T138 := Tx_move) (T142 := eh_Tcopy eh_nX) rfl rfl (fun hok => ⟨by omega, by omega, fun h6 => ⟨by omega, hk, hm, hn, 109, 0, 0, 104, 0, a * 4, 4, rfl, ⟨by decide, by decide⟩, ⟨by decide, by decide⟩, rfl, rfl, ⟨by omega, by omega, by show (0 : Int) + 4 ≤ 4; omega⟩, ⟨by omega, by show a * 4 + 4 ≤ 4000; omega⟩, ?_⟩, fun h6 => ?_⟩)
          · have hja : j = a := by omega
            subst hja
            generalize hs : eh_sA (eh_sA (eh_sA σ' 101 0 j k) 102 0 j m) 103 0 j n = s
            have hfs : eh_fr [] [101, 102, 103] σ' s := by rw [← hs]; exact eh_fr_sA (eh_fr_sA (eh_fr_sA eh_fr_rf (by decide)) (by decide)) (by decide)
            have s1 : ∀ i, s.2 101 0 i = (if i = j then k else σ'.2 101 0 i) ∧ s.2 102 0 i = (if i = j then m else σ'.2 102 0 i) ∧ s.2 103 0 i = (if i = j then n else σ'.2 103 0 i) := fun i => by
              rw [← hs]
              by_cases hi : i = j
              · rw [if_pos hi, if_pos hi, if_pos hi, hi, eh_sA_c (by decide), eh_sA_c (by decide), eh_sA_p, eh_sA_c (by decide), eh_sA_p, eh_sA_p]; exact ⟨rfl, rfl, rfl⟩
              · rw [if_neg hi, if_neg hi, if_neg hi, eh_sA_c (by decide), eh_sA_c (by decide), eh_sA_n hi, eh_sA_c (by decide), eh_sA_n hi, eh_sA_n hi, eh_sA_c (by decide), eh_sA_c (by decide), eh_sA_c (by decide)]; exact ⟨rfl, rfl, rfl⟩
            generalize hs2 : eh_sC s 109 0 104 0 0 (j * 4) 4 = s2
            have hfs2 : eh_fr [] [104] s s2 := ⟨fun _ _ => by rw [← hs2]; rfl, fun c hc => by rw [← hs2]; exact eh_sC_c (by simpa using hc)⟩
            have hf2 : eh_fr [] [101, 102, 103, 104] σ s2 := eh_fr_tr hf (eh_fr_tr (eh_fr_up hfs (by decide) (by decide)) (eh_fr_up hfs2 (by decide) (by decide)))
            have s4 : ∀ i, s2.2 104 0 i = (if 4 * j ≤ i ∧ i < 4 * j + 4 then σ.2 109 0 (i - 4 * j) else σ'.2 104 0 i) := fun i => by
              rw [← hs2]
              show (if 104 = 104 ∧ (0 : Int) = 0 ∧ j * 4 ≤ i ∧ i < j * 4 + 4 then s.2 109 0 (0 + (i - j * 4)) else s.2 104 0 i) = _
              rw [hfs.2 109 (by decide), hf.2 109 (by decide), hfs.2 104 (by decide)]
              by_cases hi : 4 * j ≤ i ∧ i < 4 * j + 4
              · rw [if_pos ⟨rfl, rfl, by omega, by omega⟩, if_pos hi, show 0 + (i - j * 4) = i - 4 * j by omega]
              · rw [if_neg (fun q => hi (by omega)), if_neg hi]
            refine bX0_put_218 hX (fun hok => ?_)
            have e106 : s2.1 106 0 = z.1.1 1 0 := by rw [hf2.1 106 (by decide)]; exact h106
            rw [e106]
            refine ⟨by omega, ?_⟩
            have hf3 : eh_fr [106] [101, 102, 103, 104] σ (eh_sV s2 106 0 (z.1.1 1 0 + 1)) := eh_fr_sV (eh_fr_up hf2 (by decide) (by decide)) (by decide)
            have p1 : (pz_putS k m n j z).1 1 0 = z.1.1 1 0 + 1 := by simp [pz_putS]
            have pv : ∀ v, v ≠ 1 → (pz_putS k m n j z).1 v = z.1.1 v := fun v hv => by funext i; simp [pz_putS, hv]
            have pc : ∀ c, c ≠ 0 → c ≠ 1 → c ≠ 2 → c ≠ 4 → (pz_putS k m n j z).2 c = z.1.2 c := fun c x1 x2 x3 x4 => by funext i j; simp [pz_putS, x1, x2, x3, x4]
            refine hK _ (eh_fr_up hf3 (by decide) (by decide)) ⟨xz_A_t a1 (hf3.2 100 (by decide)) (pc 3 (by decide) (by decide) (by decide) (by decide)), ⟨?_, fun e x y => ?_, fun i x y => ?_⟩, xz_C_t a3 (hf3.2 109 (by decide)) (pc 5 (by decide) (by decide) (by decide) (by decide)), xz_D_t a4 (fun v hv => hf3.1 v (by simp only [List.mem_cons, List.not_mem_nil, or_false] at hv ⊢; omega)) (fun v hv => pv v (by simp only [List.mem_cons, List.not_mem_nil, or_false] at hv; omega)), xz_F_t a5 (fun v hv => hf3.1 v (by simp only [List.mem_cons, List.not_mem_nil, or_false] at hv ⊢; omega)) (fun c hc => hf3.2 c (by simp only [List.mem_cons, List.not_mem_nil, or_false] at hc ⊢; omega)) (fun c x y => pc c (by omega) (by omega) (by omega) (by omega)), xz_W_t a6 hf3 (by decide) (by decide) rfl, xm_M_fr a7 hf3 (by decide) (by decide)⟩
            · show (eh_sV s2 106 0 (z.1.1 1 0 + 1)).1 106 0 = (pz_putS k m n j z).1 1 0
              rw [eh_sV_p, p1]
            · have y : e < (pz_putS k m n j z).1 1 0 := y
              rw [p1] at y
              show s2.2 101 0 e = (pz_putS k m n j z).2 0 0 e ∧ s2.2 102 0 e = (pz_putS k m n j z).2 1 0 e ∧ s2.2 103 0 e = (pz_putS k m n j z).2 4 0 e
              have g0 : (pz_putS k m n j z).2 0 0 e = pz_ins (z.1.2 0 0) j k e := by simp [pz_putS]
              have g1 : (pz_putS k m n j z).2 1 0 e = pz_ins (z.1.2 1 0) j m e := by simp [pz_putS]
              have g4 : (pz_putS k m n j z).2 4 0 e = pz_ins (z.1.2 4 0) j n e := by simp [pz_putS]
              obtain ⟨t1, t2, t3⟩ := s1 e
              obtain ⟨u1, u2, u3⟩ := hu.1 e
              rw [hfs2.2 101 (by decide), hfs2.2 102 (by decide), hfs2.2 103 (by decide), g0, g1, g4, t1, t2, t3, u1, u2, u3]
              unfold pz_ins
              rcases (show e < j ∨ e = j ∨ j < e by omega) with hc | hc | hc
              · simp only [if_neg (show ¬ e = j by omega), if_neg (show ¬ (j < e ∧ e ≤ z.1.1 1 0) by omega), if_pos hc]
                exact a2.2.1 e x (by omega)
              · simp only [if_pos hc, if_neg (show ¬ e < j by omega)]
                exact ⟨trivial, trivial, trivial⟩
              · simp only [if_neg (show ¬ e = j by omega), if_pos (show j < e ∧ e ≤ z.1.1 1 0 by omega), if_neg (show ¬ e < j by omega)]
                exact a2.2.1 (e - 1) (by omega) (by omega)
            · have y : i < 4 * (pz_putS k m n j z).1 1 0 := y
              rw [p1] at y
              show s2.2 104 0 i = (pz_putS k m n j z).2 2 0 i
              have g2 : (pz_putS k m n j z).2 2 0 i = pz_ins4 (z.1.2 2 0) (z.1.2 5 0) j i := by simp [pz_putS]
              rw [g2, s4 i, hu.2 i]
              unfold pz_ins4
              rcases (show i < 4 * j ∨ (4 * j ≤ i ∧ i < 4 * j + 4) ∨ 4 * j + 4 ≤ i by omega) with hc | hc | hc
              · rw [if_neg (by omega), if_neg (by omega), if_pos hc]
                exact a2.2.2 i x (by omega)
              · rw [if_pos hc, if_neg (by omega), if_pos hc.2]
                exact a3 (i - 4 * j) (by omega) (by omega)
              · rw [if_neg (by omega), if_pos (by omega), if_neg (by omega), if_neg (by omega)]
                exact a2.2.2 (i - 4) (by omega) (by omega)
          · refine ⟨_, rfl, j - 1, j, rfl, by omega, by omega, fun σ2 hf2 hmv => ?_⟩
            refine bX0_put_171 hX (fun hok => ?_)
            rw [show j + -1 = j - 1 by omega]
            exact ih σ2 (j - 1) (by omega) (by omega) (eh_fr_tr hf hf2) (xu_up_step hu hj.2 hmv)
      refine key 1001 σ (z.1.1 1 0) ⟨ha.2, Int.le_refl _⟩ (by omega) eh_fr_rf ⟨fun i => ?_, fun i => ?_⟩
      · rw [if_neg (by omega), if_neg (by omega), if_neg (by omega)]; exact ⟨rfl, rfl, rfl⟩
      · rw [if_neg (by omega)]
  -- the place is sought
  have seek : (0 ≤ n ∧ n ≤ 9999) → ¬ m < z.1.1 3 0 → ∀ (d : Nat) (a : Int) (o5 : Option eh_V), (z.1.1 0 0 ≤ a ∧ a ≤ z.1.1 1 0) → a - z.1.1 0 0 < d → (∀ i, a ≤ i → i < z.1.1 1 0 → ¬ pz_ahead z m n i) → X 59 [some (.inr (some (0, 0))), some (.inl k), some (.inl m), some (.inl n), some (.inl a), o5] [] σ (0, 0) := by
    intro b3 hmk d
    induction d with
    | zero => intro a o5 ha hd; omega
    | succ d ih =>
      intro a o5 ha hd hsuf
      -- found: is it there already?
      have hit : (∀ i, z.1.1 0 0 ≤ i → i < a → pz_ahead z m n i) → ((z.1.1 1 0 ≤ a → (-2147483648 ≤ z.1.1 1 0 - z.1.1 0 0 ∧ z.1.1 1 0 - z.1.1 0 0 < 2147483648) ∧ ((z.1.1 1 0 - z.1.1 0 0 = 100 → K (some (.inl (-4))) σ) ∧ (¬ z.1.1 1 0 - z.1.1 0 0 = 100 → ((z.1.1 1 0 = 1000 → K (some (.inl (-4))) σ) ∧ (¬ z.1.1 1 0 = 1000 → X 154 [some (.inr (some (0, 0))), some (.inl k), some (.inl m), some (.inl n), some (.inl a), some (.inl (z.1.1 1 0))] [] σ (0, 0)))))) ∧ (¬ z.1.1 1 0 ≤ a → (0 ≤ a ∧ a < 1000) ∧ (-2147483648 ≤ m ∧ m < 2147483648) ∧ ((σ.2 102 0 a = m → (-2147483648 ≤ n ∧ n < 2147483648) ∧ ((σ.2 103 0 a = n → K (some (.inl (-2))) σ) ∧ (¬ σ.2 103 0 a = n → (-2147483648 ≤ z.1.1 1 0 - z.1.1 0 0 ∧ z.1.1 1 0 - z.1.1 0 0 < 2147483648) ∧ ((z.1.1 1 0 - z.1.1 0 0 = 100 → K (some (.inl (-4))) σ) ∧ (¬ z.1.1 1 0 - z.1.1 0 0 = 100 → ((z.1.1 1 0 = 1000 → K (some (.inl (-4))) σ) ∧ (¬ z.1.1 1 0 = 1000 → X 154 [some (.inr (some (0, 0))), some (.inl k), some (.inl m), some (.inl n), some (.inl a), some (.inl (z.1.1 1 0))] [] σ (0, 0)))))))) ∧ (¬ σ.2 102 0 a = m → (-2147483648 ≤ z.1.1 1 0 - z.1.1 0 0 ∧ z.1.1 1 0 - z.1.1 0 0 < 2147483648) ∧ ((z.1.1 1 0 - z.1.1 0 0 = 100 → K (some (.inl (-4))) σ) ∧ (¬ z.1.1 1 0 - z.1.1 0 0 = 100 → ((z.1.1 1 0 = 1000 → K (some (.inl (-4))) σ) ∧ (¬ z.1.1 1 0 = 1000 → X 154 [some (.inr (some (0, 0))), some (.inl k), some (.inl m), some (.inl n), some (.inl a), some (.inl (z.1.1 1 0))] [] σ (0, 0))))))))) := by
        intro hpre
        have hne : (z.1.1 1 0 ≤ a ∨ ¬ (z.1.2 1 0 a = m ∧ z.1.2 4 0 a = n)) → ∀ i, z.1.1 0 0 ≤ i → i < z.1.1 1 0 → ¬ (z.1.2 1 0 i = m ∧ z.1.2 4 0 i = n) := by
          intro hor i x y hh
          rcases (show i < a ∨ i = a ∨ a < i by omega) with hc | hc | hc
          · have := hpre i x hc
            unfold pz_ahead at this
            omega
          · rw [hc] at hh y
            rcases hor with h3 | h3
            · omega
            · exact h3 hh
          · exact (pz_ahead_suf hE0 (hsuf a (Int.le_refl _) (by omega)) ha.1 hc y).2 hh
        refine ⟨fun h => ⟨by omega, fin b3 hmk a ha hpre hsuf (hne (Or.inl h))⟩, fun h => ⟨by omega, hm, ?_⟩⟩
        obtain ⟨x1, x2, x3⟩ := a2.2.1 a (by omega) (by omega)
        rw [x2, x3]
        refine ⟨fun h3 => ⟨hn, fun h4 => ?_, fun h4 => ⟨by omega, fin b3 hmk a ha hpre hsuf (hne (Or.inr (fun hh => h4 hh.2)))⟩⟩, fun h3 => ⟨by omega, fin b3 hmk a ha hpre hsuf (hne (Or.inr (fun hh => h3 hh.1)))⟩⟩
        rw [pz_if_f (by omega), pz_if_f hmk, pz_if_t ⟨a, ha.1, by omega, h3, h4⟩] at hK
        exact xk_s hK hz'
      refine bX0_put_59 hX (T135 := Tx_isAhead) rfl (fun hok => ?_)
      rw [h105, h106]
      refine ⟨by omega, fun h => hit (fun i x y => by omega), fun h => ⟨_, rfl, a - 1, m, n, rfl, by omega, ⟨hm, hn⟩, ?_⟩⟩
      obtain ⟨x1, x2, x3⟩ := a2.2.1 (a - 1) (by omega) (by omega)
      rw [x2, x3]
      refine bX0_put_78 hX (fun hok => ?_)
      rw [h105, h106]
      refine ⟨bz_r _, fun h3 => ?_, fun h3 => ⟨by omega, hit (fun i x y => ?_)⟩⟩
      · rw [show a + -1 = a - 1 by omega]
        refine ih (a - 1) _ (by omega) (by omega) (fun i x y => ?_)
        by_cases hi : i = a - 1
        · rw [hi]; exact bz_0.mp h3
        · exact hsuf i (by omega) y
      · have hah : pz_ahead z m n (a - 1) := bz_n.mp h3
        by_cases hi : i = a - 1
        · rw [hi]; exact hah
        · exact pz_ahead_pre hE0 hah x (by omega) (by omega)
  refine bX0_put_28 hX (fun hok => ⟨bz_r _, fun h => ?_, fun h3 => ?_⟩)
  · rw [pz_if_t (by have := bz_0.mp h; omega)] at hK
    exact xk_s hK hz'
  · have b3 := bz_n.mp h3
    rw [a4.2.2.1, a4.2.1, h106]
    refine ⟨hm, fun h => seek b3 (by omega) 1001 _ _ (by omega) (by omega) (fun i x y => by omega), fun h => ?_⟩
    rw [pz_if_f (by omega), pz_if_t (by omega)] at hK
    have hf : eh_fr [107] [] σ (eh_sV σ 107 0 (eh_wr (z.1.1 2 0 + 1))) := eh_fr_sV eh_fr_rf (by decide)
    have ev : ∀ v, v ≠ 2 → (eh_sV z.1 2 0 (eh_wr (z.1.1 2 0 + 1))).1 v = z.1.1 v := fun v hv => eh_sV_v hv
    refine hK _ (eh_fr_up hf (by decide) (by decide)) ⟨xz_A_t a1 rfl rfl, xz_B_t a2 (hf.1 106 (by decide)) (fun _ _ => rfl) (ev 1 (by decide)) (fun _ _ => rfl), xz_C_t a3 rfl rfl, ⟨?_, ?_, ?_, ?_⟩, xz_F_t a5 (fun v hv => hf.1 v (by simp only [List.mem_cons, List.not_mem_nil, or_false] at hv ⊢; omega)) (fun _ _ => rfl) (fun _ _ _ => rfl), xz_W_t a6 hf (by decide) (by decide) rfl, xm_M_fr a7 hf (by decide) (by decide)⟩
    · rw [hf.1 105 (by decide), ev 0 (by decide)]; exact h105
    · show (eh_sV σ 107 0 _).1 107 0 = (eh_sV z.1 2 0 _).1 2 0
      rw [eh_sV_p, eh_sV_p]
    · rw [hf.1 108 (by decide), ev 3 (by decide)]; exact a4.2.2.1
    · rw [hf.1 118 (by decide), ev 4 (by decide)]; exact a4.2.2.2
