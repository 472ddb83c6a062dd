/-! EventHunterModel: put -/
def mu_mv (σ σ' : eh_S) (a b : Int) : Prop := (∀ j, σ'.2 504 0 j = (if j = b then σ.2 504 0 a else σ.2 504 0 j) ∧ σ'.2 505 0 j = (if j = b then σ.2 505 0 a else σ.2 505 0 j) ∧ σ'.2 506 0 j = (if j = b then σ.2 506 0 a else σ.2 506 0 j)) ∧ ∀ j, σ'.2 507 0 j = (if 4 * b ≤ j ∧ j < 4 * b + 4 then σ.2 507 0 (4 * a + (j - 4 * b)) else σ.2 507 0 j)
def Tm_moveWaiting : eh_T := eh_RM fun as σ _ K => ∃ a b : Int, as = [.inl a, .inl b] ∧ (0 ≤ a ∧ a < 101) ∧ (0 ≤ b ∧ b < 101) ∧ ∀ σ', eh_fr [] [504, 505, 506, 507] σ σ' → mu_mv σ σ' a b → K none σ'
theorem cm_moveWaiting (l : Launch) (D : va_G) (tc : Nat → ClassId) (ad : Nat → Int → Nat) (h99 : ∀ a : Int, ad 99 a = a.toNat) : eh_M l D tc ad eh_LX yX4_moveWaiting cX4_moveWaiting 4 none 0 Tm_moveWaiting := by
  refine eh_mk (rb := 2) (nm := eh_nX) (fl := eh_fl4) (kn := eh_kn4) (cs := (fun _ => none)) (ss := (fun _ => none)) (by decide) (eh_worldX h99) eh_fl4_ok eh_kn4_ok (fun _ _ _ h => by cases h) (fun _ _ _ h => by cases h) ?_
  rintro as σ bd K ⟨_, rfl, a, b, rfl, ha, hb, hK⟩
  refine ⟨Nat.le_of_ble_eq_true rfl, fun X hX => ?_⟩
  have key : ∀ (m : Nat) (σ' : eh_S) (k : Int), (0 ≤ k ∧ k ≤ 4) → 4 - k < m → eh_fr [] [504, 505, 506, 507] σ σ' → (∀ j, σ'.2 504 0 j = (if j = b then σ.2 504 0 a else σ.2 504 0 j) ∧ σ'.2 505 0 j = (if j = b then σ.2 505 0 a else σ.2 505 0 j) ∧ σ'.2 506 0 j = (if j = b then σ.2 506 0 a else σ.2 506 0 j)) → (∀ j, σ'.2 507 0 j = (if 4 * b ≤ j ∧ j < 4 * b + k then σ.2 507 0 (4 * a + (j - 4 * b)) else σ.2 507 0 j)) → X 38 [some (.inr (some (4, 0))), some (.inl a), some (.inl b), some (.inl k)] [] σ' (0, 0) := by
    intro m
    induction m with
    | zero => intro σ' k h1 h2; omega
    | succ m ih =>
      intro σ' k hk hm hf h1 h2
      refine bX4_moveWaiting_38 hX (fun hok => ⟨by omega, fun h => hK σ' hf ⟨h1, ?_⟩, fun h => ⟨by omega, by omega, ih _ (k + 1) (by omega) (by omega) (eh_fr_sA hf (by decide)) (fun j => ?_) (fun j => ?_)⟩⟩)
      · have hk4 : k = 4 := by omega
        subst hk4
        exact h2
      · rw [eh_sA_c (by decide), eh_sA_c (by decide), eh_sA_c (by decide)]
        exact h1 j
      · have h3 := h2 (4 * a + k)
        rw [if_neg (by omega)] at h3
        by_cases hj : j = 4 * b + k
        · rw [hj, eh_sA_p, h3, if_pos (by omega), show 4 * a + (4 * b + k - 4 * b) = 4 * a + k by omega]
        · rw [eh_sA_n hj, h2 j]
          by_cases hc : 4 * b ≤ j ∧ j < 4 * b + k
          · rw [if_pos hc, if_pos (by omega)]
          · rw [if_neg hc, if_neg (by omega)]
  refine bX4_moveWaiting_0 hX (fun hok => ⟨ha, hb, key 5 _ 0 (by omega) (by omega) (eh_fr_sA (eh_fr_sA (eh_fr_sA eh_fr_rf (by decide)) (by decide)) (by decide)) (fun j => ?_) (fun j => ?_)⟩)
  · by_cases hj : j = b
    · rw [if_pos hj, if_pos hj, if_pos hj, hj, eh_sA_c (by decide), eh_sA_c (by decide), eh_sA_p, eh_sA_c (by decide), eh_sA_p, eh_sA_p]
      exact ⟨rfl, rfl, rfl⟩
    · rw [if_neg hj, if_neg hj, if_neg hj, eh_sA_c (by decide), eh_sA_c (by decide), eh_sA_n hj, eh_sA_c (by decide), eh_sA_n hj, eh_sA_n hj, eh_sA_c (by decide), eh_sA_c (by decide), eh_sA_c (by decide)]
      exact ⟨rfl, rfl, rfl⟩
  · rw [if_neg (by omega), eh_sA_c (by decide), eh_sA_c (by decide), eh_sA_c (by decide)]
def mu_up (σ σ' : eh_S) (j t : Int) : Prop := (∀ i, σ'.2 504 0 i = (if j < i ∧ i ≤ t then σ.2 504 0 (i - 1) else σ.2 504 0 i) ∧ σ'.2 505 0 i = (if j < i ∧ i ≤ t then σ.2 505 0 (i - 1) else σ.2 505 0 i) ∧ σ'.2 506 0 i = (if j < i ∧ i ≤ t then σ.2 506 0 (i - 1) else σ.2 506 0 i)) ∧ ∀ i, σ'.2 507 0 i = (if 4 * j + 4 ≤ i ∧ i < 4 * t + 4 then σ.2 507 0 (i - 4) else σ.2 507 0 i)
theorem mu_up_step {σ σ' σ'' : eh_S} {j t : Int} (h : mu_up σ σ' j t) (hj : j ≤ t) (h2 : mu_mv σ' σ'' (j - 1) j) : mu_up σ σ'' (j - 1) t := by
  obtain ⟨h1, h4⟩ := h
  obtain ⟨k1, k4⟩ := h2
  refine ⟨fun i => ?_, fun i => ?_⟩
  · obtain ⟨a1, a2, a3⟩ := k1 i
    obtain ⟨b1, b2, b3⟩ := h1 i
    obtain ⟨c1, c2, c3⟩ := h1 (j - 1)
    rw [if_neg (by omega)] at c1 c2 c3
    by_cases hi : i = j
    · rw [if_pos hi] at a1 a2 a3
      rw [a1, a2, a3, c1, c2, c3, if_pos (by omega), if_pos (by omega), if_pos (by omega), hi]
      exact ⟨rfl, rfl, rfl⟩
    · rw [if_neg hi] at a1 a2 a3
      rw [a1, a2, a3, b1, b2, b3]
      by_cases hc : j < i ∧ i ≤ t
      · rw [if_pos hc, if_pos hc, if_pos hc, if_pos (by omega), if_pos (by omega), if_pos (by omega)]
        exact ⟨rfl, rfl, rfl⟩
      · rw [if_neg hc, if_neg hc, if_neg hc, if_neg (by omega), if_neg (by omega), if_neg (by omega)]
        exact ⟨rfl, rfl, rfl⟩
  · rw [k4 i]
    by_cases hi : 4 * j ≤ i ∧ i < 4 * j + 4
    · rw [if_pos hi, h4, if_neg (by omega), if_pos (by omega), show 4 * (j - 1) + (i - 4 * j) = i - 4 by omega]
    · rw [if_neg hi, h4]
      by_cases hc : 4 * j + 4 ≤ i ∧ i < 4 * t + 4
      · rw [if_pos hc, if_pos (by omega)]
      · rw [if_neg hc, if_neg (by omega)]
def Tm_put : eh_T := eh_RM fun as σ _ K => ∃ (k m n : Int) (z : pz_Z), as = [.inl k, .inl m, .inl n] ∧ (eh_r k ∧ eh_r m ∧ eh_r n) ∧ mz σ z ∧ pz_ok z ∧ mk (pz_put k m n z) σ K
theorem cm_put (l : Launch) (D : va_G) (tc : Nat → ClassId) (ad : Nat → Int → Nat) (h99 : ∀ a : Int, ad 99 a = a.toNat) : eh_M l D tc ad eh_LX yX4_put cX4_put 6 (some .int) 1 Tm_put := by
  refine eh_mk (rb := 0) (nm := eh_nX) (fl := eh_fl4) (kn := eh_kn4) (cs := (fun kk => match kk with | 217 => some (3, Tm_moveWaiting) | _ => none)) (ss := (fun kk => match kk with | 136 => some (1, Tm_isKind) | _ => none)) (by decide) (eh_worldX h99) eh_fl4_ok eh_kn4_ok (fun kk n T h => by
    split at h
    · cases h; exact eh_callV (c0 := 4) (cm_moveWaiting l D tc ad h99) q689 q691 qs22 q49 q692 (by decide +kernel) (by decide) (by decide) (by decide) rfl (eh_worldX h99) (fun _ _ _ _ h => eh_RM_rec h)
    · cases h) (fun kk n T h => by
    split at h
    · cases h; exact eh_callS (cm_isKind l D tc ad h99) q655 q656 q49 q657 (by decide +kernel) (by decide) (by decide)
    · cases h) ?_
  rintro as σ bd K ⟨_, rfl, k, m, n, z, rfl, ⟨hk, hm, hn⟩, hz, ho, hK⟩
  refine ⟨Nat.le_of_ble_eq_true rfl, fun X hX => ?_⟩
  have hz' := hz
  obtain ⟨a1, a2, a3, a4, a5, a6, a7, a8⟩ := hz
  have hE := ho.1.1
  have hE0 := (pz_ok_0 ho).1
  have h508 := a2.1
  have h503 := a3.1
  rw [Int.zero_add] at h503
  have hW : ∀ i, 0 ≤ i → i < z.1.1 1 0 - z.1.1 0 0 → σ.2 504 0 i = z.1.2 0 0 (z.1.1 0 0 + i) ∧ σ.2 505 0 i = z.1.2 1 0 (z.1.1 0 0 + i) ∧ σ.2 506 0 i = z.1.2 4 0 (z.1.1 0 0 + i) := fun i h0 h1 => by
    have := a3.2.1 i h0 (by omega)
    rwa [Int.sub_zero] at this
  have hW4 : ∀ i, 0 ≤ i → i < 4 * (z.1.1 1 0 - z.1.1 0 0) → σ.2 507 0 i = z.1.2 2 0 (4 * z.1.1 0 0 + i) := fun i h0 h1 => by
    have := a3.2.2 i (by omega) (by omega)
    rwa [show 4 * z.1.1 0 0 + i - 4 * 0 = 4 * z.1.1 0 0 + i by omega] at this
  unfold pz_put at hK
  have bad : ¬ ((0 ≤ k ∧ k < 16) ∧ (0 ≤ m ∧ m ≤ 100000) ∧ (0 ≤ n ∧ n ≤ 9999)) → K (some (.inl (-1))) σ := fun h => by
    rw [pz_if_t h] at hK
    exact mk_s hK hz'
  refine bX4_put_0 hX (T136 := Tm_isKind) rfl (fun hok => misK hk ?_)
  refine bX4_put_4 hX (fun hok => ⟨bz_r _, fun h => bad (fun h2 => bz_0.mp h h2.1), fun h1 => ⟨hm, fun h => bad (by omega), fun h2 => ⟨fun h => bad (by omega), fun h3 => ⟨hn, fun h => bad (by omega), fun h4 => ⟨fun h5 => ?_, fun h => bad (by omega)⟩⟩⟩⟩⟩)
  have b1 := bz_n.mp h1
  rw [pz_if_f (by omega)] at hK
  -- the place is found
  have fin : ¬ m < z.1.1 3 0 → (∀ i, z.1.1 0 0 ≤ i → i < z.1.1 1 0 → ¬ (z.1.2 1 0 i = m ∧ z.1.2 4 0 i = n)) → ¬ (z.1.1 1 0 - z.1.1 0 0 = 100 ∨ z.1.1 1 0 = 1000) → ∀ (σ' : eh_S) (j : Int), (0 ≤ j ∧ j ≤ z.1.1 1 0 - z.1.1 0 0) → eh_fr [] [504, 505, 506, 507] σ σ' → mu_up σ σ' j (z.1.1 1 0 - z.1.1 0 0) → (∀ i, z.1.1 0 0 ≤ i → i < z.1.1 0 0 + j → pz_ahead z m n i) → (∀ i, z.1.1 0 0 + j ≤ i → i < z.1.1 1 0 → ¬ pz_ahead z m n i) → X 213 [some (.inr (some (4, 0))), some (.inl k), some (.inl m), some (.inl n), some (.inl j), some (.inl 0)] [] (eh_sA (eh_sA (eh_sA σ' 504 0 j k) 505 0 j m) 506 0 j n) (0, 0) := by
    intro hmk hne hroom σ' j hj hf hu hpre hsuf
    rw [pz_if_f hmk, pz_if_f (fun ⟨i, x1, x2, x3, x4⟩ => hne i x1 x2 ⟨x3, x4⟩), pz_if_f hroom, pz_at_eq (a := z.1.1 0 0 + j) (by omega) (by omega) hpre hsuf] at hK
    have key : ∀ (d : Nat) (s2 : eh_S) (q : Int), (0 ≤ q ∧ q ≤ 4) → 4 - q < d → eh_fr [] [504, 505, 506, 507] σ s2 → (∀ i, s2.2 504 0 i = (if i = j then k else σ'.2 504 0 i) ∧ s2.2 505 0 i = (if i = j then m else σ'.2 505 0 i) ∧ s2.2 506 0 i = (if i = j then n else σ'.2 506 0 i)) → (∀ i, s2.2 507 0 i = (if 4 * j ≤ i ∧ i < 4 * j + q then σ.2 502 0 (i - 4 * j) else σ'.2 507 0 i)) → X 213 [some (.inr (some (4, 0))), some (.inl k), some (.inl m), some (.inl n), some (.inl j), some (.inl q)] [] s2 (0, 0) := by
      intro d
      induction d with
      | zero => intro s2 q h1 h2; omega
      | succ d ih =>
        intro s2 q hq hd hf2 hs hs4
        have e503 : s2.1 503 0 = z.1.1 1 0 - z.1.1 0 0 := by rw [hf2.1 503 (by decide)]; exact h503
        refine bX4_put_213 hX (fun hok => ⟨by omega, fun h6 => ?_, fun h6 => ⟨by omega, by omega, ih _ (q + 1) (by omega) (by omega) (eh_fr_sA hf2 (by decide)) (fun i => ?_) (fun i => ?_)⟩⟩)
        · rw [e503]
          refine ⟨by omega, ?_⟩
          have hf3 : eh_fr [503] [504, 505, 506, 507] σ (eh_sV s2 503 0 (z.1.1 1 0 - z.1.1 0 0 + 1)) := eh_fr_sV (eh_fr_up hf2 (by decide) (by decide)) (by decide)
          generalize hjj : z.1.1 0 0 + j = jj at hK
          have p1 : (pz_putS k m n jj z).1 1 0 = z.1.1 1 0 + 1 := by simp [pz_putS]
          have pv : ∀ v, v ≠ 1 → (pz_putS k m n jj z).1 v = z.1.1 v := fun v hv => by funext i; simp [pz_putS, hv]
          have pc : ∀ c, c ≠ 0 → c ≠ 1 → c ≠ 2 → c ≠ 4 → (pz_putS k m n jj z).2 c = z.1.2 c := fun c x1 x2 x3 x4 => by funext i j; simp [pz_putS, x1, x2, x3, x4]
          have g0 : ∀ e, (pz_putS k m n jj z).2 0 0 e = pz_ins (z.1.2 0 0) jj k e := fun e => by simp [pz_putS]
          have g1 : ∀ e, (pz_putS k m n jj z).2 1 0 e = pz_ins (z.1.2 1 0) jj m e := fun e => by simp [pz_putS]
          have g4 : ∀ e, (pz_putS k m n jj z).2 4 0 e = pz_ins (z.1.2 4 0) jj n e := fun e => by simp [pz_putS]
          have g2 : ∀ i, (pz_putS k m n jj z).2 2 0 i = pz_ins4 (z.1.2 2 0) (z.1.2 5 0) jj i := fun i => by simp [pz_putS]
          have g00 : (pz_putS k m n jj z).1 0 0 = z.1.1 0 0 := by rw [pv 0 (by decide)]
          refine hK _ (eh_fr_up hf3 (by decide) (by decide)) ⟨mz_A_t a1 (hf3.2 501 (by decide)) (pc 3 (by decide) (by decide) (by decide) (by decide)), ⟨?_, fun e x y => ?_, fun i x y => ?_⟩, ⟨?_, fun i x y => ?_, fun i x y => ?_⟩, mz_C_t a4 (hf3.2 502 (by decide)) (pc 5 (by decide) (by decide) (by decide) (by decide)), mz_D_t a5 (fun v hv => hf3.1 v (by simp only [List.mem_cons, List.not_mem_nil, or_false] at hv ⊢; omega)) (fun v hv => pv v (by simp only [List.mem_cons, List.not_mem_nil, or_false] at hv; omega)), mz_F_t a6 (fun c hc => hf3.2 c (by simp only [List.mem_cons, List.not_mem_nil, or_false] at hc ⊢; omega)) (fun c x y => pc c (by omega) (by omega) (by omega) (by omega)), mz_R_t a7 hf3 (by decide) rfl, mm_M_fr a8 hf3 (by decide) (by decide)⟩
          · rw [hf3.1 508 (by decide)]
            show σ.1 508 0 = (pz_putS k m n jj z).1 0 0
            rw [g00]; exact h508
          · have y : e < (pz_putS k m n jj z).1 0 0 := y
            rw [g00] at y
            rw [hf3.2 509 (by decide), hf3.2 510 (by decide), hf3.2 511 (by decide)]
            show σ.2 509 0 e = (pz_putS k m n jj z).2 0 0 e ∧ σ.2 510 0 e = (pz_putS k m n jj z).2 1 0 e ∧ σ.2 511 0 e = (pz_putS k m n jj z).2 4 0 e
            rw [g0, g1, g4]
            unfold pz_ins
            rw [if_pos (by omega), if_pos (by omega), if_pos (by omega)]
            exact a2.2.1 e x y
          · have y : i < 4 * (pz_putS k m n jj z).1 0 0 := y
            rw [g00] at y
            rw [hf3.2 512 (by decide)]
            show σ.2 512 0 i = (pz_putS k m n jj z).2 2 0 i
            rw [g2]
            unfold pz_ins4
            rw [if_pos (by omega)]
            exact a2.2.2 i x y
          · show (eh_sV s2 503 0 (z.1.1 1 0 - z.1.1 0 0 + 1)).1 503 0 = 0 + ((pz_putS k m n jj z).1 1 0 - (pz_putS k m n jj z).1 0 0)
            rw [eh_sV_p, p1, g00]; omega
          · have y : i < z.1.1 1 0 - z.1.1 0 0 + 1 := by
              have y' : i < (eh_sV s2 503 0 (z.1.1 1 0 - z.1.1 0 0 + 1)).1 503 0 := y
              rwa [eh_sV_p] at y'
            show s2.2 504 0 i = (pz_putS k m n jj z).2 0 0 ((pz_putS k m n jj z).1 0 0 + i - 0) ∧ s2.2 505 0 i = (pz_putS k m n jj z).2 1 0 ((pz_putS k m n jj z).1 0 0 + i - 0) ∧ s2.2 506 0 i = (pz_putS k m n jj z).2 4 0 ((pz_putS k m n jj z).1 0 0 + i - 0)
            obtain ⟨t1, t2, t3⟩ := hs i
            obtain ⟨u1, u2, u3⟩ := hu.1 i
            rw [g0, g1, g4, g00, Int.sub_zero, t1, t2, t3, u1, u2, u3]
            unfold pz_ins
            rcases (show i < j ∨ i = j ∨ j < i by omega) with hc | hc | hc
            · simp only [if_neg (show ¬ i = j by omega), if_neg (show ¬ (j < i ∧ i ≤ z.1.1 1 0 - z.1.1 0 0) by omega), if_pos (show z.1.1 0 0 + i < jj by omega)]
              exact hW i x (by omega)
            · simp only [if_pos hc, if_neg (show ¬ z.1.1 0 0 + i < jj by omega), if_pos (show z.1.1 0 0 + i = jj by omega)]
              exact ⟨trivial, trivial, trivial⟩
            · simp only [if_neg (show ¬ i = j by omega), if_pos (show j < i ∧ i ≤ z.1.1 1 0 - z.1.1 0 0 by omega), if_neg (show ¬ z.1.1 0 0 + i < jj by omega), if_neg (show ¬ z.1.1 0 0 + i = jj by omega)]
              have := hW (i - 1) (by omega) (by omega)
              rwa [show z.1.1 0 0 + (i - 1) = z.1.1 0 0 + i - 1 by omega] at this
          · have y : i < 4 * (z.1.1 1 0 - z.1.1 0 0 + 1) := by
              have y' : i < 4 * (eh_sV s2 503 0 (z.1.1 1 0 - z.1.1 0 0 + 1)).1 503 0 := y
              rwa [eh_sV_p] at y'
            show s2.2 507 0 i = (pz_putS k m n jj z).2 2 0 (4 * (pz_putS k m n jj z).1 0 0 + i - 4 * 0)
            rw [g2, g00, hs4 i, hu.2 i, show 4 * z.1.1 0 0 + i - 4 * 0 = 4 * z.1.1 0 0 + i by omega]
            unfold pz_ins4
            rcases (show i < 4 * j ∨ (4 * j ≤ i ∧ i < 4 * j + 4) ∨ 4 * j + 4 ≤ i by omega) with hc | hc | hc
            · rw [if_neg (by omega), if_neg (by omega), if_pos (by omega)]
              exact hW4 i (by omega) (by omega)
            · rw [if_pos (by omega), if_neg (by omega), if_pos (by omega), show 4 * z.1.1 0 0 + i - 4 * jj = i - 4 * j by omega]
              exact a4 (i - 4 * j) (by omega) (by omega)
            · rw [if_neg (by omega), if_pos (by omega), if_neg (by omega), if_neg (by omega)]
              have := hW4 (i - 4) (by omega) (by omega)
              rwa [show 4 * z.1.1 0 0 + (i - 4) = 4 * z.1.1 0 0 + i - 4 by omega] at this
        · rw [eh_sA_c (by decide), eh_sA_c (by decide), eh_sA_c (by decide)]
          exact hs i
        · rw [hf2.2 502 (by decide)]
          by_cases hi : i = 4 * j + q
          · rw [hi, eh_sA_p, if_pos (by omega), show 4 * j + q - 4 * j = q by omega]
          · rw [eh_sA_n hi, hs4 i]
            by_cases hc : 4 * j ≤ i ∧ i < 4 * j + q
            · rw [if_pos hc, if_pos (by omega)]
            · rw [if_neg hc, if_neg (by omega)]
    refine key 5 _ 0 (by omega) (by omega) (eh_fr_sA (eh_fr_sA (eh_fr_sA hf (by decide)) (by decide)) (by decide)) (fun i => ?_) (fun i => ?_)
    · by_cases hi : i = j
      · rw [if_pos hi, if_pos hi, if_pos hi, hi, eh_sA_c (by decide), eh_sA_c (by decide), eh_sA_p, eh_sA_c (by decide), eh_sA_p, eh_sA_p]; exact ⟨rfl, rfl, rfl⟩
      · rw [if_neg hi, if_neg hi, if_neg hi, eh_sA_c (by decide), eh_sA_c (by decide), eh_sA_n hi, eh_sA_c (by decide), eh_sA_n hi, eh_sA_n hi, eh_sA_c (by decide), eh_sA_c (by decide), eh_sA_c (by decide)]; exact ⟨rfl, rfl, rfl⟩
    · rw [if_neg (by omega), eh_sA_c (by decide), eh_sA_c (by decide), eh_sA_c (by decide)]
  -- the place is sought, those behind move up
  have seek : ¬ m < z.1.1 3 0 → (∀ i, z.1.1 0 0 ≤ i → i < z.1.1 1 0 → ¬ (z.1.2 1 0 i = m ∧ z.1.2 4 0 i = n)) → ¬ (z.1.1 1 0 - z.1.1 0 0 = 100 ∨ z.1.1 1 0 = 1000) → ∀ (d : Nat) (σ' : eh_S) (j : Int) (o5 : Option eh_V), (0 ≤ j ∧ j ≤ z.1.1 1 0 - z.1.1 0 0) → j < d → eh_fr [] [504, 505, 506, 507] σ σ' → mu_up σ σ' j (z.1.1 1 0 - z.1.1 0 0) → (∀ i, z.1.1 0 0 + j ≤ i → i < z.1.1 1 0 → ¬ pz_ahead z m n i) → X 126 [some (.inr (some (4, 0))), some (.inl k), some (.inl m), some (.inl n), some (.inl j), o5] [] σ' (0, 0) := by
    intro hmk hne hroom d
    induction d with
    | zero => intro σ' j o5 h1 h2; omega
    | succ d ih =>
      intro σ' j o5 hj hd hf hu hsuf
      have hw := hW (j - 1)
      obtain ⟨u1, u2, u3⟩ := hu.1 (j - 1)
      rw [if_neg (by omega)] at u1 u2 u3
      have hnej := hne (z.1.1 0 0 + (j - 1))
      have pre : 0 < j → pz_ahead z m n (z.1.1 0 0 + (j - 1)) → ∀ i, z.1.1 0 0 ≤ i → i < z.1.1 0 0 + j → pz_ahead z m n i := fun h0 hah i x y => by
        by_cases hi : i = z.1.1 0 0 + (j - 1)
        · rw [hi]; exact hah
        · exact pz_ahead_pre hE0 hah x (by omega) (by omega)
      have mv : 0 < j → ¬ pz_ahead z m n (z.1.1 0 0 + (j - 1)) → Tm_moveWaiting [.inr (some (4, 0)), .inl (j - 1), .inl j] σ' (0, 0) (fun r σ1 => X 180 [some (.inr (some (4, 0))), some (.inl k), some (.inl m), some (.inl n), some (.inl j), o5] (r.toList ++ []) σ1 (0, 0)) := fun h0 hah => by
        refine ⟨_, rfl, j - 1, j, rfl, by omega, by omega, fun σ2 hf2 hmv => ?_⟩
        refine bX4_put_180 hX (fun hok => ?_)
        rw [show j + -1 = j - 1 by omega]
        refine ih σ2 (j - 1) _ (by omega) (by omega) (eh_fr_tr hf hf2) (mu_up_step hu hj.2 hmv) (fun i x y => ?_)
        by_cases hi : i = z.1.1 0 0 + (j - 1)
        · rw [hi]; exact hah
        · exact hsuf i (by omega) y
      refine bX4_put_126 hX (T217 := Tm_moveWaiting) rfl (fun hok => ?_)
      rw [u2, u3]
      refine ⟨by omega, fun h => ⟨by omega, hk, hm, hn, fin hmk hne hroom σ' j hj hf hu (fun i x y => by omega) hsuf⟩, fun h => ?_⟩
      obtain ⟨w1, w2, w3⟩ := hw (by omega) (by omega)
      have hnej := hnej (by omega) (by omega)
      rw [w2, w3]
      refine ⟨by omega, hm, fun h6 => mv (by omega) (by unfold pz_ahead; omega), fun h6 => ⟨fun h7 => ⟨hn, fun h8 => ⟨by omega, hk, fin hmk hne hroom σ' j hj hf hu (pre (by omega) (by unfold pz_ahead; omega)) hsuf⟩, fun h8 => mv (by omega) (by unfold pz_ahead; omega)⟩, fun h7 => ⟨by omega, hk, hn, fin hmk hne hroom σ' j hj hf hu (pre (by omega) (by unfold pz_ahead; omega)) hsuf⟩⟩⟩
  -- is it there?
  have key : ∀ (d : Nat) (i : Int) (o5 : Option eh_V), (0 ≤ i ∧ i ≤ z.1.1 1 0 - z.1.1 0 0) → z.1.1 1 0 - z.1.1 0 0 - i < d → (∀ q, z.1.1 0 0 ≤ q → q < z.1.1 0 0 + i → ¬ (z.1.2 1 0 q = m ∧ z.1.2 4 0 q = n)) → X 33 [some (.inr (some (4, 0))), some (.inl k), some (.inl m), some (.inl n), some (.inl i), o5] [] σ (0, 0) := by
    intro d
    induction d with
    | zero => intro i o5 h1 h2; omega
    | succ d ih =>
      intro i o5 hi hd hb
      have h513 := a5.2.1
      have h514 := a5.1
      refine bX4_put_33 hX (fun hok => ?_)
      rw [h503, h508, h513, h514]
      refine ⟨by omega, fun h => ⟨hm, fun h6 => ?_, fun h6 => ?_⟩, fun h => ⟨by omega, hm, ?_⟩⟩
      · have hne : ∀ i, z.1.1 0 0 ≤ i → i < z.1.1 1 0 → ¬ (z.1.2 1 0 i = m ∧ z.1.2 4 0 i = n) := fun q x y => hb q x (by omega)
        have hK4 : (z.1.1 1 0 - z.1.1 0 0 = 100 ∨ z.1.1 1 0 = 1000) → K (some (.inl (-4))) σ := fun h7 => by
          rw [pz_if_f (by omega), pz_if_f (fun ⟨i, x1, x2, x3, x4⟩ => hne i x1 x2 ⟨x3, x4⟩), pz_if_t h7] at hK
          exact mk_s hK hz'
        refine ⟨fun h7 => hK4 (Or.inl h7), fun h7 => ⟨by omega, fun h8 => hK4 (Or.inr (by omega)), fun h8 => ?_⟩⟩
        refine seek (by omega) hne (by omega) 101 σ _ _ (by omega) (by omega) eh_fr_rf ⟨fun i => ?_, fun i => ?_⟩ (fun i x y => by omega)
        · rw [if_neg (by omega), if_neg (by omega), if_neg (by omega)]; exact ⟨rfl, rfl, rfl⟩
        · rw [if_neg (by omega)]
      · rw [pz_if_t (by omega)] at hK
        have hf : eh_fr [514] [] σ (eh_sV σ 514 0 (eh_wr (z.1.1 2 0 + 1))) := eh_fr_sV eh_fr_rf (by decide)
        have ev : ∀ v, v ≠ 2 → (eh_sV z.1 2 0 (eh_wr (z.1.1 2 0 + 1))).1 v = z.1.1 v := fun v hv => eh_sV_v hv
        refine hK _ (eh_fr_up hf (by decide) (by decide)) ⟨mz_A_t a1 rfl rfl, mz_B_t a2 (hf.1 508 (by decide)) (fun _ _ => rfl) (ev 0 (by decide)) (fun _ _ => rfl), mz_W_t a3 (hf.1 503 (by decide)) (fun _ _ => rfl) (fun v hv => ev v (by simp only [List.mem_cons, List.not_mem_nil, or_false] at hv; omega)) (fun _ _ => rfl), mz_C_t a4 rfl rfl, ⟨?_, ?_, ?_⟩, mz_F_t a6 (fun _ _ => rfl) (fun _ _ _ => rfl), mz_R_t a7 hf (by decide) rfl, mm_M_fr a8 hf (by decide) (by decide)⟩
        · show (eh_sV σ 514 0 _).1 514 0 = (eh_sV z.1 2 0 _).1 2 0
          rw [eh_sV_p, eh_sV_p]
        · rw [hf.1 513 (by decide)]; show σ.1 513 0 = (eh_sV z.1 2 0 _).1 3 0; rw [ev 3 (by decide)]; exact h513
        · rw [hf.1 515 (by decide)]; show σ.1 515 0 = (eh_sV z.1 2 0 _).1 4 0; rw [ev 4 (by decide)]; exact a5.2.2
      · obtain ⟨w1, w2, w3⟩ := hW i hi.1 (by omega)
        rw [w2, w3]
        have nx : ¬ (z.1.2 1 0 (z.1.1 0 0 + i) = m ∧ z.1.2 4 0 (z.1.1 0 0 + i) = n) → X 33 [some (.inr (some (4, 0))), some (.inl k), some (.inl m), some (.inl n), some (.inl (i + 1)), o5] [] σ (0, 0) := fun h6 => ih (i + 1) o5 (by omega) (by omega) (fun q x y => by
          by_cases hq : q = z.1.1 0 0 + i
          · rw [hq]; exact h6
          · exact hb q x (by omega))
        refine ⟨fun h6 => ⟨hn, fun h7 => ?_, fun h7 => nx (fun h8 => h7 h8.2)⟩, fun h6 => nx (fun h7 => h6 h7.1)⟩
        have hmk := ho.1.2.2.2.2.2 (z.1.1 0 0 + i) (by omega) (by omega)
        rw [pz_if_f (by omega), pz_if_t ⟨z.1.1 0 0 + i, by omega, by omega, h6, h7⟩] at hK
        exact mk_s hK hz'
  exact key 101 0 _ (by omega) (by omega) (fun q x y => by omega)
