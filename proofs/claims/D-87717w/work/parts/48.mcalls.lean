/-! EventHunterModel: calls, first part -/
theorem mz_np {σ : eh_S} {z : pz_Z} (h : mz σ z) : σ.1 515 0 = z.1.1 4 0 := h.2.2.2.2.1.2.2
theorem misP {σ : eh_S} {z : pz_Z} {p : Int} {bd : Nat × Nat} {K : Option eh_V → eh_S → Prop} (h : mz σ z) (hp : eh_r p) (hK : K (some (.inl (bz (0 ≤ p ∧ p < z.1.1 4 0)))) σ) : Tm_isPattern [.inr (some (4, 0)), .inl p] σ bd K := ⟨_, rfl, p, rfl, hp, by rw [mz_np h]; exact hK⟩
theorem misK {σ : eh_S} {k : Int} {bd : Nat × Nat} {K : Option eh_V → eh_S → Prop} (hk : eh_r k) (hK : K (some (.inl (bz (0 ≤ k ∧ k < 16)))) σ) : Tm_isKind [.inl k] σ bd K := ⟨k, rfl, hk, hK⟩
theorem mz_ctx0 {σ : eh_S} {z : pz_Z} {p : Int} (h : mz_A σ z ∧ mz_B σ z ∧ mz_F1 σ z p) (hE : pu_eok (pz_E z) (z.1.1 0 0)) (hn : z.1.1 0 0 ≤ 1000) (hpk : pu_pok (pz_P z p)) (hp : 0 ≤ p ∧ p < 8) : mc_C σ p (pz_E z) (pz_P z p) (z.1.1 0 0) := by
  obtain ⟨hA, hB, ⟨b1, b2, b3, b4⟩, c1, d1⟩ := h
  refine ⟨hp, hn, ⟨hA, fun e h0 h2 => ?_, hB.2.2⟩, ⟨b4, b3, b1, b2, fun j h0 h1 => ?_⟩, hE, hpk⟩
  · have := hB.2.1 e h0 h2
    exact ⟨this.1, this.2.1⟩
  · obtain ⟨e1, e2, e3, e4⟩ := d1 j h0 h1
    exact ⟨e1, e2, e3, e4⟩
theorem mz_ctx {σ : eh_S} {z : pz_Z} {p : Int} (h : mz σ z) (ho : pz_ok z) (hp : 0 ≤ p ∧ p < 8) : mc_C σ p (pz_E z) (pz_P z p) (z.1.1 0 0) := by
  have hE := ho.1.1
  exact mz_ctx0 ⟨h.1, h.2.1, h.2.2.2.2.2.1 p hp.1 hp.2⟩ (pu_eok_lo ho.1.2.2.2.1 (by omega)) (by omega) (ho.2.1 p hp.1 hp.2).1 hp
def Tm_parent : eh_T := eh_RM fun as σ _ K => ∃ (k p : Int) (z : pz_Z), as = [.inl k, .inl p] ∧ (eh_r k ∧ eh_r p) ∧ mz σ z ∧ pz_ok z ∧ mk (pz_parent k p z) σ K
theorem cm_parent (l : Launch) (D : va_G) (tc : Nat → ClassId) (ad : Nat → Int → Nat) (h99 : ∀ a : Int, ad 99 a = a.toNat) : eh_M l D tc ad eh_LX yX4_parent cX4_parent 4 (some .int) 1 Tm_parent := by
  refine eh_mk (rb := 0) (nm := eh_nX) (fl := eh_fl4) (kn := eh_kn4) (cs := (fun _ => none)) (ss := (fun kk => match kk with | 136 => some (1, Tm_isKind) | _ => none)) (by decide) (eh_worldX h99) eh_fl4_ok eh_kn4_ok (fun _ _ _ h => by cases h) (fun kk n T h => by
    split at h
    · cases h; exact eh_callS (cm_isKind l D tc ad h99) q655 q656 q49 q657 (by decide +kernel) (by decide) (by decide)
    · cases h) ?_
  rintro as σ bd K ⟨_, rfl, k, p, z, rfl, ⟨hk, hp⟩, hz, ho, hK⟩
  refine ⟨Nat.le_of_ble_eq_true rfl, fun X hX => ?_⟩
  have hnp := pz_np ho
  have h515 := mz_np hz
  have hz' := hz
  obtain ⟨a1, a2, a3, a4, a5, a6, a7, a8⟩ := hz
  unfold pz_parent at hK
  have key : (0 ≤ k ∧ k < 16) ∧ (-1 ≤ p ∧ p < k) → ∀ (m : Nat) (i : Int), (0 ≤ i ∧ i ≤ z.1.1 4 0) → z.1.1 4 0 - i < m → (∀ j, 0 ≤ j → j < i → z.1.2 20 j 0 = 0) → X 22 [some (.inr (some (4, 0))), some (.inl k), some (.inl p), some (.inl i)] [] σ (0, 0) := by
    intro hkp m
    induction m with
    | zero => intro i hi hm; omega
    | succ m ih =>
      intro i hi hm hb
      refine bX4_parent_22 hX (fun hok => ⟨by omega, fun h => ⟨by omega, by omega, ?_⟩, fun h => ⟨by omega, fun h1 => ih (i + 1) (by omega) (by omega) (fun j h2 h3 => ?_), fun h1 => ?_⟩⟩)
      · rw [pz_if_f (by omega), pz_if_f (fun ⟨j, h1, h2, h3⟩ => h3 (hb j h1 (by omega)))] at hK
        rw [a1 k (by omega) (by omega)]
        have hf : eh_fr [] [501] σ (eh_sA σ 501 0 k p) := eh_fr_sA eh_fr_rf (by decide)
        have e3 : ∀ c, c ≠ 3 → (eh_sA z.1 3 0 k p).2 c = z.1.2 c := fun c hc => eh_sA_c hc
        refine hK _ (eh_fr_up hf (by decide) (by decide)) ⟨fun j h0 h1 => ?_, mz_B_t a2 rfl (fun c hc => hf.2 c (by simp only [List.mem_cons, List.not_mem_nil, or_false] at hc ⊢; omega)) rfl (fun c hc => e3 c (by simp only [List.mem_cons, List.not_mem_nil, or_false] at hc; omega)), mz_W_t a3 rfl (fun c hc => hf.2 c (by simp only [List.mem_cons, List.not_mem_nil, or_false] at hc ⊢; omega)) (fun _ _ => rfl) (fun c hc => e3 c (by simp only [List.mem_cons, List.not_mem_nil, or_false] at hc; omega)), mz_C_t a4 (hf.2 502 (by decide)) (e3 5 (by decide)), mz_D_t a5 (fun _ _ => rfl) (fun _ _ => rfl), mz_F_t a6 (fun c hc => hf.2 c (by simp only [List.mem_cons, List.not_mem_nil, or_false] at hc ⊢; omega)) (fun c h0 h1 => e3 c (by omega)), mz_R_t a7 hf (by decide) rfl, mm_M_fr a8 hf (by decide) (by decide)⟩
        show (eh_sA σ 501 0 k p).2 501 0 j = (eh_sA z.1 3 0 k p).2 3 0 j
        by_cases hj : j = k
        · rw [hj, eh_sA_p, eh_sA_p]
        · rw [eh_sA_n hj, eh_sA_n hj]; exact a1 j h0 h1
      · by_cases hj : j = i
        · rw [hj, ← (a6 i (by omega) (by omega)).2.1.1]; exact h1
        · exact hb j h2 (by omega)
      · rw [pz_if_f (by omega), pz_if_t ⟨i, by omega, by omega, by rw [← (a6 i (by omega) (by omega)).2.1.1]; exact h1⟩] at hK
        exact mk_s hK hz'
  refine bX4_parent_0 hX (T136 := Tm_isKind) rfl (fun hok => misK hk ?_)
  refine bX4_parent_4 hX (fun hok => ⟨bz_r _, fun h => ?_, fun h => ?_⟩)
  · rw [pz_if_t (fun h2 => bz_0.mp h h2.1)] at hK
    exact mk_s hK hz'
  · have h1 := bz_n.mp h
    refine ⟨hp, fun h2 => ?_, fun h2 => ⟨hk, fun h3 => key (by omega) 20 0 (by omega) (by omega) (fun j h4 h5 => by omega), fun h3 => ?_⟩⟩
    · rw [pz_if_t (by omega)] at hK
      exact mk_s hK hz'
    · rw [pz_if_t (by omega)] at hK
      exact mk_s hK hz'
def Tm_pattern : eh_T := eh_RM fun as σ _ K => ∃ (a w c : Int) (z : pz_Z), as = [.inl a, .inl w, .inl c] ∧ (eh_r a ∧ eh_r w ∧ eh_r c) ∧ mz σ z ∧ pz_ok z ∧ mk (pz_pattern a w c z) σ K
theorem cm_pattern (l : Launch) (D : va_G) (tc : Nat → ClassId) (ad : Nat → Int → Nat) (h99 : ∀ a : Int, ad 99 a = a.toNat) : eh_M l D tc ad eh_LX yX4_pattern cX4_pattern 5 (some .int) 0 Tm_pattern := by
  refine eh_mk (rb := 0) (nm := eh_nX) (fl := eh_fl4) (kn := eh_kn4) (cs := (fun _ => none)) (ss := (fun _ => none)) (by decide) (eh_worldX h99) eh_fl4_ok eh_kn4_ok (fun _ _ _ h => by cases h) (fun _ _ _ h => by cases h) ?_
  rintro as σ bd K ⟨_, rfl, a, w, c, z, rfl, ⟨ha, hw, hc⟩, hz, ho, hK⟩
  refine ⟨Nat.le_of_ble_eq_true rfl, fun X hX => ?_⟩
  have hnp := pz_np ho
  have h515 := mz_np hz
  have hz' := hz
  obtain ⟨a1, a2, a3, a4, a5, a6, a7, a8⟩ := hz
  unfold pz_pattern at hK
  have bad : ¬ ((1 ≤ a ∧ a ≤ 1000) ∧ (0 ≤ w ∧ w ≤ 1) ∧ (-1 ≤ c ∧ c ≤ 3)) → K (some (.inl (-1))) σ := fun h => by
    rw [pz_if_t h] at hK
    exact mk_s hK hz'
  refine bX4_pattern_0 hX (fun hok => ⟨ha, fun h => bad (by omega), fun h1 => ⟨fun h => bad (by omega), fun h2 => ⟨hw, fun h => bad (by omega), fun h3 => ⟨fun h => bad (by omega), fun h4 => ⟨hc, fun h => bad (by omega), fun h5 => ⟨fun h6 => ⟨fun h => ?_, fun h => ⟨by omega, by omega, ?_⟩⟩, fun h => bad (by omega)⟩⟩⟩⟩⟩⟩)
  · rw [pz_if_f (by omega), pz_if_t (by omega)] at hK
    exact mk_s hK hz'
  · rw [pz_if_f (by omega), pz_if_f (by omega)] at hK
    rw [h515]
    have hz0 := (ho.2.1 (z.1.1 4 0) (by omega) (by omega)).2.2.2.2.2.2.2.2.2 (Int.le_refl _)
    have hr0 := (ho.2.1 (z.1.1 4 0) (by omega) (by omega)).2.2.2.2.2.2.2.1 hz0.2.1
    generalize hσ : eh_sV (eh_sA (eh_sA (eh_sA (eh_sA (eh_sA (eh_sA (eh_sA (eh_sA σ 516 0 (z.1.1 4 0) a) 517 0 (z.1.1 4 0) w) 518 0 (z.1.1 4 0) c) 519 0 (z.1.1 4 0) 0) 521 0 (z.1.1 4 0) 0) 522 0 (z.1.1 4 0) 0) 523 0 (z.1.1 4 0) 0) 529 0 (z.1.1 4 0) 0) 515 0 (z.1.1 4 0 + 1) = σ'
    have hf : eh_fr [515] [516, 517, 518, 519, 521, 522, 523, 529] σ σ' := by
      rw [← hσ]
      exact eh_fr_sV (eh_fr_sA (eh_fr_sA (eh_fr_sA (eh_fr_sA (eh_fr_sA (eh_fr_sA (eh_fr_sA (eh_fr_sA eh_fr_rf (by decide)) (by decide)) (by decide)) (by decide)) (by decide)) (by decide)) (by decide)) (by decide)) (by decide)
    have hne : ∀ c' j, j ≠ z.1.1 4 0 → σ'.2 c' 0 j = σ.2 c' 0 j := fun c' j hj => by
      have e : ∀ (s : eh_S) (cc : Nat) (x : Int), (eh_sA s cc 0 (z.1.1 4 0) x).2 c' 0 j = s.2 c' 0 j := fun s cc x => if_neg (fun h => hj h.2.2)
      rw [← hσ, eh_sV_2, e, e, e, e, e, e, e, e]
    have s516 : σ'.2 516 0 (z.1.1 4 0) = a := by rw [← hσ, eh_sV_2, eh_sA_c (by decide), eh_sA_c (by decide), eh_sA_c (by decide), eh_sA_c (by decide), eh_sA_c (by decide), eh_sA_c (by decide), eh_sA_c (by decide), eh_sA_p]
    have s517 : σ'.2 517 0 (z.1.1 4 0) = w := by rw [← hσ, eh_sV_2, eh_sA_c (by decide), eh_sA_c (by decide), eh_sA_c (by decide), eh_sA_c (by decide), eh_sA_c (by decide), eh_sA_c (by decide), eh_sA_p]
    have s518 : σ'.2 518 0 (z.1.1 4 0) = c := by rw [← hσ, eh_sV_2, eh_sA_c (by decide), eh_sA_c (by decide), eh_sA_c (by decide), eh_sA_c (by decide), eh_sA_c (by decide), eh_sA_p]
    have s519 : σ'.2 519 0 (z.1.1 4 0) = 0 := by rw [← hσ, eh_sV_2, eh_sA_c (by decide), eh_sA_c (by decide), eh_sA_c (by decide), eh_sA_c (by decide), eh_sA_p]
    have s521 : σ'.2 521 0 (z.1.1 4 0) = 0 := by rw [← hσ, eh_sV_2, eh_sA_c (by decide), eh_sA_c (by decide), eh_sA_c (by decide), eh_sA_p]
    have s522 : σ'.2 522 0 (z.1.1 4 0) = 0 := by rw [← hσ, eh_sV_2, eh_sA_c (by decide), eh_sA_c (by decide), eh_sA_p]
    have s523 : σ'.2 523 0 (z.1.1 4 0) = 0 := by rw [← hσ, eh_sV_2, eh_sA_c (by decide), eh_sA_p]
    have s529 : σ'.2 529 0 (z.1.1 4 0) = 0 := by rw [← hσ, eh_sV_2, eh_sA_p]
    have s515 : σ'.1 515 0 = z.1.1 4 0 + 1 := by rw [← hσ, eh_sV_p]
    generalize hs : eh_sV (eh_sA (eh_sA (eh_sA z.1 17 (z.1.1 4 0) 0 a) 18 (z.1.1 4 0) 0 w) 16 (z.1.1 4 0) 0 c) 4 0 (z.1.1 4 0 + 1) = s at hK
    have e3 : ∀ c', c' ≠ 16 → c' ≠ 17 → c' ≠ 18 → s.2 c' = z.1.2 c' := fun c' x1 x2 x3 => by rw [← hs, eh_sV_2, eh_sA_c x1, eh_sA_c x3, eh_sA_c x2]
    have e4 : ∀ v, v ≠ 4 → s.1 v = z.1.1 v := fun v hv => by rw [← hs, eh_sV_v hv]; rfl
    have e40 : s.1 4 0 = z.1.1 4 0 + 1 := by rw [← hs, eh_sV_p]
    have eq : ∀ c' q, q ≠ z.1.1 4 0 → s.2 c' q = z.1.2 c' q := fun c' q hq => by rw [← hs, eh_sV_2, eh_sA_r (fun x => hq x.2), eh_sA_r (fun x => hq x.2), eh_sA_r (fun x => hq x.2)]
    have e16 : s.2 16 (z.1.1 4 0) 0 = c := by rw [← hs, eh_sV_2, eh_sA_p]
    have e17 : s.2 17 (z.1.1 4 0) 0 = a := by rw [← hs, eh_sV_2, eh_sA_c (by decide), eh_sA_c (by decide), eh_sA_p]
    have e18 : s.2 18 (z.1.1 4 0) 0 = w := by rw [← hs, eh_sV_2, eh_sA_c (by decide), eh_sA_p]
    refine hK σ' (eh_fr_up hf (by decide) (by decide)) ⟨mz_A_t a1 (hf.2 501 (by decide)) (e3 3 (by decide) (by decide) (by decide)), mz_B_t a2 (hf.1 508 (by decide)) (fun c hc => hf.2 c (by simp only [List.mem_cons, List.not_mem_nil, or_false] at hc ⊢; omega)) (e4 0 (by decide)) (fun c hc => e3 c (by simp only [List.mem_cons, List.not_mem_nil, or_false] at hc; omega) (by simp only [List.mem_cons, List.not_mem_nil, or_false] at hc; omega) (by simp only [List.mem_cons, List.not_mem_nil, or_false] at hc; omega)), mz_W_t a3 (hf.1 503 (by decide)) (fun c hc => hf.2 c (by simp only [List.mem_cons, List.not_mem_nil, or_false] at hc ⊢; omega)) (fun v hv => e4 v (by simp only [List.mem_cons, List.not_mem_nil, or_false] at hv; omega)) (fun c hc => e3 c (by simp only [List.mem_cons, List.not_mem_nil, or_false] at hc; omega) (by simp only [List.mem_cons, List.not_mem_nil, or_false] at hc; omega) (by simp only [List.mem_cons, List.not_mem_nil, or_false] at hc; omega)), mz_C_t a4 (hf.2 502 (by decide)) (e3 5 (by decide) (by decide) (by decide)), ⟨?_, ?_, ?_⟩, fun q h0 h1' => ?_, fun q h0 h1' => ?_, mm_M_fr a8 hf (by decide) (by decide)⟩
    · rw [hf.1 514 (by decide)]; show _ = s.1 2 0; rw [e4 2 (by decide)]; exact a5.1
    · rw [hf.1 513 (by decide)]; show _ = s.1 3 0; rw [e4 3 (by decide)]; exact a5.2.1
    · show σ'.1 515 0 = s.1 4 0
      rw [s515, e40]
    · obtain ⟨b1, b2, b3⟩ := a6 q h0 h1'
      show (σ'.2 516 0 q = s.2 17 q 0 ∧ σ'.2 517 0 q = s.2 18 q 0 ∧ σ'.2 518 0 q = s.2 16 q 0 ∧ σ'.2 519 0 q = s.2 15 q 0) ∧ (σ'.2 521 0 q = s.2 20 q 0 ∧ σ'.2 522 0 q = s.2 21 q 0 ∧ σ'.2 520 0 q = s.2 19 q 0 ∧ σ'.2 523 0 q = s.2 22 q 0) ∧ ∀ j, 0 ≤ j → j < s.2 15 q 0 → σ'.2 524 0 (6 * q + j) = s.2 10 q j ∧ σ'.2 525 0 (6 * q + j) = s.2 11 q j ∧ σ'.2 526 0 (6 * q + j) = s.2 12 q j ∧ (s.2 12 q j ≠ 0 → σ'.2 527 0 (6 * q + j) = s.2 13 q j ∧ σ'.2 528 0 (6 * q + j) = s.2 14 q j)
      rw [e3 15 (by decide) (by decide) (by decide), e3 20 (by decide) (by decide) (by decide), e3 21 (by decide) (by decide) (by decide), e3 19 (by decide) (by decide) (by decide), e3 22 (by decide) (by decide) (by decide), e3 10 (by decide) (by decide) (by decide), e3 11 (by decide) (by decide) (by decide), e3 12 (by decide) (by decide) (by decide), e3 13 (by decide) (by decide) (by decide), e3 14 (by decide) (by decide) (by decide), hf.2 524 (by decide), hf.2 525 (by decide), hf.2 526 (by decide), hf.2 527 (by decide), hf.2 528 (by decide), hf.2 520 (by decide)]
      by_cases hq : q = z.1.1 4 0
      · subst hq
        rw [s516, s517, s518, s519, s521, s522, s523, e16, e17, e18, hz0.1, hz0.2.1, hz0.2.2.1, hz0.2.2.2]
        exact ⟨⟨rfl, rfl, rfl, rfl⟩, ⟨rfl, rfl, b2.2.2.1, rfl⟩, fun j x y => by omega⟩
      · rw [hne 516 q hq, hne 517 q hq, hne 518 q hq, hne 519 q hq, hne 521 q hq, hne 522 q hq, hne 523 q hq, eq 17 q hq, eq 18 q hq, eq 16 q hq]
        exact ⟨b1, b2, b3⟩
    · by_cases hq : q = z.1.1 4 0
      · subst hq
        show mr_L σ' (z.1.1 4 0) (z.2.1 (z.1.1 4 0))
        rw [hr0]
        exact ⟨s529, fun i x hx => by simp at hx⟩
      · obtain ⟨b1, b2⟩ := a7 q h0 h1'
        exact ⟨by rw [hne 529 q hq]; exact b1, fun i x hx => mr_s_fr (b2 i x hx) hf (by decide)⟩
def Tm_fields : eh_T := eh_RM fun as σ _ K => ∃ (a b c d : Int) (z : pz_Z), as = [.inl a, .inl b, .inl c, .inl d] ∧ (eh_r a ∧ eh_r b ∧ eh_r c ∧ eh_r d) ∧ mz σ z ∧ pz_ok z ∧ mk (pz_fields a b c d z) σ K
theorem cm_fields (l : Launch) (D : va_G) (tc : Nat → ClassId) (ad : Nat → Int → Nat) (h99 : ∀ a : Int, ad 99 a = a.toNat) : eh_M l D tc ad eh_LX yX4_fields cX4_fields 6 (some .int) 0 Tm_fields := by
  refine eh_mk (rb := 0) (nm := eh_nX) (fl := eh_fl4) (kn := eh_kn4) (cs := (fun _ => none)) (ss := (fun _ => none)) (by decide) (eh_worldX h99) eh_fl4_ok eh_kn4_ok (fun _ _ _ h => by cases h) (fun _ _ _ h => by cases h) ?_
  rintro as σ bd K ⟨_, rfl, a, b, c, d, z, rfl, ⟨ha, hb, hc, hd⟩, hz, ho, hK⟩
  refine ⟨Nat.le_of_ble_eq_true rfl, fun X hX => ?_⟩
  have hz' := hz
  obtain ⟨a1, a2, a3, a4, a5, a6, a7, a8⟩ := hz
  unfold pz_fields at hK
  have bad : ¬ ((-1000 ≤ a ∧ a ≤ 1000) ∧ (-1000 ≤ b ∧ b ≤ 1000) ∧ (-1000 ≤ c ∧ c ≤ 1000) ∧ (-1000 ≤ d ∧ d ≤ 1000)) → K (some (.inl (-1))) σ := fun h => by
    rw [pz_if_t h] at hK
    exact mk_s hK hz'
  refine bX4_fields_0 hX (fun hok => ⟨ha, fun h => bad (by omega), fun h1 => ⟨fun h => bad (by omega), fun h2 => ⟨hb, fun h => bad (by omega), fun h3 => ⟨fun h => bad (by omega), fun h4 => ⟨hc, fun h => bad (by omega), fun h5 => ⟨fun h => bad (by omega), fun h6 => ⟨hd, fun h => bad (by omega), fun h7 => ⟨fun h => bad (by omega), fun h8 => ?_⟩⟩⟩⟩⟩⟩⟩⟩)
  rw [pz_if_f (by omega)] at hK
  have hf : eh_fr [] [502] σ (eh_sA (eh_sA (eh_sA (eh_sA σ 502 0 0 a) 502 0 1 b) 502 0 2 c) 502 0 3 d) := eh_fr_sA (eh_fr_sA (eh_fr_sA (eh_fr_sA eh_fr_rf (by decide)) (by decide)) (by decide)) (by decide)
  have e3 : ∀ c', c' ≠ 5 → (eh_sA (eh_sA (eh_sA (eh_sA z.1 5 0 0 a) 5 0 1 b) 5 0 2 c) 5 0 3 d).2 c' = z.1.2 c' := fun c' h => by rw [eh_sA_c h, eh_sA_c h, eh_sA_c h, eh_sA_c h]
  refine hK _ (eh_fr_up hf (by decide) (by decide)) ⟨mz_A_t a1 (hf.2 501 (by decide)) (e3 3 (by decide)), mz_B_t a2 rfl (fun c hc => hf.2 c (by simp only [List.mem_cons, List.not_mem_nil, or_false] at hc ⊢; omega)) rfl (fun c hc => e3 c (by simp only [List.mem_cons, List.not_mem_nil, or_false] at hc; omega)), mz_W_t a3 rfl (fun c hc => hf.2 c (by simp only [List.mem_cons, List.not_mem_nil, or_false] at hc ⊢; omega)) (fun _ _ => rfl) (fun c hc => e3 c (by simp only [List.mem_cons, List.not_mem_nil, or_false] at hc; omega)), fun j h0 h1 => ?_, mz_D_t a5 (fun _ _ => rfl) (fun _ _ => rfl), mz_F_t a6 (fun c hc => hf.2 c (by simp only [List.mem_cons, List.not_mem_nil, or_false] at hc ⊢; omega)) (fun c h0 h1 => e3 c (by omega)), mz_R_t a7 hf (by decide) rfl, mm_M_fr a8 hf (by decide) (by decide)⟩
  show (eh_sA (eh_sA (eh_sA (eh_sA σ 502 0 0 a) 502 0 1 b) 502 0 2 c) 502 0 3 d).2 502 0 j = (eh_sA (eh_sA (eh_sA (eh_sA z.1 5 0 0 a) 5 0 1 b) 5 0 2 c) 5 0 3 d).2 5 0 j
  rcases (show j = 0 ∨ j = 1 ∨ j = 2 ∨ j = 3 by omega) with rfl | rfl | rfl | rfl
  · rw [eh_sA_n (by decide), eh_sA_n (by decide), eh_sA_n (by decide), eh_sA_p, eh_sA_n (by decide), eh_sA_n (by decide), eh_sA_n (by decide), eh_sA_p]
  · rw [eh_sA_n (by decide), eh_sA_n (by decide), eh_sA_p, eh_sA_n (by decide), eh_sA_n (by decide), eh_sA_p]
  · rw [eh_sA_n (by decide), eh_sA_p, eh_sA_n (by decide), eh_sA_p]
  · rw [eh_sA_p, eh_sA_p]
def Tm_mayStand : eh_T := eh_RM fun as σ _ K => ∃ (p s : Int) (z : pz_Z), as = [.inl p, .inl s] ∧ (0 ≤ p ∧ p < 8) ∧ (0 ≤ s ∧ s ≤ 3) ∧ mz σ z ∧ pz_ok z ∧ K (some (.inl (bz (pz_stand z p s)))) σ
theorem cm_mayStand (l : Launch) (D : va_G) (tc : Nat → ClassId) (ad : Nat → Int → Nat) (h99 : ∀ a : Int, ad 99 a = a.toNat) : eh_M l D tc ad eh_LX yX4_mayStand cX4_mayStand 4 (some .boolean) 1 Tm_mayStand := by
  refine eh_mk (rb := 1) (nm := eh_nX) (fl := eh_fl4) (kn := eh_kn4) (cs := (fun _ => none)) (ss := (fun kk => match kk with | 140 => some (1, Tm_isSure) | _ => none)) (by decide) (eh_worldX h99) eh_fl4_ok eh_kn4_ok (fun _ _ _ h => by cases h) (fun kk n T h => by
    split at h
    · cases h; exact eh_callS (cm_isSure l D tc ad h99) q677 q678 q49 q679 (by decide +kernel) (by decide) (by decide)
    · cases h) ?_
  rintro as σ bd K ⟨_, rfl, p, s, z, rfl, hp, hs, hz, ho, hK⟩
  refine ⟨Nat.le_of_ble_eq_true rfl, fun X hX => ?_⟩
  have hC := mz_ctx hz ho hp
  have e5 : σ.2 519 0 p = z.1.2 15 p 0 := (hz.2.2.2.2.2.1 p hp.1 hp.2).1.2.2.2
  have h5 : 0 ≤ z.1.2 15 p 0 ∧ z.1.2 15 p 0 ≤ 6 := (ho.2.1 p hp.1 hp.2).1.1
  unfold pz_stand at hK
  refine bX4_mayStand_0 hX (T140 := Tm_isSure) rfl (fun hok => ?_)
  rw [e5]
  refine ⟨hp, fun h0 => ⟨s, rfl, eh_rc (by omega), bX4_mayStand_13 hX (fun hok => ⟨bz_01 _, eh_ki hK (bz_congr ?_)⟩)⟩, fun h0 => ⟨by omega, by omega, ?_⟩⟩
  · exact ⟨fun h => h.1 h0, fun h => ⟨fun _ => h, fun h2 => absurd h0 h2⟩⟩
  · have hv : σ.2 524 0 (6 * p + (z.1.2 15 p 0 - 1)) = z.1.2 10 p (z.1.2 15 p 0 - 1) := mc_sort (j := z.1.2 15 p 0 - 1) hC (by omega) (by show z.1.2 15 p 0 - 1 < z.1.2 15 p 0; omega)
    have hso : 0 ≤ z.1.2 10 p (z.1.2 15 p 0 - 1) ∧ z.1.2 10 p (z.1.2 15 p 0 - 1) ≤ 3 := ((ho.2.1 p hp.1 hp.2).1.2.1 (z.1.2 15 p 0 - 1) (by omega) (by show z.1.2 15 p 0 - 1 < z.1.2 15 p 0; omega)).1
    rw [show 6 * p + z.1.2 15 p 0 - 1 = 6 * p + (z.1.2 15 p 0 - 1) by omega, hv]
    refine ⟨fun h3 => ⟨_, rfl, eh_rc (by omega), bX4_mayStand_42 hX (fun hok => ⟨bz_01 _, eh_ki hK (bz_congr ?_)⟩)⟩, fun h3 => ⟨fun h4 => ⟨s, rfl, eh_rc (by omega), bX4_mayStand_54 hX (fun hok => ⟨bz_r _, fun h => eh_b0 hK (fun h6 => ?_), fun h => eh_b1 hK ?_⟩)⟩, fun h4 => eh_b1 hK ?_⟩⟩
    · exact ⟨fun h => (h.2 h0).1 h3, fun h => ⟨fun h2 => absurd h2 h0, fun _ => ⟨fun _ => h, fun h2 => absurd h3 h2⟩⟩⟩
    · have h7 := (h6.2 h0).2 h3
      have := bz_0.mp h
      omega
    · have := bz_n.mp h
      exact ⟨fun h2 => absurd h2 h0, fun _ => ⟨fun h2 => absurd h2 h3, fun _ => Or.inl (by omega)⟩⟩
    · exact ⟨fun h2 => absurd h2 h0, fun _ => ⟨fun h2 => absurd h2 h3, fun _ => Or.inr h4⟩⟩
def Tm_step : eh_T := eh_RM fun as σ _ K => ∃ (p s o t f c : Int) (z : pz_Z), as = [.inl p, .inl s, .inl o, .inl t, .inl f, .inl c] ∧ (eh_r p ∧ eh_r s ∧ eh_r o ∧ eh_r t ∧ eh_r f ∧ eh_r c) ∧ mz σ z ∧ pz_ok z ∧ mk (pz_step p s o t f c z) σ K
theorem cm_step (l : Launch) (D : va_G) (tc : Nat → ClassId) (ad : Nat → Int → Nat) (h99 : ∀ a : Int, ad 99 a = a.toNat) : eh_M l D tc ad eh_LX yX4_step cX4_step 8 (some .int) 2 Tm_step := by
  refine eh_mk (rb := 0) (nm := eh_nX) (fl := eh_fl4) (kn := eh_kn4) (cs := (fun kk => match kk with | 143 => some (2, Tm_isPattern) | 150 => some (3, Tm_mayStand) | _ => none)) (ss := (fun kk => match kk with | 136 => some (1, Tm_isKind) | 146 => some (4, Tm_isTest) | _ => none)) (by decide) (eh_worldX h99) eh_fl4_ok eh_kn4_ok (fun kk n T h => by
    split at h
    · cases h; exact eh_callV (c0 := 4) (cm_isPattern l D tc ad h99) q666 q668 qs20 q49 q669 (by decide +kernel) (by decide) (by decide) (by decide) rfl (eh_worldX h99) (fun _ _ _ _ h => eh_RM_rec h)
    · cases h; exact eh_callV (c0 := 4) (cm_mayStand l D tc ad h99) q673 q675 qs21 q49 q676 (by decide +kernel) (by decide) (by decide) (by decide) rfl (eh_worldX h99) (fun _ _ _ _ h => eh_RM_rec h)
    · cases h) (fun kk n T h => by
    split at h
    · cases h; exact eh_callS (cm_isKind l D tc ad h99) q655 q656 q49 q657 (by decide +kernel) (by decide) (by decide)
    · cases h; exact eh_callS (cm_isTest l D tc ad h99) q670 q671 q49 q672 (by decide +kernel) (by decide) (by decide)
    · cases h) ?_
  rintro as σ bd K ⟨_, rfl, p, s, o, t, f, c, z, rfl, ⟨hp, hs, hoo, ht, hf, hc⟩, hz, ho, hK⟩
  refine ⟨Nat.le_of_ble_eq_true rfl, fun X hX => ?_⟩
  have hnp := pz_np ho
  have hz' := hz
  obtain ⟨a1, a2, a3, a4, a5, a6, a7, a8⟩ := hz
  unfold pz_step at hK
  have bad : ¬ ((0 ≤ p ∧ p < z.1.1 4 0) ∧ (0 ≤ s ∧ s ≤ 3) ∧ (0 ≤ o ∧ o < 16) ∧ pz_test z p t f c ∧ pz_stand z p s) → K (some (.inl (-1))) σ := fun h => by
    rw [pz_if_t h] at hK
    exact mk_s hK hz'
  refine bX4_step_0 hX (T143 := Tm_isPattern) rfl (fun hok => misP hz' hp ?_)
  refine bX4_step_5 hX (T136 := Tm_isKind) rfl (fun hok => ⟨bz_r _, fun h => bad (fun h2 => bz_0.mp h h2.1), fun h1 => ⟨hs, fun h => bad (fun h2 => by have := h2.2.1; omega), fun h2 => ⟨fun h => bad (fun h2 => by have := h2.2.1; omega), fun h3 => misK hoo ?_⟩⟩⟩)
  have b1 := bz_n.mp h1
  have hp8 : 0 ≤ p ∧ p < 8 := by omega
  obtain ⟨⟨f1, f2, f3, f4⟩, ⟨g1, g2, g3, g4⟩, d1⟩ := a6 p hp8.1 hp8.2
  have h5 : 0 ≤ z.1.2 15 p 0 ∧ z.1.2 15 p 0 ≤ 6 := (ho.2.1 p hp8.1 hp8.2).1.1
  refine bX4_step_21 hX (T146 := Tm_isTest) rfl (fun hok => ⟨bz_r _, fun h => bad (fun h2 => bz_0.mp h h2.2.2.1), fun h4 => ⟨hp8, ?_⟩⟩)
  rw [f4]
  refine ⟨t, f, c, _, rfl, ⟨ht, hf, hc, eh_rc (by omega)⟩, ?_⟩
  have b4 := bz_n.mp h4
  refine bX4_step_39 hX (T150 := Tm_mayStand) rfl (fun hok => ⟨bz_r _, fun h => bad (fun h2 => bz_0.mp h ?_), fun h6 => ⟨_, rfl, p, s, z, rfl, hp8, by omega, hz', ho, ?_⟩⟩)
  · have h3 := h2.2.2.2.1
    by_cases h0 : t = 0
    · exact Or.inl h0
    · obtain ⟨x1, x2, x3⟩ := h3.2 h0
      exact Or.inr ⟨h3.1.1, h3.1.2, x1.1, x1.2, x2, x3⟩
  have b6 := bz_n.mp h6
  have htt : pz_test z p t f c := by
    rcases b6 with h | ⟨x1, x2, x3, x4, x5, x6⟩
    · exact ⟨by omega, fun h2 => absurd h h2⟩
    · exact ⟨⟨x1, x2⟩, fun _ => ⟨⟨x3, x4⟩, x5, x6⟩⟩
  refine bX4_step_48 hX (fun hok => ⟨bz_r _, fun h => bad (fun h2 => bz_0.mp h h2.2.2.2.2), fun h7 => ⟨hp8, ?_⟩⟩)
  rw [pz_if_f (fun h => h ⟨b1, by omega, b4, htt, bz_n.mp h7⟩)] at hK
  rw [g1, f4, a2.1]
  -- the world behind it
  have hfin : ∀ (σ' : eh_S), z.1.2 15 p 0 ≠ 6 → z.1.2 20 p 0 = 0 → (∃ σ1 : eh_S, (z.1.2 15 p 0 = 0 ∧ σ1 = eh_sA (eh_sA (eh_sA (eh_sA (eh_sA (eh_sA σ 524 0 (6 * p + z.1.2 15 p 0) s) 525 0 (6 * p + z.1.2 15 p 0) o) 526 0 (6 * p + z.1.2 15 p 0) t) 527 0 (6 * p + z.1.2 15 p 0) f) 528 0 (6 * p + z.1.2 15 p 0) c) 520 0 p (z.1.1 0 0) ∨ z.1.2 15 p 0 ≠ 0 ∧ σ1 = eh_sA (eh_sA (eh_sA (eh_sA (eh_sA σ 524 0 (6 * p + z.1.2 15 p 0) s) 525 0 (6 * p + z.1.2 15 p 0) o) 526 0 (6 * p + z.1.2 15 p 0) t) 527 0 (6 * p + z.1.2 15 p 0) f) 528 0 (6 * p + z.1.2 15 p 0) c) ∧ σ' = eh_sA σ1 519 0 p (z.1.2 15 p 0 + 1)) → K (some (.inl (σ'.2 519 0 p - 1))) σ' := by
    rintro σ' h6 hb0 ⟨σ1, hσ1, rfl⟩
    rw [pz_if_f (fun h2 => h2 hb0), pz_if_f h6] at hK
    rw [eh_sA_p, show z.1.2 15 p 0 + 1 - 1 = z.1.2 15 p 0 by omega]
    generalize hσ0 : eh_sA (eh_sA (eh_sA (eh_sA (eh_sA σ 524 0 (6 * p + z.1.2 15 p 0) s) 525 0 (6 * p + z.1.2 15 p 0) o) 526 0 (6 * p + z.1.2 15 p 0) t) 527 0 (6 * p + z.1.2 15 p 0) f) 528 0 (6 * p + z.1.2 15 p 0) c = σ0 at hσ1
    have hf0 : eh_fr [] [524, 525, 526, 527, 528] σ σ0 := by rw [← hσ0]; exact eh_fr_sA (eh_fr_sA (eh_fr_sA (eh_fr_sA (eh_fr_sA eh_fr_rf (by decide)) (by decide)) (by decide)) (by decide)) (by decide)
    have hf1 : eh_fr [] [520] σ0 σ1 := by
      rcases hσ1 with ⟨-, rfl⟩ | ⟨-, rfl⟩
      · exact eh_fr_sA eh_fr_rf (by decide)
      · exact eh_fr_rf
    have hfr : eh_fr [] [519, 520, 524, 525, 526, 527, 528] σ (eh_sA σ1 519 0 p (z.1.2 15 p 0 + 1)) := eh_fr_sA (eh_fr_tr (eh_fr_up hf0 (by decide) (by decide)) (eh_fr_up hf1 (by decide) (by decide))) (by decide)
    have e520 : ∀ q, (eh_sA σ1 519 0 p (z.1.2 15 p 0 + 1)).2 520 0 q = (if q = p ∧ z.1.2 15 p 0 = 0 then z.1.1 0 0 else σ.2 520 0 q) := fun q => by
      rw [eh_sA_c (by decide)]
      rcases hσ1 with ⟨h1, rfl⟩ | ⟨h1, rfl⟩
      · by_cases hq : q = p
        · rw [if_pos ⟨hq, h1⟩, hq, eh_sA_p]
        · rw [if_neg (fun h => hq h.1), eh_sA_n hq, hf0.2 520 (by decide)]
      · rw [if_neg (fun h => h1 h.2), hf0.2 520 (by decide)]
    have eo : ∀ cc, cc ≠ 519 → cc ≠ 520 → (eh_sA σ1 519 0 p (z.1.2 15 p 0 + 1)).2 cc = σ0.2 cc := fun cc x1 x2 => by rw [eh_sA_c x1, hf1.2 cc (by simpa using x2)]
    have s524 : σ0.2 524 0 (6 * p + z.1.2 15 p 0) = s := by rw [← hσ0, eh_sA_c (by decide), eh_sA_c (by decide), eh_sA_c (by decide), eh_sA_c (by decide), eh_sA_p]
    have s525 : σ0.2 525 0 (6 * p + z.1.2 15 p 0) = o := by rw [← hσ0, eh_sA_c (by decide), eh_sA_c (by decide), eh_sA_c (by decide), eh_sA_p]
    have s526 : σ0.2 526 0 (6 * p + z.1.2 15 p 0) = t := by rw [← hσ0, eh_sA_c (by decide), eh_sA_c (by decide), eh_sA_p]
    have s527 : σ0.2 527 0 (6 * p + z.1.2 15 p 0) = f := by rw [← hσ0, eh_sA_c (by decide), eh_sA_p]
    have s528 : σ0.2 528 0 (6 * p + z.1.2 15 p 0) = c := by rw [← hσ0, eh_sA_p]
    have sn : ∀ cc j, j ≠ 6 * p + z.1.2 15 p 0 → σ0.2 cc 0 j = σ.2 cc 0 j := fun cc j hj => by
      have e : ∀ (st : eh_S) (c' : Nat) (x : Int), (eh_sA st c' 0 (6 * p + z.1.2 15 p 0) x).2 cc 0 j = st.2 cc 0 j := fun st c' x => if_neg (fun h => hj h.2.2)
      rw [← hσ0, e, e, e, e, e]
    have e3 : ∀ id, id < 10 → (pz_stepS p s o t f c z).2 id = z.1.2 id := fun id hid => by
      funext i j
      simp only [pz_stepS]
      repeat rw [if_neg (by omega)]
    refine hK _ (eh_fr_up hfr (by decide) (by decide)) ⟨mz_A_t a1 (hfr.2 501 (by decide)) (e3 3 (by decide)), mz_B_t a2 (hfr.1 508 (by decide)) (fun c hc => hfr.2 c (by simp only [List.mem_cons, List.not_mem_nil, or_false] at hc ⊢; omega)) rfl (fun c hc => e3 c (by simp only [List.mem_cons, List.not_mem_nil, or_false] at hc; omega)), mz_W_t a3 (hfr.1 503 (by decide)) (fun c hc => hfr.2 c (by simp only [List.mem_cons, List.not_mem_nil, or_false] at hc ⊢; omega)) (fun _ _ => rfl) (fun c hc => e3 c (by simp only [List.mem_cons, List.not_mem_nil, or_false] at hc; omega)), mz_C_t a4 (hfr.2 502 (by decide)) (e3 5 (by decide)), mz_D_t a5 (fun v hv => hfr.1 v (by simp)) (fun _ _ => rfl), fun q h0 h1 => ?_, mz_R_t a7 hfr (by decide) rfl, mm_M_fr a8 hfr (by decide) (by decide)⟩
    obtain ⟨b1', b2', b3'⟩ := a6 q h0 h1
    show ((eh_sA σ1 519 0 p (z.1.2 15 p 0 + 1)).2 516 0 q = (pz_stepS p s o t f c z).2 17 q 0 ∧ (eh_sA σ1 519 0 p (z.1.2 15 p 0 + 1)).2 517 0 q = (pz_stepS p s o t f c z).2 18 q 0 ∧ (eh_sA σ1 519 0 p (z.1.2 15 p 0 + 1)).2 518 0 q = (pz_stepS p s o t f c z).2 16 q 0 ∧ (eh_sA σ1 519 0 p (z.1.2 15 p 0 + 1)).2 519 0 q = (pz_stepS p s o t f c z).2 15 q 0) ∧ ((eh_sA σ1 519 0 p (z.1.2 15 p 0 + 1)).2 521 0 q = (pz_stepS p s o t f c z).2 20 q 0 ∧ (eh_sA σ1 519 0 p (z.1.2 15 p 0 + 1)).2 522 0 q = (pz_stepS p s o t f c z).2 21 q 0 ∧ (eh_sA σ1 519 0 p (z.1.2 15 p 0 + 1)).2 520 0 q = (pz_stepS p s o t f c z).2 19 q 0 ∧ (eh_sA σ1 519 0 p (z.1.2 15 p 0 + 1)).2 523 0 q = (pz_stepS p s o t f c z).2 22 q 0) ∧ ∀ j, 0 ≤ j → j < (pz_stepS p s o t f c z).2 15 q 0 → (eh_sA σ1 519 0 p (z.1.2 15 p 0 + 1)).2 524 0 (6 * q + j) = (pz_stepS p s o t f c z).2 10 q j ∧ (eh_sA σ1 519 0 p (z.1.2 15 p 0 + 1)).2 525 0 (6 * q + j) = (pz_stepS p s o t f c z).2 11 q j ∧ (eh_sA σ1 519 0 p (z.1.2 15 p 0 + 1)).2 526 0 (6 * q + j) = (pz_stepS p s o t f c z).2 12 q j ∧ ((pz_stepS p s o t f c z).2 12 q j ≠ 0 → (eh_sA σ1 519 0 p (z.1.2 15 p 0 + 1)).2 527 0 (6 * q + j) = (pz_stepS p s o t f c z).2 13 q j ∧ (eh_sA σ1 519 0 p (z.1.2 15 p 0 + 1)).2 528 0 (6 * q + j) = (pz_stepS p s o t f c z).2 14 q j)
    rw [hfr.2 516 (by decide), hfr.2 517 (by decide), hfr.2 518 (by decide), hfr.2 521 (by decide), hfr.2 522 (by decide), hfr.2 523 (by decide), e520 q, eo 524 (by decide) (by decide), eo 525 (by decide) (by decide), eo 526 (by decide) (by decide), eo 527 (by decide) (by decide), eo 528 (by decide) (by decide)]
    have hq5 : 0 ≤ z.1.2 15 q 0 ∧ z.1.2 15 q 0 ≤ 6 := (ho.2.1 q h0 h1).1.1
    by_cases hqp : q = p
    · subst hqp
      have es : (pz_stepS q s o t f c z).2 15 q 0 = z.1.2 15 q 0 + 1 := by simp [pz_stepS]
      refine ⟨⟨?_, ?_, ?_, ?_⟩, ⟨?_, ?_, ?_, ?_⟩, fun j hj0 hj1 => ?_⟩
      · rw [f1]; simp [pz_stepS]
      · rw [f2]; simp [pz_stepS]
      · rw [f3]; simp [pz_stepS]
      · rw [eh_sA_p]; exact es.symm
      · rw [g1]; simp [pz_stepS]
      · rw [g2]; simp [pz_stepS]
      · by_cases h0s : z.1.2 15 q 0 = 0
        · simp [pz_stepS, h0s]
        · simp [pz_stepS, h0s, g3]
      · rw [g4]; simp [pz_stepS]
      · rw [es] at hj1
        by_cases hj : j = z.1.2 15 q 0
        · subst hj
          rw [s524, s525, s526, s527, s528]
          refine ⟨by simp [pz_stepS], by simp [pz_stepS], by simp [pz_stepS], fun hne => ?_⟩
          have ht0 : t ≠ 0 := by simpa [pz_stepS] using hne
          exact ⟨by simp [pz_stepS, ht0], by simp [pz_stepS, ht0]⟩
        · obtain ⟨x1, x2, x3, x4⟩ := d1 j hj0 (by omega)
          rw [sn 524 _ (by omega), sn 525 _ (by omega), sn 526 _ (by omega), sn 527 _ (by omega), sn 528 _ (by omega), x1, x2, x3]
          refine ⟨by simp [pz_stepS, hj], by simp [pz_stepS, hj], by simp [pz_stepS, hj], fun hne => ?_⟩
          have hne' : z.1.2 12 q j ≠ 0 := by simpa [pz_stepS, hj] using hne
          obtain ⟨y1, y2⟩ := x4 hne'
          rw [y1, y2]
          exact ⟨by simp [pz_stepS, hj], by simp [pz_stepS, hj]⟩
    · have eq : ∀ id, (pz_stepS p s o t f c z).2 id q = z.1.2 id q := fun id => by
        funext j
        simp only [pz_stepS]
        repeat rw [if_neg (by omega)]
      rw [eq 17, eq 18, eq 16, eq 15, eq 20, eq 21, eq 19, eq 22, eq 10, eq 11, eq 12, eq 13, eq 14, if_neg (fun h => hqp h.1), eh_sA_n hqp]
      have e519 : σ1.2 519 = σ.2 519 := by rw [hf1.2 519 (by decide), hf0.2 519 (by decide)]
      rw [e519]
      refine ⟨b1', b2', fun j hj0 hj1 => ?_⟩
      rw [sn 524 _ (by omega), sn 525 _ (by omega), sn 526 _ (by omega), sn 527 _ (by omega), sn 528 _ (by omega)]
      exact b3' j hj0 hj1
  refine ⟨fun hb0 => ⟨fun h6 => ?_, fun h6 => ⟨by omega, hs, hoo, ht, hf, hc, fun h0 => ⟨by omega, hfin _ h6 hb0 ⟨_, Or.inl ⟨h0, rfl⟩, rfl⟩⟩, fun h0 => ⟨by omega, hfin _ h6 hb0 ⟨_, Or.inr ⟨h0, rfl⟩, rfl⟩⟩⟩⟩, fun hb0 => ?_⟩
  · rw [pz_if_f (fun h2 => h2 hb0), pz_if_t h6] at hK
    exact mk_s hK hz'
  · rw [pz_if_t hb0] at hK
    exact mk_s hK hz'
