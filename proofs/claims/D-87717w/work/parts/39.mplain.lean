/-! EventHunterModel: all rows, plainly -/
def pp_may0 (E P : Nat → Int → Int) (row : pu_Rw) (e s : Int) : Prop := (row = [] ∧ s = 0 ∧ pu_fits E P [] 0 e = true) ∨ (row ≠ [] ∧ pp_may E P row e s)
theorem pp_leads_m {E P : Nat → Int → Int} {row : pu_Rw} {n s e : Int} (hg : pu_gd P n row) (hpo : pu_pok P) (hs : pu_tip row < s ∧ s < P 5 0) : pp_leads E P row s e ↔ (∀ k, pu_tip row < k → k < s → P 0 k ≠ 0 ∧ P 0 k ≠ 1) ∧ (P 0 (s - 1) = 3 → pp_clear E P row (s - 1) e) ∧ P 0 s ≠ 3 := by
  have htip := pu_gd_tip hg
  unfold pp_leads
  constructor
  · rintro ⟨h1, h2⟩
    refine ⟨fun k a b => ⟨(h1 k a b).1, (h1 k a b).2.1⟩, fun h3 => ?_, h2⟩
    by_cases hst : s - 1 = pu_tip row
    · rw [hst] at h3
      exact absurd h3 htip.2
    · exact (h1 (s - 1) (by omega) (by omega)).2.2 h3
  · rintro ⟨h1, h2, h3⟩
    refine ⟨fun k a b => ⟨(h1 k a b).1, (h1 k a b).2, fun h4 => ?_⟩, h3⟩
    by_cases hks : k = s - 1
    · rw [hks]; exact h2 (by rw [← hks]; exact h4)
    · exfalso
      have h5 := h1 (k + 1) (by omega) (by omega)
      have h6 := (hpo.2.1 (k + 1) (by omega) (by omega)).1
      have h7 := hpo.2.2.2.2.2.2.1 (k + 1) (by omega) (by omega)
      have h8 := hpo.2.2.2.2.2.2.2 (k + 1) (by omega) (by omega)
      rw [show k + 1 - 1 = k by omega] at h7 h8
      by_cases h9 : P 0 (k + 1) = 3
      · have := h7 h9
        omega
      · exact h8 (by omega) h4
theorem mc_row_first {σ : eh_S} {row : pu_Rw} (h : mc_row σ row) (hl : 0 < row.length) : σ.2 540 0 0 = pu_first row ∧ σ.2 541 0 ((row.length : Int) - 1) = pu_tip row ∧ σ.2 540 0 ((row.length : Int) - 1) = pu_head row := by
  have h0 : pu_rowL (σ.2 540 0) (σ.2 541 0) row.length = row := by
    have := h.2
    unfold pm_row at this
    rw [h.1] at this
    simpa using this
  have h1 := pu_tip_rowL (f := σ.2 540 0) (g := σ.2 541 0) hl
  have h2 := pu_first_rowL (f := σ.2 540 0) (g := σ.2 541 0) hl
  rw [h0] at h1 h2
  refine ⟨h2.symm, h1.symm, ?_⟩
  revert h0
  generalize row.length = m at hl
  intro h
  cases m with
  | zero => omega
  | succ m =>
    rw [pu_rowL] at h
    rw [← h, pu_head, show ((m + 1 : Nat) : Int) - 1 = (m : Int) by omega]
theorem mc_key {σ : eh_S} {p n a e : Int} {E P : Nat → Int → Int} (hC : mc_C σ p E P n) (ha : 0 ≤ a ∧ a < n) (he : 0 ≤ e ∧ e < n) : pu_key E P a e = true ↔ (σ.2 518 0 p < 0 ∨ σ.2 512 0 ((4 * a) + (σ.2 518 0 p)) = σ.2 512 0 ((4 * e) + (σ.2 518 0 p))) := by
  have e6 : σ.2 518 0 p = P 6 0 := hC.2.2.2.1.2.1
  have h6 := hC.2.2.2.2.2.2.2.1
  have hE2 : ∀ j, 0 ≤ j → j < 4 * n → σ.2 512 0 j = E 2 j := hC.2.2.1.2.2
  rw [e6]
  unfold pu_key
  by_cases h0 : P 6 0 < 0
  · simp [h0]
  · rw [hE2 _ (by omega) (by omega), hE2 _ (by omega) (by omega)]
    simp [h0]
def Tm_isBroken : eh_T := eh_RM fun as σ _ K => ∃ (p k e n : Int) (E P : Nat → Int → Int) (row : pu_Rw), as = [.inl p, .inl k, .inl (pu_head row), .inl e] ∧ mc_C σ p E P n ∧ mc_row σ row ∧ pu_gd P n row ∧ (0 ≤ k ∧ k < P 5 0) ∧ (0 ≤ e ∧ e < n) ∧ K (some (.inl (bz (¬ pp_clear E P row k e)))) σ
theorem cm_isBroken (l : Launch) (D : va_G) (tc : Nat → ClassId) (ad : Nat → Int → Nat) (h99 : ∀ a : Int, ad 99 a = a.toNat) : eh_M l D tc ad eh_LX yX4_isBroken cX4_isBroken 7 (some .boolean) 2 Tm_isBroken := by
  refine eh_mk (rb := 1) (nm := eh_nX) (fl := eh_fl4) (kn := eh_kn4) (cs := (fun kk => match kk with | 173 => some (4, Tm_fits) | _ => none)) (ss := (fun _ => none)) (by decide) (eh_worldX h99) eh_fl4_ok eh_kn4_ok (fun kk n T h => by
    split at h
    · cases h; exact eh_callV (c0 := 4) (cm_fits l D tc ad h99) q726 q728 qs30 q49 q729 (by decide +kernel) (by decide) (by decide) (by decide) rfl (eh_worldX h99) (fun _ _ _ _ h => eh_RM_rec h)
    · cases h) (fun _ _ _ h => by cases h) ?_
  rintro as σ bd K ⟨_, rfl, p, k, e, n, E, P, row, rfl, hC, hr, hg, hk, he, hK⟩
  refine ⟨Nat.le_of_ble_eq_true rfl, fun X hX => ?_⟩
  have hp := hC.1
  have hn := hC.2.1
  have hpo := hC.2.2.2.2.2
  have h6 := hpo.2.2.1
  have e6 : σ.2 518 0 p = P 6 0 := hC.2.2.2.1.2.1
  have hlen := pu_gd_len hg hpo
  have hfst := pu_gd_first hg
  have hhd := pu_gd_head hg
  have hmem := pu_gd_mem hg
  obtain ⟨r1, r2, r3⟩ := mc_row_first hr (by omega)
  have key : ∀ (m : Nat) (b : Int) (o3 o6 : Option eh_V), (pu_head row < b ∧ b ≤ 1000) → e ≤ b + m → (∀ b', pu_head row < b' → b' < b → ¬ (pu_key E P (pu_first row) b' = true ∧ pu_fits E P row k b' = true)) → X 5 [some (.inr (some (4, 0))), some (.inl p), some (.inl k), o3, some (.inl e), some (.inl b), o6] [] σ (0, 0) := by
    intro m
    induction m with
    | zero =>
      intro b o3 o6 hb hm hcl
      refine bX4_isBroken_5 hX (T173 := Tm_fits) rfl (fun hok => ⟨by omega, by omega, fun _ => eh_b0 hK (fun h => h (fun b' a c => hcl b' a (by omega))), fun h => by omega⟩)
    | succ m ih =>
      intro b o3 o6 hb hm hcl
      have nxt : ∀ o6 : Option eh_V, b < e → ¬ (pu_key E P (pu_first row) b = true ∧ pu_fits E P row k b = true) → X 5 [some (.inr (some (4, 0))), some (.inl p), some (.inl k), o3, some (.inl e), some (.inl (b + 1)), o6] [] σ (0, 0) := by
        intro o6 hbe hnb
        refine ih _ _ _ (by omega) (by omega) (fun b' a c => ?_)
        by_cases hbb : b' = b
        · rw [hbb]; exact hnb
        · exact hcl b' a (by omega)
      refine bX4_isBroken_5 hX (T173 := Tm_fits) rfl (fun hok => ?_)
      rw [r1]
      refine ⟨by omega, by omega, fun _ => eh_b0 hK (fun h => h (fun b' a c => hcl b' a (by omega))), fun hlt => ?_⟩
      have hkey := mc_key hC hfst (show 0 ≤ b ∧ b < n by omega)
      have fit : ∀ (o6 : Option eh_V), pu_key E P (pu_first row) b = true → Tm_fits [.inr (some (4, 0)), .inl p, .inl k, .inl b] σ (0, 0) (fun r σ1 => X 80 [some (.inr (some (4, 0))), some (.inl p), some (.inl k), o3, some (.inl e), some (.inl b), o6] (r.toList ++ []) σ1 (0, 0)) := by
        intro o6 hky
        refine Tm_fits_go hC hr (by omega) hmem hk (by omega) ?_
        refine bX4_isBroken_80 hX (fun hok => ⟨bz_r _, fun h0 => nxt _ (by omega) (fun h => bz_0.mp h0 h.2), fun h0 => eh_b1 hK (fun hcl' => ?_)⟩)
        exact hcl' b hb.1 (by omega) ⟨hky, bz_n.mp h0⟩
      refine ⟨hp, fun h0 => fit _ (hkey.mpr (Or.inl h0)), fun h0 => ⟨by omega, by omega, fun h1 => fit _ (hkey.mpr (Or.inr h1)), fun h1 => nxt _ (by omega) (fun h => ?_)⟩⟩
      rcases hkey.mp h.1 with h2 | h2
      · exact h0 h2
      · exact h1 h2
  exact bX4_isBroken_0 hX (fun hok => key 1000 _ _ _ (by omega) (by omega) (fun b' a c => by omega))
def Tm_may : eh_T := eh_RM fun as σ _ K => ∃ (p e s n : Int) (E P : Nat → Int → Int) (row : pu_Rw), as = [.inl p, .inl (row.length : Int), .inl e, .inl s] ∧ mc_C σ p E P n ∧ mc_row σ row ∧ (row = [] ∨ pu_gd P n row) ∧ (0 ≤ s ∧ s < P 5 0) ∧ (0 ≤ e ∧ e < n) ∧ K (some (.inl (bz (pp_may0 E P row e s)))) σ
theorem cm_may (l : Launch) (D : va_G) (tc : Nat → ClassId) (ad : Nat → Int → Nat) (h99 : ∀ a : Int, ad 99 a = a.toNat) : eh_M l D tc ad eh_LX yX4_may cX4_may 9 (some .boolean) 3 Tm_may := by
  refine eh_mk (rb := 1) (nm := eh_nX) (fl := eh_fl4) (kn := eh_kn4) (cs := (fun kk => match kk with | 173 => some (4, Tm_fits) | 246 => some (5, Tm_isBroken) | _ => none)) (ss := (fun kk => match kk with | 140 => some (1, Tm_isSure) | _ => none)) (by decide) (eh_worldX h99) eh_fl4_ok eh_kn4_ok (fun kk n T h => by
    split at h
    · cases h; exact eh_callV (c0 := 4) (cm_fits l D tc ad h99) q726 q728 qs30 q49 q729 (by decide +kernel) (by decide) (by decide) (by decide) rfl (eh_worldX h99) (fun _ _ _ _ h => eh_RM_rec h)
    · cases h; exact eh_callV (c0 := 4) (cm_isBroken l D tc ad h99) q810 q812 qs43 q49 q813 (by decide +kernel) (by decide) (by decide) (by decide) rfl (eh_worldX h99) (fun _ _ _ _ h => eh_RM_rec h)
    · cases h) (fun kk n T h => by
    split at h
    · cases h; exact eh_callS (cm_isSure l D tc ad h99) q677 q678 q49 q679 (by decide +kernel) (by decide) (by decide)
    · cases h) ?_
  rintro as σ bd K ⟨_, rfl, p, e, s, n, E, P, row, rfl, hC, hr, hg, hs, he, hK⟩
  refine ⟨Nat.le_of_ble_eq_true rfl, fun X hX => ?_⟩
  have hp := hC.1
  have hn := hC.2.1
  have hpo := hC.2.2.2.2.2
  have h5 := hpo.1
  have h6 := hpo.2.2.1
  have e6 : σ.2 518 0 p = P 6 0 := hC.2.2.2.1.2.1
  have e7 : σ.2 516 0 p = P 7 0 := hC.2.2.2.1.2.2.1
  have heo := hC.2.2.2.2.1
  have hvs := mc_sort hC hs.1 hs.2
  have hm1 : ∀ j, 0 ≤ j → j < n → σ.2 510 0 j = E 1 j := fun j h0 h1 => (hC.2.2.1.2.1 j h0 h1).2
  have r1 := (heo.2 e he.1 he.2).2
  rcases hg with hg | hg
  · subst hg
    refine bX4_may_0 hX (T173 := Tm_fits) rfl (fun hok => ?_)
    rw [hvs]
    refine ⟨by omega, fun h3 => eh_b0 hK ?_, fun h3 => Tm_fits_go hC hr (by simp) (fun q hq => by cases hq) hs he ?_⟩
    · rintro (⟨-, h4, -⟩ | ⟨h4, -⟩)
      · rw [h4] at h3
        have := hpo.2.2.2.2.2.1 (by omega)
        omega
      · exact h4 rfl
    · refine bX4_may_28 hX (fun hok => ⟨bz_r _, fun h0 => eh_b0 hK ?_, fun h0 => ⟨by simp, fun _ => ⟨by omega, fun h4 => eh_b1 hK (Or.inl ⟨rfl, h4, by rw [← h4]; exact bz_n.mp h0⟩), fun h4 => eh_b0 hK ?_⟩, fun h => absurd rfl h⟩⟩)
      · rintro (⟨-, h4, h5⟩ | ⟨h4, -⟩)
        · rw [h4] at h0
          exact bz_0.mp h0 h5
        · exact h4 rfl
      · rintro (⟨-, h5, -⟩ | ⟨h5, -⟩)
        · exact h4 h5
        · exact h5 rfl
  · have hlen := pu_gd_len hg hpo
    have htip := pu_gd_tip hg
    have hfst := pu_gd_first hg
    have hhd := pu_gd_head hg
    have hmem := pu_gd_mem hg
    have r2 := (heo.2 (pu_first row) hfst.1 hfst.2).2
    obtain ⟨f1, f2, f3⟩ := mc_row_first hr (by omega)
    have hr0 : pu_rowL (σ.2 540 0) (σ.2 541 0) row.length = row := by
      have := hr.2
      unfold pm_row at this
      rw [hr.1] at this
      simpa using this
    have hm0 : pp_may0 E P row e s ↔ pp_may E P row e s := by
      constructor
      · rintro (⟨h, -⟩ | ⟨-, h⟩)
        · exact absurd h hg.1
        · exact h
      · exact fun h => Or.inr ⟨hg.1, h⟩
    rw [bz_congr hm0] at hK
    have hkey := mc_key hC hfst he
    rw [e6] at hkey
    -- the own step once more
    have key1 : ∀ (m : Nat) (k c : Int) (o1 o3 o4 : Option eh_V), (0 ≤ k ∧ k ≤ row.length) → row.length - k < m → c = pu_cnt (pu_rowL (σ.2 540 0) (σ.2 541 0) k.toNat) (pu_tip row) → (¬ (P 0 s = 1 ∧ pu_cnt row (pu_tip row) < 4) → K (some (.inl 0)) σ) → (P 0 s = 1 ∧ pu_cnt row (pu_tip row) < 4 → K (some (.inl 1)) σ) → X 158 [some (.inr (some (4, 0))), o1, some (.inl (row.length : Int)), o3, o4, some (.inl (P 0 s)), some (.inl (pu_tip row)), some (.inl c), some (.inl k)] [] σ (0, 0) := by
      intro m
      induction m with
      | zero => intro k c o1 o3 o4 hk hm; omega
      | succ m ih =>
        intro k c o1 o3 o4 hk hm hc k0 k1
        have hcn := pu_cnt_nn (pu_rowL (σ.2 540 0) (σ.2 541 0) k.toNat) (pu_tip row)
        rw [pu_rowL_len] at hcn
        have hso := (hpo.2.1 s hs.1 hs.2).1
        refine bX4_may_158 hX (fun hok => ⟨by omega, by omega, fun hd => ?_, fun hd => ⟨by omega, by omega, fun hq => ?_, fun hq => ?_⟩⟩)
        · have hcr : pu_cnt row (pu_tip row) = c := by
            rw [hc, show k.toNat = row.length by omega, hr0]
          exact ⟨by omega, fun h1 => ⟨by omega, fun h4 => k0 (by omega), fun h4 => k1 (by omega)⟩, fun h1 => k0 (by omega)⟩
        · refine ih _ _ _ _ _ (by omega) (by omega) ?_ k0 k1
          rw [show (k + 1).toNat = k.toNat + 1 by omega, pu_rowL, pu_cnt, Int.toNat_of_nonneg hk.1, if_pos hq, hc]
          omega
        · refine ih _ _ _ _ _ (by omega) (by omega) ?_ k0 k1
          rw [show (k + 1).toNat = k.toNat + 1 by omega, pu_rowL, pu_cnt, Int.toNat_of_nonneg hk.1, if_neg hq, hc]
          omega
    -- on to a later step
    have key2 : pu_tip row < s → ∀ (m : Nat) (i : Int) (o5 o6 o8 : Option eh_V), (pu_tip row < i ∧ i ≤ s) → s - i < m → (∀ k, pu_tip row < k → k < i → P 0 k ≠ 0 ∧ P 0 k ≠ 1) → (¬ ((∀ k, pu_tip row < k → k < s → P 0 k ≠ 0 ∧ P 0 k ≠ 1) ∧ (P 0 (s - 1) = 3 → pp_clear E P row (s - 1) e)) → K (some (.inl 0)) σ) → ((∀ k, pu_tip row < k → k < s → P 0 k ≠ 0 ∧ P 0 k ≠ 1) ∧ (P 0 (s - 1) = 3 → pp_clear E P row (s - 1) e) → K (some (.inl 1)) σ) → X 216 [some (.inr (some (4, 0))), some (.inl p), some (.inl (row.length : Int)), some (.inl e), some (.inl s), o5, o6, some (.inl i), o8] [] σ (0, 0) := by
      intro hts m
      induction m with
      | zero => intro i o5 o6 o8 hi hm; omega
      | succ m ih =>
        intro i o5 o6 o8 hi hm hns k0 k1
        have hv1 := mc_sort hC (show 0 ≤ s - 1 by omega) (show s - 1 < P 5 0 by omega)
        refine bX4_may_216 hX (T140 := Tm_isSure) (T246 := Tm_isBroken) rfl rfl (fun hok => ?_)
        rw [show 6 * p + s - 1 = 6 * p + (s - 1) by omega, hv1, f3]
        refine ⟨by omega, by omega, fun hd => ⟨by omega, fun h3 => ⟨by omega, ?_⟩, fun h3 => k1 ⟨fun k a b => hns k a (by omega), fun h => absurd h h3⟩⟩, fun hd => ⟨by omega, ?_⟩⟩
        · refine ⟨_, rfl, p, s - 1, e, n, E, P, row, rfl, hC, hr, hg, by omega, he, ?_⟩
          refine bX4_may_285 hX (fun hok => ⟨bz_r _, fun h0 => k1 ⟨fun k a b => hns k a (by omega), fun _ => Classical.not_not.mp (bz_0.mp h0)⟩, fun h0 => k0 (fun h => bz_n.mp h0 (h.2 h3))⟩)
        · have hvi := mc_sort hC (show 0 ≤ i by omega) (show i < P 5 0 by omega)
          have hso := (hpo.2.1 i (by omega) (by omega)).1
          rw [hvi]
          refine ⟨P 0 i, rfl, by unfold eh_r; omega, ?_⟩
          refine bX4_may_238 hX (fun hok => ⟨bz_r _, fun h0 => ih _ _ _ _ (by omega) (by omega) (fun k a b => ?_) k0 k1, fun h0 => k0 (fun h => ?_)⟩)
          · by_cases hki : k = i
            · rw [hki]
              have := bz_0.mp h0
              omega
            · exact hns k a (by omega)
          · have h1 := bz_n.mp h0
            have h2 := h.1 i (by omega) (by omega)
            omega
    refine bX4_may_0 hX (T173 := Tm_fits) rfl (fun hok => ?_)
    rw [hvs]
    refine ⟨by omega, fun h3 => eh_b0 hK (fun h => h.2.1 h3), fun h3 => Tm_fits_go hC hr (by omega) hmem hs he ?_⟩
    refine bX4_may_28 hX (fun hok => ?_)
    rw [f1, f2, hm1 e he.1 he.2, hm1 _ hfst.1 hfst.2, e6, e7]
    refine ⟨bz_r _, fun h0 => eh_b0 hK (fun h => bz_0.mp h0 h.2.2.1), fun h0 => ⟨by omega, fun h => by omega, fun _ => ⟨hp, ?_⟩⟩⟩
    have hft := bz_n.mp h0
    have brA : pu_key E P (pu_first row) e = true → ∀ o8 : Option eh_V, ((E 1 e - E 1 (pu_first row) ≤ P 7 0 → (0 ≤ (row.length : Int) - 1 ∧ (row.length : Int) - 1 < 25) ∧ (-2147483648 ≤ s ∧ s < 2147483648) ∧ ((pu_tip row ≤ s → ((s = pu_tip row → X 158 [some (.inr (some (4, 0))), some (.inl p), some (.inl (row.length : Int)), some (.inl e), some (.inl s), some (.inl (P 0 s)), some (.inl (pu_tip row)), some (.inl 0), some (.inl 0)] [] σ (0, 0)) ∧ (¬ s = pu_tip row → X 216 [some (.inr (some (4, 0))), some (.inl p), some (.inl (row.length : Int)), some (.inl e), some (.inl s), some (.inl (P 0 s)), some (.inl (pu_tip row)), some (.inl (pu_tip row + 1)), o8] [] σ (0, 0)))) ∧ (¬ pu_tip row ≤ s → K (some (.inl 0)) σ))) ∧ (¬ E 1 e - E 1 (pu_first row) ≤ P 7 0 → K (some (.inl 0)) σ)) := by
      intro hky o8
      refine ⟨fun hwi => ⟨by omega, by omega, fun hts => ⟨fun hst => ?_, fun hst => ?_⟩, fun hts => eh_b0 hK (fun h => ?_)⟩, fun hwi => eh_b0 hK (fun h => hwi h.2.2.2.2.1)⟩
      · refine key1 30 0 0 _ _ _ (by omega) (by omega) rfl (fun h1 => eh_b0 hK (fun h => ?_)) (fun h1 => eh_b1 hK ⟨hs, h3, hft, hky, hwi, Or.inl ⟨hst, h1.1, by rw [hst]; exact h1.2⟩⟩)
        rcases h.2.2.2.2.2 with h2 | h2
        · exact h1 ⟨h2.2.1, by rw [← hst]; exact h2.2.2⟩
        · omega
      · have hlm := pp_leads_m (E := E) (s := s) (e := e) hg hpo (by omega)
        refine key2 (by omega) 20 _ _ _ _ (by omega) (by omega) (fun k a b => by omega) (fun h1 => eh_b0 hK (fun h => ?_)) (fun h1 => eh_b1 hK ⟨hs, h3, hft, hky, hwi, Or.inr ⟨by omega, hlm.mpr ⟨h1.1, h1.2, h3⟩⟩⟩)
        rcases h.2.2.2.2.2 with h2 | h2
        · exact hst h2.1
        · have := hlm.mp h2.2
          exact h1 ⟨this.1, this.2.1⟩
      · rcases h.2.2.2.2.2 with h2 | h2
        · omega
        · omega
    refine ⟨fun h => ⟨by omega, by omega, by omega, brA (hkey.mpr (Or.inl h)) _⟩, fun h => ⟨by omega, by omega, fun h1 => ⟨by omega, by omega, by omega, brA (hkey.mpr (Or.inr h1)) _⟩, fun h1 => eh_b0 hK (fun hh => ?_)⟩⟩
    rcases hkey.mp hh.2.2.2.1 with h2 | h2
    · exact h h2
    · exact h1 h2
/-- what is left behind the place (e, s) -/
def pp_rem (G : Int → Int → Int) (n e s : Int) : Int := pp_sum (G e) (6 - (s + 1)).toNat (s + 1) + pp_sum (fun e => pp_sum (G e) 6 0) (n - (e + 1)).toNat (e + 1)
theorem pp_sum_congr {f g : Int → Int} : ∀ (k : Nat) (a : Int), (∀ i, a ≤ i → i < a + k → f i = g i) → pp_sum f k a = pp_sum g k a := by
  intro k
  induction k with
  | zero => intro a _; rfl
  | succ k ih =>
    intro a h
    rw [pp_sum, pp_sum, h a (by omega) (by omega), ih (a + 1) (fun i h1 h2 => h i (by omega) (by omega))]
def Tm_nextTry : eh_T := eh_RM fun as σ _ K => ∃ (p n e0 s0 : Int) (E P : Nat → Int → Int) (row : pu_Rw) (G : Int → Int → Int), as = [.inl p, .inl (row.length : Int)] ∧ row.length ≤ 12 ∧ mc_C σ p E P n ∧ 0 < P 5 0 ∧ σ.1 508 0 = n ∧ mc_row σ row ∧ (row = [] ∨ pu_gd P n row) ∧ σ.2 546 0 row.length = e0 ∧ σ.2 547 0 row.length = s0 ∧ (0 ≤ e0 ∧ e0 ≤ n) ∧ (-1 ≤ s0 ∧ s0 < 6) ∧ (∀ e s, ¬ (e < n ∧ pp_may0 E P row e s) → G e s = 0) ∧ (pp_rem G n e0 s0 = 0 → K (some (.inl 0)) σ) ∧ ∀ (e s : Int) (σ' : eh_S), (e0 ≤ e ∧ e < n) → (0 ≤ s ∧ s < P 5 0) → (e0 < e ∨ e = e0 ∧ s0 < s) → pp_may0 E P row e s → pp_rem G n e0 s0 = G e s + pp_rem G n e s → eh_fr [] [546, 547] σ σ' → eh_at σ σ' 546 row.length → eh_at σ σ' 547 row.length → σ'.2 546 0 row.length = e → σ'.2 547 0 row.length = s → K (some (.inl 1)) σ'
theorem cm_nextTry (l : Launch) (D : va_G) (tc : Nat → ClassId) (ad : Nat → Int → Nat) (h99 : ∀ a : Int, ad 99 a = a.toNat) : eh_M l D tc ad eh_LX yX4_nextTry cX4_nextTry 5 (some .boolean) 4 Tm_nextTry := by
  refine eh_mk (rb := 1) (nm := eh_nX) (fl := eh_fl4) (kn := eh_kn4) (cs := (fun kk => match kk with | 163 => some (2, Tm_real) | 243 => some (5, Tm_may) | _ => none)) (ss := (fun _ => none)) (by decide) (eh_worldX h99) eh_fl4_ok eh_kn4_ok (fun kk n T h => by
    split at h
    · cases h; exact eh_callV (c0 := 4) (cm_real l D tc ad h99) q722 q724 qs29 q49 q725 (by decide +kernel) (by decide) (by decide) (by decide) rfl (eh_worldX h99) (fun _ _ _ _ h => eh_RM_rec h)
    · cases h; exact eh_callV (c0 := 4) (cm_may l D tc ad h99) q806 q808 qs42 q49 q809 (by decide +kernel) (by decide) (by decide) (by decide) rfl (eh_worldX h99) (fun _ _ _ _ h => eh_RM_rec h)
    · cases h) (fun _ _ _ h => by cases h) ?_
  rintro as σ bd K ⟨_, rfl, p, n, e0, s0, E, P, row, G, rfl, hl, hC, h50, h508, hr, hg, h546, h547, he0, hs0, hG, hK0, hK1⟩
  refine ⟨Nat.le_of_ble_eq_true rfl, fun X hX => ?_⟩
  have hp := hC.1
  have hn := hC.2.1
  have hpo := hC.2.2.2.2.2
  have h5 := hpo.1
  have hrl := pu_real_le P
  have hreal : ∀ e s, pu_real P ≤ s → G e s = 0 := by
    intro e s hs
    refine hG e s (fun h => ?_)
    rcases h.2 with ⟨-, h1, h2⟩ | ⟨-, h1⟩
    · unfold pu_real at hs
      split at hs
      · rename_i hc
        have h01 := hpo.2.2.2.2.2.1 hc.1
        have h02 : P 5 0 - 1 = 0 := by omega
        rw [h02] at hc
        omega
      · omega
    · have h3 := h1.1.2
      have h4 := h1.2.1
      unfold pu_real at hs
      split at hs
      · rename_i hc
        have h02 : s = P 5 0 - 1 := by omega
        rw [h02] at h4
        exact h4 hc.2
      · omega
  have keyJ : ∀ e, e0 ≤ e → e < n → (pp_rem G n e0 s0 = pp_sum (fun e => pp_sum (G e) 6 0) (n - (e + 1)).toNat (e + 1) → X 17 [some (.inr (some (4, 0))), some (.inl p), some (.inl (row.length : Int)), some (.inl (e + 1)), some (.inl 0)] [] σ (0, 0)) → ∀ (m : Nat) (j : Int), 0 ≤ j → j + m = 6 → (e0 < e ∨ e = e0 ∧ s0 < j) → pp_rem G n e0 s0 = pp_sum (G e) m j + pp_sum (fun e => pp_sum (G e) 6 0) (n - (e + 1)).toNat (e + 1) → X 25 [some (.inr (some (4, 0))), some (.inl p), some (.inl (row.length : Int)), some (.inl e), some (.inl j)] [] σ (0, 0) := by
    intro e h1 h2 hE m
    induction m with
    | zero =>
      intro j h0 hj hlex hrem
      refine bX4_nextTry_25 hX (T163 := Tm_real) rfl (fun hok => Tm_real_go hC ?_)
      refine bX4_nextTry_32 hX (T243 := Tm_may) rfl (fun hok => ⟨by omega, by omega, fun _ => hE ?_, fun h => by omega⟩)
      rw [hrem, pp_sum]
      omega
    | succ m ih =>
      intro j h0 hj hlex hrem
      refine bX4_nextTry_25 hX (T163 := Tm_real) rfl (fun hok => Tm_real_go hC ?_)
      refine bX4_nextTry_32 hX (T243 := Tm_may) rfl (fun hok => ⟨by omega, by omega, fun h => hE ?_, fun h => ?_⟩)
      · rw [hrem, pp_sum_z _ _ (fun i a b => hreal e i (by omega))]
        omega
      · refine ⟨_, rfl, p, e, j, n, E, P, row, rfl, hC, hr, hg, by omega, by omega, ?_⟩
        refine bX4_nextTry_44 hX (fun hok => ⟨bz_r _, fun h3 => ih (j + 1) (by omega) (by omega) (by omega) ?_, fun h3 => ⟨by omega, by omega, by omega, ?_⟩⟩)
        · rw [hrem, pp_sum, hG e j (fun h4 => bz_0.mp h3 h4.2)]
          omega
        · have hf : eh_fr [] [546, 547] σ (eh_sA (eh_sA σ 546 0 (row.length : Int) e) 547 0 (row.length : Int) j) := eh_fr_sA (eh_fr_sA eh_fr_rf (by decide)) (by decide)
          refine hK1 e j _ ⟨h1, h2⟩ ⟨h0, by omega⟩ hlex (bz_n.mp h3) ?_ hf (fun k hk => ?_) (fun k hk => ?_) ?_ ?_
          · rw [hrem, pp_sum]
            unfold pp_rem
            rw [show (6 - (j + 1)).toNat = m by omega]
            omega
          · rw [eh_sA_c (by decide), eh_sA_n hk]
          · rw [eh_sA_n hk, eh_sA_c (by decide)]
          · rw [eh_sA_c (by decide), eh_sA_p]
          · rw [eh_sA_p]
  have keyE : ∀ (m : Nat) (e : Int), (n - e).toNat = m → e0 < e → e ≤ n → pp_rem G n e0 s0 = pp_sum (fun e => pp_sum (G e) 6 0) m e → X 17 [some (.inr (some (4, 0))), some (.inl p), some (.inl (row.length : Int)), some (.inl e), some (.inl 0)] [] σ (0, 0) := by
    intro m
    induction m with
    | zero =>
      intro e hm h1 h2 hrem
      refine bX4_nextTry_17 hX (fun hok => ?_)
      rw [h508]
      exact ⟨by omega, fun _ => hK0 hrem, fun h => by omega⟩
    | succ m ih =>
      intro e hm h1 h2 hrem
      refine bX4_nextTry_17 hX (fun hok => ?_)
      rw [h508]
      refine ⟨by omega, fun h => by omega, fun _ => keyJ e (by omega) (by omega) (fun hr2 => ih (e + 1) (by omega) (by omega) (by omega) ?_) 6 0 (Int.le_refl _) rfl (Or.inl h1) ?_⟩
      · rw [hr2, show (n - (e + 1)).toNat = m by omega]
      · rw [hrem, pp_sum, show (n - (e + 1)).toNat = m by omega]
  refine bX4_nextTry_0 hX (fun hok => ⟨by omega, ?_⟩)
  rw [h546, h547]
  refine bX4_nextTry_17 hX (fun hok => ?_)
  rw [h508]
  refine ⟨by omega, fun h => hK0 ?_, fun h => keyJ e0 (Int.le_refl _) (by omega) (fun hr2 => keyE _ (e0 + 1) rfl (by omega) (by omega) hr2) (6 - (s0 + 1)).toNat (s0 + 1) (by omega) (by omega) (Or.inr ⟨rfl, by omega⟩) rfl⟩
  unfold pp_rem
  rw [show (n - (e0 + 1)).toNat = 0 by omega, pp_sum_z _ _ (fun i a b => hG e0 i (fun h2 => by omega))]
  rfl
theorem pu_rowL_inj {f g f' g' : Int → Int} {n : Nat} (h : pu_rowL f g n = pu_rowL f' g' n) {j : Int} (h0 : 0 ≤ j) (h1 : j < n) : f j = f' j ∧ g j = g' j := by
  induction n with
  | zero => omega
  | succ n ih =>
    rw [pu_rowL, pu_rowL] at h
    obtain ⟨h2, h3⟩ := List.cons.inj h
    by_cases hj : j = n
    · rw [hj]
      exact ⟨congrArg Prod.fst h2, congrArg Prod.snd h2⟩
    · exact ih h3 (by omega)
def Tm_plain : eh_T := eh_RM fun as σ _ K => ∃ p : Int, as = [.inl p] ∧ eh_r p ∧ (0 ≤ σ.1 515 0 ∧ σ.1 515 0 ≤ 8) ∧ (¬ (0 ≤ p ∧ p < σ.1 515 0) → K (some (.inl (-1))) σ) ∧ (0 ≤ p ∧ p < σ.1 515 0 → σ.2 521 0 p = 0 → K (some (.inl (-1))) σ) ∧ (0 ≤ p ∧ p < σ.1 515 0 → σ.2 521 0 p ≠ 0 → ∃ (E P : Nat → Int → Int) (n a : Int), mc_C σ p E P n ∧ σ.1 508 0 = n ∧ 0 < P 5 0 ∧ σ.2 520 0 p = a ∧ (0 ≤ a ∧ a ≤ n) ∧ (12 < n - a → K (some (.inl (-6))) σ) ∧ (n - a ≤ 12 → ∀ σ', eh_fr [542] [540, 541, 546, 547] σ σ' → K (some (.inl (pp_all E P n a))) σ'))
theorem cm_plain (l : Launch) (D : va_G) (tc : Nat → ClassId) (ad : Nat → Int → Nat) (h99 : ∀ a : Int, ad 99 a = a.toNat) : eh_M l D tc ad eh_LX yX4_plain cX4_plain 4 (some .int) 5 Tm_plain := by
  refine eh_mk (rb := 0) (nm := eh_nX) (fl := eh_fl4) (kn := eh_kn4) (cs := (fun kk => match kk with | 143 => some (2, Tm_isPattern) | 188 => some (3, Tm_add) | 191 => some (2, Tm_isWhole) | 240 => some (3, Tm_nextTry) | _ => none)) (ss := (fun _ => none)) (by decide) (eh_worldX h99) eh_fl4_ok eh_kn4_ok (fun kk n T h => by
    split at h
    · cases h; exact eh_callV (c0 := 4) (cm_isPattern l D tc ad h99) q666 q668 qs20 q49 q669 (by decide +kernel) (by decide) (by decide) (by decide) rfl (eh_worldX h99) (fun _ _ _ _ h => eh_RM_rec h)
    · cases h; exact eh_callV (c0 := 4) (cm_add l D tc ad h99) q734 q736 qs32 q49 q737 (by decide +kernel) (by decide) (by decide) (by decide) rfl (eh_worldX h99) (fun _ _ _ _ h => eh_RM_rec h)
    · cases h; exact eh_callV (c0 := 4) (cm_isWhole l D tc ad h99) q738 q740 qs33 q49 q741 (by decide +kernel) (by decide) (by decide) (by decide) rfl (eh_worldX h99) (fun _ _ _ _ h => eh_RM_rec h)
    · cases h; exact eh_callV (c0 := 4) (cm_nextTry l D tc ad h99) q802 q804 qs41 q49 q805 (by decide +kernel) (by decide) (by decide) (by decide) rfl (eh_worldX h99) (fun _ _ _ _ h => eh_RM_rec h)
    · cases h) (fun _ _ _ h => by cases h) ?_
  rintro as σ bd K ⟨_, rfl, p, rfl, hpr, h515, hKa, hKb, hKc⟩
  refine ⟨Nat.le_of_ble_eq_true rfl, fun X hX => ?_⟩
  refine bX4_plain_0 hX (T143 := Tm_isPattern) rfl (fun hok => ⟨_, rfl, p, rfl, hpr, ?_⟩)
  refine bX4_plain_5 hX (fun hok => ⟨bz_r _, fun h0 => hKa (bz_0.mp h0), fun h0 => ?_⟩)
  have hpp := bz_n.mp h0
  refine ⟨by omega, fun h1 => hKb hpp h1, fun h1 => ?_⟩
  obtain ⟨E, P, n, a, hC, h508, h50, h520, ha, hK6, hK⟩ := hKc hpp h1
  have hp := hC.1
  have hn := hC.2.1
  have hpo := hC.2.2.2.2.2
  have h5 := hpo.1
  rw [h508, h520]
  refine ⟨by omega, fun h12 => ?_, fun h12 => hK6 (by omega)⟩
  have hK := hK (by omega)
  -- what a row's places are worth
  have key : ∀ (k : Nat) (row : pu_Rw), row.length + k = 12 → (row = [] ∨ pu_gd P n row) → ∀ (m : Nat) (σ' : eh_S) (c e0 s0 : Int), (n - e0) * 7 + (6 - s0) < m → eh_fr [542] [540, 541, 546, 547] σ σ' → pu_rowL (σ'.2 540 0) (σ'.2 541 0) row.length = row → σ'.2 546 0 row.length = e0 → σ'.2 547 0 row.length = s0 → (0 ≤ e0 ∧ e0 ≤ n) → (-1 ≤ s0 ∧ s0 < 6) → n - e0 ≤ k → (row ≠ [] → pu_head row < e0) → (∀ σ'', eh_fr [542] [540, 541, 546, 547] σ σ'' → (∀ j : Int, 0 ≤ j → j < row.length → σ''.2 540 0 j = σ'.2 540 0 j ∧ σ''.2 541 0 j = σ'.2 541 0 j ∧ σ''.2 546 0 j = σ'.2 546 0 j ∧ σ''.2 547 0 j = σ'.2 547 0 j) → X 66 [some (.inr (some (4, 0))), some (.inl p), some (.inl (c + pp_rem (fun e s => pp_if (e < n ∧ pp_may0 E P row e s) (pp_go E P n k ((e, s) :: row))) n e0 s0)), some (.inl ((row.length : Int) - 1))] [] σ'' (0, 0)) → X 66 [some (.inr (some (4, 0))), some (.inl p), some (.inl c), some (.inl (row.length : Int))] [] σ' (0, 0) := by
    intro k
    induction k with
    | zero =>
      intro row hlk hg m
      intro σ' c e0 s0 hm hf hr h546 h547 he0 hs0 hnk hhd hcont
      have hf1 : eh_fr [542] [] σ' (eh_sV σ' 542 0 (row.length : Int)) := eh_fr_sV eh_fr_rf (by decide)
      have hC' := mc_C_fr hC (eh_fr_tr hf (eh_fr_up hf1 (by decide) (by decide))) (by decide)
      have hrow : mc_row (eh_sV σ' 542 0 (row.length : Int)) row := by
        refine mc_row_mk ?_ (by rw [eh_sV_p]; omega)
        unfold pm_row
        rw [eh_sV_p, eh_sV_2]
        simpa using hr
      refine bX4_plain_66 hX (T240 := Tm_nextTry) rfl (fun hok => ⟨by omega, fun h => by omega, fun _ => ?_⟩)
      refine ⟨_, rfl, p, n, e0, s0, E, P, row, fun e s => pp_if (e < n ∧ pp_may0 E P row e s) (pp_go E P n 0 ((e, s) :: row)), rfl, by omega, hC', h50, by rw [hf1.1 508 (by decide), hf.1 508 (by decide)]; exact h508, hrow, hg, h546, h547, he0, hs0, fun e s h => pp_if_f h, fun hrem => ?_, fun e s σ2 he => by omega⟩
      refine bX4_plain_81 hX (T188 := Tm_add) rfl (fun hok => ⟨by omega, fun _ => ?_, fun h => absurd rfl h⟩)
      have := hcont (eh_sV σ' 542 0 (row.length : Int)) (eh_fr_tr hf (eh_fr_up hf1 (by decide) (by decide))) (fun j _ _ => ⟨rfl, rfl, rfl, rfl⟩)
      rw [hrem, Int.add_zero] at this
      exact this
    | succ k ihk =>
      intro row hlk hg m
      induction m with
      | zero => intro σ' c e0 s0 hm hf hr h546 h547 he0 hs0; omega
      | succ m ihm =>
        intro σ' c e0 s0 hm hf hr h546 h547 he0 hs0 hnk hhd hcont
        have hf1 : eh_fr [542] [] σ' (eh_sV σ' 542 0 (row.length : Int)) := eh_fr_sV eh_fr_rf (by decide)
        have hf01 : eh_fr [542] [540, 541, 546, 547] σ (eh_sV σ' 542 0 (row.length : Int)) := eh_fr_tr hf (eh_fr_up hf1 (by decide) (by decide))
        have hC' := mc_C_fr hC hf01 (by decide)
        have hrow : mc_row (eh_sV σ' 542 0 (row.length : Int)) row := by
          refine mc_row_mk ?_ (by rw [eh_sV_p]; omega)
          unfold pm_row
          rw [eh_sV_p, eh_sV_2]
          simpa using hr
        refine bX4_plain_66 hX (T240 := Tm_nextTry) rfl (fun hok => ⟨by omega, fun h => by omega, fun _ => ?_⟩)
        refine ⟨_, rfl, p, n, e0, s0, E, P, row, fun e s => pp_if (e < n ∧ pp_may0 E P row e s) (pp_go E P n (k + 1) ((e, s) :: row)), rfl, by omega, hC', h50, by rw [hf01.1 508 (by decide)]; exact h508, hrow, hg, h546, h547, he0, hs0, fun e s h => pp_if_f h, fun hrem => ?_, fun e s σ2 he hs hlex hmay hrem hf2 h2a h2b h2e h2s => ?_⟩
        · refine bX4_plain_81 hX (T188 := Tm_add) rfl (fun hok => ⟨by omega, fun _ => ?_, fun h => absurd rfl h⟩)
          have := hcont (eh_sV σ' 542 0 (row.length : Int)) hf01 (fun j _ _ => ⟨rfl, rfl, rfl, rfl⟩)
          rw [hrem, Int.add_zero] at this
          exact this
        · have hrow2 := mc_row_fr hrow hf2 (by decide) (by decide)
          have hf02 : eh_fr [542] [540, 541, 546, 547] σ σ2 := eh_fr_tr hf01 (eh_fr_up hf2 (by decide) (by decide))
          have hg' : pu_gd P n ((e, s) :: row) := by
            rcases hmay with ⟨h1, h2, h3⟩ | ⟨h1, h2⟩
            · rw [h1, h2]
              exact pu_gd_up (pu_gd_new hpo h50 (by omega)) (by omega)
            · rcases hg with hg | hg
              · exact absurd hg h1
              · have := hhd h1
                exact pp_may_gd h2 hg (by omega) he.2
          have hgl := pu_gd_len hg' hpo
          have hgt := pu_gd_tip hg'
          have hlc : ((e, s) :: row).length = row.length + 1 := rfl
          refine bX4_plain_81 hX (T188 := Tm_add) rfl (fun hok => ⟨by omega, fun h => absurd h (by decide), fun _ => ⟨by omega, ?_⟩⟩)
          rw [h2e, h2s]
          refine ⟨_, rfl, e, s, rfl, ⟨by unfold eh_r; omega, by unfold eh_r; omega⟩, by rw [hrow2.1]; omega, fun σ3 hf3 h3m h3r => ?_⟩
          have hrow3 : mc_row σ3 ((e, s) :: row) := mc_row_mk (by rw [h3r, hrow2.2]) (by rw [h3m, hrow2.1]; omega)
          have hf03 : eh_fr [542] [540, 541, 546, 547] σ σ3 := eh_fr_tr hf02 (eh_fr_up hf3 (by decide) (by decide))
          have hr3 : pu_rowL (σ3.2 540 0) (σ3.2 541 0) (row.length + 1) = (e, s) :: row := by
            have := hrow3.2
            unfold pm_row at this
            rw [hrow3.1] at this
            simpa using this
          have hr3' : pu_rowL (σ3.2 540 0) (σ3.2 541 0) row.length = row := by
            rw [pu_rowL] at hr3
            exact (List.cons.inj hr3).2
          have hr2' : pu_rowL (σ'.2 540 0) (σ'.2 541 0) row.length = row := hr
          have e3e : σ3.2 546 0 (row.length : Int) = e := by rw [hf3.2 546 (by decide)]; exact h2e
          have e3s : σ3.2 547 0 (row.length : Int) = s := by rw [hf3.2 547 (by decide)]; exact h2s
          refine bX4_plain_106 hX (T191 := Tm_isWhole) rfl (fun hok => Tm_isWhole_go (mc_C_fr hC hf03 (by decide)) hrow3 (by omega) hgt.1 ?_)
          -- one level down and back again
          have down : ∀ (c1 : Int), c1 = c + bz (pu_wh P (pu_tip ((e, s) :: row)) = true) → X 66 [some (.inr (some (4, 0))), some (.inl p), some (.inl c1), some (.inl ((row.length : Int) + 1))] [] (eh_sA (eh_sA σ3 546 0 ((row.length : Int) + 1) (e + 1)) 547 0 ((row.length : Int) + 1) (-1)) (0, 0) := by
            intro c1 hc1
            have hf4 : eh_fr [] [546, 547] σ3 (eh_sA (eh_sA σ3 546 0 ((row.length : Int) + 1) (e + 1)) 547 0 ((row.length : Int) + 1) (-1)) := eh_fr_sA (eh_fr_sA eh_fr_rf (by decide)) (by decide)
            have := ihk ((e, s) :: row) (by rw [hlc]; omega) (Or.inr hg') ((n * 7 + 10).toNat) (eh_sA (eh_sA σ3 546 0 ((row.length : Int) + 1) (e + 1)) 547 0 ((row.length : Int) + 1) (-1)) c1 (e + 1) (-1) (by omega) (eh_fr_tr hf03 (eh_fr_up hf4 (by decide) (by decide))) (by rw [hlc, hf4.2 540 (by decide), hf4.2 541 (by decide)]; exact hr3) (by rw [hlc, eh_sA_c (by decide)]; exact eh_sA_p) (by rw [hlc]; exact eh_sA_p) (by omega) (by omega) (by omega) (fun _ => by show e < e + 1; omega) (fun σ5 hf5 h5 => ?_)
            · rw [hlc] at this
              simpa using this
            · -- the value of the row
              have hgo : c1 + pp_rem (fun e' s' => pp_if (e' < n ∧ pp_may0 E P ((e, s) :: row) e' s') (pp_go E P n k ((e', s') :: (e, s) :: row))) n (e + 1) (-1) = c + pp_go E P n (k + 1) ((e, s) :: row) := by
                rw [pp_go, hc1]
                have hhd' : pu_head ((e, s) :: row) = e := rfl
                rw [hhd']
                have hG : ∀ e', e' < n → pp_sum (fun s' => pp_if (e' < n ∧ pp_may0 E P ((e, s) :: row) e' s') (pp_go E P n k ((e', s') :: (e, s) :: row))) 6 0 = pp_sum (fun s' => pp_if (pp_may E P ((e, s) :: row) e' s') (pp_go E P n k ((e', s') :: (e, s) :: row))) 6 0 := by
                  intro e' he'
                  refine pp_sum_congr _ _ (fun s' _ _ => ?_)
                  by_cases hmm : pp_may E P ((e, s) :: row) e' s'
                  · rw [pp_if_t hmm, pp_if_t ⟨he', Or.inr ⟨by simp, hmm⟩⟩]
                  · rw [pp_if_f hmm, pp_if_f (fun h => ?_)]
                    rcases h.2 with ⟨h6, -⟩ | ⟨-, h6⟩
                    · simp at h6
                    · exact hmm h6
                unfold pp_rem
                by_cases hen : e + 1 < n
                · have e1 : (n - (e + 1)).toNat = (n - (e + 1 + 1)).toNat + 1 := by omega
                  rw [e1, pp_sum, show (6 - (-1 + 1) : Int).toNat = 6 from rfl, show (-1 + 1 : Int) = 0 from rfl]
                  dsimp only
                  rw [hG (e + 1) hen, pp_sum_congr (f := fun e' => pp_sum (fun s' => pp_if (e' < n ∧ pp_may0 E P ((e, s) :: row) e' s') (pp_go E P n k ((e', s') :: (e, s) :: row))) 6 0) _ _ (fun i h1 h2 => hG i (by omega))]
                  omega
                · rw [show (n - (e + 1)).toNat = 0 by omega, show (n - (e + 1 + 1)).toNat = 0 by omega, pp_sum, pp_sum, pp_sum_z _ _ (fun i h1 h2 => pp_if_f (fun h => by omega))]
                  omega
              rw [hgo]
              have hl1 : (((e, s) :: row).length : Int) - 1 = (row.length : Int) := by rw [hlc]; omega
              rw [hl1]
              have h5r : ∀ j : Int, 0 ≤ j → j < row.length + 1 → σ5.2 540 0 j = σ3.2 540 0 j ∧ σ5.2 541 0 j = σ3.2 541 0 j ∧ σ5.2 546 0 j = σ3.2 546 0 j ∧ σ5.2 547 0 j = σ3.2 547 0 j := by
                intro j hj0 hj
                obtain ⟨w1, w2, w3, w4⟩ := h5 j hj0 (by rw [hlc]; omega)
                refine ⟨?_, ?_, ?_, ?_⟩
                · rw [w1, hf4.2 540 (by decide)]
                · rw [w2, hf4.2 541 (by decide)]
                · rw [w3, eh_sA_c (by decide), eh_sA_n (by omega)]
                · rw [w4, eh_sA_n (by omega), eh_sA_c (by decide)]
              refine ihm σ5 (c + pp_go E P n (k + 1) ((e, s) :: row)) e s (by omega) hf5 ?_ (by rw [(h5r _ (by omega) (by omega)).2.2.1]; exact e3e) (by rw [(h5r _ (by omega) (by omega)).2.2.2]; exact e3s) (by omega) (by omega) (by omega) (fun h => by have := hhd h; omega) (fun σ6 hf6 h6 => ?_)
              · rw [pu_rowL_congr (f' := σ3.2 540 0) (g' := σ3.2 541 0) (fun k h0 h1 => ⟨(h5r k h0 (by omega)).1, (h5r k h0 (by omega)).2.1⟩)]
                exact hr3'
              · have hval : c + pp_go E P n (k + 1) ((e, s) :: row) + pp_rem (fun e s => pp_if (e < n ∧ pp_may0 E P row e s) (pp_go E P n (k + 1) ((e, s) :: row))) n e s = c + pp_rem (fun e s => pp_if (e < n ∧ pp_may0 E P row e s) (pp_go E P n (k + 1) ((e, s) :: row))) n e0 s0 := by
                  have h0 : (fun e s => pp_if (e < n ∧ pp_may0 E P row e s) (pp_go E P n (k + 1) ((e, s) :: row))) e s = pp_go E P n (k + 1) ((e, s) :: row) := pp_if_t ⟨he.2, hmay⟩
                  rw [hrem, h0]
                  omega
                rw [hval]
                refine hcont σ6 hf6 (fun j hj0 hj => ?_)
                obtain ⟨x1, x2, x3, x4⟩ := h6 j hj0 hj
                obtain ⟨y1, y2, y3, y4⟩ := h5r j hj0 (by omega)
                have hj40 : σ3.2 540 0 j = σ'.2 540 0 j ∧ σ3.2 541 0 j = σ'.2 541 0 j := pu_rowL_inj (hr3'.trans hr2'.symm) hj0 hj
                refine ⟨by rw [x1, y1]; exact hj40.1, by rw [x2, y2]; exact hj40.2, ?_, ?_⟩
                · rw [x3, y3, hf3.2 546 (by decide), h2a j (by omega)]; rfl
                · rw [x4, y4, hf3.2 547 (by decide), h2b j (by omega)]; rfl
          refine bX4_plain_111 hX (fun hok => ?_)
          rw [show (row.length : Int) + 1 - 1 = row.length by omega, e3e]
          refine ⟨bz_r _, fun h0 => ⟨by omega, by omega, by omega, down c (by rw [h0]; omega)⟩, fun h0 => ⟨by omega, by omega, by omega, down (c + 1) (by rw [bz_t (bz_n.mp h0)])⟩⟩
  have hf1 : eh_fr [542] [546, 547] σ (eh_sV (eh_sA (eh_sA σ 546 0 0 a) 547 0 0 (-1)) 542 0 0) := eh_fr_sV (eh_fr_sA (eh_fr_sA eh_fr_rf (by decide)) (by decide)) (by decide)
  refine key 12 [] rfl (Or.inl rfl) (n * 7 + 10).toNat _ 0 a (-1) (by omega) (eh_fr_up hf1 (by decide) (by decide)) rfl ?_ ?_ (by omega) (by omega) (by omega) (fun h => absurd rfl h) (fun σ2 hf2 _ => ?_)
  · show (eh_sV (eh_sA (eh_sA σ 546 0 0 a) 547 0 0 (-1)) 542 0 0).2 546 0 0 = a
    rw [eh_sV_2, eh_sA_c (by decide), eh_sA_p]
  · show (eh_sV (eh_sA (eh_sA σ 546 0 0 a) 547 0 0 (-1)) 542 0 0).2 547 0 0 = -1
    rw [eh_sV_2, eh_sA_p]
  · have hval : (0 : Int) + pp_rem (fun e s => pp_if (e < n ∧ pp_may0 E P [] e s) (pp_go E P n 12 [(e, s)])) n a (-1) = pp_all E P n a := by
      have hG : ∀ e, e < n → pp_sum (fun s => pp_if (e < n ∧ pp_may0 E P [] e s) (pp_go E P n 12 [(e, s)])) 6 0 = pp_if (pu_fits E P [] 0 e = true) (pp_go E P n 12 [(e, 0)]) := by
        intro e he
        rw [pp_sum, pp_sum_z _ _ (fun i h1 h2 => pp_if_f (fun h => ?_)), Int.add_zero]
        · by_cases hft : pu_fits E P [] 0 e = true
          · rw [pp_if_t hft, pp_if_t ⟨he, Or.inl ⟨rfl, rfl, hft⟩⟩]
          · rw [pp_if_f hft, pp_if_f (fun h => ?_)]
            rcases h.2 with ⟨-, -, h3⟩ | ⟨h3, -⟩
            · exact hft h3
            · exact h3 rfl
        · rcases h.2 with ⟨-, h3, -⟩ | ⟨h3, -⟩
          · omega
          · exact h3 rfl
      unfold pp_rem pp_all
      rw [Int.zero_add]
      by_cases han : a < n
      · have e1 : (n - a).toNat = (n - (a + 1)).toNat + 1 := by omega
        rw [e1, pp_sum, show (6 - (-1 + 1) : Int).toNat = 6 from rfl, show (-1 + 1 : Int) = 0 from rfl, hG a han, pp_sum_congr (f := fun e => pp_sum (fun s => pp_if (e < n ∧ pp_may0 E P [] e s) (pp_go E P n 12 [(e, s)])) 6 0) _ _ (fun i h1 h2 => hG i (by omega))]
      · rw [show (n - a).toNat = 0 by omega, show (n - (a + 1)).toNat = 0 by omega, pp_sum, pp_sum, pp_sum_z _ _ (fun i h1 h2 => pp_if_f (fun h => by omega))]
        rfl
    rw [hval]
    refine bX4_plain_66 hX (T240 := Tm_nextTry) rfl (fun hok => ⟨by simp, fun _ => hK σ2 hf2, fun h => by simp at h⟩)
