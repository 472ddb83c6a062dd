/-! EventHunterModel: the row at hand -/
/-- what stays: variables outside SV, arrays outside SA -/
def eh_fr (SV SA : List Nat) (σ σ' : eh_S) : Prop := (∀ v, v ∉ SV → σ'.1 v = σ.1 v) ∧ ∀ c, c ∉ SA → σ'.2 c = σ.2 c
theorem eh_fr_rf {SV SA : List Nat} {σ : eh_S} : eh_fr SV SA σ σ := ⟨fun _ _ => rfl, fun _ _ => rfl⟩
theorem eh_fr_tr {SV SA : List Nat} {σ σ' σ'' : eh_S} (h : eh_fr SV SA σ σ') (h' : eh_fr SV SA σ' σ'') : eh_fr SV SA σ σ'' := ⟨fun v hv => (h'.1 v hv).trans (h.1 v hv), fun c hc => (h'.2 c hc).trans (h.2 c hc)⟩
theorem eh_fr_up {SV SA SV' SA' : List Nat} {σ σ' : eh_S} (h : eh_fr SV SA σ σ') (h1 : ∀ v ∈ SV, v ∈ SV') (h2 : ∀ c ∈ SA, c ∈ SA') : eh_fr SV' SA' σ σ' := ⟨fun v hv => h.1 v (fun q => hv (h1 v q)), fun c hc => h.2 c (fun q => hc (h2 c q))⟩
theorem eh_fr_sA {SV SA : List Nat} {σ σ' : eh_S} {c : Nat} {i z x : Int} (h : eh_fr SV SA σ σ') (hc : c ∈ SA) : eh_fr SV SA σ (eh_sA σ' c i z x) := ⟨h.1, fun c' hc' => by rw [eh_sA_c (fun q => hc' (by rw [q]; exact hc))]; exact h.2 c' hc'⟩
theorem eh_fr_sV {SV SA : List Nat} {σ σ' : eh_S} {v : Nat} {i z : Int} (h : eh_fr SV SA σ σ') (hv : v ∈ SV) : eh_fr SV SA σ (eh_sV σ' v i z) := ⟨fun v' hv' => by rw [eh_sV_v (fun q => hv' (by rw [q]; exact hv))]; exact h.1 v' hv', h.2⟩
/-- a run's row, as it is stored -/
def pm_run (σ : eh_S) (p r : Int) : List (Int × Int) := pu_rowL (fun k => σ.2 532 0 (24 * (201 * p + r) + k)) (fun k => σ.2 533 0 (24 * (201 * p + r) + k)) (σ.2 530 0 (201 * p + r)).toNat
/-- only slot a of the runs has changed -/
def pm_slot (σ σ' : eh_S) (a : Int) : Prop := (∀ j, j ≠ a → σ'.2 530 0 j = σ.2 530 0 j ∧ σ'.2 531 0 j = σ.2 531 0 j) ∧ ∀ j, (j < 24 * a ∨ 24 * a + 24 ≤ j) → σ'.2 532 0 j = σ.2 532 0 j ∧ σ'.2 533 0 j = σ.2 533 0 j
theorem pu_test_go {t v w : Int} {R0 R1 : Prop} (h0 : ¬ (pu_test t v w = true) → R0) (h1 : pu_test t v w = true → R1) : ((t = 1 → ((w ≤ v → R0) ∧ (¬ w ≤ v → R1))) ∧ (¬ t = 1 → ((t = 2 → ((v = w → R1) ∧ (¬ v = w → R0))) ∧ (¬ t = 2 → ((v ≤ w → R0) ∧ (¬ v ≤ w → R1)))))) := by
  refine ⟨fun e1 => ⟨fun q => h0 ?_, fun q => h1 ?_⟩, fun e1 => ⟨fun e2 => ⟨fun q => h1 ?_, fun q => h0 ?_⟩, fun e2 => ⟨fun q => h0 ?_, fun q => h1 ?_⟩⟩⟩
  all_goals unfold pu_test
  · rw [if_pos e1]; simp; omega
  · rw [if_pos e1]; simp; omega
  · rw [if_neg e1, if_pos e2]; simp; omega
  · rw [if_neg e1, if_pos e2]; simp; omega
  · rw [if_neg e1, if_neg e2]; simp; omega
  · rw [if_neg e1, if_neg e2]; simp; omega
theorem pu_test_go2 {t v w : Int} {R0 R1 Rg : Prop} (hg : Rg) (h0 : ¬ (pu_test t v w = true) → R0) (h1 : pu_test t v w = true → R1) : ((t = 1 → Rg ∧ ((w ≤ v → R0) ∧ (¬ w ≤ v → R1))) ∧ (¬ t = 1 → ((t = 2 → Rg ∧ ((v = w → R1) ∧ (¬ v = w → R0))) ∧ (¬ t = 2 → Rg ∧ ((v ≤ w → R0) ∧ (¬ v ≤ w → R1)))))) := by
  obtain ⟨a, b⟩ := pu_test_go (t := t) (v := v) (w := w) h0 h1
  exact ⟨fun e => ⟨hg, a e⟩, fun e => ⟨fun e2 => ⟨hg, (b e).1 e2⟩, fun e2 => ⟨hg, (b e).2 e2⟩⟩⟩
def Tm_fits : eh_T := eh_RM fun as σ _ K => ∃ p s e : Int, as = [.inl p, .inl s, .inl e] ∧ (0 ≤ p ∧ p < 8) ∧ (0 ≤ s ∧ s < 6) ∧ (0 ≤ e ∧ e < 1000) ∧ (∀ j, 0 ≤ j → j < 16 → -1 ≤ σ.2 501 0 j ∧ σ.2 501 0 j < j) ∧ (-1 ≤ σ.2 509 0 e ∧ σ.2 509 0 e < 16) ∧ (pm_P σ p 2 s ≠ 0 → 0 ≤ pm_P σ p 3 s ∧ pm_P σ p 3 s ≤ 3) ∧ (0 ≤ σ.1 542 0 ∧ σ.1 542 0 ≤ 25) ∧ (∀ k, 0 ≤ k → k < σ.1 542 0 → 0 ≤ σ.2 540 0 k ∧ σ.2 540 0 k < 1000) ∧ K (some (.inl (bz (pu_fits (pm_E σ) (pm_P σ p) (pm_row σ) s e = true)))) σ
def Tm_isWhole : eh_T := eh_RM fun as σ _ K => ∃ p : Int, as = [.inl p] ∧ (0 ≤ p ∧ p < 8) ∧ (0 ≤ σ.2 519 0 p ∧ σ.2 519 0 p ≤ 6) ∧ (1 ≤ σ.1 542 0 ∧ σ.1 542 0 ≤ 25) ∧ (-1 ≤ pu_tip (pm_row σ) ∧ pu_tip (pm_row σ) ≤ 100) ∧ K (some (.inl (bz (pu_whole (pm_P σ p) (pu_tip (pm_row σ)))))) σ
def Tm_load : eh_T := eh_RM fun as σ _ K => ∃ p r : Int, as = [.inl p, .inl r] ∧ (0 ≤ p ∧ p < 8) ∧ (0 ≤ r ∧ r < 201) ∧ (0 ≤ σ.2 530 0 (201 * p + r) ∧ σ.2 530 0 (201 * p + r) ≤ 24) ∧ ∀ σ', eh_fr [542] [540, 541] σ σ' → σ'.1 542 0 = σ.2 530 0 (201 * p + r) → pm_row σ' = pm_run σ p r → K none σ'
def Tm_store : eh_T := eh_RM fun as σ _ K => ∃ p r h : Int, as = [.inl p, .inl r, .inl h] ∧ (0 ≤ p ∧ p < 8) ∧ (0 ≤ r ∧ r < 201) ∧ (h = 0 ∨ h = 1) ∧ (0 ≤ σ.1 542 0 ∧ σ.1 542 0 ≤ 24) ∧ ∀ σ', eh_fr [] [530, 531, 532, 533] σ σ' → pm_slot σ σ' (201 * p + r) → σ'.2 530 0 (201 * p + r) = σ.1 542 0 → σ'.2 531 0 (201 * p + r) = h → pm_run σ' p r = pm_row σ → K none σ'
def Tm_add : eh_T := eh_RM fun as σ _ K => ∃ e s : Int, as = [.inl e, .inl s] ∧ (eh_r e ∧ eh_r s) ∧ (0 ≤ σ.1 542 0 ∧ σ.1 542 0 < 25) ∧ ∀ σ', eh_fr [542] [540, 541] σ σ' → σ'.1 542 0 = σ.1 542 0 + 1 → pm_row σ' = (e, s) :: pm_row σ → K none σ'
theorem cm_fits (l : Launch) (D : va_G) (tc : Nat → ClassId) (ad : Nat → Int → Nat) (h99 : ∀ a : Int, ad 99 a = a.toNat) : eh_M l D tc ad eh_LX yX4_fits cX4_fits 10 (some .boolean) 1 Tm_fits := by
  refine eh_mk (rb := 1) (nm := eh_nX) (fl := eh_fl4) (kn := eh_kn4) (cs := (fun kk => match kk with | 157 => some (3, Tm_isA) | _ => none)) (ss := (fun _ => none)) (by decide) (eh_worldX h99) eh_fl4_ok eh_kn4_ok (fun kk n T h => by
    split at h
    · cases h; exact eh_callV (c0 := 4) (cm_isA l D tc ad h99) q730 q732 qs31 q49 q733 (by decide +kernel) (by decide) (by decide) (by decide) rfl (eh_worldX h99) (fun _ _ _ _ h => eh_RM_rec h)
    · cases h) (fun _ _ _ h => by cases h) ?_
  rintro as σ bd K ⟨_, rfl, p, s, e, rfl, hp, hs, he, hpar, hkd, hfl, hrm, hre, hK⟩
  refine ⟨Nat.le_of_ble_eq_true rfl, fun X hX => ?_⟩
  have hP2 : pm_P σ p 2 s = σ.2 526 0 (6 * p + s) := rfl
  have hP3 : pm_P σ p 3 s = σ.2 527 0 (6 * p + s) := rfl
  have hP4 : pm_P σ p 4 s = σ.2 528 0 (6 * p + s) := rfl
  have hE2 : ∀ j, pm_E σ 2 j = σ.2 512 0 j := fun _ => rfl
  rw [hP2, hP3] at hfl
  have hE : pu_fits (pm_E σ) (pm_P σ p) (pm_row σ) s e = (pu_is (σ.2 501 0) 17 (σ.2 509 0 e) (σ.2 525 0 (6 * p + s)) && (decide (σ.2 526 0 (6 * p + s) = 0) || (if σ.2 526 0 (6 * p + s) ≤ 3 then pu_test (σ.2 526 0 (6 * p + s)) (σ.2 512 0 (4 * e + σ.2 527 0 (6 * p + s))) (σ.2 528 0 (6 * p + s)) else (decide (pu_last (pm_row σ) (σ.2 528 0 (6 * p + s)) < 0) || pu_test (σ.2 526 0 (6 * p + s) - 3) (σ.2 512 0 (4 * e + σ.2 527 0 (6 * p + s))) (σ.2 512 0 (4 * pu_last (pm_row σ) (σ.2 528 0 (6 * p + s)) + σ.2 527 0 (6 * p + s))))))) := rfl
  rw [hE] at hK
  refine bX4_fits_0 hX (T157 := Tm_isA) rfl (fun hok => ⟨he, by omega, _, rfl, _, _, rfl, hkd, hok.2 _ _ _ (by decide) (by decide) (by decide) (by decide), hpar, ?_⟩)
  generalize hisA : pu_is (σ.2 501 0) 17 (σ.2 509 0 e) (σ.2 525 0 (6 * p + s)) = isA at hK ⊢
  refine bX4_fits_25 hX (fun hok => ⟨bz_r _, fun h0 => ?_, fun h0 => ⟨by omega, fun h1 => ?_, fun h1 => ?_⟩⟩)
  · exact eh_b0 hK (by simp [bz_0.mp h0])
  · exact eh_b1 hK (by simp [bz_n.mp h0, h1])
  · have hi : isA = true := bz_n.mp h0
    have hf := hfl h1
    rw [hi, decide_eq_false h1, Bool.true_and, Bool.false_or] at hK
    refine ⟨by omega, fun h2 => ?_, fun h2 => ?_⟩
    · rw [if_pos h2] at hK
      exact pu_test_go (fun q => eh_b0 hK q) (fun q => eh_b1 hK q)
    · rw [if_neg h2] at hK
      generalize hv : σ.2 512 0 (4 * e + σ.2 527 0 (6 * p + s)) = v at hK ⊢
      have hvr : eh_r v := by rw [← hv]; exact hok.2 _ _ _ (by decide) (by decide) (by decide) (by decide)
      unfold eh_r at hvr
      have htr : eh_r (σ.2 526 0 (6 * p + s)) := hok.2 _ _ _ (by decide) (by decide) (by decide) (by decide)
      unfold eh_r at htr
      have key : ∀ (n : Nat) (k a8 : Int) (o1 o2 o3 o7 : Option eh_V), (0 ≤ k ∧ k ≤ σ.1 542 0) → σ.1 542 0 - k < n → a8 = pu_last (pu_rowL (σ.2 540 0) (σ.2 541 0) k.toNat) (σ.2 528 0 (6 * p + s)) → (-1 ≤ a8 ∧ a8 < 1000) → X 85 [some (.inr (some (4, 0))), o1, o2, o3, some (.inl (6 * p + s)), some (.inl (σ.2 526 0 (6 * p + s))), some (.inl v), o7, some (.inl a8), some (.inl k)] [] σ (0, 0) := by
        intro n
        induction n with
        | zero => intro k a8 o1 o2 o3 o7 hk hn; omega
        | succ n ih =>
          intro k a8 o1 o2 o3 o7 hk hn ha8 h8
          refine bX4_fits_85 hX (fun hok => ⟨by omega, fun hd => ⟨by omega, fun h8' => ⟨by omega, by omega, by omega, fun h3 => absurd h3 h2, fun h3 => ⟨by omega, ?_⟩⟩, fun h8' => ?_⟩, fun hd => ⟨by omega, by omega, fun hq => ?_, fun hq => ?_⟩⟩)
          · have hk' : k = σ.1 542 0 := by omega
            have hl : pu_last (pm_row σ) (σ.2 528 0 (6 * p + s)) = a8 := by rw [ha8, hk']; rfl
            rw [hl] at hK
            rw [decide_eq_false (by omega), Bool.false_or] at hK
            exact pu_test_go2 (by omega) (fun q => eh_b0 hK q) (fun q => eh_b1 hK q)
          · have hk' : k = σ.1 542 0 := by omega
            have hl : pu_last (pm_row σ) (σ.2 528 0 (6 * p + s)) = a8 := by rw [ha8, hk']; rfl
            rw [hl, decide_eq_true (by omega)] at hK
            exact eh_b1 hK (by simp)
          · have h9 := hre k (by omega) (by omega)
            refine ih _ _ _ _ _ _ (by omega) (by omega) ?_ ⟨by omega, by omega⟩
            rw [show (k + 1).toNat = k.toNat + 1 by omega, pu_rowL, pu_last, Int.toNat_of_nonneg hk.1, if_pos hq]
          · refine ih _ _ _ _ _ _ (by omega) (by omega) ?_ h8
            rw [show (k + 1).toNat = k.toNat + 1 by omega, pu_rowL, pu_last, Int.toNat_of_nonneg hk.1, if_neg hq]
            exact ha8
      exact key 30 0 (-1) _ _ _ _ (by omega) (by omega) rfl (by omega)
theorem cm_isWhole (l : Launch) (D : va_G) (tc : Nat → ClassId) (ad : Nat → Int → Nat) (h99 : ∀ a : Int, ad 99 a = a.toNat) : eh_M l D tc ad eh_LX yX4_isWhole cX4_isWhole 3 (some .boolean) 1 Tm_isWhole := by
  refine eh_mk (rb := 1) (nm := eh_nX) (fl := eh_fl4) (kn := eh_kn4) (cs := (fun kk => match kk with | 163 => some (2, Tm_real) | _ => none)) (ss := (fun _ => none)) (by decide) (eh_worldX h99) eh_fl4_ok eh_kn4_ok (fun kk n T h => by
    split at h
    · cases h; exact eh_callV (c0 := 4) (cm_real l D tc ad h99) q722 q724 qs29 q49 q725 (by decide +kernel) (by decide) (by decide) (by decide) rfl (eh_worldX h99) (fun _ _ _ _ h => eh_RM_rec h)
    · cases h) (fun _ _ _ h => by cases h) ?_
  rintro as σ bd K ⟨_, rfl, p, rfl, hp, hs, hrm, htip, hK⟩
  refine ⟨Nat.le_of_ble_eq_true rfl, fun X hX => ?_⟩
  have ht : pu_tip (pm_row σ) = σ.2 541 0 (σ.1 542 0 - 1) := by
    unfold pm_row
    rw [pu_tip_rowL (by omega), Int.toNat_of_nonneg (by omega)]
  rw [ht] at hK htip
  have hrl := pu_real_le (pm_P σ p)
  have e5 : pm_P σ p 5 0 = σ.2 519 0 p := rfl
  rw [e5] at hrl
  generalize hg : σ.2 541 0 (σ.1 542 0 - 1) = t at hK htip
  have key : ∀ (n : Nat) (j : Int), t < j → j ≤ 110 → 110 - j < n → (∀ i, t < i → i < j → i < pu_real (pm_P σ p) → pm_P σ p 0 i = 2) → X 14 [some (.inr (some (4, 0))), some (.inl p), some (.inl j)] [] σ (0, 0) := by
    intro n
    induction n with
    | zero => intro j h1 h1' h2 h3; omega
    | succ n ih =>
      intro j h1 h1' h2 h3
      refine bX4_isWhole_14 hX (T163 := Tm_real) rfl (fun hok => ⟨_, rfl, _, rfl, hp, hs.2, ?_⟩)
      refine bX4_isWhole_20 hX (fun hok => ⟨by omega, by omega, fun h4 => ?_, fun h4 => ⟨by omega, fun h5 => ?_, fun h5 => ?_⟩⟩)
      · exact eh_b1 hK (fun i hi1 hi2 => h3 i hi1 (by omega) hi2)
      · refine ih _ (by omega) (by omega) (by omega) (fun i hi1 hi2 hi3 => ?_)
        by_cases hij : i = j
        · subst hij; exact h5
        · exact h3 i hi1 (by omega) hi3
      · exact eh_b0 hK (fun hw => h5 (hw j h1 (by omega)))
  refine bX4_isWhole_0 hX (fun hok => ⟨by omega, ?_⟩)
  rw [hg]
  exact key 200 (t + 1) (by omega) (by omega) (by omega) (fun i h1 h2 h3 => by omega)
theorem cm_load (l : Launch) (D : va_G) (tc : Nat → ClassId) (ad : Nat → Int → Nat) (h99 : ∀ a : Int, ad 99 a = a.toNat) : eh_M l D tc ad eh_LX yX4_load cX4_load 5 none 0 Tm_load := by
  refine eh_mk (rb := 2) (nm := eh_nX) (fl := eh_fl4) (kn := eh_kn4) (cs := (fun _ => none)) (ss := (fun _ => none)) (by decide) (eh_worldX h99) eh_fl4_ok eh_kn4_ok (fun _ _ _ h => by cases h) (fun _ _ _ h => by cases h) ?_
  rintro as σ bd K ⟨_, rfl, p, r, rfl, hp, hr, hl, hK⟩
  refine ⟨Nat.le_of_ble_eq_true rfl, fun X hX => ?_⟩
  have key : ∀ (n : Nat) (σ' : eh_S) (k : Int) (o1 o2 : Option eh_V), eh_fr [542] [540, 541] σ σ' → σ'.1 542 0 = σ.2 530 0 (201 * p + r) → (0 ≤ k ∧ k ≤ σ.2 530 0 (201 * p + r)) → σ.2 530 0 (201 * p + r) - k < n → (∀ i, 0 ≤ i → i < k → σ'.2 540 0 i = σ.2 532 0 (24 * (201 * p + r) + i) ∧ σ'.2 541 0 i = σ.2 533 0 (24 * (201 * p + r) + i)) → X 21 [some (.inr (some (4, 0))), o1, o2, some (.inl (201 * p + r)), some (.inl k)] [] σ' (0, 0) := by
    intro n
    induction n with
    | zero => intro σ' k o1 o2 hf h1 hk hn; omega
    | succ n ih =>
      intro σ' k o1 o2 hf h1 hk hn hc
      have e2 := hf.2 532 (by decide)
      have e3 := hf.2 533 (by decide)
      refine bX4_load_21 hX (fun hok => ⟨by omega, fun hd => ?_, fun hd => ⟨by omega, by omega, ?_⟩⟩)
      · refine hK σ' hf h1 ?_
        unfold pm_row pm_run
        rw [h1]
        exact pu_rowL_congr (fun i hi0 hi1 => hc i hi0 (by omega))
      · refine ih _ _ _ _ (eh_fr_sA (eh_fr_sA hf (by decide)) (by decide)) h1 (by omega) (by omega) (fun i hi0 hi1 => ?_)
        by_cases hik : i = k
        · subst hik
          rw [eh_sA_c (by decide), eh_sA_p, eh_sA_p, e2, e3]
          exact ⟨rfl, rfl⟩
        · rw [eh_sA_c (by decide), eh_sA_n hik, eh_sA_n hik, eh_sA_c (by decide)]
          exact hc i hi0 (by omega)
  refine bX4_load_0 hX (fun hok => ⟨by omega, ?_⟩)
  exact key 30 _ 0 _ _ (eh_fr_sV eh_fr_rf (by decide)) eh_sV_p (by omega) (by omega) (fun i h1 h2 => by omega)
theorem cm_store (l : Launch) (D : va_G) (tc : Nat → ClassId) (ad : Nat → Int → Nat) (h99 : ∀ a : Int, ad 99 a = a.toNat) : eh_M l D tc ad eh_LX yX4_store cX4_store 6 none 0 Tm_store := by
  refine eh_mk (rb := 2) (nm := eh_nX) (fl := eh_fl4) (kn := eh_kn4) (cs := (fun _ => none)) (ss := (fun _ => none)) (by decide) (eh_worldX h99) eh_fl4_ok eh_kn4_ok (fun _ _ _ h => by cases h) (fun _ _ _ h => by cases h) ?_
  rintro as σ bd K ⟨_, rfl, p, r, h, rfl, hp, hr, hh, hl, hK⟩
  refine ⟨Nat.le_of_ble_eq_true rfl, fun X hX => ?_⟩
  have key : ∀ (n : Nat) (σ' : eh_S) (k : Int) (o1 o2 o3 : Option eh_V), eh_fr [] [530, 531, 532, 533] σ σ' → pm_slot σ σ' (201 * p + r) → σ'.2 530 0 (201 * p + r) = σ.1 542 0 → σ'.2 531 0 (201 * p + r) = h → (0 ≤ k ∧ k ≤ σ.1 542 0) → σ.1 542 0 - k < n → (∀ i, 0 ≤ i → i < k → σ'.2 532 0 (24 * (201 * p + r) + i) = σ.2 540 0 i ∧ σ'.2 533 0 (24 * (201 * p + r) + i) = σ.2 541 0 i) → X 31 [some (.inr (some (4, 0))), o1, o2, o3, some (.inl (201 * p + r)), some (.inl k)] [] σ' (0, 0) := by
    intro n
    induction n with
    | zero => intro σ' k o1 o2 o3 hf hsl h1 h2 hk hn; omega
    | succ n ih =>
      intro σ' k o1 o2 o3 hf hsl h1 h2 hk hn hc
      have e1 := hf.1 542 (by decide)
      have e2 := hf.2 540 (by decide)
      have e3 := hf.2 541 (by decide)
      have e1' : σ'.1 542 0 = σ.1 542 0 := by rw [e1]
      refine bX4_store_31 hX (fun hok => ⟨by omega, fun hd => ?_, fun hd => ⟨by omega, by omega, ?_⟩⟩)
      · refine hK σ' hf hsl h1 h2 ?_
        unfold pm_row pm_run
        rw [h1]
        exact pu_rowL_congr (fun i hi0 hi1 => hc i hi0 (by omega))
      · refine ih _ _ _ _ _ (eh_fr_sA (eh_fr_sA hf (by decide)) (by decide)) ⟨fun j hj => ?_, fun j hj => ?_⟩ h1 h2 (by omega) (by omega) (fun i hi0 hi1 => ?_)
        · rw [eh_sA_c (by decide), eh_sA_c (by decide), eh_sA_c (by decide), eh_sA_c (by decide)]
          exact hsl.1 j hj
        · rw [eh_sA_c (by decide), eh_sA_n (by omega), eh_sA_n (by omega), eh_sA_c (by decide)]
          exact hsl.2 j hj
        · by_cases hik : i = k
          · subst hik
            rw [eh_sA_c (by decide), eh_sA_p, eh_sA_p, e2, e3]
            exact ⟨rfl, rfl⟩
          · rw [eh_sA_c (by decide), eh_sA_n (by omega), eh_sA_n (by omega), eh_sA_c (by decide)]
            exact hc i hi0 (by omega)
  refine bX4_store_0 hX (fun hok => ⟨by omega, hh, ?_⟩)
  refine key 30 _ 0 _ _ _ (eh_fr_sA (eh_fr_sA eh_fr_rf (by decide)) (by decide)) ⟨fun j hj => ?_, fun j hj => ?_⟩ ?_ ?_ (by omega) (by omega) (fun i h1 h2 => by omega)
  · rw [eh_sA_c (by decide), eh_sA_n hj, eh_sA_n hj, eh_sA_c (by decide)]
    exact ⟨rfl, rfl⟩
  · rw [eh_sA_c (by decide), eh_sA_c (by decide), eh_sA_c (by decide), eh_sA_c (by decide)]
    exact ⟨rfl, rfl⟩
  · rw [eh_sA_c (by decide), eh_sA_p]
  · rw [eh_sA_p]
theorem cm_add (l : Launch) (D : va_G) (tc : Nat → ClassId) (ad : Nat → Int → Nat) (h99 : ∀ a : Int, ad 99 a = a.toNat) : eh_M l D tc ad eh_LX yX4_add cX4_add 3 none 0 Tm_add := by
  refine eh_mk (rb := 2) (nm := eh_nX) (fl := eh_fl4) (kn := eh_kn4) (cs := (fun _ => none)) (ss := (fun _ => none)) (by decide) (eh_worldX h99) eh_fl4_ok eh_kn4_ok (fun _ _ _ h => by cases h) (fun _ _ _ h => by cases h) ?_
  rintro as σ bd K ⟨_, rfl, e, s, rfl, ⟨he, hs⟩, hm, hK⟩
  refine ⟨Nat.le_of_ble_eq_true rfl, fun X hX => ?_⟩
  refine bX4_add_0 hX (fun hok => ⟨hm, he, hs, by omega, ?_⟩)
  refine hK _ (eh_fr_sV (eh_fr_sA (eh_fr_sA eh_fr_rf (by decide)) (by decide)) (by decide)) eh_sV_p ?_
  unfold pm_row
  rw [eh_sV_p, show (σ.1 542 0 + 1).toNat = (σ.1 542 0).toNat + 1 by omega, pu_rowL, Int.toNat_of_nonneg hm.1, eh_sV_2, eh_sA_p, eh_sA_c (by decide), eh_sA_p]
  congr 1
  refine pu_rowL_congr (fun i hi0 hi1 => ?_)
  constructor
  · rw [eh_sA_n (by omega)]
  · rw [eh_sA_n (by omega), eh_sA_c (by decide)]
