/-! EventHunterModel: moves of the row at hand -/
theorem mc_sort {σ : eh_S} {p n j : Int} {E P : Nat → Int → Int} (h : mc_C σ p E P n) (h0 : 0 ≤ j) (h1 : j < P 5 0) : σ.2 524 0 (6 * p + j) = P 0 j := (h.2.2.2.1.2.2.2.2 j h0 h1).1
def mv_st (σ : eh_S) (ms : List Int) : Prop := σ.1 544 0 = (ms.length : Int) ∧ ∀ (i : Nat) (s : Int), ms[i]? = some s → σ.2 543 0 i = s
theorem mv_st_add {σ : eh_S} {ms : List Int} {j : Int} (h : mv_st σ ms) : mv_st (eh_sV (eh_sA σ 543 0 (σ.1 544 0) j) 544 0 ((σ.1 544 0) + 1)) (ms ++ [j]) := by
  refine ⟨?_, fun i s hs => ?_⟩
  · rw [eh_sV_p, h.1]
    simp
  · rw [eh_sV_2]
    by_cases hi : i < ms.length
    · rw [List.getElem?_append_left hi] at hs
      rw [eh_sA_n (by rw [h.1]; omega)]
      exact h.2 i s hs
    · rw [List.getElem?_append_right (by omega)] at hs
      have hi2 : i = ms.length := by
        cases hc2 : i - ms.length with
        | zero => omega
        | succ m => rw [hc2] at hs; simp at hs
      rw [hi2, Nat.sub_self] at hs
      cases hs
      rw [hi2, ← h.1, eh_sA_p]
theorem mv_st_fr {SV SA : List Nat} {σ σ' : eh_S} {ms : List Int} (h : mv_st σ ms) (hf : eh_fr SV SA σ σ') (hd : 543 ∉ SA) (hv : 544 ∉ SV) : mv_st σ' ms := by
  unfold mv_st
  rw [hf.1 544 hv, hf.2 543 hd]
  exact h
def eh_fl01 (a : Int) (b : Bool) : Prop := a = 0 ∧ b = false ∨ a = 1 ∧ b = true
theorem eh_fl01_bz (b : Bool) : eh_fl01 (bz (b = true)) b := by
  cases b
  · exact Or.inl ⟨bz_f (by decide), rfl⟩
  · exact Or.inr ⟨bz_t rfl, rfl⟩
theorem eh_fl01_r {a : Int} {b : Bool} (h : eh_fl01 a b) : a = 0 ∨ a = 1 := by
  rcases h with h | h
  · exact Or.inl h.1
  · exact Or.inr h.1
theorem eh_fl01_e {a : Int} {b : Bool} (h : eh_fl01 a b) : a = bz (b = true) := by
  rcases h with ⟨rfl, rfl⟩ | ⟨rfl, rfl⟩
  · exact (bz_f Bool.false_ne_true).symm
  · exact (bz_t rfl).symm
def Tm_findMoves : eh_T := eh_RM fun as σ _ K => ∃ (p e h n : Int) (hb : Bool) (E P : Nat → Int → Int) (row : pu_Rw), as = [.inl p, .inl e, .inl h] ∧ mc_C σ p E P n ∧ mc_row σ row ∧ pu_gd P n row ∧ (0 ≤ e ∧ e < n) ∧ eh_fl01 h hb ∧ ∀ σ', eh_fr [544] [543] σ σ' → mv_st σ' (pu_moves E P row hb e) → K none σ'
theorem cm_findMoves (l : Launch) (D : va_G) (tc : Nat → ClassId) (ad : Nat → Int → Nat) (h99 : ∀ a : Int, ad 99 a = a.toNat) : eh_M l D tc ad eh_LX yX4_findMoves cX4_findMoves 9 none 2 Tm_findMoves := by
  refine eh_mk (rb := 2) (nm := eh_nX) (fl := eh_fl4) (kn := eh_kn4) (cs := (fun kk => match kk with | 163 => some (2, Tm_real) | 173 => some (4, Tm_fits) | _ => none)) (ss := (fun _ => none)) (by decide) (eh_worldX h99) eh_fl4_ok eh_kn4_ok (fun kk n T h => by
    split at h
    · cases h; exact eh_callV (c0 := 4) (cm_real l D tc ad h99) q722 q724 qs29 q49 q725 (by decide +kernel) (by decide) (by decide) (by decide) rfl (eh_worldX h99) (fun _ _ _ _ h => eh_RM_rec h)
    · cases h; exact eh_callV (c0 := 4) (cm_fits l D tc ad h99) q726 q728 qs30 q49 q729 (by decide +kernel) (by decide) (by decide) (by decide) rfl (eh_worldX h99) (fun _ _ _ _ h => eh_RM_rec h)
    · cases h) (fun _ _ _ h => by cases h) ?_
  rintro as σ bd K ⟨_, rfl, p, e, h, n, hb, E, P, row, rfl, hC, hr, hg, he, hh, hK⟩
  refine ⟨Nat.le_of_ble_eq_true rfl, fun X hX => ?_⟩
  have hp := hC.1
  have hpo := hC.2.2.2.2.2
  have h5 := hpo.1
  have hlen := pu_gd_len hg hpo
  have htip := pu_gd_tip hg
  have hmem := pu_gd_mem hg
  have hrl := pu_real_le P
  have h01 := eh_fl01_r hh
  have hr1 := hr.1
  have ht : pu_tip row = σ.2 541 0 (σ.1 542 0 - 1) := by
    rw [← hr.2]
    unfold pm_row
    rw [pu_tip_rowL (by omega), Int.toNat_of_nonneg (by omega)]
  -- the own step once more
  have key2 : ∀ (m : Nat) (σ' : eh_S) (ms : List Int) (k c : Int) (o3 o5 o6 : Option eh_V), eh_fr [544] [543] σ σ' → mv_st σ' ms → ms.length ≤ 6 → (0 ≤ k ∧ k ≤ row.length) → row.length - k < m → c = pu_cnt (pu_rowL (σ.2 540 0) (σ.2 541 0) k.toNat) (pu_tip row) → (∀ σ'', eh_fr [544] [543] σ σ'' → mv_st σ'' (ms ++ pu_again E P row e) → K none σ'') → X 155 [some (.inr (some (4, 0))), some (.inl p), some (.inl e), o3, some (.inl (pu_tip row)), o5, o6, some (.inl c), some (.inl k)] [] σ' (0, 0) := by
    intro m
    induction m with
    | zero => intro σ' ms k c o3 o5 o6 hf hmv hml hk hn; omega
    | succ m ih =>
      intro σ' ms k c o3 o5 o6 hf hmv hml hk hn hc hk2
      have e1 : σ'.1 542 0 = σ.1 542 0 := by rw [hf.1 542 (by decide)]
      have e4 := hf.2 541 (by decide)
      have hv := mc_sort (mc_C_fr hC hf (by decide)) htip.1.1 htip.1.2
      have hmv1 := hmv.1
      have hcn := pu_cnt_nn (pu_rowL (σ.2 540 0) (σ.2 541 0) k.toNat) (pu_tip row)
      rw [pu_rowL_len] at hcn
      refine bX4_findMoves_155 hX (T173 := Tm_fits) rfl (fun hok => ?_)
      rw [hv, e4]
      refine ⟨by omega, fun hd => ⟨by omega, fun hs => ⟨by omega, fun h4 => ?_, fun h4 => ?_⟩, fun hs => ?_⟩, fun hd => ⟨by omega, by omega, fun hq => ?_, fun hq => ?_⟩⟩
      · have hcr : pu_cnt row (pu_tip row) = c := by
          rw [hc, show k.toNat = (σ.1 542 0).toNat by omega, ← hr.2]
          rfl
        refine hk2 σ' hf ?_
        unfold pu_again
        rw [if_neg (by omega), List.append_nil]
        exact hmv
      · have hcr : pu_cnt row (pu_tip row) = c := by
          rw [hc, show k.toNat = (σ.1 542 0).toNat by omega, ← hr.2]
          rfl
        refine Tm_fits_go (mc_C_fr hC hf (by decide)) (mc_row_fr hr hf (by decide) (by decide)) (by omega) hmem htip.1 he ?_
        refine bX4_findMoves_222 hX (fun hok => ⟨bz_r _, fun h0 => ?_, fun h0 => ⟨by omega, by omega, by omega, ?_⟩⟩)
        · refine hk2 σ' hf ?_
          unfold pu_again
          rw [if_neg (fun q => bz_0.mp h0 q.2.2), List.append_nil]
          exact hmv
        · refine hk2 _ (eh_fr_sV (eh_fr_sA hf (by decide)) (by decide)) ?_
          unfold pu_again
          rw [if_pos ⟨hs, by omega, bz_n.mp h0⟩]
          exact mv_st_add hmv
      · refine hk2 σ' hf ?_
        unfold pu_again
        rw [if_neg (fun q => hs q.1), List.append_nil]
        exact hmv
      · refine ih _ _ _ _ _ _ _ hf hmv hml (by omega) (by omega) ?_ hk2
        rw [show (k + 1).toNat = k.toNat + 1 by omega, pu_rowL, pu_cnt, Int.toNat_of_nonneg hk.1, if_pos hq, hc]
        omega
      · refine ih _ _ _ _ _ _ _ hf hmv hml (by omega) (by omega) ?_ hk2
        rw [show (k + 1).toNat = k.toNat + 1 by omega, pu_rowL, pu_cnt, Int.toNat_of_nonneg hk.1, if_neg hq, hc]
        omega
  -- behind a step that must be taken
  have key0 : ∀ (σ' : eh_S) (ms : List Int) (j a6 : Int) (o8 : Option eh_V), eh_fr [544] [543] σ σ' → mv_st σ' ms → ms.length ≤ 6 → (-10 ≤ j ∧ j ≤ 10) → (∀ σ'', eh_fr [544] [543] σ σ'' → mv_st σ'' (ms ++ pu_again E P row e) → K none σ'') → X 30 [some (.inr (some (4, 0))), some (.inl p), some (.inl e), some (.inl h), some (.inl (pu_tip row)), some (.inl 0), some (.inl a6), some (.inl j), o8] [] σ' (0, 0) := by
    intro σ' ms j a6 o8 hf hmv hml hj hk2
    refine bX4_findMoves_30 hX (T163 := Tm_real) rfl (fun hok => Tm_real_go (mc_C_fr hC hf (by decide)) ?_)
    refine bX4_findMoves_37 hX (T173 := Tm_fits) rfl (fun hok => ⟨by omega, by omega, fun h4 => ?_, fun h4 => ⟨by omega, fun h6 => ?_, fun h6 => absurd rfl h6⟩⟩)
    · exact key2 30 σ' ms 0 0 _ _ _ hf hmv hml (by omega) (by omega) rfl hk2
    · exact key2 30 σ' ms 0 0 _ _ _ hf hmv hml (by omega) (by omega) rfl hk2
  have key1 : ∀ (fuel : Nat) (σ' : eh_S) (ms : List Int) (j a6 : Int) (over : Bool) (o8 : Option eh_V), eh_fr [544] [543] σ σ' → mv_st σ' ms → ms.length + fuel ≤ 6 → pu_tip row < j → P 5 0 ≤ j + fuel → j ≤ 10 → eh_fl01 a6 over → (∀ σ'', eh_fr [544] [543] σ σ'' → mv_st σ'' ((ms ++ pu_mv E P row hb e fuel j over) ++ pu_again E P row e) → K none σ'') → X 30 [some (.inr (some (4, 0))), some (.inl p), some (.inl e), some (.inl h), some (.inl (pu_tip row)), some (.inl 1), some (.inl a6), some (.inl j), o8] [] σ' (0, 0) := by
    intro fuel
    induction fuel with
    | zero =>
      intro σ' ms j a6 over o8 hf hmv hml hj hj2 hj3 h6 hk2
      refine bX4_findMoves_30 hX (T163 := Tm_real) rfl (fun hok => Tm_real_go (mc_C_fr hC hf (by decide)) ?_)
      refine bX4_findMoves_37 hX (T173 := Tm_fits) rfl (fun hok => ⟨by omega, by omega, fun h4 => ?_, fun h4 => absurd (show pu_real P ≤ j by omega) h4⟩)
      rw [pu_mv, List.append_nil] at hk2
      exact key2 30 σ' ms 0 0 _ _ _ hf hmv (by omega) (by omega) (by omega) rfl hk2
    | succ fuel ih =>
      intro σ' ms j a6 over o8 hf hmv hml hj hj2 hj3 h6 hk2
      have h601 := eh_fl01_r h6
      have hmv1 := hmv.1
      by_cases hjr : j < pu_real P
      · have hv := mc_sort (mc_C_fr hC hf (by decide)) (show 0 ≤ j by omega) (show j < P 5 0 by omega)
        have hsr := hpo.2.1 j (by omega) (by omega)
        rw [pu_mv, if_pos hjr] at hk2
        have stp : ∀ (σ2 : eh_S) (add : List Int) (a5 b6 : Int) (o8 : Option eh_V), eh_fr [544] [543] σ σ2 → mv_st σ2 (ms ++ add) → add.length ≤ 1 → add = (if P 0 j ≠ 3 ∧ ¬ (over && hb) = true ∧ pu_fits E P row j e = true then [j] else []) → ((P 0 j = 2 ∨ P 0 j = 3) → a5 = 1 ∧ eh_fl01 b6 (over || decide (P 0 j = 3))) → (¬ (P 0 j = 2 ∨ P 0 j = 3) → a5 = 0) → X 30 [some (.inr (some (4, 0))), some (.inl p), some (.inl e), some (.inl h), some (.inl (pu_tip row)), some (.inl a5), some (.inl b6), some (.inl (j + 1)), o8] [] σ2 (0, 0) := by
          intro σ2 add a5 b6 o8 hf2 hmv2 hal hadd hy hn
          rw [← hadd] at hk2
          by_cases hc : P 0 j = 2 ∨ P 0 j = 3
          · obtain ⟨rfl, hb6⟩ := hy hc
            rw [if_pos hc] at hk2
            refine ih σ2 (ms ++ add) (j + 1) b6 _ _ hf2 hmv2 (by rw [List.length_append]; omega) (by omega) (by omega) (by omega) hb6 ?_
            rw [List.append_assoc ms add]
            exact hk2
          · rw [hn hc]
            rw [if_neg hc, List.append_nil] at hk2
            exact key0 σ2 (ms ++ add) (j + 1) b6 _ hf2 hmv2 (by rw [List.length_append]; omega) (by omega) hk2
        have hmv0 : mv_st σ' (ms ++ []) := by rw [List.append_nil]; exact hmv
        refine bX4_findMoves_30 hX (T163 := Tm_real) rfl (fun hok => Tm_real_go (mc_C_fr hC hf (by decide)) ?_)
        refine bX4_findMoves_37 hX (T173 := Tm_fits) rfl (fun hok => ?_)
        rw [hv]
        have go82 : ¬ P 0 j = 3 → ¬ (over && hb) = true → ∀ o5 : Option eh_V, Tm_fits [.inr (some (4, 0)), .inl p, .inl j, .inl e] σ' (0, 0) (fun r σ1 => X 82 [some (.inr (some (4, 0))), some (.inl p), some (.inl e), some (.inl h), some (.inl (pu_tip row)), o5, some (.inl a6), some (.inl j), some (.inl (P 0 j))] (r.toList ++ []) σ1 (0, 0)) := by
          intro h3 hoh o5
          refine Tm_fits_go (mc_C_fr hC hf (by decide)) (mc_row_fr hr hf (by decide) (by decide)) (by omega) hmem ⟨by omega, by omega⟩ he ?_
          by_cases hft : pu_fits E P row j e = true
          · have hadd : [j] = (if P 0 j ≠ 3 ∧ ¬ (over && hb) = true ∧ pu_fits E P row j e = true then [j] else []) := by rw [if_pos ⟨h3, hoh, hft⟩]
            have hf2 := eh_fr_sV (v := 544) (i := 0) (z := (σ'.1 544 0) + 1) (eh_fr_sA (c := 543) (i := 0) (z := σ'.1 544 0) (x := j) hf (by decide)) (by decide)
            refine bX4_findMoves_82 hX (fun hok => ⟨bz_r _, fun h0 => absurd hft (bz_0.mp h0), fun h0 => ⟨by omega, by omega, by omega, by omega, fun q6 => ⟨by omega, fun q3 => absurd q3 h3, fun q3 => ⟨fun q2 => ?_, fun q2 => ?_⟩⟩, fun q6 => ⟨by omega, fun q2 => ?_, fun q2 => ⟨fun q3 => absurd q3 h3, fun q3 => ?_⟩⟩⟩⟩)
            · refine stp _ _ _ _ _ hf2 (mv_st_add hmv) (by simp) hadd (fun _ => ⟨rfl, ?_⟩) (fun q => absurd (Or.inl q2) q)
              rw [decide_eq_false h3, Bool.or_false]
              rw [← q6]; exact h6
            · exact stp _ _ _ _ _ hf2 (mv_st_add hmv) (by simp) hadd (fun q => absurd q (by omega)) (fun _ => rfl)
            · refine stp _ _ _ _ _ hf2 (mv_st_add hmv) (by simp) hadd (fun _ => ⟨rfl, ?_⟩) (fun q => absurd (Or.inl q2) q)
              rw [decide_eq_false h3, Bool.or_false]
              rcases h6 with h6 | h6
              · exact absurd h6.1 q6
              · exact Or.inr ⟨rfl, h6.2⟩
            · exact stp _ _ _ _ _ hf2 (mv_st_add hmv) (by simp) hadd (fun q => absurd q (by omega)) (fun _ => rfl)
          · have hadd : [] = (if P 0 j ≠ 3 ∧ ¬ (over && hb) = true ∧ pu_fits E P row j e = true then [j] else []) := by rw [if_neg (fun q => hft q.2.2)]
            refine bX4_findMoves_82 hX (fun hok => ⟨bz_r _, fun h0 => ⟨by omega, fun q6 => ⟨by omega, fun q3 => absurd q3 h3, fun q3 => ⟨fun q2 => ?_, fun q2 => ?_⟩⟩, fun q6 => ⟨by omega, fun q2 => ?_, fun q2 => ⟨fun q3 => absurd q3 h3, fun q3 => ?_⟩⟩⟩, fun h0 => absurd (bz_n.mp h0) hft⟩)
            · refine stp _ _ _ _ _ hf hmv0 (by simp) hadd (fun _ => ⟨rfl, ?_⟩) (fun q => absurd (Or.inl q2) q)
              rw [decide_eq_false h3, Bool.or_false]
              rw [← q6]; exact h6
            · exact stp _ _ _ _ _ hf hmv0 (by simp) hadd (fun q => absurd q (by omega)) (fun _ => rfl)
            · refine stp _ _ _ _ _ hf hmv0 (by simp) hadd (fun _ => ⟨rfl, ?_⟩) (fun q => absurd (Or.inl q2) q)
              rw [decide_eq_false h3, Bool.or_false]
              rcases h6 with h6 | h6
              · exact absurd h6.1 q6
              · exact Or.inr ⟨rfl, h6.2⟩
            · exact stp _ _ _ _ _ hf hmv0 (by simp) hadd (fun q => absurd q (by omega)) (fun _ => rfl)
        have hor : P 0 j = 3 → eh_fl01 1 (over || decide (P 0 j = 3)) := fun q => Or.inr ⟨rfl, by rw [decide_eq_true q, Bool.or_true]⟩
        refine ⟨by omega, by omega, fun h4 => absurd hjr (by omega), fun h4 => ⟨by omega, fun q5 => absurd q5 (by decide), fun q5 => ⟨by omega, fun q3 => ⟨by omega, fun q6 => ⟨fun q2 => ?_, fun q2 => ?_⟩, fun q6 => ⟨fun q2 => ?_, fun q2 => ?_⟩⟩, fun q3 => ⟨by omega, fun q6 => ?_, fun q6 => ⟨by omega, fun qh => ?_, fun qh => ⟨fun q2 => ?_, fun q2 => ?_⟩⟩⟩⟩⟩⟩
        · omega
        · exact stp _ _ _ _ _ hf hmv0 (by simp) (by rw [if_neg (fun q => q.1 q3)]) (fun _ => ⟨rfl, hor q3⟩) (fun q => absurd (Or.inr q3) q)
        · omega
        · exact stp _ _ _ _ _ hf hmv0 (by simp) (by rw [if_neg (fun q => q.1 q3)]) (fun _ => ⟨rfl, hor q3⟩) (fun q => absurd (Or.inr q3) q)
        · refine go82 q3 (fun q => ?_) _
          rcases h6 with h6 | h6
          · rw [h6.2] at q; simp at q
          · omega
        · refine go82 q3 (fun q => ?_) _
          rcases hh with hh | hh
          · rw [hh.2] at q; simp at q
          · omega
        · have hov : over = true := by
            rcases h6 with h6 | h6
            · exact absurd h6.1 q6
            · exact h6.2
          have hhb : hb = true := by
            rcases hh with hh | hh
            · exact absurd hh.1 qh
            · exact hh.2
          exact stp _ _ _ _ _ hf hmv0 (by simp) (by rw [if_neg (fun q => q.2.1 (by rw [hov, hhb]; rfl))]) (fun _ => ⟨rfl, Or.inr ⟨rfl, by rw [hov]; rfl⟩⟩) (fun q => absurd (Or.inl q2) q)
        · have hov : over = true := by
            rcases h6 with h6 | h6
            · exact absurd h6.1 q6
            · exact h6.2
          have hhb : hb = true := by
            rcases hh with hh | hh
            · exact absurd hh.1 qh
            · exact hh.2
          exact stp _ _ _ _ _ hf hmv0 (by simp) (by rw [if_neg (fun q => q.2.1 (by rw [hov, hhb]; rfl))]) (fun q => absurd q (by omega)) (fun _ => rfl)
      · refine bX4_findMoves_30 hX (T163 := Tm_real) rfl (fun hok => Tm_real_go (mc_C_fr hC hf (by decide)) ?_)
        refine bX4_findMoves_37 hX (T173 := Tm_fits) rfl (fun hok => ⟨by omega, by omega, fun h4 => ?_, fun h4 => absurd (show pu_real P ≤ j by omega) h4⟩)
        rw [pu_mv, if_neg hjr, List.append_nil] at hk2
        exact key2 30 σ' ms 0 0 _ _ _ hf hmv (by omega) (by omega) (by omega) rfl hk2
  refine bX4_findMoves_0 hX (fun hok => ⟨by omega, ?_⟩)
  rw [← ht]
  refine key1 6 _ [] (pu_tip row + 1) 0 false _ (eh_fr_sV eh_fr_rf (by decide)) ⟨by rw [eh_sV_p]; rfl, fun i s hs => by simp at hs⟩ (by simp) (by omega) (by omega) (by omega) (Or.inl ⟨rfl, rfl⟩) (fun σ'' hf hmv => hK σ'' hf ?_)
  exact hmv
