/-! EventHunterModel: contracts over a picture of it -/
def mc_C (σ : eh_S) (p : Int) (E P : Nat → Int → Int) (n : Int) : Prop := (0 ≤ p ∧ p < 8) ∧ n ≤ 1000 ∧ pu_sE (pm_E σ) E n ∧ pu_sP (pm_P σ p) P ∧ pu_eok E n ∧ pu_pok P
theorem mc_C_fr {SV SA : List Nat} {σ σ' : eh_S} {p n : Int} {E P : Nat → Int → Int} (h : mc_C σ p E P n) (hf : eh_fr SV SA σ σ') (hd : ∀ c ∈ [501, 509, 510, 512, 516, 517, 518, 519, 524, 525, 526, 527, 528], c ∉ SA) : mc_C σ' p E P n := by
  have e1 : pm_E σ' = pm_E σ := by
    funext id
    simp only [pm_E, hf.2 501 (hd 501 (by decide)), hf.2 509 (hd 509 (by decide)), hf.2 510 (hd 510 (by decide)), hf.2 512 (hd 512 (by decide))]
  have e2 : pm_P σ' p = pm_P σ p := by
    funext id j
    simp only [pm_P, hf.2 516 (hd 516 (by decide)), hf.2 517 (hd 517 (by decide)), hf.2 518 (hd 518 (by decide)), hf.2 519 (hd 519 (by decide)), hf.2 524 (hd 524 (by decide)), hf.2 525 (hd 525 (by decide)), hf.2 526 (hd 526 (by decide)), hf.2 527 (hd 527 (by decide)), hf.2 528 (hd 528 (by decide))]
  unfold mc_C
  rw [e1, e2]
  exact h
def mc_row (σ : eh_S) (row : pu_Rw) : Prop := σ.1 542 0 = (row.length : Int) ∧ pm_row σ = row
theorem mc_row_fr {SV SA : List Nat} {σ σ' : eh_S} {row : pu_Rw} (h : mc_row σ row) (hf : eh_fr SV SA σ σ') (hd : ∀ c ∈ [540, 541], c ∉ SA) (hv : 542 ∉ SV) : mc_row σ' row := by
  unfold mc_row pm_row
  rw [hf.1 542 hv, hf.2 540 (hd 540 (by decide)), hf.2 541 (hd 541 (by decide))]
  exact h
theorem mc_row_mk {σ : eh_S} {row : pu_Rw} (h : pm_row σ = row) (h0 : 0 ≤ σ.1 542 0) : mc_row σ row := by
  refine ⟨?_, h⟩
  rw [← h]
  unfold pm_row
  rw [pu_rowL_len]
  omega
/-- only place i of an array has changed -/
def eh_at (σ σ' : eh_S) (c : Nat) (i : Int) : Prop := ∀ j, j ≠ i → σ'.2 c 0 j = σ.2 c 0 j
theorem bz_congr {P Q : Prop} (h : P ↔ Q) : bz P = bz Q := by rw [propext h]
theorem Tm_fits_go {σ : eh_S} {p n s e : Int} {E P : Nat → Int → Int} {row : pu_Rw} {bd : Nat × Nat} {K : Option eh_V → eh_S → Prop} (h : mc_C σ p E P n) (hr : mc_row σ row) (hl : row.length ≤ 25) (hm : ∀ q ∈ row, 0 ≤ q.1 ∧ q.1 < n) (hs : 0 ≤ s ∧ s < P 5 0) (he : 0 ≤ e ∧ e < n) (hK : K (some (.inl (bz (pu_fits E P row s e = true)))) σ) : Tm_fits [.inr (some (4, 0)), .inl p, .inl s, .inl e] σ bd K := by
  obtain ⟨hp, hn, hE, hP, heo, hpo⟩ := h
  have h5 := hpo.1
  obtain ⟨a0, a1, a2, a3⟩ := hP.2.2.2.2 s hs.1 hs.2
  obtain ⟨b0, b1, b2, b3, b4⟩ := hpo.2.1 s hs.1 hs.2
  refine ⟨_, rfl, p, s, e, rfl, hp, ⟨hs.1, by omega⟩, ⟨he.1, by omega⟩, fun j h0 h1 => ?_, ?_, fun q => ?_, ?_, fun k h0 h1 => ?_, ?_⟩
  · have e3 : pm_E σ 3 j = σ.2 501 0 j := rfl
    rw [← e3, hE.1 j h0 h1]
    exact heo.1 j h0 h1
  · have h2 := heo.2 e he.1 he.2
    have e3 : pm_E σ 0 e = σ.2 509 0 e := rfl
    rw [← e3, (hE.2.1 e he.1 he.2).1]
    omega
  · rw [a2] at q
    rw [(a3 q).1]
    exact b3 q
  · rw [hr.1]
    omega
  · have hmem : (σ.2 540 0 k, σ.2 541 0 k) ∈ pm_row σ := pu_rowL_in h0 (by omega)
    rw [hr.2] at hmem
    have := hm _ hmem
    dsimp only at this
    omega
  · rw [hr.2, pu_fits_congr hE hP heo hpo hs he hm]
    exact hK
theorem Tm_isWhole_go {σ : eh_S} {p n : Int} {E P : Nat → Int → Int} {row : pu_Rw} {bd : Nat × Nat} {K : Option eh_V → eh_S → Prop} (h : mc_C σ p E P n) (hr : mc_row σ row) (hl : 1 ≤ row.length ∧ row.length ≤ 25) (ht : 0 ≤ pu_tip row ∧ pu_tip row < P 5 0) (hK : K (some (.inl (bz (pu_wh P (pu_tip row) = true)))) σ) : Tm_isWhole [.inr (some (4, 0)), .inl p] σ bd K := by
  obtain ⟨hp, hn, hE, hP, heo, hpo⟩ := h
  have h5 := hpo.1
  have e5 : σ.2 519 0 p = P 5 0 := hP.1
  refine ⟨_, rfl, p, rfl, hp, by omega, ?_, ?_, ?_⟩
  · rw [hr.1]
    omega
  · rw [hr.2]
    omega
  · rw [hr.2, bz_congr (pu_whole_congr hP (by omega)), bz_congr pu_wh_t.symm]
    exact hK
theorem Tm_real_go {σ : eh_S} {p n : Int} {E P : Nat → Int → Int} {bd : Nat × Nat} {K : Option eh_V → eh_S → Prop} (h : mc_C σ p E P n) (hK : K (some (.inl (pu_real P))) σ) : Tm_real [.inr (some (4, 0)), .inl p] σ bd K := by
  obtain ⟨hp, hn, hE, hP, heo, hpo⟩ := h
  have h5 := hpo.1
  have e5 : σ.2 519 0 p = P 5 0 := hP.1
  refine ⟨_, rfl, p, rfl, hp, by omega, ?_⟩
  rw [pu_real_congr hP]
  exact hK
/-- a run in its place -/
def mr_s (σ : eh_S) (p r : Int) (x : pu_Rn) : Prop := σ.2 530 0 (201 * p + r) = (x.1.length : Int) ∧ x.1.length ≤ 24 ∧ pm_run σ p r = x.1 ∧ σ.2 531 0 (201 * p + r) = bz (x.2 = true)
theorem pm_run_slot {σ σ' : eh_S} {p r q r' : Int} (hl : σ.2 530 0 (201 * p + r) ≤ 24) (hs : pm_slot σ σ' (201 * q + r')) (hne : 201 * p + r ≠ 201 * q + r') : pm_run σ' p r = pm_run σ p r := by
  have e1 := (hs.1 (201 * p + r) hne).1
  unfold pm_run
  rw [e1]
  refine pu_rowL_congr (fun k h0 h1 => hs.2 _ (by omega))
theorem mr_s_slot {σ σ' : eh_S} {p r q r' : Int} {x : pu_Rn} (h : mr_s σ p r x) (hs : pm_slot σ σ' (201 * q + r')) (hne : 201 * p + r ≠ 201 * q + r') : mr_s σ' p r x := by
  obtain ⟨h1, h2, h3, h4⟩ := h
  have e1 := hs.1 (201 * p + r) hne
  refine ⟨by rw [e1.1]; exact h1, h2, ?_, by rw [e1.2]; exact h4⟩
  rw [pm_run_slot (by omega) hs hne]
  exact h3
theorem mr_s_fr {SV SA : List Nat} {σ σ' : eh_S} {p r : Int} {x : pu_Rn} (h : mr_s σ p r x) (hf : eh_fr SV SA σ σ') (hd : ∀ c ∈ [530, 531, 532, 533], c ∉ SA) : mr_s σ' p r x := by
  unfold mr_s pm_run
  rw [hf.2 530 (hd 530 (by decide)), hf.2 531 (hd 531 (by decide)), hf.2 532 (hd 532 (by decide)), hf.2 533 (hd 533 (by decide))]
  exact h
theorem pm_slot_fr {SV SA : List Nat} {σ σ' : eh_S} {a : Int} (hf : eh_fr SV SA σ σ') (hd : ∀ c ∈ [530, 531, 532, 533], c ∉ SA) : pm_slot σ σ' a := by
  unfold pm_slot
  rw [hf.2 530 (hd 530 (by decide)), hf.2 531 (hd 531 (by decide)), hf.2 532 (hd 532 (by decide)), hf.2 533 (hd 533 (by decide))]
  exact ⟨fun _ _ => ⟨rfl, rfl⟩, fun _ _ => ⟨rfl, rfl⟩⟩
theorem pm_slot_tr {σ σ' σ'' : eh_S} {a : Int} (h : pm_slot σ σ' a) (h' : pm_slot σ' σ'' a) : pm_slot σ σ'' a := ⟨fun j hj => ⟨(h'.1 j hj).1.trans (h.1 j hj).1, (h'.1 j hj).2.trans (h.1 j hj).2⟩, fun j hj => ⟨(h'.2 j hj).1.trans (h.2 j hj).1, (h'.2 j hj).2.trans (h.2 j hj).2⟩⟩
def mr_L (σ : eh_S) (p : Int) (L : List pu_Rn) : Prop := σ.2 529 0 p = (L.length : Int) ∧ ∀ (i : Nat) (x : pu_Rn), L[i]? = some x → mr_s σ p i x
theorem mr_L_fr {SV SA : List Nat} {σ σ' : eh_S} {p : Int} {L : List pu_Rn} (h : mr_L σ p L) (hf : eh_fr SV SA σ σ') (hd : ∀ c ∈ [529, 530, 531, 532, 533], c ∉ SA) : mr_L σ' p L := by
  refine ⟨?_, fun i x hx => mr_s_fr (h.2 i x hx) hf (fun c hc => hd c (List.mem_cons_of_mem _ hc))⟩
  rw [hf.2 529 (hd 529 (by decide))]
  exact h.1
/-- a match in its place; all of them -/
def mm_s (σ : eh_S) (i : Int) (x : Int × pu_Rw) : Prop := σ.2 536 0 i = x.1 ∧ σ.2 537 0 i = (x.2.length : Int) ∧ x.2.length ≤ 24 ∧ pu_rowL (fun k => σ.2 538 0 (24 * i + k)) (fun k => σ.2 539 0 (24 * i + k)) x.2.length = x.2
theorem mm_s_fr {SV SA : List Nat} {σ σ' : eh_S} {i : Int} {x : Int × pu_Rw} (h : mm_s σ i x) (hf : eh_fr SV SA σ σ') (hd : ∀ c ∈ [536, 537, 538, 539], c ∉ SA) : mm_s σ' i x := by
  unfold mm_s
  rw [hf.2 536 (hd 536 (by decide)), hf.2 537 (hd 537 (by decide)), hf.2 538 (hd 538 (by decide)), hf.2 539 (hd 539 (by decide))]
  exact h
def mm_M (σ : eh_S) (ms : List (Int × pu_Rw)) : Prop := σ.1 535 0 = (ms.length : Int) ∧ ∀ (i : Nat) (x : Int × pu_Rw), i < 1000 → ms[i]? = some x → mm_s σ i x
theorem mm_M_fr {SV SA : List Nat} {σ σ' : eh_S} {ms : List (Int × pu_Rw)} (h : mm_M σ ms) (hf : eh_fr SV SA σ σ') (hd : ∀ c ∈ [536, 537, 538, 539], c ∉ SA) (hv : 535 ∉ SV) : mm_M σ' ms := by
  refine ⟨?_, fun i x hi hx => mm_s_fr (h.2 i x hi hx) hf hd⟩
  rw [hf.1 535 hv]
  exact h.1
def Tm_tell : eh_T := eh_RM fun as σ _ K => ∃ (p : Int) (row : pu_Rw) (ms : List (Int × pu_Rw)), as = [.inl p] ∧ (0 ≤ p ∧ p < 8) ∧ mc_row σ row ∧ row.length ≤ 24 ∧ mm_M σ ms ∧ (0 ≤ σ.2 523 0 p ∧ σ.2 523 0 p ≤ 2000000) ∧ ms.length ≤ 2000000 ∧ ∀ σ', eh_fr [535] [523, 536, 537, 538, 539] σ σ' → mm_M σ' (ms ++ [(p, row)]) → eh_at σ σ' 523 p → σ'.2 523 0 p = σ.2 523 0 p + 1 → K none σ'
theorem cm_tell (l : Launch) (D : va_G) (tc : Nat → ClassId) (ad : Nat → Int → Nat) (h99 : ∀ a : Int, ad 99 a = a.toNat) : eh_M l D tc ad eh_LX yX4_tell cX4_tell 3 none 0 Tm_tell := by
  refine eh_mk (rb := 2) (nm := eh_nX) (fl := eh_fl4) (kn := eh_kn4) (cs := (fun _ => none)) (ss := (fun _ => none)) (by decide) (eh_worldX h99) eh_fl4_ok eh_kn4_ok (fun _ _ _ h => by cases h) (fun _ _ _ h => by cases h) ?_
  rintro as σ bd K ⟨_, rfl, p, row, ms, rfl, hp, hr, hl, hm, ht, hml, hK⟩
  refine ⟨Nat.le_of_ble_eq_true rfl, fun X hX => ?_⟩
  have hm1 := hm.1
  have hr1 := hr.1
  have fin : ∀ σ1, eh_fr [535] [523, 536, 537, 538, 539] σ σ1 → σ1.1 535 0 = σ.1 535 0 → σ1.2 523 = σ.2 523 → (∀ (i : Nat) (x : Int × pu_Rw), i < 1000 → (ms ++ [(p, row)])[i]? = some x → mm_s σ1 i x) → K none (eh_sA (eh_sV σ1 535 0 ((σ1.1 535 0) + 1)) 523 0 p ((σ1.2 523 0 p) + 1)) := by
    intro σ1 hf h535 h523 hs
    refine hK _ (eh_fr_sA (eh_fr_sV hf (by decide)) (by decide)) ⟨?_, fun i x hi hx => ?_⟩ (fun j hj => ?_) ?_
    · rw [eh_sA_1, eh_sV_p, h535, hm1]
      simp
    · exact mm_s_fr (SV := [535]) (SA := [523]) (hs i x hi hx) (eh_fr_sA (eh_fr_sV eh_fr_rf (by decide)) (by decide)) (by decide)
    · rw [eh_sA_n hj, eh_sV_2, h523]
    · rw [eh_sA_p, h523]
  have key : ∀ (n : Nat) (σ' : eh_S) (k : Int), eh_fr [] [536, 537, 538, 539] σ σ' → σ.1 535 0 < 1000 → (∀ j, j ≠ σ.1 535 0 → σ'.2 536 0 j = σ.2 536 0 j ∧ σ'.2 537 0 j = σ.2 537 0 j) → (∀ j, j < 24 * σ.1 535 0 → σ'.2 538 0 j = σ.2 538 0 j ∧ σ'.2 539 0 j = σ.2 539 0 j) → σ'.2 536 0 (σ.1 535 0) = p → σ'.2 537 0 (σ.1 535 0) = σ.1 542 0 → (0 ≤ k ∧ k ≤ σ.1 542 0) → σ.1 542 0 - k < n → (∀ i, 0 ≤ i → i < k → σ'.2 538 0 (24 * σ.1 535 0 + i) = σ.2 540 0 i ∧ σ'.2 539 0 (24 * σ.1 535 0 + i) = σ.2 541 0 i) → X 35 [some (.inr (some (4, 0))), some (.inl p), some (.inl k)] [] σ' (0, 0) := by
    intro n
    induction n with
    | zero => intro σ' k hf h1000 ho hq h1 h2 hk hn; omega
    | succ n ih =>
      intro σ' k hf h1000 ho hq h1 h2 hk hn hc
      have e1 : σ'.1 542 0 = σ.1 542 0 := by rw [hf.1 542 (by decide)]
      have e2 : σ'.1 535 0 = σ.1 535 0 := by rw [hf.1 535 (by decide)]
      have e3 := hf.2 523 (by decide)
      have e4 := hf.2 540 (by decide)
      have e5 := hf.2 541 (by decide)
      have e6 : σ'.2 523 0 p = σ.2 523 0 p := by rw [e3]
      refine bX4_tell_35 hX (fun hok => ⟨by omega, fun hd => ⟨by omega, hp, by omega, ?_⟩, fun hd => ⟨by omega, by omega, ?_⟩⟩)
      · refine fin σ' (eh_fr_up hf (by decide) (by decide)) e2 e3 (fun i x hi hx => ?_)
        by_cases hil : i < ms.length
        · rw [List.getElem?_append_left hil] at hx
          obtain ⟨a1, a2, a3, a4⟩ := hm.2 i x hi hx
          have b1 := ho i (by omega)
          refine ⟨by rw [b1.1]; exact a1, by rw [b1.2]; exact a2, a3, ?_⟩
          refine (pu_rowL_congr (fun k h0 h1 => ?_)).trans a4
          exact hq _ (by omega)
        · rw [List.getElem?_append_right (by omega)] at hx
          have hi2 : i = ms.length := by
            cases hc2 : i - ms.length with
            | zero => omega
            | succ m => rw [hc2] at hx; simp at hx
          rw [hi2, Nat.sub_self] at hx
          cases hx
          have hi3 : (i : Int) = σ.1 535 0 := by omega
          rw [hi2, ← hm1]
          refine ⟨h1, by rw [h2]; exact hr1, hl, ?_⟩
          rw [show row.length = (σ.1 542 0).toNat by omega]
          refine (pu_rowL_congr (fun k h0 h1 => hc k h0 (by omega))).trans ?_
          exact hr.2
      · have hbk : (24 * σ'.1 535 0) + k = 24 * σ.1 535 0 + k := by rw [e2]
        rw [hbk]
        refine ih _ _ (eh_fr_sA (eh_fr_sA hf (by decide)) (by decide)) h1000 (fun j hj => ?_) (fun j hj => ?_) ?_ ?_ (by omega) (by omega) (fun i hi0 hi1 => ?_)
        · rw [eh_sA_c (by decide), eh_sA_c (by decide), eh_sA_c (by decide), eh_sA_c (by decide)]
          exact ho j hj
        · rw [eh_sA_c (by decide), eh_sA_n (by omega), eh_sA_n (by omega), eh_sA_c (by decide)]
          exact hq j hj
        · rw [eh_sA_c (by decide), eh_sA_c (by decide)]
          exact h1
        · rw [eh_sA_c (by decide), eh_sA_c (by decide)]
          exact h2
        · by_cases hik : i = k
          · subst hik
            rw [eh_sA_c (by decide), eh_sA_p, eh_sA_p, e4, e5]
            exact ⟨rfl, rfl⟩
          · rw [eh_sA_c (by decide), eh_sA_n (by omega), eh_sA_n (by omega), eh_sA_c (by decide)]
            exact hc i hi0 (by omega)
  refine bX4_tell_0 hX (fun hok => ⟨fun h1 => ⟨by omega, hp, by omega, ?_⟩, fun h1 => ⟨by omega, by omega, ?_⟩⟩)
  · refine fin σ eh_fr_rf rfl rfl (fun i x hi hx => ?_)
    rw [List.getElem?_append_left (by omega)] at hx
    exact hm.2 i x hi hx
  · refine key 30 _ 0 (eh_fr_sA (eh_fr_sA eh_fr_rf (by decide)) (by decide)) (by omega) (fun j hj => ?_) (fun j hj => ?_) ?_ ?_ (by omega) (by omega) (fun i h1 h2 => by omega)
    · rw [eh_sA_c (by decide), eh_sA_n hj, eh_sA_n hj, eh_sA_c (by decide)]
      exact ⟨rfl, rfl⟩
    · rw [eh_sA_c (by decide), eh_sA_c (by decide), eh_sA_c (by decide), eh_sA_c (by decide)]
      exact ⟨rfl, rfl⟩
    · rw [eh_sA_c (by decide), eh_sA_p]
    · rw [eh_sA_p]
