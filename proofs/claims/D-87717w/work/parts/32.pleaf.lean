/-! EventHunter.Pattern: leaves -/
def px_E (σ : eh_S) : Nat → Int → Int := fun id => match id with
  | 0 => σ.2 101 0
  | 1 => σ.2 102 0
  | 2 => σ.2 104 0
  | _ => σ.2 100 0
def px_P (σ : eh_S) (q : Int) : Nat → Int → Int := fun id j => match id with
  | 0 => σ.2 404 q j
  | 1 => σ.2 405 q j
  | 2 => σ.2 406 q j
  | 3 => σ.2 407 q j
  | 4 => σ.2 408 q j
  | 5 => σ.1 403 q
  | 6 => σ.1 402 q
  | 7 => σ.1 400 q
  | _ => σ.1 401 q
def xc_E (σ : eh_S) (E : Nat → Int → Int) (n : Int) : Prop := n ≤ 1000 ∧ pu_sE (px_E σ) E n ∧ pu_eok E n
theorem xc_E_fr {SV SA : List Nat} {σ σ' : eh_S} {n : Int} {E : Nat → Int → Int} (h : xc_E σ E n) (hf : eh_fr SV SA σ σ') (hd : ∀ c ∈ [100, 101, 102, 104], c ∉ SA) : xc_E σ' E n := by
  have e1 : px_E σ' = px_E σ := by
    funext id
    simp only [px_E, hf.2 100 (hd 100 (by decide)), hf.2 101 (hd 101 (by decide)), hf.2 102 (hd 102 (by decide)), hf.2 104 (hd 104 (by decide))]
  unfold xc_E
  rw [e1]
  exact h
def xc_C (σ : eh_S) (q : Int) (E P : Nat → Int → Int) (n : Int) : Prop := (0 ≤ q ∧ q < 8) ∧ xc_E σ E n ∧ pu_sP (px_P σ q) P ∧ pu_pok P
theorem xc_C_fr {SV SA : List Nat} {σ σ' : eh_S} {q n : Int} {E P : Nat → Int → Int} (h : xc_C σ q E P n) (hf : eh_fr SV SA σ σ') (hd : ∀ c ∈ [100, 101, 102, 104, 404, 405, 406, 407, 408], c ∉ SA) (hv : ∀ v ∈ [400, 401, 402, 403], v ∉ SV) : xc_C σ' q E P n := by
  have e2 : px_P σ' q = px_P σ q := by
    funext id j
    simp only [px_P, hf.1 400 (hv 400 (by decide)), hf.1 401 (hv 401 (by decide)), hf.1 402 (hv 402 (by decide)), hf.1 403 (hv 403 (by decide)), hf.2 404 (hd 404 (by decide)), hf.2 405 (hd 405 (by decide)), hf.2 406 (hd 406 (by decide)), hf.2 407 (hd 407 (by decide)), hf.2 408 (hd 408 (by decide))]
  obtain ⟨h1, h2, h3, h4⟩ := h
  refine ⟨h1, xc_E_fr h2 hf (fun c hc => hd c ?_), by rw [e2]; exact h3, h4⟩
  simp only [List.mem_cons, List.not_mem_nil, or_false] at hc ⊢
  omega
theorem xc_sort {σ : eh_S} {q n j : Int} {E P : Nat → Int → Int} (h : xc_C σ q E P n) (h0 : 0 ≤ j) (h1 : j < P 5 0) : σ.2 404 q j = P 0 j := (h.2.2.1.2.2.2.2 j h0 h1).1
theorem xc_steps {σ : eh_S} {q n : Int} {E P : Nat → Int → Int} (h : xc_C σ q E P n) : σ.1 403 q = P 5 0 := h.2.2.1.1
def Tx_isKind : eh_T := eh_R0 fun as σ _ K => ∃ k o : Int, as = [.inl k, .inl o] ∧ (-1 ≤ k ∧ k < 16) ∧ (0 ≤ o ∧ o < 2147483648) ∧ (∀ j, 0 ≤ j → j < 16 → -1 ≤ σ.2 100 0 j ∧ σ.2 100 0 j < j) ∧ K (some (.inl (bz (pu_is (σ.2 100 0) 17 k o = true)))) σ
theorem cx_isKind (l : Launch) (D : va_G) (tc : Nat → ClassId) (ad : Nat → Int → Nat) (h99 : ∀ a : Int, ad 99 a = a.toNat) : eh_M l D tc ad eh_LX yX0_isKind cX0_isKind 4 (some .boolean) 0 Tx_isKind := by
  refine eh_mk (rb := 1) (nm := eh_nX) (fl := eh_fl0) (kn := eh_kn0) (cs := (fun _ => none)) (ss := (fun _ => none)) (by decide) (eh_worldX h99) eh_fl0_ok eh_kn0_ok (fun _ _ _ h => by cases h) (fun _ _ _ h => by cases h) ?_
  rintro as σ bd K ⟨_, rfl, k, o, rfl, hk, ho, hpar, hK⟩
  refine ⟨Nat.le_of_ble_eq_true rfl, fun X hX => ?_⟩
  have key : ∀ (n : Nat) (k : Int) (o1 : Option eh_V), -1 ≤ k → k < 16 → k < n → K (some (.inl (bz (pu_is (σ.2 100 0) n k o = true)))) σ → X 2 [some (.inr (some (0, 0))), o1, some (.inl o), some (.inl k)] [] σ (0, 0) := by
    intro n
    induction n with
    | zero =>
      intro k o1 h0 h1 h2 hK
      refine bX0_isKind_2 hX (fun hok => ⟨by omega, fun _ => ⟨by omega, fun q => by omega, fun _ => eh_b0 hK (by simp [pu_is])⟩, fun q => by omega⟩)
    | succ n ih =>
      intro k o1 h0 h1 h2 hK
      refine bX0_isKind_2 hX (fun hok => ⟨by omega, fun hn => ⟨by omega, fun q => by omega, fun _ => ?_⟩, fun hn => ⟨by omega, fun he => ?_, fun he => ⟨by omega, ?_⟩⟩⟩)
      · exact eh_b0 hK (by simp [pu_is, show k < 0 by omega])
      · exact eh_b1 hK (by rw [pu_is, if_neg (by omega), if_pos he])
      · have h3 := hpar k (by omega) h1
        refine ih _ _ h3.1 (by omega) (by omega) ?_
        rw [pu_is, if_neg (by omega), if_neg he] at hK
        exact hK
  exact bX0_isKind_0 hX (fun hok => key 17 k _ hk.1 hk.2 (by omega) hK)
theorem pu_test_x {t v w : Int} {R0 R1 : Prop} (ht : 1 ≤ t ∧ t ≤ 3) (h0 : ¬ (pu_test t v w = true) → R0) (h1 : pu_test t v w = true → R1) : (((t - 1) % 3 = 0 → ((w ≤ v → R0) ∧ (¬ w ≤ v → R1))) ∧ (¬ (t - 1) % 3 = 0 → (((t - 1) % 3 = 1 → ((v = w → R1) ∧ (¬ v = w → R0))) ∧ (¬ (t - 1) % 3 = 1 → ((v ≤ w → R0) ∧ (¬ v ≤ w → R1)))))) := by
  obtain ⟨a, b⟩ := pu_test_go (t := t) (v := v) (w := w) h0 h1
  exact ⟨fun e => a (by omega), fun e => ⟨fun e2 => (b (by omega)).1 (by omega), fun e2 => (b (by omega)).2 (by omega)⟩⟩
theorem pu_test_x2 {t v w : Int} {R0 R1 Rg : Prop} (ht : 4 ≤ t ∧ t ≤ 6) (hg : Rg) (h0 : ¬ (pu_test (t - 3) v w = true) → R0) (h1 : pu_test (t - 3) v w = true → R1) : (((t - 1) % 3 = 0 → Rg ∧ ((w ≤ v → R0) ∧ (¬ w ≤ v → R1))) ∧ (¬ (t - 1) % 3 = 0 → (((t - 1) % 3 = 1 → Rg ∧ ((v = w → R1) ∧ (¬ v = w → R0))) ∧ (¬ (t - 1) % 3 = 1 → Rg ∧ ((v ≤ w → R0) ∧ (¬ v ≤ w → R1)))))) := by
  obtain ⟨a, b⟩ := pu_test_go (t := t - 3) (v := v) (w := w) h0 h1
  exact ⟨fun e => ⟨hg, a (by omega)⟩, fun e => ⟨fun e2 => ⟨hg, (b (by omega)).1 (by omega)⟩, fun e2 => ⟨hg, (b (by omega)).2 (by omega)⟩⟩⟩
def Tp_fits : eh_T := eh_R3 fun q as σ _ K => ∃ (s w e n : Int) (E P : Nat → Int → Int) (row : pu_Rw), as = [.inl s, .inl w, .inl e] ∧ xc_C σ q E P n ∧ (0 ≤ s ∧ s < P 5 0) ∧ (0 ≤ e ∧ e < n) ∧ xw_way σ row w ∧ (∀ x ∈ row, 0 ≤ x.1 ∧ x.1 < n) ∧ K (some (.inl (bz (pu_fits E P row s e = true)))) σ
theorem cp_fits (l : Launch) (D : va_G) (tc : Nat → ClassId) (ad : Nat → Int → Nat) (h99 : ∀ a : Int, ad 99 a = a.toNat) : eh_M l D tc ad eh_LX yX3_fits cX3_fits 7 (some .boolean) 1 Tp_fits := by
  refine eh_mk (rb := 1) (nm := eh_nX) (fl := eh_fl3) (kn := eh_kn3) (cs := (fun kk => match kk with | 41 => some (3, Tx_isKind) | 52 => some (3, Tw_last) | _ => none)) (ss := (fun _ => none)) (by decide) (eh_worldX h99) eh_fl3_ok eh_kn3_ok (fun kk n T h => by
    split at h
    · cases h; exact eh_callVN (c0 := 0) (cx_isKind l D tc ad h99) (List.mem_of_getElem? (i := 4) rfl) q360 qs5 q45 q361 (by decide +kernel) (by decide) (by decide) (by decide) rfl (eh_worldX h99) (fun _ _ _ _ h => eh_R0_rec h)
    · cases h; exact eh_callV (c0 := 1) (cw_last l D tc ad h99) q362 q363 q364 q46 q365 (by decide +kernel) (by decide) (by decide) (by decide) rfl (eh_worldX h99) (fun _ _ _ _ h => eh_R1_rec h)
    · cases h) (fun _ _ _ h => by cases h) ?_
  rintro as σ bd K ⟨q, _, rfl, hq, s, w, e, n, E, P, row, rfl, hC, hs, he, hw, hrow, hK⟩
  refine ⟨Nat.le_of_ble_eq_true rfl, fun X hX => ?_⟩
  obtain ⟨-, ⟨hn, hE, heo⟩, hP, hpo⟩ := hC
  have h5 := hpo.1
  obtain ⟨a0, a1, a2, a3⟩ := hP.2.2.2.2 s hs.1 hs.2
  obtain ⟨b0, b1, b2, b3, b4⟩ := hpo.2.1 s hs.1 hs.2
  have e1 : σ.2 405 q s = P 1 s := a1
  have e2 : σ.2 406 q s = P 2 s := a2
  have ek : σ.2 101 0 e = E 0 e := (hE.2.1 e he.1 he.2).1
  have hke := heo.2 e he.1 he.2
  have hpar : ∀ j, 0 ≤ j → j < 16 → -1 ≤ σ.2 100 0 j ∧ σ.2 100 0 j < j := fun j h0 h1 => by
    have e3 : σ.2 100 0 j = E 3 j := hE.1 j h0 h1
    rw [e3]
    exact heo.1 j h0 h1
  have his : pu_is (σ.2 100 0) 17 (E 0 e) (P 1 s) = pu_is (E 3) 17 (E 0 e) (P 1 s) := pu_is_congr hE.1 heo.1 17 _ hke.1.2
  have hf2 : ∀ j, 0 ≤ j → j < 4 * n → σ.2 104 0 j = E 2 j := hE.2.2
  refine bX3_fits_0 hX (T41 := Tx_isKind) rfl hq (fun hok => ⟨by omega, by omega, ?_⟩)
  rw [e1, ek]
  refine ⟨_, rfl, _, _, rfl, by omega, by omega, hpar, ?_⟩
  rw [his]
  unfold pu_fits at hK
  refine bX3_fits_22 hX (T52 := Tw_last) rfl hq (fun hok => ?_)
  rw [e2]
  refine ⟨bz_r _, fun h0 => ?_, fun h0 => ⟨by omega, fun h1 => ?_, fun h1 => ?_⟩⟩
  · exact eh_b0 hK (by rw [Bool.eq_false_iff.mpr (bz_0.mp h0)]; simp)
  · exact eh_b1 hK (by rw [bz_n.mp h0, decide_eq_true h1]; rfl)
  · obtain ⟨c3, c4⟩ := a3 h1
    have c3 : σ.2 407 q s = P 3 s := c3
    have c4 : σ.2 408 q s = P 4 s := c4
    have hf := b3 h1
    rw [bz_n.mp h0, decide_eq_false h1, Bool.true_and, Bool.false_or] at hK
    rw [c3, c4, show e * 4 = 4 * e by omega, hf2 (4 * e + P 3 s) (by omega) (by omega)]
    refine ⟨by omega, fun h2 => ⟨by omega, by omega, ?_⟩, fun h2 => ?_⟩
    · rw [if_pos h2] at hK
      exact pu_test_x (by omega) (fun q => eh_b0 hK q) (fun q => eh_b1 hK q)
    · rw [if_neg h2] at hK
      have h4 := b4 (by omega)
      refine ⟨_, rfl, w, _, row, rfl, by unfold eh_r; omega, hw, ?_⟩
      have hvr : eh_r (E 2 (4 * e + P 3 s)) := by
        rw [← hf2 (4 * e + P 3 s) (by omega) (by omega)]
        exact hok.2 _ _ _ (by decide) (by decide) (by decide) (by decide)
      generalize E 2 (4 * e + P 3 s) = v at hK hvr ⊢
      unfold eh_r at hvr
      have hlg := pu_last_ge row (P 4 s) (fun x hx => (hrow x hx).1)
      have hll : 0 ≤ pu_last row (P 4 s) → pu_last row (P 4 s) < n := fun q => (hrow _ (pu_last_mem q)).2
      refine bX3_fits_89 hX hq (fun hok => ?_)
      rw [e2, c3]
      refine ⟨by omega, fun h5 => ?_, fun h5 => ?_⟩
      · exact eh_b1 hK (by rw [decide_eq_true (show pu_last row (P 4 s) < 0 by omega)]; rfl)
      · have hl2 := hll (by omega)
        rw [decide_eq_false (by omega), Bool.false_or] at hK
        rw [show pu_last row (P 4 s) * 4 = 4 * pu_last row (P 4 s) by omega, hf2 _ (by omega) (by omega)]
        exact ⟨by omega, by omega, by omega, by omega, pu_test_x2 (by omega) (by omega) (fun q => eh_b0 hK q) (fun q => eh_b1 hK q)⟩
def Tp_hasKey : eh_T := eh_R3 fun q as σ _ K => ∃ (a e n : Int) (E P : Nat → Int → Int), as = [.inl a, .inl e] ∧ xc_C σ q E P n ∧ (0 ≤ a ∧ a < n) ∧ (0 ≤ e ∧ e < n) ∧ K (some (.inl (bz (pu_key E P a e = true)))) σ
theorem cp_hasKey (l : Launch) (D : va_G) (tc : Nat → ClassId) (ad : Nat → Int → Nat) (h99 : ∀ a : Int, ad 99 a = a.toNat) : eh_M l D tc ad eh_LX yX3_hasKey cX3_hasKey 3 (some .boolean) 0 Tp_hasKey := by
  refine eh_mk (rb := 1) (nm := eh_nX) (fl := eh_fl3) (kn := eh_kn3) (cs := (fun _ => none)) (ss := (fun _ => none)) (by decide) (eh_worldX h99) eh_fl3_ok eh_kn3_ok (fun _ _ _ h => by cases h) (fun _ _ _ h => by cases h) ?_
  rintro as σ bd K ⟨q, _, rfl, hq, a, e, n, E, P, rfl, hC, ha, he, hK⟩
  refine ⟨Nat.le_of_ble_eq_true rfl, fun X hX => ?_⟩
  obtain ⟨-, ⟨hn, hE, heo⟩, hP, hpo⟩ := hC
  have h6 := hpo.2.2.1
  have e6 : σ.1 402 q = P 6 0 := hP.2.1
  have hf2 : ∀ j, 0 ≤ j → j < 4 * n → σ.2 104 0 j = E 2 j := hE.2.2
  unfold pu_key at hK
  refine bX3_hasKey_0 hX hq (fun hok => ?_)
  rw [e6]
  refine ⟨fun h0 => ?_, fun h0 => ?_⟩
  · exact eh_b1 hK (by rw [decide_eq_true (show P 6 0 < 0 by omega)]; rfl)
  · rw [show a * 4 = 4 * a by omega, show e * 4 = 4 * e by omega, hf2 _ (by omega) (by omega), hf2 _ (by omega) (by omega)]
    rw [decide_eq_false (show ¬ P 6 0 < 0 by omega), Bool.false_or] at hK
    exact ⟨by omega, by omega, fun h1 => eh_b1 hK (decide_eq_true h1), fun h1 => eh_b0 hK (by rw [decide_eq_false h1]; decide)⟩
def Tp_isWhole : eh_T := eh_R3 fun q as σ _ K => ∃ (w n : Int) (E P : Nat → Int → Int) (row : pu_Rw), as = [.inl w] ∧ xc_C σ q E P n ∧ row ≠ [] ∧ xw_way σ row w ∧ (0 ≤ pu_tip row ∧ pu_tip row < P 5 0) ∧ K (some (.inl (bz (pu_wh P (pu_tip row) = true)))) σ
theorem xw_tip {σ : eh_S} {row : pu_Rw} {w : Int} (hne : row ≠ []) (hw : xw_way σ row w) : (0 ≤ w ∧ w < 38424) ∧ σ.2 201 0 w = pu_tip row := by
  cases row with
  | nil => exact absurd rfl hne
  | cons x r => exact ⟨hw.1, hw.2.2.1⟩
theorem pu_whole_x {P : Nat → Int → Int} {t : Int} (ht : -1 ≤ t) : pu_whole P t ↔ ∀ j, t < j → j < P 5 0 → P 0 j = 2 ∨ (P 0 j = 3 ∧ j = P 5 0 - 1) := by
  have hr := pu_real_le P
  unfold pu_whole
  constructor
  · intro h j h1 h2
    by_cases hj : j < pu_real P
    · exact Or.inl (h j h1 hj)
    · unfold pu_real at hj
      split at hj
      · rename_i hc
        have : j = P 5 0 - 1 := by omega
        exact Or.inr ⟨by rw [this]; exact hc.2, this⟩
      · omega
  · intro h j h1 h2
    rcases h j h1 (by omega) with h3 | h3
    · exact h3
    · exfalso
      unfold pu_real at h2
      rw [if_pos ⟨by omega, by rw [← h3.2]; exact h3.1⟩] at h2
      omega
theorem cp_isWhole (l : Launch) (D : va_G) (tc : Nat → ClassId) (ad : Nat → Int → Nat) (h99 : ∀ a : Int, ad 99 a = a.toNat) : eh_M l D tc ad eh_LX yX3_isWhole cX3_isWhole 4 (some .boolean) 0 Tp_isWhole := by
  refine eh_mk (rb := 1) (nm := eh_nX) (fl := eh_fl3) (kn := eh_kn3) (cs := (fun _ => none)) (ss := (fun _ => none)) (by decide) (eh_worldX h99) eh_fl3_ok eh_kn3_ok (fun _ _ _ h => by cases h) (fun _ _ _ h => by cases h) ?_
  rintro as σ bd K ⟨q, _, rfl, hq, w, n, E, P, row, rfl, hC, hne, hw, ht, hK⟩
  refine ⟨Nat.le_of_ble_eq_true rfl, fun X hX => ?_⟩
  have hpo := hC.2.2.2
  have h5 := hpo.1
  have e5 := xc_steps hC
  obtain ⟨hwr, hwt⟩ := xw_tip hne hw
  rw [bz_congr pu_wh_t, bz_congr (pu_whole_x (by omega))] at hK
  have key0 : ∀ (s : Int) (o1 : Option eh_V), (-1 ≤ s ∧ s ≤ 100) → ¬ (∀ j, pu_tip row < j → j < P 5 0 → P 0 j = 2 ∨ (P 0 j = 3 ∧ j = P 5 0 - 1)) → X 17 [some (.inr (some (3, q))), o1, some (.inl 0), some (.inl s)] [] σ (0, 0) := by
    intro s o1 hs hn
    exact bX3_isWhole_17 hX hq (fun hok => ⟨by omega, fun _ => ⟨by omega, eh_b0 hK hn⟩, fun _ => ⟨by omega, fun _ => ⟨by omega, eh_b0 hK hn⟩, fun h => absurd rfl h⟩⟩)
  have key : ∀ (m : Nat) (s : Int) (o1 : Option eh_V), pu_tip row < s → s ≤ P 5 0 + 1 → P 5 0 + 1 - s < m → (∀ j, pu_tip row < j → j < s → j < P 5 0 → P 0 j = 2 ∨ (P 0 j = 3 ∧ j = P 5 0 - 1)) → X 17 [some (.inr (some (3, q))), o1, some (.inl 1), some (.inl s)] [] σ (0, 0) := by
    intro m
    induction m with
    | zero => intro s o1 h1 h2 h3; omega
    | succ m ih =>
      intro s o1 h1 h2 h3 h4
      refine bX3_isWhole_17 hX hq (fun hok => ?_)
      by_cases hs5 : s < P 5 0
      · have hv := xc_sort hC (show 0 ≤ s by omega) hs5
        rw [hv, e5]
        refine ⟨by omega, fun q1 => by omega, fun _ => ⟨by omega, fun q1 => absurd q1 (by decide), fun _ => ⟨by omega, fun q2 => ih _ _ (by omega) (by omega) (by omega) (fun j a b c => ?_), fun q2 => ⟨fun q3 => ⟨by omega, fun q4 => ih _ _ (by omega) (by omega) (by omega) (fun j a b c => ?_), fun q4 => key0 _ _ (by omega) (fun hh => ?_)⟩, fun q3 => key0 _ _ (by omega) (fun hh => ?_)⟩⟩⟩⟩
        · by_cases hjs : j = s
          · rw [hjs]; exact Or.inl q2
          · exact h4 j a (by omega) c
        · by_cases hjs : j = s
          · rw [hjs]; exact Or.inr ⟨q3, q4⟩
          · exact h4 j a (by omega) c
        · rcases hh s h1 hs5 with h | h
          · exact q2 h
          · exact q4 h.2
        · rcases hh s h1 hs5 with h | h
          · exact q2 h
          · exact q3 h.1
      · rw [e5]
        exact ⟨by omega, fun _ => ⟨by omega, eh_b1 hK (fun j a b => h4 j a (by omega) b)⟩, fun q1 => by omega⟩
  refine bX3_isWhole_0 hX hq (fun hok => ⟨hwr, ?_⟩)
  rw [hwt]
  exact key 20 _ _ (by omega) (by omega) (by omega) (fun j a b c => by omega)
/-- how many steps from j on must be taken still -/
def pu_lk (P : Nat → Int → Int) : Nat → Int → Int
  | 0, _ => 0
  | k + 1, j => if j < P 5 0 then (if P 0 j = 0 ∨ P 0 j = 1 then 1 else 0) + pu_lk P k (j + 1) else 0
def Tp_lacks : eh_T := eh_R3 fun q as σ _ K => ∃ (w n : Int) (E P : Nat → Int → Int) (row : pu_Rw), as = [.inl w] ∧ xc_C σ q E P n ∧ row ≠ [] ∧ xw_way σ row w ∧ (0 ≤ pu_tip row ∧ pu_tip row < P 5 0) ∧ K (some (.inl (pu_lk P 7 (pu_tip row + 1)))) σ
theorem cp_lacks (l : Launch) (D : va_G) (tc : Nat → ClassId) (ad : Nat → Int → Nat) (h99 : ∀ a : Int, ad 99 a = a.toNat) : eh_M l D tc ad eh_LX yX3_lacks cX3_lacks 4 (some .int) 0 Tp_lacks := by
  refine eh_mk (rb := 0) (nm := eh_nX) (fl := eh_fl3) (kn := eh_kn3) (cs := (fun _ => none)) (ss := (fun _ => none)) (by decide) (eh_worldX h99) eh_fl3_ok eh_kn3_ok (fun _ _ _ h => by cases h) (fun _ _ _ h => by cases h) ?_
  rintro as σ bd K ⟨q, _, rfl, hq, w, n, E, P, row, rfl, hC, hne, hw, ht, hK⟩
  refine ⟨Nat.le_of_ble_eq_true rfl, fun X hX => ?_⟩
  have hpo := hC.2.2.2
  have h5 := hpo.1
  have e5 := xc_steps hC
  obtain ⟨hwr, hwt⟩ := xw_tip hne hw
  have key : ∀ (m : Nat) (s c : Int) (o1 : Option eh_V), 0 ≤ s → P 5 0 < s + m → s ≤ 100 → K (some (.inl (c + pu_lk P m s))) σ → X 17 [some (.inr (some (3, q))), o1, some (.inl c), some (.inl s)] [] σ (0, 0) := by
    intro m
    induction m with
    | zero =>
      intro s c o1 h0 h1 h2 hK
      refine bX3_lacks_17 hX hq (fun hok => ?_)
      rw [e5]
      exact ⟨by omega, fun _ => eh_ki hK (by simp [pu_lk]), fun q => by omega⟩
    | succ m ih =>
      intro s c o1 h0 h1 h2 hK
      rw [pu_lk] at hK
      refine bX3_lacks_17 hX hq (fun hok => ?_)
      rw [e5]
      by_cases hs5 : s < P 5 0
      · have hv := xc_sort hC h0 hs5
        rw [if_pos hs5] at hK
        rw [hv]
        refine ⟨by omega, fun q1 => by omega, fun _ => ⟨by omega, fun q2 => ?_, fun q2 => ⟨fun q3 => ?_, fun q3 => ?_⟩⟩⟩
        · rw [if_pos (Or.inl q2)] at hK
          exact ih _ _ _ (by omega) (by omega) (by omega) (eh_ki hK (by omega))
        · rw [if_pos (Or.inr q3)] at hK
          exact ih _ _ _ (by omega) (by omega) (by omega) (eh_ki hK (by omega))
        · rw [if_neg (by omega)] at hK
          exact ih _ _ _ (by omega) (by omega) (by omega) (eh_ki hK (by omega))
      · rw [if_neg hs5] at hK
        exact ⟨by omega, fun _ => eh_ki hK (by omega), fun q => by omega⟩
  refine bX3_lacks_0 hX hq (fun hok => ⟨hwr, ?_⟩)
  rw [hwt]
  exact key 7 _ 0 _ (by omega) (by omega) (by omega) (eh_ki hK (by omega))
def Tp_isHurtBy : eh_T := eh_R3 fun q as σ _ K => ∃ (r w e n : Int) (E P : Nat → Int → Int) (row : pu_Rw), as = [.inl r, .inl e] ∧ (0 ≤ r ∧ r < 200) ∧ σ.2 413 q r = w ∧ xc_C σ q E P n ∧ (0 ≤ e ∧ e < n) ∧ pu_gd P n row ∧ xw_way σ row w ∧ K (some (.inl (bz (pu_hurts E P row e = true)))) σ
theorem cp_isHurtBy (l : Launch) (D : va_G) (tc : Nat → ClassId) (ad : Nat → Int → Nat) (h99 : ∀ a : Int, ad 99 a = a.toNat) : eh_M l D tc ad eh_LX yX3_isHurtBy cX3_isHurtBy 4 (some .boolean) 2 Tp_isHurtBy := by
  refine eh_mk (rb := 1) (nm := eh_nX) (fl := eh_fl3) (kn := eh_kn3) (cs := (fun kk => match kk with | 68 => some (4, Tp_fits) | _ => none)) (ss := (fun _ => none)) (by decide) (eh_worldX h99) eh_fl3_ok eh_kn3_ok (fun kk n T h => by
    split at h
    · cases h; exact eh_callV (c0 := 3) (cp_fits l D tc ad h99) q354 q355 q356 q48 q357 (by decide +kernel) (by decide) (by decide) (by decide) rfl (eh_worldX h99) (fun _ _ _ _ h => eh_R3_rec h)
    · cases h) (fun _ _ _ h => by cases h) ?_
  rintro as σ bd K ⟨q, _, rfl, hq, r, w, e, n, E, P, row, rfl, hr, hrw, hC, he, hg, hw, hK⟩
  refine ⟨Nat.le_of_ble_eq_true rfl, fun X hX => ?_⟩
  have hpo := hC.2.2.2
  have h5 := hpo.1
  have e5 := xc_steps hC
  have ht := pu_gd_tip hg
  have hrl := pu_real_le P
  obtain ⟨hwr, hwt⟩ := xw_tip hg.1 hw
  unfold pu_hurts at hK
  refine bX3_isHurtBy_0 hX (T68 := Tp_fits) rfl hq (fun hok => ?_)
  rw [hrw, hwt, e5]
  refine ⟨hr, hwr, by omega, by omega, fun h1 => ?_, fun h1 => ⟨by omega, fun h2 => ?_, fun h2 => ?_⟩⟩
  · refine eh_b0 hK ?_
    by_cases h2 : pu_tip row + 1 < P 5 0
    · by_cases h3 : P 0 (pu_tip row + 1) = 3
      · have : pu_real P = P 5 0 - 1 := by
          unfold pu_real
          rw [if_pos ⟨by omega, by rw [show P 5 0 - 1 = pu_tip row + 1 by omega]; exact h3⟩]
        rw [decide_eq_false (by omega)]
        simp
      · rw [decide_eq_false h3]
        simp
    · rw [decide_eq_false (by omega)]
      simp
  · have hv := xc_sort hC (show 0 ≤ pu_tip row + 1 by omega) (by omega)
    rw [hv] at h2
    rw [decide_eq_true (by omega), decide_eq_true h2, Bool.true_and, Bool.true_and] at hK
    refine ⟨q, _, rfl, hq, _, w, e, n, E, P, row, rfl, hC, by omega, he, hw, pu_gd_mem hg, ?_⟩
    exact bX3_isHurtBy_52 hX (fun hok => ⟨bz_r _, fun h0 => eh_b0 hK (bz_0.mp h0), fun h0 => eh_b1 hK (bz_n.mp h0)⟩)
  · have hv := xc_sort hC (show 0 ≤ pu_tip row + 1 by omega) (by omega)
    rw [hv] at h2
    exact eh_b0 hK (by rw [decide_eq_false h2]; simp)
/-- the first move from a step on; the own step once more comes last -/
def pu_mx (E P : Nat → Int → Int) (row : pu_Rw) (e f : Int) (l : List Int) : Int := match l.find? (fun s => decide (f ≤ s)) with
  | some s => s
  | none => if pu_again E P row e = [] then -1 else pu_tip row
def Tp_move : eh_T := eh_R3 fun q as σ _ K => ∃ (w h e f n : Int) (hb : Bool) (E P : Nat → Int → Int) (row : pu_Rw), as = [.inl w, .inl h, .inl e, .inl f] ∧ xc_C σ q E P n ∧ eh_fl01 h hb ∧ (0 ≤ e ∧ e < n) ∧ (0 ≤ f ∧ f ≤ 6) ∧ pu_gd P n row ∧ xw_way σ row w ∧ K (some (.inl (pu_mx E P row e f (pu_mv E P row hb e 6 (pu_tip row + 1) false)))) σ
theorem cp_move (l : Launch) (D : va_G) (tc : Nat → ClassId) (ad : Nat → Int → Nat) (h99 : ∀ a : Int, ad 99 a = a.toNat) : eh_M l D tc ad eh_LX yX3_move cX3_move 10 (some .int) 2 Tp_move := by
  refine eh_mk (rb := 0) (nm := eh_nX) (fl := eh_fl3) (kn := eh_kn3) (cs := (fun kk => match kk with | 68 => some (4, Tp_fits) | 72 => some (2, Tw_count) | _ => none)) (ss := (fun _ => none)) (by decide) (eh_worldX h99) eh_fl3_ok eh_kn3_ok (fun kk n T h => by
    split at h
    · cases h; exact eh_callV (c0 := 3) (cp_fits l D tc ad h99) q354 q355 q356 q48 q357 (by decide +kernel) (by decide) (by decide) (by decide) rfl (eh_worldX h99) (fun _ _ _ _ h => eh_R3_rec h)
    · cases h; exact eh_callV (c0 := 1) (cw_count l D tc ad h99) q366 q367 q368 q46 q369 (by decide +kernel) (by decide) (by decide) (by decide) rfl (eh_worldX h99) (fun _ _ _ _ h => eh_R1_rec h)
    · cases h) (fun _ _ _ h => by cases h) ?_
  rintro as σ bd K ⟨q, _, rfl, hq, w, h, e, f, n, hb, E, P, row, rfl, hC, hh, he, hf, hg, hw, hK⟩
  refine ⟨Nat.le_of_ble_eq_true rfl, fun X hX => ?_⟩
  have hpo := hC.2.2.2
  have h5 := hpo.1
  have e5 := xc_steps hC
  have ht := pu_gd_tip hg
  have hrl := pu_real_le P
  have hh01 := eh_fl01_r hh
  have hmem := pu_gd_mem hg
  have hlen := pu_gd_len hg hpo
  obtain ⟨hwr, hwt⟩ := xw_tip hg.1 hw
  have hvt := xc_sort hC ht.1.1 ht.1.2
  have hcn := pu_cnt_nn row (pu_tip row)
  have hfits : ∀ (s : Int) (K' : Option eh_V → eh_S → Prop), (0 ≤ s ∧ s < P 5 0) → K' (some (.inl (bz (pu_fits E P row s e = true)))) σ → Tp_fits [.inr (some (3, q)), .inl s, .inl w, .inl e] σ (0, 0) K' := fun s K' hs hk => ⟨q, _, rfl, hq, s, w, e, n, E, P, row, rfl, hC, hs, he, hw, hmem, hk⟩
  have ex : ∀ (o2 o4 o6 o7 o8 o9 : Option eh_V), K (some (.inl (if pu_again E P row e = [] then -1 else pu_tip row))) σ → ((σ.2 404 q (pu_tip row) = 1 → Tw_count [.inr (some (1, 0)), .inl w] σ (0, 0) (fun r σ1 => X 172 [some (.inr (some (3, q))), some (.inl w), o2, some (.inl e), o4, some (.inl (pu_tip row)), o6, o7, o8, o9] (r.toList ++ []) σ1 (0, 0))) ∧ (¬ σ.2 404 q (pu_tip row) = 1 → K (some (.inl (-1))) σ)) := by
    intro o2 o4 o6 o7 o8 o9 hK
    rw [hvt]
    refine ⟨fun h1 => ?_, fun h1 => ?_⟩
    · refine ⟨_, rfl, w, row, n, P 5 0, rfl, hg.1, hg.2.1, hw, ?_⟩
      refine bX3_move_172 hX (T68 := Tp_fits) rfl hq (fun hok => ⟨by omega, fun h4 => ?_, fun h4 => hfits _ _ ht.1 ?_⟩)
      · rw [if_pos (by unfold pu_again; rw [if_neg (by omega)])] at hK
        exact hK
      · refine bX3_move_184 hX (fun hok => ⟨bz_r _, fun h0 => ?_, fun h0 => ?_⟩)
        · rw [if_pos (by unfold pu_again; rw [if_neg (fun q => bz_0.mp h0 q.2.2)])] at hK
          exact hK
        · rw [if_neg (by unfold pu_again; rw [if_pos ⟨h1, by omega, bz_n.mp h0⟩]; simp)] at hK
          exact hK
    · rw [if_pos (by unfold pu_again; rw [if_neg (fun q => h1 q.1)])] at hK
      exact hK
  have key0 : ∀ (a7 s : Int) (o9 : Option eh_V), (0 ≤ s ∧ s ≤ 100) → K (some (.inl (if pu_again E P row e = [] then -1 else pu_tip row))) σ → X 26 [some (.inr (some (3, q))), some (.inl w), some (.inl h), some (.inl e), some (.inl f), some (.inl (pu_tip row)), some (.inl 0), some (.inl a7), some (.inl s), o9] [] σ (0, 0) := by
    intro a7 s o9 hs hK
    exact bX3_move_26 hX (T68 := Tp_fits) (T72 := Tw_count) rfl rfl hq (fun hok => ⟨by omega, fun _ => ⟨by omega, fun q => by omega, fun _ => ⟨by omega, ex _ _ _ _ _ _ hK⟩⟩, fun _ => ⟨by omega, fun _ => ⟨by omega, fun q => by omega, fun _ => ⟨by omega, ex _ _ _ _ _ _ hK⟩⟩, fun q => absurd rfl q⟩⟩)
  have key : ∀ (fuel : Nat) (s a7 : Int) (over : Bool) (o9 : Option eh_V), pu_tip row < s → P 5 0 ≤ s + fuel → s ≤ 10 → eh_fl01 a7 over → K (some (.inl (pu_mx E P row e f (pu_mv E P row hb e fuel s over)))) σ → X 26 [some (.inr (some (3, q))), some (.inl w), some (.inl h), some (.inl e), some (.inl f), some (.inl (pu_tip row)), some (.inl 1), some (.inl a7), some (.inl s), o9] [] σ (0, 0) := by
    intro fuel
    induction fuel with
    | zero =>
      intro s a7 over o9 h1 h2 h3 h7 hK
      refine bX3_move_26 hX (T68 := Tp_fits) (T72 := Tw_count) rfl rfl hq (fun hok => ?_)
      rw [e5]
      exact ⟨by omega, fun _ => ⟨by omega, fun q => by omega, fun _ => ⟨by omega, ex _ _ _ _ _ _ hK⟩⟩, fun q => by omega⟩
    | succ fuel ih =>
      intro s a7 over o9 h1 h2 h3 h7 hK
      have h701 := eh_fl01_r h7
      by_cases hs5 : s < P 5 0
      · have hv := xc_sort hC (show 0 ≤ s by omega) hs5
        -- the list from here
        have hmv : pu_mv E P row hb e (fuel + 1) s over = (if P 0 s ≠ 3 ∧ ¬ (over && hb) = true ∧ pu_fits E P row s e = true then [s] else []) ++ (if P 0 s = 2 ∨ P 0 s = 3 then pu_mv E P row hb e fuel (s + 1) (over || decide (P 0 s = 3)) else []) := by
          by_cases hr : s < pu_real P
          · rw [pu_mv, if_pos hr]
          · have hs1 : s = P 5 0 - 1 := by omega
            have h3s : P 0 s = 3 := by
              unfold pu_real at hr
              split at hr
              · rename_i hc; rw [hs1]; exact hc.2
              · omega
            rw [pu_mv, if_neg hr, if_neg (fun q => q.1 h3s), if_pos (Or.inr h3s), List.nil_append]
            cases fuel with
            | zero => rfl
            | succ m => rw [pu_mv, if_neg (by omega)]
        rw [hmv] at hK
        -- not taken: on to the next
        have skip : ∀ (a6 b7 : Int) (o9 : Option eh_V), ¬ (f ≤ s ∧ P 0 s ≠ 3 ∧ ¬ (over && hb) = true ∧ pu_fits E P row s e = true) → ((P 0 s = 2 ∨ P 0 s = 3) → a6 = 1 ∧ eh_fl01 b7 (over || decide (P 0 s = 3))) → (¬ (P 0 s = 2 ∨ P 0 s = 3) → a6 = 0) → X 26 [some (.inr (some (3, q))), some (.inl w), some (.inl h), some (.inl e), some (.inl f), some (.inl (pu_tip row)), some (.inl a6), some (.inl b7), some (.inl (s + 1)), o9] [] σ (0, 0) := by
          intro a6 b7 o9 hnt hy hn
          have hK2 : K (some (.inl (pu_mx E P row e f (if P 0 s = 2 ∨ P 0 s = 3 then pu_mv E P row hb e fuel (s + 1) (over || decide (P 0 s = 3)) else [])))) σ := by
            refine eh_ki hK ?_
            by_cases hc : P 0 s ≠ 3 ∧ ¬ (over && hb) = true ∧ pu_fits E P row s e = true
            · rw [if_pos hc]
              unfold pu_mx
              rw [List.singleton_append, List.find?_cons_of_neg (by simp; have : ¬ f ≤ s := fun q => hnt ⟨q, hc⟩; omega)]
            · rw [if_neg hc, List.nil_append]
          by_cases hc : P 0 s = 2 ∨ P 0 s = 3
          · obtain ⟨rfl, hb7⟩ := hy hc
            rw [if_pos hc] at hK2
            exact ih _ _ _ _ (by omega) (by omega) (by omega) hb7 hK2
          · rw [hn hc]
            rw [if_neg hc] at hK2
            exact key0 _ _ _ (by omega) hK2
        have hor0 : ∀ a : Int, (a = 0 ∨ a = 1) → eh_or a 0 = a := by
          intro a ha
          rcases ha with rfl | rfl <;> rfl
        have hor1 : ∀ a : Int, (a = 0 ∨ a = 1) → eh_or a 1 = 1 := by
          intro a ha
          rcases ha with rfl | rfl <;> rfl
        have hfl : ¬ P 0 s = 3 → eh_fl01 a7 (over || decide (P 0 s = 3)) := fun q => by rw [decide_eq_false q, Bool.or_false]; exact h7
        have hfl1 : P 0 s = 3 → eh_fl01 1 (over || decide (P 0 s = 3)) := fun q => Or.inr ⟨rfl, by rw [decide_eq_true q, Bool.or_true]⟩
        have go87 : ¬ P 0 s = 3 → f ≤ s → ¬ (over && hb) = true → ∀ o6 : Option eh_V, Tp_fits [.inr (some (3, q)), .inl s, .inl w, .inl e] σ (0, 0) (fun r σ1 => X 87 [some (.inr (some (3, q))), some (.inl w), some (.inl h), some (.inl e), some (.inl f), some (.inl (pu_tip row)), o6, some (.inl a7), some (.inl s), some (.inl 1)] (r.toList ++ []) σ1 (0, 0)) := by
          intro h3s hfs hoh o6
          refine hfits s _ ⟨by omega, hs5⟩ ?_
          refine bX3_move_87 hX hq (fun hok => ?_)
          rw [hv, hor0 a7 h701]
          refine ⟨bz_r _, fun h0 => ⟨by omega, fun q => absurd q (by decide), fun _ => ⟨h701, by omega, fun q2 => skip _ _ _ (fun q => bz_0.mp h0 q.2.2.2) (fun _ => ⟨rfl, hfl h3s⟩) (fun q => absurd (Or.inl q2) q), fun q2 => ⟨fun q3 => absurd q3 h3s, fun q3 => skip _ _ _ (fun q => bz_0.mp h0 q.2.2.2) (fun q => absurd q (by omega)) (fun _ => rfl)⟩⟩⟩, fun h0 => ?_⟩
          refine eh_ki hK ?_
          rw [if_pos ⟨h3s, hoh, bz_n.mp h0⟩]
          unfold pu_mx
          rw [List.singleton_append, List.find?_cons_of_pos (by simp; exact hfs)]
        refine bX3_move_26 hX (T68 := Tp_fits) (T72 := Tw_count) rfl rfl hq (fun hok => ?_)
        rw [e5, hv, hor0 a7 h701, hor1 a7 h701]
        refine ⟨by omega, fun q => by omega, fun _ => ⟨by omega, fun q => absurd q (by decide), fun _ => ⟨by omega, fun q3 => ⟨h701, fun q2 => by omega, fun q2 => skip _ _ _ (fun q => q.2.1 q3) (fun _ => ⟨rfl, hfl1 q3⟩) (fun q => absurd (Or.inr q3) q)⟩, fun q3 => ⟨by omega, fun qf => ⟨h701, fun q2 => skip _ _ _ (fun q => by omega) (fun _ => ⟨rfl, hfl q3⟩) (fun q => absurd (Or.inl q2) q), fun q2 => skip _ _ _ (fun q => by omega) (fun q => absurd q (by omega)) (fun _ => rfl)⟩, fun qf => ⟨by omega, fun q7 => ?_, fun q7 => ⟨by omega, fun qh => ?_, fun qh => ⟨h701, fun q2 => ?_, fun q2 => ?_⟩⟩⟩⟩⟩⟩⟩
        · refine go87 q3 (by omega) (fun q => ?_) _
          rcases h7 with h7 | h7
          · rw [h7.2] at q; simp at q
          · omega
        · refine go87 q3 (by omega) (fun q => ?_) _
          rcases hh with hh | hh
          · rw [hh.2] at q; simp at q
          · omega
        · have hov : over = true := by
            rcases h7 with h7 | h7
            · exact absurd h7.1 q7
            · exact h7.2
          have hhb : hb = true := by
            rcases hh with hh | hh
            · exact absurd hh.1 qh
            · exact hh.2
          exact skip _ _ _ (fun q => q.2.2.1 (by rw [hov, hhb]; rfl)) (fun _ => ⟨rfl, hfl q3⟩) (fun q => absurd (Or.inl q2) q)
        · have hov : over = true := by
            rcases h7 with h7 | h7
            · exact absurd h7.1 q7
            · exact h7.2
          have hhb : hb = true := by
            rcases hh with hh | hh
            · exact absurd hh.1 qh
            · exact hh.2
          exact skip _ _ _ (fun q => q.2.2.1 (by rw [hov, hhb]; rfl)) (fun q => absurd q (by omega)) (fun _ => rfl)
      · rw [pu_mv, if_neg (by omega)] at hK
        refine bX3_move_26 hX (T68 := Tp_fits) (T72 := Tw_count) rfl rfl hq (fun hok => ?_)
        rw [e5]
        exact ⟨by omega, fun _ => ⟨by omega, fun q => by omega, fun _ => ⟨by omega, ex _ _ _ _ _ _ hK⟩⟩, fun q => by omega⟩
  refine bX3_move_0 hX hq (fun hok => ⟨hwr, ?_⟩)
  rw [hwt]
  exact key 6 _ 0 false _ (by omega) (by omega) (by omega) (Or.inl ⟨rfl, rfl⟩) hK
