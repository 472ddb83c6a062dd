/-! EventHunter.Plain: leaves -/
def pu_head (row : pu_Rw) : Int := match row with
  | [] => 0
  | (e, _) :: _ => e
def nc_C (σ : eh_S) (q : Int) (E P : Nat → Int → Int) (n : Int) : Prop := σ.1 302 0 = q ∧ xc_C σ q E P n ∧ (∀ j, 0 ≤ j → j < P 5 0 → 0 ≤ σ.2 407 q j ∧ σ.2 407 q j ≤ 3) ∧ σ.1 105 0 = n
theorem nc_C_fr {SV SA : List Nat} {σ σ' : eh_S} {q n : Int} {E P : Nat → Int → Int} (h : nc_C σ q E P n) (hf : eh_fr SV SA σ σ') (hd : ∀ c ∈ [100, 101, 102, 104, 404, 405, 406, 407, 408], c ∉ SA) (hv : ∀ v ∈ [105, 302, 400, 401, 402, 403], v ∉ SV) : nc_C σ' q E P n := by
  obtain ⟨h1, h2, h3, h4⟩ := h
  refine ⟨by rw [hf.1 302 (hv 302 (by decide))]; exact h1, xc_C_fr h2 hf hd (fun v hv' => hv v ?_), by rw [hf.2 407 (hd 407 (by decide))]; exact h3, by rw [hf.1 105 (hv 105 (by decide))]; exact h4⟩
  simp only [List.mem_cons, List.not_mem_nil, or_false] at hv' ⊢
  omega
def nc_row (σ : eh_S) (row : pu_Rw) : Prop := pu_rowL (σ.2 300 0) (σ.2 301 0) row.length = row
theorem nc_row_at {σ : eh_S} {row : pu_Rw} (h : nc_row σ row) {k : Int} (h0 : 0 ≤ k) (h1 : k < row.length) : (σ.2 300 0 k, σ.2 301 0 k) ∈ row := by
  have := pu_rowL_in (f := σ.2 300 0) (g := σ.2 301 0) (n := row.length) h0 h1
  rwa [h] at this
theorem nc_row_tip {σ : eh_S} {row : pu_Rw} (h : nc_row σ row) (hl : 0 < row.length) : σ.2 301 0 ((row.length : Int) - 1) = pu_tip row ∧ σ.2 300 0 ((row.length : Int) - 1) = pu_head row ∧ σ.2 300 0 0 = pu_first row := by
  have h1 := pu_tip_rowL (f := σ.2 300 0) (g := σ.2 301 0) hl
  have h2 := pu_first_rowL (f := σ.2 300 0) (g := σ.2 301 0) hl
  rw [h] at h1 h2
  refine ⟨h1.symm, ?_, h2.symm⟩
  unfold nc_row at h
  revert h
  generalize row.length = m at hl
  intro h
  cases m with
  | zero => omega
  | succ m =>
    rw [pu_rowL] at h
    rw [← h, pu_head, show ((m + 1 : Nat) : Int) - 1 = (m : Int) by omega]
def Tn_last : eh_T := eh_R2 fun as σ _ K => ∃ (s : Int) (row : pu_Rw), as = [.inl (row.length : Int), .inl s] ∧ eh_r s ∧ row.length ≤ 12 ∧ nc_row σ row ∧ (∀ x ∈ row, 0 ≤ x.1) ∧ K (some (.inl (pu_last row s))) σ
theorem cn_last (l : Launch) (D : va_G) (tc : Nat → ClassId) (ad : Nat → Int → Nat) (h99 : ∀ a : Int, ad 99 a = a.toNat) : eh_M l D tc ad eh_LX yX2_last cX2_last 4 (some .int) 0 Tn_last := by
  refine eh_mk (rb := 0) (nm := eh_nX) (fl := eh_fl2) (kn := eh_kn2) (cs := (fun _ => none)) (ss := (fun _ => none)) (by decide) (eh_worldX h99) eh_fl2_ok eh_kn2_ok (fun _ _ _ h => by cases h) (fun _ _ _ h => by cases h) ?_
  rintro as σ bd K ⟨_, rfl, s, row, rfl, hs, hl, hr, hx, hK⟩
  refine ⟨Nat.le_of_ble_eq_true rfl, fun X hX => ?_⟩
  unfold eh_r at hs
  have key : ∀ (m : Nat) (o1 : Option eh_V), m ≤ 12 → K (some (.inl (pu_last (pu_rowL (σ.2 300 0) (σ.2 301 0) m) s))) σ → X 4 [some (.inr (some (2, 0))), o1, some (.inl s), some (.inl ((m : Int) - 1))] [] σ (0, 0) := by
    intro m
    induction m with
    | zero =>
      intro o1 _ hK
      exact bX2_last_4 hX (fun hok => ⟨by omega, fun _ => ⟨fun h => by omega, fun _ => hK⟩, fun h => by omega⟩)
    | succ m ih =>
      intro o1 hm hK
      rw [pu_rowL, pu_last] at hK
      rw [show ((m + 1 : Nat) : Int) - 1 = (m : Int) by omega]
      refine bX2_last_4 hX (fun hok => ⟨by omega, fun h => by omega, fun _ => ⟨by omega, by omega, fun h => ⟨fun _ => ?_, fun h => by omega⟩, fun h => ?_⟩⟩)
      · rw [if_pos h] at hK
        exact hK
      · rw [if_neg h] at hK
        have := ih o1 (by omega) hK
        rw [show (m : Int) + -1 = (m : Int) - 1 by omega]
        exact this
  rw [← hr] at hK
  exact bX2_last_0 hX (fun hok => key row.length _ hl hK)
def Tn_fits : eh_T := eh_R2 fun as σ _ K => ∃ (s e n q : Int) (E P : Nat → Int → Int) (row : pu_Rw), as = [.inl s, .inl (row.length : Int), .inl e] ∧ nc_C σ q E P n ∧ (0 ≤ s ∧ s < P 5 0) ∧ (0 ≤ e ∧ e < n) ∧ row.length ≤ 12 ∧ nc_row σ row ∧ (∀ x ∈ row, 0 ≤ x.1 ∧ x.1 < n) ∧ K (some (.inl (bz (pu_fits E P row s e = true)))) σ
theorem cn_fits (l : Launch) (D : va_G) (tc : Nat → ClassId) (ad : Nat → Int → Nat) (h99 : ∀ a : Int, ad 99 a = a.toNat) : eh_M l D tc ad eh_LX yX2_fits cX2_fits 8 (some .boolean) 1 Tn_fits := by
  refine eh_mk (rb := 1) (nm := eh_nX) (fl := eh_fl2) (kn := eh_kn2) (cs := (fun kk => match kk with | 52 => some (3, Tx_isKind) | 68 => some (3, Tn_last) | _ => none)) (ss := (fun _ => none)) (by decide) (eh_worldX h99) eh_fl2_ok eh_kn2_ok (fun kk n T h => by
    split at h
    · cases h; exact eh_callVN (c0 := 0) (cx_isKind l D tc ad h99) (List.mem_of_getElem? (i := 3) rfl) q360 qs5 q45 q361 (by decide +kernel) (by decide) (by decide) (by decide) rfl (eh_worldX h99) (fun _ _ _ _ h => eh_R0_rec h)
    · cases h; exact eh_callV (c0 := 2) (cn_last l D tc ad h99) q470 q472 qs15 q47 q473 (by decide +kernel) (by decide) (by decide) (by decide) rfl (eh_worldX h99) (fun _ _ _ _ h => eh_R2_rec h)
    · cases h) (fun _ _ _ h => by cases h) ?_
  rintro as σ bd K ⟨_, rfl, s, e, n, q, E, P, row, rfl, hN, hs, he, hrl, hr, hrow, hK⟩
  refine ⟨Nat.le_of_ble_eq_true rfl, fun X hX => ?_⟩
  obtain ⟨n302, ⟨hq, ⟨hn, hE, heo⟩, hP, hpo⟩, nby, n105⟩ := hN
  have h5 := hpo.1
  obtain ⟨a0, a1, a2, a3⟩ := hP.2.2.2.2 s hs.1 hs.2
  obtain ⟨b0, b1, b2, b3, b4⟩ := hpo.2.1 s hs.1 hs.2
  have e1 : σ.2 405 q s = P 1 s := a1
  have e2 : σ.2 406 q s = P 2 s := a2
  have ek : σ.2 101 0 e = E 0 e := (hE.2.1 e he.1 he.2).1
  have hke := heo.2 e he.1 he.2
  have hby := nby s hs.1 hs.2
  have hpar : ∀ j, 0 ≤ j → j < 16 → -1 ≤ σ.2 100 0 j ∧ σ.2 100 0 j < j := fun j h0 h1 => by
    have e3 : σ.2 100 0 j = E 3 j := hE.1 j h0 h1
    rw [e3]
    exact heo.1 j h0 h1
  have his : pu_is (σ.2 100 0) 17 (E 0 e) (P 1 s) = pu_is (E 3) 17 (E 0 e) (P 1 s) := pu_is_congr hE.1 heo.1 17 _ hke.1.2
  have hf2 : ∀ j, 0 ≤ j → j < 4 * n → σ.2 104 0 j = E 2 j := hE.2.2
  refine bX2_fits_0 hX (T52 := Tx_isKind) rfl (fun hok => ?_)
  rw [n302, e1, ek]
  refine ⟨by omega, hq, by omega, _, rfl, _, _, rfl, by omega, by omega, hpar, ?_⟩
  rw [his]
  unfold pu_fits at hK
  refine bX2_fits_25 hX (T68 := Tn_last) rfl (fun hok => ?_)
  rw [n302, e2]
  refine ⟨bz_r _, fun h0 => ?_, fun h0 => ⟨hq, by omega, by omega, fun h1 => ?_, fun h1 => ?_, fun h1 => ?_, fun h1 => ?_, fun h1 => ?_⟩⟩
  · exact eh_b0 hK (by rw [Bool.eq_false_iff.mpr (bz_0.mp h0)]; simp)
  · have hne : P 2 s ≠ 0 := by omega
    obtain ⟨c3, c4⟩ := a3 hne
    have c3 : σ.2 407 q s = P 3 s := c3
    have c4 : σ.2 408 q s = P 4 s := c4
    have hf := b3 hne
    have h4 := b4 (by omega)
    rw [bz_n.mp h0, decide_eq_false hne, Bool.true_and, Bool.false_or, if_neg (by omega)] at hK
    rw [c3, c4, show e * 4 = 4 * e by omega, hf2 (4 * e + P 3 s) (by omega) (by omega)]
    refine ⟨_, rfl, _, row, rfl, by unfold eh_r; omega, hrl, hr, fun x hx => (hrow x hx).1, ?_⟩
    have hvr : eh_r (E 2 (4 * e + P 3 s)) := by
      rw [← hf2 (4 * e + P 3 s) (by omega) (by omega)]
      exact hok.2 _ _ _ (by decide) (by decide) (by decide) (by decide)
    generalize E 2 (4 * e + P 3 s) = v at hK hvr ⊢
    unfold eh_r at hvr
    have hlg := pu_last_ge row (P 4 s) (fun x hx => (hrow x hx).1)
    have hll : 0 ≤ pu_last row (P 4 s) → pu_last row (P 4 s) < n := fun q => (hrow _ (pu_last_mem q)).2
    refine bX2_fits_152 hX (fun hok => ?_)
    rw [n302, e2, c3]
    refine ⟨by omega, fun h5 => ?_, fun h5 => ?_⟩
    · exact eh_b1 hK (by rw [decide_eq_true (show pu_last row (P 4 s) < 0 by omega)]; rfl)
    · have hl2 := hll (by omega)
      rw [decide_eq_false (by omega), Bool.false_or] at hK
      rw [show pu_last row (P 4 s) * 4 = 4 * pu_last row (P 4 s) by omega, hf2 _ (by omega) (by omega)]
      obtain ⟨g1, g2⟩ := pu_test_go2 (t := P 2 s - 3) (v := v) (w := E 2 (4 * pu_last row (P 4 s) + P 3 s)) (Rg := -2147483648 ≤ v ∧ v < 2147483648) hvr (fun q => eh_b0 hK q) (fun q => eh_b1 hK q)
      exact ⟨hq, by omega, by omega, fun k => g1 (by omega), fun k => ⟨fun k2 => (g2 (by omega)).1 (by omega), fun k2 => (g2 (by omega)).2 (by omega)⟩⟩
  · exact eh_b1 hK (by rw [bz_n.mp h0, decide_eq_true h1]; rfl)
  all_goals
    have hne : P 2 s ≠ 0 := by omega
    obtain ⟨c3, c4⟩ := a3 hne
    have c3 : σ.2 407 q s = P 3 s := c3
    have c4 : σ.2 408 q s = P 4 s := c4
    have hf := b3 hne
    rw [bz_n.mp h0, decide_eq_false hne, Bool.true_and, Bool.false_or, if_pos (by omega)] at hK
    rw [c3, c4, show e * 4 = 4 * e by omega, hf2 (4 * e + P 3 s) (by omega) (by omega)]
    obtain ⟨g1, g2⟩ := pu_test_go (t := P 2 s) (v := E 2 (4 * e + P 3 s)) (w := P 4 s) (fun q => eh_b0 hK q) (fun q => eh_b1 hK q)
  · exact g1 h1
  · exact (g2 (by omega)).1 h1
  · exact (g2 (by omega)).2 (by omega)
def Tn_isWhole : eh_T := eh_R2 fun as σ _ K => ∃ (t n q : Int) (E P : Nat → Int → Int), as = [.inl t] ∧ nc_C σ q E P n ∧ (0 ≤ t ∧ t < P 5 0) ∧ K (some (.inl (bz (pu_wh P t = true)))) σ
theorem cn_isWhole (l : Launch) (D : va_G) (tc : Nat → ClassId) (ad : Nat → Int → Nat) (h99 : ∀ a : Int, ad 99 a = a.toNat) : eh_M l D tc ad eh_LX yX2_isWhole cX2_isWhole 3 (some .boolean) 0 Tn_isWhole := by
  refine eh_mk (rb := 1) (nm := eh_nX) (fl := eh_fl2) (kn := eh_kn2) (cs := (fun _ => none)) (ss := (fun _ => none)) (by decide) (eh_worldX h99) eh_fl2_ok eh_kn2_ok (fun _ _ _ h => by cases h) (fun _ _ _ h => by cases h) ?_
  rintro as σ bd K ⟨_, rfl, t, n, q, E, P, rfl, hN, ht, hK⟩
  refine ⟨Nat.le_of_ble_eq_true rfl, fun X hX => ?_⟩
  obtain ⟨n302, hC, nby, n105⟩ := hN
  have hpo := hC.2.2.2
  have h5 := hpo.1
  have hq := hC.1
  have e5 := xc_steps hC
  rw [bz_congr pu_wh_t, bz_congr (pu_whole_x (by omega))] at hK
  have key : ∀ (m : Nat) (s : Int) (o1 : Option eh_V), t < s → s ≤ P 5 0 → P 5 0 - s < m → (∀ j, t < j → j < s → P 0 j = 2) → X 4 [some (.inr (some (2, 0))), o1, some (.inl s)] [] σ (0, 0) := by
    intro m
    induction m with
    | zero => intro s o1 h1 h2 h3; omega
    | succ m ih =>
      intro s o1 h1 h2 h3 h4
      refine bX2_isWhole_4 hX (fun hok => ?_)
      rw [n302, e5]
      by_cases hs5 : s < P 5 0
      · have hv := xc_sort hC (show 0 ≤ s by omega) hs5
        rw [hv]
        refine ⟨hq, by omega, fun h => by omega, fun _ => ⟨by omega, fun h6 => ih _ _ (by omega) (by omega) (by omega) (fun j a b => ?_), fun h6 => ⟨fun h => by omega, fun _ => ⟨by omega, fun h7 => ⟨fun h8 => eh_b1 hK (fun j a b => ?_), fun h8 => eh_b0 hK (fun hh => ?_)⟩, fun h7 => eh_b0 hK (fun hh => ?_)⟩⟩⟩⟩
        · by_cases hjs : j = s
          · rw [hjs]; exact h6
          · exact h4 j a (by omega)
        · by_cases hjs : j = s
          · rw [hjs]; exact Or.inr ⟨h8, h7⟩
          · exact Or.inl (h4 j a (by omega))
        · rcases hh s h1 hs5 with h | h
          · exact h6 h
          · exact h8 h.1
        · rcases hh s h1 hs5 with h | h
          · exact h6 h
          · exact h7 h.2
      · exact ⟨hq, by omega, fun _ => ⟨fun _ => eh_b1 hK (fun j a b => Or.inl (h4 j a (by omega))), fun h => by omega⟩, fun h => by omega⟩
  exact bX2_isWhole_0 hX (fun hok => key 20 _ _ (by omega) (by omega) (by omega) (fun j a b => by omega))
def Tn_takes : eh_T := eh_R2 fun as σ _ K => ∃ (row : pu_Rw) (a k : Int), as = [.inl (row.length : Int)] ∧ row ≠ [] ∧ row.length ≤ 12 ∧ pu_rok a k row ∧ nc_row σ row ∧ K (some (.inl (pu_cnt row (pu_tip row)))) σ
theorem cn_takes (l : Launch) (D : va_G) (tc : Nat → ClassId) (ad : Nat → Int → Nat) (h99 : ∀ a : Int, ad 99 a = a.toNat) : eh_M l D tc ad eh_LX yX2_takes cX2_takes 4 (some .int) 0 Tn_takes := by
  refine eh_mk (rb := 0) (nm := eh_nX) (fl := eh_fl2) (kn := eh_kn2) (cs := (fun _ => none)) (ss := (fun _ => none)) (by decide) (eh_worldX h99) eh_fl2_ok eh_kn2_ok (fun _ _ _ h => by cases h) (fun _ _ _ h => by cases h) ?_
  rintro as σ bd K ⟨_, rfl, row, a, k0, rfl, hne, hl, hro, hr, hK⟩
  refine ⟨Nat.le_of_ble_eq_true rfl, fun X hX => ?_⟩
  have hpos : 0 < row.length := List.length_pos_iff.mpr hne
  have ht := (nc_row_tip hr hpos).1
  have hrok : ∀ m : Nat, m ≤ row.length → pu_rok a k0 (pu_rowL (σ.2 300 0) (σ.2 301 0) m) ∧ ∀ q ∈ pu_rowL (σ.2 300 0) (σ.2 301 0) m, q.2 ≤ pu_tip row := by
    intro m hm
    obtain ⟨d, hd⟩ : ∃ d, row.length = m + d := ⟨row.length - m, by omega⟩
    have : ∀ (d : Nat) (m : Nat), pu_rok a k0 (pu_rowL (σ.2 300 0) (σ.2 301 0) (m + d)) → (∀ q ∈ pu_rowL (σ.2 300 0) (σ.2 301 0) (m + d), q.2 ≤ pu_tip row) → pu_rok a k0 (pu_rowL (σ.2 300 0) (σ.2 301 0) m) ∧ ∀ q ∈ pu_rowL (σ.2 300 0) (σ.2 301 0) m, q.2 ≤ pu_tip row := by
      intro d
      induction d with
      | zero => intro m h1 h2; exact ⟨h1, h2⟩
      | succ d ih =>
        intro m h1 h2
        rw [show m + (d + 1) = (m + d) + 1 by omega, pu_rowL] at h1 h2
        exact ih m h1.2.2.2 (fun q hq => h2 q (List.mem_cons_of_mem _ hq))
    refine this d m ?_ ?_
    · rw [← hd, hr]; exact hro
    · rw [← hd, hr]; exact pu_rok_tip hro
  have key : ∀ (m : Nat) (c : Int), m ≤ row.length → K (some (.inl (c + pu_cnt (pu_rowL (σ.2 300 0) (σ.2 301 0) m) (pu_tip row)))) σ → X 6 [some (.inr (some (2, 0))), some (.inl (row.length : Int)), some (.inl c), some (.inl ((m : Int) - 1))] [] σ (0, 0) := by
    intro m
    induction m with
    | zero =>
      intro c _ hK
      exact bX2_takes_6 hX (fun hok => ⟨by omega, fun _ => eh_ki hK (by simp [pu_rowL, pu_cnt]), fun h => by omega⟩)
    | succ m ih =>
      intro c hm hK
      obtain ⟨h1, h2⟩ := hrok (m + 1) hm
      rw [pu_rowL] at hK h1 h2
      rw [pu_cnt] at hK
      rw [show ((m + 1 : Nat) : Int) - 1 = (m : Int) by omega]
      refine bX2_takes_6 hX (fun hok => ?_)
      rw [ht]
      refine ⟨by omega, fun h => by omega, fun _ => ⟨by omega, by omega, fun h => ?_, fun h => ?_⟩⟩
      · rw [if_pos h] at hK
        rw [show (m : Int) + -1 = (m : Int) - 1 by omega]
        exact ih (c + 1) (by omega) (eh_ki hK (by omega))
      · have h3 := h2 _ List.mem_cons_self
        dsimp only at h3
        rw [if_neg h, pu_cnt_0 (fun q hq => ?_)] at hK
        · exact eh_ki hK (by omega)
        · have := (h1.2.2.1 q hq).2
          omega
  refine bX2_takes_0 hX (fun hok => key row.length 0 (Nat.le_refl _) ?_)
  rw [hr]
  exact eh_ki hK (by omega)
/-- nothing that must not be there came between -/
def pp_clear (E P : Nat → Int → Int) (row : pu_Rw) (k e : Int) : Prop := ∀ b, pu_head row < b → b < e → ¬ (pu_key E P (pu_first row) b = true ∧ pu_fits E P row k b = true)
def pp_leads (E P : Nat → Int → Int) (row : pu_Rw) (s e : Int) : Prop := (∀ k, pu_tip row < k → k < s → P 0 k ≠ 0 ∧ P 0 k ≠ 1 ∧ (P 0 k = 3 → pp_clear E P row k e)) ∧ P 0 s ≠ 3
def Tn_leads : eh_T := eh_R2 fun as σ _ K => ∃ (s e n q : Int) (E P : Nat → Int → Int) (row : pu_Rw), as = [.inl (row.length : Int), .inl s, .inl e] ∧ nc_C σ q E P n ∧ (pu_tip row < s ∧ s < P 5 0) ∧ (0 ≤ e ∧ e < n) ∧ row.length ≤ 12 ∧ nc_row σ row ∧ pu_gd P n row ∧ K (some (.inl (bz (pp_leads E P row s e)))) σ
theorem cn_leads (l : Launch) (D : va_G) (tc : Nat → ClassId) (ad : Nat → Int → Nat) (h99 : ∀ a : Int, ad 99 a = a.toNat) : eh_M l D tc ad eh_LX yX2_leads cX2_leads 7 (some .boolean) 2 Tn_leads := by
  refine eh_mk (rb := 1) (nm := eh_nX) (fl := eh_fl2) (kn := eh_kn2) (cs := (fun kk => match kk with | 38 => some (4, Tn_fits) | 78 => some (3, Tp_hasKey) | _ => none)) (ss := (fun _ => none)) (by decide) (eh_worldX h99) eh_fl2_ok eh_kn2_ok (fun kk n T h => by
    split at h
    · cases h; exact eh_callV (c0 := 2) (cn_fits l D tc ad h99) q465 q467 qs14 q47 q468 (by decide +kernel) (by decide) (by decide) (by decide) rfl (eh_worldX h99) (fun _ _ _ _ h => eh_R2_rec h)
    · cases h; exact eh_callV (c0 := 3) (cp_hasKey l D tc ad h99) q482 q343 q344 q48 q345 (by decide +kernel) (by decide) (by decide) (by decide) rfl (eh_worldX h99) (fun _ _ _ _ h => eh_R3_rec h)
    · cases h) (fun _ _ _ h => by cases h) ?_
  rintro as σ bd K ⟨_, rfl, s, e, n, q, E, P, row, rfl, hN, hs, he, hl, hr, hg, hK⟩
  refine ⟨Nat.le_of_ble_eq_true rfl, fun X hX => ?_⟩
  have hN' := hN
  obtain ⟨n302, hC, nby, n105⟩ := hN
  have hpo := hC.2.2.2
  have hn := hC.2.1.1
  have h5 := hpo.1
  have hq := hC.1
  have hpos : 0 < row.length := List.length_pos_iff.mpr hg.1
  have htip := pu_gd_tip hg
  have hfst := pu_gd_first hg
  have hmem := pu_gd_mem hg
  obtain ⟨t1, t2, t3⟩ := nc_row_tip hr hpos
  have hhd : 0 ≤ pu_head row ∧ pu_head row < n := by
    have := hmem _ (nc_row_at hr (k := (row.length : Int) - 1) (by omega) (by omega))
    rw [← t2]
    exact this
  have keyb : ∀ (m : Nat) (k b : Int) (o4 : Option eh_V), (pu_tip row < k ∧ k < s) → P 0 k = 3 → (0 ≤ b ∧ b ≤ 1000) → e ≤ b + m → pu_head row < b → (∀ b', pu_head row < b' → b' < b → ¬ (pu_key E P (pu_first row) b' = true ∧ pu_fits E P row k b' = true)) → (∀ b : Int, pp_clear E P row k e → (-2147483648 ≤ b ∧ b < 2147483648) → X 16 [some (.inr (some (2, 0))), some (.inl (row.length : Int)), some (.inl s), some (.inl e), o4, some (.inl (k + 1)), some (.inl b)] [] σ (0, 0)) → X 80 [some (.inr (some (2, 0))), some (.inl (row.length : Int)), some (.inl s), some (.inl e), o4, some (.inl k), some (.inl b)] [] σ (0, 0) := by
    intro m
    induction m with
    | zero =>
      intro k b o4 hk h3 hb hm hhb hcl hcont
      refine bX2_leads_80 hX (T78 := Tp_hasKey) rfl (fun hok => ⟨by omega, by omega, fun h => hcont b (fun b' h1 h2 => hcl b' h1 (by omega)) (by omega), fun h => by omega⟩)
    | succ m ih =>
      intro k b o4 hk h3 hb hm hhb hcl hcont
      refine bX2_leads_80 hX (T78 := Tp_hasKey) rfl (fun hok => ⟨by omega, by omega, fun h => hcont b (fun b' h1 h2 => hcl b' h1 (by omega)) (by omega), fun h => ?_⟩)
      rw [n302, t3]
      refine ⟨hq, q, _, rfl, hq, pu_first row, b, n, E, P, rfl, hC, hfst, by omega, ?_⟩
      have nxt : ¬ (pu_key E P (pu_first row) b = true ∧ pu_fits E P row k b = true) → X 80 [some (.inr (some (2, 0))), some (.inl (row.length : Int)), some (.inl s), some (.inl e), o4, some (.inl k), some (.inl (b + 1))] [] σ (0, 0) := fun hnb => by
        refine ih k (b + 1) o4 hk h3 (by omega) (by omega) (by omega) (fun b' h1 h2 => ?_) hcont
        by_cases hbb : b' = b
        · rw [hbb]; exact hnb
        · exact hcl b' h1 (by omega)
      refine bX2_leads_101 hX (T38 := Tn_fits) rfl (fun hok => ⟨bz_r _, fun h0 => nxt (fun h => bz_0.mp h0 h.1), fun h0 => ?_⟩)
      refine ⟨_, rfl, k, b, n, q, E, P, row, rfl, hN', by omega, by omega, hl, hr, hmem, ?_⟩
      refine bX2_leads_113 hX (fun hok => ⟨bz_r _, fun h1 => nxt (fun h => bz_0.mp h1 h.2), fun h1 => ?_⟩)
      refine eh_b0 hK (fun hh => ?_)
      exact (hh.1 k hk.1 hk.2).2.2 h3 b hhb (by omega) ⟨bz_n.mp h0, bz_n.mp h1⟩
  have key : ∀ (m : Nat) (k : Int) (o4 o6 : Option eh_V), pu_tip row < k → k ≤ s → s - k < m → (∀ j, pu_tip row < j → j < k → P 0 j ≠ 0 ∧ P 0 j ≠ 1 ∧ (P 0 j = 3 → pp_clear E P row j e)) → X 16 [some (.inr (some (2, 0))), some (.inl (row.length : Int)), some (.inl s), some (.inl e), o4, some (.inl k), o6] [] σ (0, 0) := by
    intro m
    induction m with
    | zero => intro k o4 o6 h1 h2 h3; omega
    | succ m ih =>
      intro k o4 o6 h1 h2 h3 h4
      have hvs := xc_sort hC (show 0 ≤ s by omega) hs.2
      have hvk := xc_sort hC (show 0 ≤ k by omega) (show k < P 5 0 by omega)
      have hext : (P 0 k ≠ 0 ∧ P 0 k ≠ 1 ∧ (P 0 k = 3 → pp_clear E P row k e)) → ∀ j, pu_tip row < j → j < k + 1 → P 0 j ≠ 0 ∧ P 0 j ≠ 1 ∧ (P 0 j = 3 → pp_clear E P row j e) := fun hk j a b => by
        by_cases hjk : j = k
        · rw [hjk]; exact hk
        · exact h4 j a (by omega)
      refine bX2_leads_16 hX (fun hok => ?_)
      rw [n302, hvs, hvk, t2]
      refine ⟨by omega, by omega, fun h => ⟨hq, by omega, fun h3 => eh_b0 hK (fun hh => hh.2 h3), fun h3 => eh_b1 hK ⟨fun j a b => h4 j a (by omega), h3⟩⟩, fun h => ⟨hq, by omega, fun h0 => eh_b0 hK (fun hh => (hh.1 k h1 (by omega)).1 h0), fun h0 => ⟨fun h6 => eh_b0 hK (fun hh => (hh.1 k h1 (by omega)).2.1 h6), fun h6 => ⟨fun h7 => ⟨by omega, ?_⟩, fun h7 => ih _ _ _ (by omega) (by omega) (by omega) (hext ⟨h0, h6, fun q => absurd q h7⟩)⟩⟩⟩⟩
      exact keyb 1000 k _ _ ⟨h1, by omega⟩ h7 (by omega) (by omega) (by omega) (fun b' a b => by omega) (fun b hcl hb => ih _ _ _ (by omega) (by omega) (by omega) (hext ⟨h0, h6, fun _ => hcl⟩))
  refine bX2_leads_0 hX (fun hok => ⟨by omega, ?_⟩)
  rw [t1]
  exact key 20 _ _ _ (by omega) (by omega) (by omega) (fun j a b => by omega)
