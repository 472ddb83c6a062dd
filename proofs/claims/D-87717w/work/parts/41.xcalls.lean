/-! EventHunter: calls, first part -/
def T_min : eh_T := fun as σ _ K => ∃ a b : Int, as = [.inl a, .inl b] ∧ eh_r a ∧ eh_r b ∧ K (some (.inl (if a ≤ b then a else b))) σ
theorem eh_minK {l : Launch} {D : va_G} {tc : Nat → ClassId} {ad : Nat → Int → Nat} {NL : eh_S → List (Nat × Int)} {own : String} {cc : ByteArray} {nL lv k : Nat} (h1 : Cond.methodLink own k yJ0_min ∈ lw_all) (hlv : 1 ≤ lv) : eh_CK l D tc ad NL own cc nL lv (.invokestatic k) 2 T_min := by
  intro p e R s m args below meth c Q A hcx pc as rest σ b bd K H locs la hdg hn h8 hb1 hb2 hT hok hP hD hS hsz kk
  obtain ⟨hx, hb, hml, hown, hts, hK, hA, hRf, hRl⟩ := hcx
  obtain ⟨a1, a2, rfl, ha1, ha2, hk⟩ := hT
  have hsum := eh_sum (ad := ad) rest h8
  show W p l e R s m args below meth c H locs b.1 b.2 Q (F0 m pc la (.int (eh_i a2) :: .int (eh_i a1) :: rest.map (eh_v ad)))
  have hcode : (Cond.code Lib.Math.min.name Lib.Math.min.code 2 (some .int)).before args s = true := hts _ q418
  have hstat : (Cond.static Lib.Math.min.name).before args s = true := hts _ q417
  have hlink : (Cond.methodLink own k Lib.Math.min.name).before args s = true := hts _ h1
  refine va_mmin hx hb (hml.trans hsz.symm) hown hlink hstat (hts _ q51) hcode (by rw [hRf]; exact hlv) (by rw [hRl]; omega) (by omega) (by omega) hdg ?_
  have h := kk (some (.inl (if a1 ≤ a2 then a1 else a2))) σ H locs hk hok hP hD hS
  have e : (if eh_i a2 < eh_i a1 then eh_i a2 else eh_i a1) = eh_i (if a1 ≤ a2 then a1 else a2) := by
    by_cases hc : a1 ≤ a2
    · rw [if_pos hc, if_neg (fun q => by have := (eh_i_lt ha2 ha1).mp q; omega)]
    · rw [if_neg hc, if_pos ((eh_i_lt ha2 ha1).mpr (by omega))]
  rw [e]
  refine W.widen (k := b.1 + bd.1) (n := b.2 + bd.2) (Nat.le_add_right _ _) (Nat.le_add_right _ _) ?_
  exact h
def Tx_within : eh_T := fun as σ _ K => ∃ v a b : Int, as = [.inl v, .inl a, .inl b] ∧ (eh_r v ∧ eh_r a ∧ eh_r b) ∧ K (some (.inl (bz (a ≤ v ∧ v ≤ b)))) σ
theorem cx_within (l : Launch) (D : va_G) (tc : Nat → ClassId) (ad : Nat → Int → Nat) (h99 : ∀ a : Int, ad 99 a = a.toNat) : eh_M l D tc ad eh_LX yX0_within cX0_within 3 (some .boolean) 0 Tx_within := by
  refine eh_mk (rb := 1) (nm := eh_nX) (fl := eh_fl0) (kn := eh_kn0) (cs := (fun _ => none)) (ss := (fun _ => none)) (by decide) (eh_worldX h99) eh_fl0_ok eh_kn0_ok (fun _ _ _ h => by cases h) (fun _ _ _ h => by cases h) ?_
  rintro as σ bd K ⟨v, a, b, rfl, ⟨hv, ha, hb⟩, hK⟩
  refine ⟨Nat.le_of_ble_eq_true rfl, fun X hX => ?_⟩
  exact bX0_within_0 hX (fun hok => ⟨hv, ha, fun h => eh_b0 hK (by omega), fun h => ⟨hb, fun h2 => eh_b0 hK (by omega), fun h2 => eh_b1 hK (by omega)⟩⟩)
/-- a check: in the limits, or not -/
theorem wi {σ : eh_S} {v a b : Int} {bd : Nat × Nat} {K : Option eh_V → eh_S → Prop} (hv : eh_r v) (ha : eh_r a) (hb : eh_r b) (h : K (some (.inl (bz (a ≤ v ∧ v ≤ b)))) σ) : Tx_within [.inl v, .inl a, .inl b] σ bd K := ⟨v, a, b, rfl, ⟨hv, ha, hb⟩, h⟩
theorem eh_rc {z : Int} (h : -2147483648 ≤ z ∧ z < 2147483648) : eh_r z := h
def Tx_isPattern : eh_T := eh_R0 fun as σ _ K => ∃ p : Int, as = [.inl p] ∧ eh_r p ∧ (0 ≤ σ.1 118 0 ∧ σ.1 118 0 ≤ 8) ∧ K (some (.inl (bz (0 ≤ p ∧ p < σ.1 118 0)))) σ
theorem cx_isPattern (l : Launch) (D : va_G) (tc : Nat → ClassId) (ad : Nat → Int → Nat) (h99 : ∀ a : Int, ad 99 a = a.toNat) : eh_M l D tc ad eh_LX yX0_isPattern cX0_isPattern 2 (some .boolean) 1 Tx_isPattern := by
  refine eh_mk (rb := 1) (nm := eh_nX) (fl := eh_fl0) (kn := eh_kn0) (cs := (fun _ => none)) (ss := (fun kk => match kk with | 77 => some (3, Tx_within) | _ => none)) (by decide) (eh_worldX h99) eh_fl0_ok eh_kn0_ok (fun _ _ _ h => by cases h) (fun kk n T h => by
    split at h
    · cases h; exact eh_callS (cx_within l D tc ad h99) q283 q284 q45 q285 (by decide +kernel) (by decide) (by decide)
    · cases h) ?_
  rintro as σ bd K ⟨_, rfl, p, rfl, hp, h8, hK⟩
  refine ⟨Nat.le_of_ble_eq_true rfl, fun X hX => ?_⟩
  refine bX0_isPattern_0 hX (T77 := Tx_within) rfl (fun hok => wi hp (eh_rc (by omega)) (eh_rc (by omega)) ?_)
  refine bX0_isPattern_11 hX (fun hok => ⟨bz_01 _, ?_⟩)
  rw [bz_congr (show (0 ≤ p ∧ p ≤ σ.1 118 0 - 1) ↔ (0 ≤ p ∧ p < σ.1 118 0) by omega)]
  exact hK
def Tx_isMatch : eh_T := eh_R0 fun as σ _ K => ∃ i : Int, as = [.inl i] ∧ eh_r i ∧ (0 ≤ σ.1 115 0 ∧ σ.1 115 0 ≤ 100000000) ∧ K (some (.inl (bz (0 ≤ i ∧ i < σ.1 115 0 ∧ i < 1000)))) σ
theorem cx_isMatch (l : Launch) (D : va_G) (tc : Nat → ClassId) (ad : Nat → Int → Nat) (h99 : ∀ a : Int, ad 99 a = a.toNat) : eh_M l D tc ad eh_LX yX0_isMatch cX0_isMatch 2 (some .boolean) 1 Tx_isMatch := by
  refine eh_mk (rb := 1) (nm := eh_nX) (fl := eh_fl0) (kn := eh_kn0) (cs := (fun _ => none)) (ss := (fun kk => match kk with | 77 => some (3, Tx_within) | 165 => some (2, T_min) | _ => none)) (by decide) (eh_worldX h99) eh_fl0_ok eh_kn0_ok (fun _ _ _ h => by cases h) (fun kk n T h => by
    split at h
    · cases h; exact eh_callS (cx_within l D tc ad h99) q283 q284 q45 q285 (by decide +kernel) (by decide) (by decide)
    · cases h; exact eh_minK q416 (by decide)
    · cases h) ?_
  rintro as σ bd K ⟨_, rfl, i, rfl, hi, h8, hK⟩
  refine ⟨Nat.le_of_ble_eq_true rfl, fun X hX => ?_⟩
  refine bX0_isMatch_0 hX (T165 := T_min) rfl (fun hok => ⟨_, _, rfl, eh_rc (by omega), eh_rc (by omega), ?_⟩)
  refine bX0_isMatch_12 hX (T77 := Tx_within) rfl (fun hok => wi hi (eh_rc (by omega)) (eh_rc (by split <;> omega)) ?_)
  refine bX0_isMatch_17 hX (fun hok => ⟨bz_01 _, ?_⟩)
  rw [bz_congr (show (0 ≤ i ∧ i ≤ (if σ.1 115 0 ≤ 1000 then σ.1 115 0 else 1000) - 1) ↔ (0 ≤ i ∧ i < σ.1 115 0 ∧ i < 1000) by split <;> omega)]
  exact hK
theorem xz_pats {σ : eh_S} {z : pz_Z} (h : xz σ z) (ho : pz_ok z) : (0 ≤ σ.1 118 0 ∧ σ.1 118 0 ≤ 8) ∧ σ.1 118 0 = z.1.1 4 0 := by
  have h1 := h.2.2.2.1.2.2.2
  have h2 := ho.1.2.1
  omega
theorem isP {σ : eh_S} {z : pz_Z} {p : Int} {bd : Nat × Nat} {K : Option eh_V → eh_S → Prop} (h : xz σ z) (ho : pz_ok z) (hp : eh_r p) (hK : K (some (.inl (bz (0 ≤ p ∧ p < z.1.1 4 0)))) σ) : Tx_isPattern [.inr (some (0, 0)), .inl p] σ bd K := by
  obtain ⟨h1, h2⟩ := xz_pats h ho
  exact ⟨_, rfl, p, rfl, hp, h1, by rw [h2]; exact hK⟩
theorem pz_np {z : pz_Z} (ho : pz_ok z) : 0 ≤ z.1.1 4 0 ∧ z.1.1 4 0 ≤ 8 := ho.1.2.1
def Tx_parent : eh_T := eh_R0 fun as σ _ K => ∃ (k p : Int) (z : pz_Z), as = [.inl k, .inl p] ∧ (eh_r k ∧ eh_r p) ∧ xz σ z ∧ pz_ok z ∧ xk (pz_parent k p z) σ K
theorem cx_parent (l : Launch) (D : va_G) (tc : Nat → ClassId) (ad : Nat → Int → Nat) (h99 : ∀ a : Int, ad 99 a = a.toNat) : eh_M l D tc ad eh_LX yX0_parent cX0_parent 4 (some .int) 1 Tx_parent := by
  refine eh_mk (rb := 0) (nm := eh_nX) (fl := eh_fl0) (kn := eh_kn0) (cs := (fun _ => none)) (ss := (fun kk => match kk with | 77 => some (3, Tx_within) | _ => none)) (by decide) (eh_worldX h99) eh_fl0_ok eh_kn0_ok (fun _ _ _ h => by cases h) (fun kk n T h => by
    split at h
    · cases h; exact eh_callS (cx_within l D tc ad h99) q283 q284 q45 q285 (by decide +kernel) (by decide) (by decide)
    · cases h) ?_
  rintro as σ bd K ⟨_, rfl, k, p, z, rfl, ⟨hk, hp⟩, hz, ho, hK⟩
  refine ⟨Nat.le_of_ble_eq_true rfl, fun X hX => ?_⟩
  obtain ⟨hnp1, hnp⟩ := xz_pats hz ho
  have hz' := hz
  obtain ⟨a1, a2, a3, a4, a5, a6, a7⟩ := hz
  unfold pz_parent at hK
  have key : (0 ≤ k ∧ k < 16) ∧ (-1 ≤ p ∧ p < k) → ∀ (m : Nat) (i : Int), (0 ≤ i ∧ i ≤ z.1.1 4 0) → z.1.1 4 0 - i < m → (∀ j, 0 ≤ j → j < i → z.1.2 20 j 0 = 0) → X 26 [some (.inr (some (0, 0))), some (.inl k), some (.inl p), some (.inl i)] [] σ (0, 0) := by
    intro hkp m
    induction m with
    | zero => intro i hi hm; omega
    | succ m ih =>
      intro i hi hm hb
      refine bX0_parent_26 hX (fun hok => ⟨by omega, fun h => ⟨by omega, by omega, ?_⟩, fun h => ⟨by omega, fun h1 => ih (i + 1) (by omega) (by omega) (fun j h2 h3 => ?_), fun h1 => ?_⟩⟩)
      · rw [pz_if_f (by omega), pz_if_f (fun ⟨j, h1, h2, h3⟩ => h3 (hb j h1 (by omega)))] at hK
        rw [a1 k (by omega) (by omega)]
        have hf : eh_fr [] [100] σ (eh_sA σ 100 0 k p) := eh_fr_sA eh_fr_rf (by decide)
        have e3 : ∀ c, c ≠ 3 → (eh_sA z.1 3 0 k p).2 c = z.1.2 c := fun c hc => eh_sA_c hc
        refine hK _ (eh_fr_up hf (by decide) (by decide)) ⟨fun j h0 h1 => ?_, xz_B_t a2 rfl (fun c hc => hf.2 c (by simp only [List.mem_cons, List.not_mem_nil, or_false] at hc ⊢; omega)) rfl (fun c hc => e3 c (by simp only [List.mem_cons, List.not_mem_nil, or_false] at hc; omega)), xz_C_t a3 (hf.2 109 (by decide)) (e3 5 (by decide)), xz_D_t a4 (fun _ _ => rfl) (fun _ _ => rfl), xz_F_t a5 (fun _ _ => rfl) (fun c hc => hf.2 c (by simp only [List.mem_cons, List.not_mem_nil, or_false] at hc ⊢; omega)) (fun c h0 h1 => e3 c (by omega)), xz_W_t a6 hf (by decide) (by decide) rfl, xm_M_fr a7 hf (by decide) (by decide)⟩
        show (eh_sA σ 100 0 k p).2 100 0 j = (eh_sA z.1 3 0 k p).2 3 0 j
        by_cases hj : j = k
        · rw [hj, eh_sA_p, eh_sA_p]
        · rw [eh_sA_n hj, eh_sA_n hj]; exact a1 j h0 h1
      · by_cases hj : j = i
        · rw [hj, ← (a5 i (by omega) (by omega)).2.1.1]; exact h1
        · exact hb j h2 (by omega)
      · rw [pz_if_f (by omega), pz_if_t ⟨i, by omega, by omega, by rw [← (a5 i (by omega) (by omega)).2.1.1]; exact h1⟩] at hK
        exact xk_s hK hz'
  refine bX0_parent_0 hX (T77 := Tx_within) rfl (fun hok => wi hk (eh_rc (by omega)) (eh_rc (by omega)) ?_)
  refine bX0_parent_7 hX (T77 := Tx_within) rfl (fun hok => ⟨bz_r _, fun h => ?_, fun h => ?_⟩)
  · rw [pz_if_t (by have := bz_0.mp h; omega)] at hK
    exact xk_s hK hz'
  · have h1 := bz_n.mp h
    refine wi hp (eh_rc (by omega)) (eh_rc (by omega)) ?_
    refine bX0_parent_18 hX (fun hok => ⟨bz_r _, fun h2 => ?_, fun h2 => ?_⟩)
    · rw [pz_if_t (by have := bz_0.mp h2; omega)] at hK
      exact xk_s hK hz'
    · have h3 := bz_n.mp h2
      exact key (by omega) 20 0 (by omega) (by omega) (fun j h4 h5 => by omega)
def Tx_pattern : eh_T := eh_R0 fun as σ _ K => ∃ (a w c : Int) (z : pz_Z), as = [.inl a, .inl w, .inl c] ∧ (eh_r a ∧ eh_r w ∧ eh_r c) ∧ xz σ z ∧ pz_ok z ∧ xk (pz_pattern a w c z) σ K
theorem cx_pattern (l : Launch) (D : va_G) (tc : Nat → ClassId) (ad : Nat → Int → Nat) (h99 : ∀ a : Int, ad 99 a = a.toNat) : eh_M l D tc ad eh_LX yX0_pattern cX0_pattern 5 (some .int) 1 Tx_pattern := by
  refine eh_mk (rb := 0) (nm := eh_nX) (fl := eh_fl0) (kn := eh_kn0) (cs := (fun _ => none)) (ss := (fun kk => match kk with | 77 => some (3, Tx_within) | _ => none)) (by decide) (eh_worldX h99) eh_fl0_ok eh_kn0_ok (fun _ _ _ h => by cases h) (fun kk n T h => by
    split at h
    · cases h; exact eh_callS (cx_within l D tc ad h99) q283 q284 q45 q285 (by decide +kernel) (by decide) (by decide)
    · cases h) ?_
  rintro as σ bd K ⟨_, rfl, a, w, c, z, rfl, ⟨ha, hw, hc⟩, hz, ho, hK⟩
  refine ⟨Nat.le_of_ble_eq_true rfl, fun X hX => ?_⟩
  obtain ⟨hnp1, hnp⟩ := xz_pats hz ho
  have hz' := hz
  obtain ⟨a1, a2, a3, a4, a5, a6, a7⟩ := hz
  unfold pz_pattern at hK
  refine bX0_pattern_0 hX (T77 := Tx_within) rfl (fun hok => wi ha (eh_rc (by omega)) (eh_rc (by omega)) ?_)
  refine bX0_pattern_8 hX (T77 := Tx_within) rfl (fun hok => ⟨bz_r _, fun h => ?_, fun h1 => wi hw (eh_rc (by omega)) (eh_rc (by omega)) ?_⟩)
  · rw [pz_if_t (by have := bz_0.mp h; omega)] at hK
    exact xk_s hK hz'
  refine bX0_pattern_17 hX (T77 := Tx_within) rfl (fun hok => ⟨bz_r _, fun h => ?_, fun h2 => wi hc (eh_rc (by omega)) (eh_rc (by omega)) ?_⟩)
  · rw [pz_if_t (by have := bz_0.mp h; omega)] at hK
    exact xk_s hK hz'
  refine bX0_pattern_26 hX (fun hok => ⟨bz_r _, fun h => ?_, fun h3 => ⟨fun h8 => ?_, fun h8 => ⟨by omega, ha, hw, hc, by omega, ?_⟩⟩⟩)
  · rw [pz_if_t (by have := bz_0.mp h; omega)] at hK
    exact xk_s hK hz'
  · have b1 := bz_n.mp h1
    have b2 := bz_n.mp h2
    have b3 := bz_n.mp h3
    rw [pz_if_f (by omega), pz_if_t (by omega)] at hK
    exact xk_s hK hz'
  · have b1 := bz_n.mp h1
    have b2 := bz_n.mp h2
    have b3 := bz_n.mp h3
    rw [pz_if_f (by omega), pz_if_f (by omega)] at hK
    rw [hnp] at *
    have hf : eh_fr [118, 400, 401, 402] [] σ (eh_sV (eh_sV (eh_sV (eh_sV σ 400 (z.1.1 4 0) a) 401 (z.1.1 4 0) w) 402 (z.1.1 4 0) c) 118 0 (z.1.1 4 0 + 1)) := eh_fr_sV (eh_fr_sV (eh_fr_sV (eh_fr_sV eh_fr_rf (by decide)) (by decide)) (by decide)) (by decide)
    have e3 : ∀ c', c' ≠ 16 → c' ≠ 17 → c' ≠ 18 → (eh_sV (eh_sA (eh_sA (eh_sA z.1 17 (z.1.1 4 0) 0 a) 18 (z.1.1 4 0) 0 w) 16 (z.1.1 4 0) 0 c) 4 0 (z.1.1 4 0 + 1)).2 c' = z.1.2 c' := fun c' h1 h2 h3 => by rw [eh_sV_2, eh_sA_c h1, eh_sA_c h3, eh_sA_c h2]
    have e4 : ∀ v, v ≠ 4 → (eh_sV (eh_sA (eh_sA (eh_sA z.1 17 (z.1.1 4 0) 0 a) 18 (z.1.1 4 0) 0 w) 16 (z.1.1 4 0) 0 c) 4 0 (z.1.1 4 0 + 1)).1 v = z.1.1 v := fun v h1 => by rw [eh_sV_v h1]; rfl
    refine hK _ (eh_fr_up hf (by decide) (by decide)) ⟨xz_A_t a1 rfl (e3 3 (by decide) (by decide) (by decide)), xz_B_t a2 (hf.1 106 (by decide)) (fun _ _ => rfl) (e4 1 (by decide)) (fun c hc => e3 c (by simp only [List.mem_cons, List.not_mem_nil, or_false] at hc; omega) (by simp only [List.mem_cons, List.not_mem_nil, or_false] at hc; omega) (by simp only [List.mem_cons, List.not_mem_nil, or_false] at hc; omega)), xz_C_t a3 rfl (e3 5 (by decide) (by decide) (by decide)), ⟨?_, ?_, ?_, ?_⟩, fun q h0 h1' => ?_, xz_W_t a6 hf (by decide) (by decide) rfl, xm_M_fr a7 hf (by decide) (by decide)⟩
    · rw [hf.1 105 (by decide), e4 0 (by decide)]; exact a4.1
    · rw [hf.1 107 (by decide), e4 2 (by decide)]; exact a4.2.1
    · rw [hf.1 108 (by decide), e4 3 (by decide)]; exact a4.2.2.1
    · show (eh_sV _ 118 0 _).1 118 0 = (eh_sV _ 4 0 _).1 4 0
      rw [eh_sV_p, eh_sV_p]
    · by_cases hq : q = z.1.1 4 0
      · obtain ⟨b1, b2, b3⟩ := a5 q h0 h1'
        have e5 := e3 15 (by decide) (by decide) (by decide)
        refine ⟨⟨?_, ?_, ?_, ?_⟩, ?_, ?_⟩
        · show _ = (eh_sV _ 4 0 _).2 17 q 0
          rw [eh_sV_v (by decide), eh_sV_v (by decide), eh_sV_v (by decide), hq, eh_sV_p, eh_sV_2, eh_sA_c (by decide), eh_sA_c (by decide), eh_sA_p]
        · show _ = (eh_sV _ 4 0 _).2 18 q 0
          rw [eh_sV_v (by decide), eh_sV_v (by decide), hq, eh_sV_p, eh_sV_2, eh_sA_c (by decide), eh_sA_p]
        · show _ = (eh_sV _ 4 0 _).2 16 q 0
          rw [eh_sV_v (by decide), hq, eh_sV_p, eh_sV_2, eh_sA_p]
        · rw [hf.1 403 (by decide), e5]; exact b1.2.2.2
        · rw [hf.1 409 (by decide), hf.1 410 (by decide), hf.1 411 (by decide), hf.1 412 (by decide), e3 20 (by decide) (by decide) (by decide), e3 21 (by decide) (by decide) (by decide), e3 19 (by decide) (by decide) (by decide), e3 22 (by decide) (by decide) (by decide)]; exact b2
        · rw [e5, e3 10 (by decide) (by decide) (by decide), e3 11 (by decide) (by decide) (by decide), e3 12 (by decide) (by decide) (by decide), e3 13 (by decide) (by decide) (by decide), e3 14 (by decide) (by decide) (by decide)]; exact b3
      · refine xz_F1_t (a5 q h0 h1') (fun v hv => ?_) (fun _ _ => rfl) (fun c' h2 h3 => ?_)
        · have e : ∀ (s : eh_S) (v' : Nat) (x : Int), (eh_sV s v' (z.1.1 4 0) x).1 v q = s.1 v q := fun s v' x => if_neg (fun h => hq h.2)
          rw [eh_sV_v (by rintro rfl; revert hv; decide), e, e, e]
        · have e : ∀ (s : eh_S) (c'' : Nat) (x : Int), (eh_sA s c'' (z.1.1 4 0) 0 x).2 c' q = s.2 c' q := fun s c'' x => eh_sA_r (fun h => hq h.2)
          show (eh_sV _ 4 0 _).2 c' q = _
          rw [eh_sV_2, e, e, e]
def Tx_fields : eh_T := eh_R0 fun as σ _ K => ∃ (a b c d : Int) (z : pz_Z), as = [.inl a, .inl b, .inl c, .inl d] ∧ (eh_r a ∧ eh_r b ∧ eh_r c ∧ eh_r d) ∧ xz σ z ∧ pz_ok z ∧ xk (pz_fields a b c d z) σ K
theorem cx_fields (l : Launch) (D : va_G) (tc : Nat → ClassId) (ad : Nat → Int → Nat) (h99 : ∀ a : Int, ad 99 a = a.toNat) : eh_M l D tc ad eh_LX yX0_fields cX0_fields 5 (some .int) 1 Tx_fields := by
  refine eh_mk (rb := 0) (nm := eh_nX) (fl := eh_fl0) (kn := eh_kn0) (cs := (fun _ => none)) (ss := (fun kk => match kk with | 77 => some (3, Tx_within) | _ => none)) (by decide) (eh_worldX h99) eh_fl0_ok eh_kn0_ok (fun _ _ _ h => by cases h) (fun kk n T h => by
    split at h
    · cases h; exact eh_callS (cx_within l D tc ad h99) q283 q284 q45 q285 (by decide +kernel) (by decide) (by decide)
    · cases h) ?_
  rintro as σ bd K ⟨_, rfl, a, b, c, d, z, rfl, ⟨ha, hb, hc, hd⟩, hz, ho, hK⟩
  refine ⟨Nat.le_of_ble_eq_true rfl, fun X hX => ?_⟩
  have hz' := hz
  obtain ⟨a1, a2, a3, a4, a5, a6, a7⟩ := hz
  unfold pz_fields at hK
  refine bX0_fields_0 hX (T77 := Tx_within) rfl (fun hok => wi ha (eh_rc (by omega)) (eh_rc (by omega)) ?_)
  refine bX0_fields_10 hX (T77 := Tx_within) rfl (fun hok => ⟨bz_r _, fun h => ?_, fun h1 => wi hb (eh_rc (by omega)) (eh_rc (by omega)) ?_⟩)
  · rw [pz_if_t (by have := bz_0.mp h; omega)] at hK
    exact xk_s hK hz'
  refine bX0_fields_23 hX (T77 := Tx_within) rfl (fun hok => ⟨bz_r _, fun h => ?_, fun h2 => wi hc (eh_rc (by omega)) (eh_rc (by omega)) ?_⟩)
  · rw [pz_if_t (by have := bz_0.mp h; omega)] at hK
    exact xk_s hK hz'
  refine bX0_fields_36 hX (T77 := Tx_within) rfl (fun hok => ⟨bz_r _, fun h => ?_, fun h3 => wi hd (eh_rc (by omega)) (eh_rc (by omega)) ?_⟩)
  · rw [pz_if_t (by have := bz_0.mp h; omega)] at hK
    exact xk_s hK hz'
  refine bX0_fields_50 hX (fun hok => ⟨bz_r _, fun h => ?_, fun h4 => ⟨ha, hb, hc, hd, ?_⟩⟩)
  · rw [pz_if_t (by have := bz_0.mp h; omega)] at hK
    exact xk_s hK hz'
  · have b1 := bz_n.mp h1
    have b2 := bz_n.mp h2
    have b3 := bz_n.mp h3
    have b4 := bz_n.mp h4
    rw [pz_if_f (by omega)] at hK
    have hf : eh_fr [] [109] σ (eh_sA (eh_sA (eh_sA (eh_sA σ 109 0 0 a) 109 0 1 b) 109 0 2 c) 109 0 3 d) := eh_fr_sA (eh_fr_sA (eh_fr_sA (eh_fr_sA eh_fr_rf (by decide)) (by decide)) (by decide)) (by decide)
    have e3 : ∀ c', c' ≠ 5 → (eh_sA (eh_sA (eh_sA (eh_sA z.1 5 0 0 a) 5 0 1 b) 5 0 2 c) 5 0 3 d).2 c' = z.1.2 c' := fun c' h => by rw [eh_sA_c h, eh_sA_c h, eh_sA_c h, eh_sA_c h]
    refine hK _ (eh_fr_up hf (by decide) (by decide)) ⟨xz_A_t a1 (hf.2 100 (by decide)) (e3 3 (by decide)), xz_B_t a2 rfl (fun c hc => hf.2 c (by simp only [List.mem_cons, List.not_mem_nil, or_false] at hc ⊢; omega)) rfl (fun c hc => e3 c (by simp only [List.mem_cons, List.not_mem_nil, or_false] at hc; omega)), fun j h0 h1 => ?_, xz_D_t a4 (fun _ _ => rfl) (fun _ _ => rfl), xz_F_t a5 (fun _ _ => rfl) (fun c hc => hf.2 c (by simp only [List.mem_cons, List.not_mem_nil, or_false] at hc ⊢; omega)) (fun c h0 h1 => e3 c (by omega)), xz_W_t a6 hf (by decide) (by decide) rfl, xm_M_fr a7 hf (by decide) (by decide)⟩
    show (eh_sA (eh_sA (eh_sA (eh_sA σ 109 0 0 a) 109 0 1 b) 109 0 2 c) 109 0 3 d).2 109 0 j = (eh_sA (eh_sA (eh_sA (eh_sA z.1 5 0 0 a) 5 0 1 b) 5 0 2 c) 5 0 3 d).2 5 0 j
    rcases (show j = 0 ∨ j = 1 ∨ j = 2 ∨ j = 3 by omega) with rfl | rfl | rfl | rfl
    · rw [eh_sA_n (by decide), eh_sA_n (by decide), eh_sA_n (by decide), eh_sA_p, eh_sA_n (by decide), eh_sA_n (by decide), eh_sA_n (by decide), eh_sA_p]
    · rw [eh_sA_n (by decide), eh_sA_n (by decide), eh_sA_p, eh_sA_n (by decide), eh_sA_n (by decide), eh_sA_p]
    · rw [eh_sA_n (by decide), eh_sA_p, eh_sA_n (by decide), eh_sA_p]
    · rw [eh_sA_p, eh_sA_p]
def Tx_is : eh_T := eh_R0 fun as σ _ K => ∃ (a b : Int) (z : pz_Z), as = [.inl a, .inl b] ∧ (eh_r a ∧ eh_r b) ∧ xz σ z ∧ pz_ok z ∧ xk (pz_is a b z, z) σ K
theorem cx_is (l : Launch) (D : va_G) (tc : Nat → ClassId) (ad : Nat → Int → Nat) (h99 : ∀ a : Int, ad 99 a = a.toNat) : eh_M l D tc ad eh_LX yX0_is cX0_is 3 (some .int) 1 Tx_is := by
  refine eh_mk (rb := 0) (nm := eh_nX) (fl := eh_fl0) (kn := eh_kn0) (cs := (fun kk => match kk with | 212 => some (3, Tx_isKind) | _ => none)) (ss := (fun kk => match kk with | 77 => some (3, Tx_within) | _ => none)) (by decide) (eh_worldX h99) eh_fl0_ok eh_kn0_ok (fun kk n T h => by
    split at h
    · cases h; exact eh_callV (c0 := 0) (cx_isKind l D tc ad h99) q499 q360 qs5 q45 q361 (by decide +kernel) (by decide) (by decide) (by decide) rfl (eh_worldX h99) (fun _ _ _ _ h => eh_R0_rec h)
    · cases h) (fun kk n T h => by
    split at h
    · cases h; exact eh_callS (cx_within l D tc ad h99) q283 q284 q45 q285 (by decide +kernel) (by decide) (by decide)
    · cases h) ?_
  rintro as σ bd K ⟨_, rfl, a, b, z, rfl, ⟨ha, hb⟩, hz, ho, hK⟩
  refine ⟨Nat.le_of_ble_eq_true rfl, fun X hX => ?_⟩
  have hK := xk_s hK hz
  unfold pz_is at hK
  refine bX0_is_0 hX (T77 := Tx_within) rfl (fun hok => wi ha (eh_rc (by omega)) (eh_rc (by omega)) ?_)
  refine bX0_is_7 hX (T77 := Tx_within) rfl (fun hok => ⟨bz_r _, fun h => ?_, fun h1 => wi hb (eh_rc (by omega)) (eh_rc (by omega)) ?_⟩)
  · rw [pz_if_t (by have := bz_0.mp h; omega)] at hK
    exact hK
  refine bX0_is_17 hX (T212 := Tx_isKind) rfl (fun hok => ⟨bz_r _, fun h => ?_, fun h2 => ?_⟩)
  · rw [pz_if_t (by have := bz_0.mp h; omega)] at hK
    exact hK
  · have b1 := bz_n.mp h1
    have b2 := bz_n.mp h2
    rw [pz_if_f (by omega)] at hK
    have hpe : ∀ j, 0 ≤ j → j < 16 → -1 ≤ z.1.2 3 0 j ∧ z.1.2 3 0 j < j := ho.1.2.2.2.1.1
    have hpar : ∀ j, 0 ≤ j → j < 16 → -1 ≤ σ.2 100 0 j ∧ σ.2 100 0 j < j := fun j h0 h1 => by rw [hz.1 j h0 h1]; exact hpe j h0 h1
    refine ⟨_, rfl, a, b, rfl, by omega, by omega, hpar, ?_⟩
    rw [pu_is_congr (fun k h0 h1 => hz.1 k h0 h1) hpe 17 a (by omega)]
    exact bX0_is_30 hX (fun hok => ⟨bz_r _, fun h => eh_ki hK h, fun h => eh_ki hK (bz_t (bz_n.mp h))⟩)
def Tx_matches : eh_T := eh_R0 fun as σ _ K => ∃ (p : Int) (z : pz_Z), as = [.inl p] ∧ eh_r p ∧ xz σ z ∧ pz_ok z ∧ xk (pz_matches p z, z) σ K
theorem cx_matches (l : Launch) (D : va_G) (tc : Nat → ClassId) (ad : Nat → Int → Nat) (h99 : ∀ a : Int, ad 99 a = a.toNat) : eh_M l D tc ad eh_LX yX0_matches cX0_matches 2 (some .int) 2 Tx_matches := by
  refine eh_mk (rb := 0) (nm := eh_nX) (fl := eh_fl0) (kn := eh_kn0) (cs := (fun kk => match kk with | 99 => some (2, Tx_isPattern) | _ => none)) (ss := (fun _ => none)) (by decide) (eh_worldX h99) eh_fl0_ok eh_kn0_ok (fun kk n T h => by
    split at h
    · cases h; exact eh_callV (c0 := 0) (cx_isPattern l D tc ad h99) q294 q296 qs0 q45 q297 (by decide +kernel) (by decide) (by decide) (by decide) rfl (eh_worldX h99) (fun _ _ _ _ h => eh_R0_rec h)
    · cases h) (fun _ _ _ h => by cases h) ?_
  rintro as σ bd K ⟨_, rfl, p, z, rfl, hp, hz, ho, hK⟩
  refine ⟨Nat.le_of_ble_eq_true rfl, fun X hX => ?_⟩
  have hK := xk_s hK hz
  have hnp := pz_np ho
  unfold pz_matches at hK
  refine bX0_matches_0 hX (T99 := Tx_isPattern) rfl (fun hok => ⟨hp, fun h => ?_, fun h => isP hz ho hp ?_⟩)
  · rw [pz_if_t h] at hK
    rw [hz.2.2.2.2.2.2.1]; exact hK
  · rw [pz_if_f h] at hK
    refine bX0_matches_17 hX (fun hok => ⟨bz_r _, fun h2 => ?_, fun h2 => ⟨?_, ?_⟩⟩)
    · rw [pz_if_f (bz_0.mp h2)] at hK; exact hK
    · have := bz_n.mp h2; omega
    · have h3 := bz_n.mp h2
      rw [pz_if_t h3] at hK
      rw [(hz.2.2.2.2.1 p (by omega) (by omega)).2.1.2.2.2]; exact hK
theorem xz_mt {σ : eh_S} {z : pz_Z} {i : Int} (h : xm_M σ z.2.2) (hi : pz_isM z i) : xm_s σ i (pz_mt z i) ∧ pz_mt z i ∈ z.2.2 ∧ (i < σ.1 10 0 ∧ i < σ.1 11 0) := by
  obtain ⟨h0, h1, h2⟩ := hi
  have hl : i.toNat < z.2.2.length := by omega
  have hg : z.2.2[i.toNat]? = some (z.2.2[i.toNat]) := List.getElem?_eq_getElem hl
  have he : pz_mt z i = z.2.2[i.toNat] := by unfold pz_mt; rw [hg]; rfl
  obtain ⟨m1, m2, m3, m4⟩ := h
  have := m4 i.toNat _ (by omega) hg
  rw [Int.toNat_of_nonneg h0] at this
  refine ⟨by rw [he]; exact this, by rw [he]; exact List.getElem_mem hl, ?_⟩
  by_cases hc : z.2.2.length < 1000
  · have := m2 hc; omega
  · have := m3 (by omega); omega
theorem pz_ml {z : pz_Z} (ho : pz_ok z) : (z.2.2.length : Int) ≤ 1608000 := by
  have h1 := ho.2.2.1
  have h2 := ho.1.1
  omega
theorem isM {σ : eh_S} {z : pz_Z} {i : Int} {bd : Nat × Nat} {K : Option eh_V → eh_S → Prop} (h : xz σ z) (ho : pz_ok z) (hi : eh_r i) (hK : K (some (.inl (bz (pz_isM z i)))) σ) : Tx_isMatch [.inr (some (0, 0)), .inl i] σ bd K := by
  have h1 := h.2.2.2.2.2.2.1
  have h2 := pz_ml ho
  refine ⟨_, rfl, i, rfl, hi, by omega, ?_⟩
  rw [h1]
  exact hK
theorem pu_head_rowL {f g : Int → Int} {n : Nat} (h : 0 < n) : pu_head (pu_rowL f g n) = f ((n : Int) - 1) := by
  cases n with
  | zero => omega
  | succ n => rw [pu_rowL, pu_head, show ((n + 1 : Nat) : Int) - 1 = (n : Int) by omega]
theorem pz_nth_rowL {f g : Int → Int} {n : Nat} {k : Int} (h0 : 0 ≤ k) (h1 : k < n) : pz_nth (pu_rowL f g n) k = (f k, g k) := by
  unfold pz_nth
  rw [pu_rowL_len]
  have : ∀ (n : Nat) (k : Nat), k < n → (pu_rowL f g n)[n - 1 - k]? = some (f k, g k) := by
    intro n
    induction n with
    | zero => intro k hk; omega
    | succ n ih =>
      intro k hk
      rw [pu_rowL]
      by_cases hkn : k = n
      · rw [show n + 1 - 1 - k = 0 by omega, hkn]; rfl
      · rw [show n + 1 - 1 - k = (n - 1 - k) + 1 by omega, List.getElem?_cons_succ]
        exact ih k (by omega)
  rw [this n k.toNat (by omega), Int.toNat_of_nonneg h0]
  rfl
def Tx_match : eh_T := eh_R0 fun as σ _ K => ∃ (i w : Int) (z : pz_Z), as = [.inl i, .inl w] ∧ (eh_r i ∧ eh_r w) ∧ xz σ z ∧ pz_ok z ∧ xk (pz_match i w z, z) σ K
theorem cx_match (l : Launch) (D : va_G) (tc : Nat → ClassId) (ad : Nat → Int → Nat) (h99 : ∀ a : Int, ad 99 a = a.toNat) : eh_M l D tc ad eh_LX yX0_match cX0_match 3 (some .int) 2 Tx_match := by
  refine eh_mk (rb := 0) (nm := eh_nX) (fl := eh_fl0) (kn := eh_kn0) (cs := (fun kk => match kk with | 171 => some (2, Tx_isMatch) | _ => none)) (ss := (fun kk => match kk with | 77 => some (3, Tx_within) | _ => none)) (by decide) (eh_worldX h99) eh_fl0_ok eh_kn0_ok (fun kk n T h => by
    split at h
    · cases h; exact eh_callV (c0 := 0) (cx_isMatch l D tc ad h99) q412 q414 qs11 q45 q415 (by decide +kernel) (by decide) (by decide) (by decide) rfl (eh_worldX h99) (fun _ _ _ _ h => eh_R0_rec h)
    · cases h) (fun kk n T h => by
    split at h
    · cases h; exact eh_callS (cx_within l D tc ad h99) q283 q284 q45 q285 (by decide +kernel) (by decide) (by decide)
    · cases h) ?_
  rintro as σ bd K ⟨_, rfl, i, w, z, rfl, ⟨hi, hw⟩, hz, ho, hK⟩
  refine ⟨Nat.le_of_ble_eq_true rfl, fun X hX => ?_⟩
  have hK := xk_s hK hz
  unfold pz_match at hK
  refine bX0_match_0 hX (T171 := Tx_isMatch) rfl (fun hok => isM hz ho hi ?_)
  refine bX0_match_5 hX (T77 := Tx_within) rfl (fun hok => ⟨bz_r _, fun h => ?_, fun h1 => wi hw (eh_rc (by omega)) (eh_rc (by omega)) ?_⟩)
  · rw [pz_if_t (fun h2 => bz_0.mp h h2.1)] at hK
    exact hK
  refine bX0_match_14 hX (fun hok => ⟨bz_r _, fun h => ?_, fun h2 => ?_⟩)
  · rw [pz_if_t (fun h2 => bz_0.mp h h2.2)] at hK
    exact hK
  · have b1 := bz_n.mp h1
    have b2 := bz_n.mp h2
    rw [pz_if_f (fun h => h ⟨b1, b2⟩)] at hK
    obtain ⟨⟨x1, x2, x3, x4⟩, x5, x6⟩ := xz_mt hz.2.2.2.2.2.2 b1
    have hne := (ho.2.2.2 _ x5).2.1
    have hlp : 0 < (pz_mt z i).2.length := List.length_pos_iff.mpr hne
    obtain ⟨c0, c1, c2⟩ := b1
    rw [x1.1, x1.2.1]
    refine ⟨hw, fun h => ⟨by omega, eh_ki hK (if_pos h)⟩, fun h3 => ⟨fun h => ⟨by omega, eh_ki hK (by rw [if_neg h3, if_pos h])⟩, fun h4 => ⟨fun h => ⟨by omega, x2.1, i, by omega, x2.2.1, ⟨by omega, by rw [x2.2.2]; omega⟩, eh_ki hK ?_⟩, fun h => ⟨by omega, x2.1, i, by omega, x2.2.1, by rw [x2.2.2]; omega, eh_ki hK ?_⟩⟩⟩⟩
    · rw [if_neg h3, if_neg h4, if_pos h, ← pu_first_rowL (f := σ.2 10 i) (g := σ.2 11 i) hlp, x4]
    · rw [if_neg h3, if_neg h4, if_neg h, ← pu_head_rowL (f := σ.2 10 i) (g := σ.2 11 i) hlp, x4]
def Tx_member : eh_T := eh_R0 fun as σ _ K => ∃ (i k h : Int) (z : pz_Z), as = [.inl i, .inl k, .inl h] ∧ (eh_r i ∧ eh_r k ∧ eh_r h) ∧ xz σ z ∧ pz_ok z ∧ xk (pz_member i k h z, z) σ K
theorem cx_member (l : Launch) (D : va_G) (tc : Nat → ClassId) (ad : Nat → Int → Nat) (h99 : ∀ a : Int, ad 99 a = a.toNat) : eh_M l D tc ad eh_LX yX0_member cX0_member 4 (some .int) 2 Tx_member := by
  refine eh_mk (rb := 0) (nm := eh_nX) (fl := eh_fl0) (kn := eh_kn0) (cs := (fun kk => match kk with | 171 => some (2, Tx_isMatch) | _ => none)) (ss := (fun kk => match kk with | 77 => some (3, Tx_within) | _ => none)) (by decide) (eh_worldX h99) eh_fl0_ok eh_kn0_ok (fun kk n T h => by
    split at h
    · cases h; exact eh_callV (c0 := 0) (cx_isMatch l D tc ad h99) q412 q414 qs11 q45 q415 (by decide +kernel) (by decide) (by decide) (by decide) rfl (eh_worldX h99) (fun _ _ _ _ h => eh_R0_rec h)
    · cases h) (fun kk n T h => by
    split at h
    · cases h; exact eh_callS (cx_within l D tc ad h99) q283 q284 q45 q285 (by decide +kernel) (by decide) (by decide)
    · cases h) ?_
  rintro as σ bd K ⟨_, rfl, i, k, w, z, rfl, ⟨hi, hk, hw⟩, hz, ho, hK⟩
  refine ⟨Nat.le_of_ble_eq_true rfl, fun X hX => ?_⟩
  have hK := xk_s hK hz
  unfold pz_member at hK
  refine bX0_member_0 hX (T171 := Tx_isMatch) rfl (fun hok => isM hz ho hi ?_)
  refine bX0_member_5 hX (T77 := Tx_within) rfl (fun hok => ⟨bz_r _, fun h => ?_, fun h1 => ?_⟩)
  · rw [pz_if_t (fun h2 => bz_0.mp h h2.1)] at hK
    exact hK
  have b1 := bz_n.mp h1
  obtain ⟨⟨x1, x2, x3, x4⟩, x5, x6⟩ := xz_mt hz.2.2.2.2.2.2 b1
  obtain ⟨c0, c1, c2⟩ := b1
  rw [x1.2.1]
  refine ⟨by omega, wi hk (eh_rc (by omega)) (eh_rc (by have := x1.2.2; omega)) ?_⟩
  refine bX0_member_21 hX (T77 := Tx_within) rfl (fun hok => ⟨bz_r _, fun h => ?_, fun h2 => wi hw (eh_rc (by omega)) (eh_rc (by omega)) ?_⟩)
  · rw [pz_if_t (fun h2 => bz_0.mp h ⟨h2.2.1.1, by have := h2.2.1.2; omega⟩)] at hK
    exact hK
  refine bX0_member_30 hX (fun hok => ⟨bz_r _, fun h => ?_, fun h3 => ?_⟩)
  · rw [pz_if_t (fun h2 => bz_0.mp h h2.2.2)] at hK
    exact hK
  · have b2 := bz_n.mp h2
    have b3 := bz_n.mp h3
    rw [pz_if_f (fun h => h ⟨bz_n.mp h1, ⟨b2.1, by omega⟩, b3⟩)] at hK
    have hn := pz_nth_rowL (f := σ.2 10 i) (g := σ.2 11 i) (n := (pz_mt z i).2.length) b2.1 (by omega)
    rw [x4] at hn
    rw [hn] at hK
    refine ⟨hw, fun h => ⟨by omega, x2.1, i, by omega, x2.2.1, ⟨b2.1, by rw [x2.2.2]; omega⟩, eh_ki hK (if_pos h)⟩, fun h => ⟨by omega, x3.1, i, by omega, x3.2.1, ⟨b2.1, by rw [x3.2.2]; omega⟩, eh_ki hK (if_neg h)⟩⟩
