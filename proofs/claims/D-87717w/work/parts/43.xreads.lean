/-! EventHunter: calls that only tell -/
theorem pz_has_rowL {f g : Int → Int} {n : Nat} {e : Int} : pz_has (pu_rowL f g n) e ↔ ∃ k : Int, 0 ≤ k ∧ k < n ∧ f k = e := by
  constructor
  · rintro ⟨s, hs⟩
    obtain ⟨k, h0, h1, h2⟩ := pu_rowL_mem hs
    exact ⟨k, h0, h1, (congrArg Prod.fst h2).symm⟩
  · rintro ⟨k, h0, h1, h2⟩
    exact ⟨g k, by rw [← h2]; exact pu_rowL_in h0 h1⟩
def pz_hk (σ : eh_S) (i k e : Int) : Prop := ∃ j : Int, 0 ≤ j ∧ j < k ∧ σ.2 10 i j = e
def Tx_matchesWith : eh_T := eh_R0 fun as σ _ K => ∃ (e : Int) (z : pz_Z), as = [.inl e] ∧ eh_r e ∧ xz σ z ∧ pz_ok z ∧ K (some (.inl (pz_mwith z e))) σ
theorem cx_matchesWith (l : Launch) (D : va_G) (tc : Nat → ClassId) (ad : Nat → Int → Nat) (h99 : ∀ a : Int, ad 99 a = a.toNat) : eh_M l D tc ad eh_LX yX0_matchesWith cX0_matchesWith 6 (some .int) 1 Tx_matchesWith := by
  refine eh_mk (rb := 0) (nm := eh_nX) (fl := eh_fl0) (kn := eh_kn0) (cs := (fun _ => none)) (ss := (fun kk => match kk with | 165 => some (2, T_min) | _ => none)) (by decide) (eh_worldX h99) eh_fl0_ok eh_kn0_ok (fun _ _ _ h => by cases h) (fun kk n T h => by
    split at h
    · cases h; exact eh_minK q416 (by decide)
    · cases h) ?_
  rintro as σ bd K ⟨_, rfl, e, z, rfl, he, hz, ho, hK⟩
  refine ⟨Nat.le_of_ble_eq_true rfl, fun X hX => ?_⟩
  have hml := pz_ml ho
  have h115 : σ.1 115 0 = (z.2.2.length : Int) := hz.2.2.2.2.2.2.1
  unfold pz_mwith at hK
  have keyK : ∀ (m : Nat) (i c a4 k : Int), pz_isM z i → (0 ≤ k ∧ k ≤ (pz_mt z i).2.length) → (pz_mt z i).2.length - k < m → (a4 = bz (pz_hk σ i k e)) → (∀ (o4 o5 : Option eh_V), X 4 [some (.inr (some (0, 0))), some (.inl e), some (.inl (c + bz (pz_has (pz_mt z i).2 e))), some (.inl (i + 1)), o4, o5] [] σ (0, 0)) → X 24 [some (.inr (some (0, 0))), some (.inl e), some (.inl c), some (.inl i), some (.inl a4), some (.inl k)] [] σ (0, 0) := by
    intro m
    induction m with
    | zero => intro i c a4 k _ h1 h2; omega
    | succ m ih =>
      intro i c a4 k hi hk hm ha4 hcont
      obtain ⟨⟨x1, x2, x3, x4⟩, x5, x6⟩ := xz_mt hz.2.2.2.2.2.2 hi
      obtain ⟨c0, c1, c2⟩ := hi
      have hx24 := x1.2.2
      have h01 : a4 = 0 ∨ a4 = 1 := by rw [ha4]; exact bz_01 _
      have hhas : pz_hk σ i ((pz_mt z i).2.length : Int) e ↔ pz_has (pz_mt z i).2 e := by
        have := (pz_has_rowL (f := σ.2 10 i) (g := σ.2 11 i) (n := (pz_mt z i).2.length) (e := e)).symm
        rwa [x4] at this
      refine bX0_matchesWith_24 hX (fun hok => ?_)
      rw [x1.2.1]
      refine ⟨by omega, by omega, fun hd => ⟨by omega, fun h => ?_, fun h => ?_⟩, fun hd => ⟨x2.1, i, by omega, x2.2.1, by rw [x2.2.2]; omega, he, fun h => ⟨h01, ih i c _ (k + 1) ⟨c0, c1, c2⟩ (by omega) (by omega) ?_ hcont⟩, fun h => ⟨h01, ih i c _ (k + 1) ⟨c0, c1, c2⟩ (by omega) (by omega) ?_ hcont⟩⟩⟩
      · have hcc := hcont (some (.inl a4)) (some (.inl k))
        rw [show k = ((pz_mt z i).2.length : Int) by omega, bz_congr hhas] at ha4
        rw [← ha4, h] at hcc
        rw [h]
        exact hcc
      · have hcc := hcont (some (.inl a4)) (some (.inl k))
        rw [show k = ((pz_mt z i).2.length : Int) by omega, bz_congr hhas] at ha4
        rw [← ha4, show a4 = 1 by omega] at hcc
        rw [show a4 = 1 by omega]
        exact hcc
      · have : eh_or a4 1 = 1 := by rcases h01 with h2 | h2 <;> (rw [h2]; rfl)
        rw [this]
        exact (bz_t ⟨k, by omega, by omega, h⟩).symm
      · have : eh_or a4 0 = a4 := by rcases h01 with h2 | h2 <;> (rw [h2]; rfl)
        rw [this, ha4]
        refine bz_congr ⟨fun ⟨j, p1, p2, p3⟩ => ⟨j, p1, by omega, p3⟩, fun ⟨j, p1, p2, p3⟩ => ⟨j, p1, ?_, p3⟩⟩
        by_cases hjk : j = k
        · rw [hjk] at p3; exact absurd p3 h
        · omega
  have keyI : ∀ (m : Nat) (i c : Int) (o4 o5 : Option eh_V), (0 ≤ i ∧ i + m = (min z.2.2.length 1000 : Nat)) → K (some (.inl (c + pp_sum (fun i => bz (pz_has (pz_mt z i).2 e)) m i))) σ → X 4 [some (.inr (some (0, 0))), some (.inl e), some (.inl c), some (.inl i), o4, o5] [] σ (0, 0) := by
    intro m
    induction m with
    | zero =>
      intro i c o4 o5 hi hK
      refine bX0_matchesWith_4 hX (T165 := T_min) rfl (fun hok => ⟨_, _, rfl, eh_rc (by omega), eh_rc (by omega), ?_⟩)
      refine bX0_matchesWith_15 hX (fun hok => ⟨by omega, by split <;> omega, fun _ => eh_ki hK (by simp [pp_sum]), fun h => ?_⟩)
      exfalso
      apply h
      split <;> omega
    | succ m ih =>
      intro i c o4 o5 hi hK
      refine bX0_matchesWith_4 hX (T165 := T_min) rfl (fun hok => ⟨_, _, rfl, eh_rc (by omega), eh_rc (by omega), ?_⟩)
      refine bX0_matchesWith_15 hX (fun hok => ⟨by omega, by split <;> omega, fun h => ?_, fun _ => ?_⟩)
      · exfalso
        revert h
        split <;> omega
      · refine keyK 30 i c 0 0 ⟨by omega, by omega, by omega⟩ (by omega) ?_ ?_ (fun o4 o5 => ih (i + 1) _ o4 o5 (by omega) (eh_ki hK (by rw [pp_sum]; omega)))
        · obtain ⟨⟨x1, x2, x3, x4⟩, x5, x6⟩ := xz_mt hz.2.2.2.2.2.2 (i := i) ⟨by omega, by omega, by omega⟩
          have := x1.2.2
          omega
        · exact (bz_f (fun ⟨j, p1, p2, p3⟩ => by omega)).symm
  exact bX0_matchesWith_0 hX (fun hok => keyI _ 0 0 _ _ ⟨Int.le_refl _, Int.zero_add _⟩ (eh_ki hK (by omega)))
def Tx_told : eh_T := eh_R0 fun as σ _ K => ∃ (e w : Int) (z : pz_Z), as = [.inl e, .inl w] ∧ (eh_r e ∧ eh_r w) ∧ xz σ z ∧ pz_ok z ∧ xk (pz_told e w z, z) σ K
theorem cx_told (l : Launch) (D : va_G) (tc : Nat → ClassId) (ad : Nat → Int → Nat) (h99 : ∀ a : Int, ad 99 a = a.toNat) : eh_M l D tc ad eh_LX yX0_told cX0_told 3 (some .int) 2 Tx_told := by
  refine eh_mk (rb := 0) (nm := eh_nX) (fl := eh_fl0) (kn := eh_kn0) (cs := (fun kk => match kk with | 174 => some (2, Tx_matchesWith) | _ => none)) (ss := (fun kk => match kk with | 77 => some (3, Tx_within) | _ => none)) (by decide) (eh_worldX h99) eh_fl0_ok eh_kn0_ok (fun kk n T h => by
    split at h
    · cases h; exact eh_callV (c0 := 0) (cx_matchesWith l D tc ad h99) q427 q429 qs12 q45 q430 (by decide +kernel) (by decide) (by decide) (by decide) rfl (eh_worldX h99) (fun _ _ _ _ h => eh_R0_rec h)
    · cases h) (fun kk n T h => by
    split at h
    · cases h; exact eh_callS (cx_within l D tc ad h99) q283 q284 q45 q285 (by decide +kernel) (by decide) (by decide)
    · cases h) ?_
  rintro as σ bd K ⟨_, rfl, e, w, z, rfl, ⟨he, hw⟩, hz, ho, hK⟩
  refine ⟨Nat.le_of_ble_eq_true rfl, fun X hX => ?_⟩
  have hK := xk_s hK hz
  have hE := ho.1.1
  have h105 := hz.2.2.2.1.1
  unfold pz_told at hK
  refine bX0_told_0 hX (T77 := Tx_within) rfl (fun hok => wi he (eh_rc (by omega)) (eh_rc (by omega)) ?_)
  rw [h105]
  refine bX0_told_11 hX (T77 := Tx_within) rfl (fun hok => ⟨bz_r _, fun h => ?_, fun h1 => wi hw (eh_rc (by omega)) (eh_rc (by omega)) ?_⟩)
  · rw [pz_if_t (by have := bz_0.mp h; omega)] at hK
    exact hK
  refine bX0_told_21 hX (T174 := Tx_matchesWith) rfl (fun hok => ⟨bz_r _, fun h => ?_, fun h2 => ?_⟩)
  · rw [pz_if_t (by have := bz_0.mp h; omega)] at hK
    exact hK
  · have b1 := bz_n.mp h1
    have b2 := bz_n.mp h2
    rw [pz_if_f (by omega)] at hK
    obtain ⟨x1, x2, x3⟩ := hz.2.1.2.1 e (by omega) (by omega)
    rw [x1, x2, x3]
    refine ⟨hw, fun h => ⟨by omega, bX0_told_95 hX (fun _ => eh_ki hK (if_pos h))⟩, fun h3 => ⟨fun h => ⟨by omega, bX0_told_95 hX (fun _ => eh_ki hK (by rw [if_neg h3, if_pos h]))⟩, fun h4 => ⟨fun h => ⟨by omega, bX0_told_95 hX (fun _ => eh_ki hK (by rw [if_neg h3, if_neg h4, if_pos h]))⟩, fun h5 => ⟨fun h => ⟨_, rfl, e, z, rfl, he, hz, ho, bX0_told_95 hX (fun _ => eh_ki hK (by rw [if_neg h3, if_neg h4, if_neg h5, if_pos (by omega)]))⟩, fun h => ⟨by omega, bX0_told_95 hX (fun _ => eh_ki hK ?_)⟩⟩⟩⟩⟩
    rw [if_neg h3, if_neg h4, if_neg h5, if_neg (by omega), ← hz.2.1.2.2 (4 * e + (w - 3)) (by omega) (by omega), show 4 * e + (w - 3) = e * 4 + w - 3 by omega]
theorem pp_sum_upd {f g : Int → Int} {x d : Int} : ∀ (k : Nat) (a : Int), (a ≤ x ∧ x < a + k) → (∀ i, i ≠ x → g i = f i) → g x = f x + d → pp_sum g k a = pp_sum f k a + d := by
  intro k
  induction k with
  | zero => intro a h; omega
  | succ k ih =>
    intro a h h1 h2
    rw [pp_sum, pp_sum]
    by_cases hax : a = x
    · rw [hax, h2, pp_sum_congr (f := g) (g := f) k (x + 1) (fun i a b => h1 i (by omega))]
      omega
    · rw [h1 a hax, ih (a + 1) (by omega) h1 h2]
      omega
def Tx_keptBy : eh_T := eh_R0 fun as σ _ K => ∃ (a b : Int) (z : pz_Z), as = [.inl a, .inl b] ∧ (0 ≤ a ∧ a ≤ 8) ∧ (0 ≤ b ∧ b ≤ 8) ∧ xz σ z ∧ pz_ok z ∧ ∀ σ', eh_fr [] [120] σ σ' → K (some (.inl (pz_kept z a b))) σ'
theorem cx_keptBy (l : Launch) (D : va_G) (tc : Nat → ClassId) (ad : Nat → Int → Nat) (h99 : ∀ a : Int, ad 99 a = a.toNat) : eh_M l D tc ad eh_LX yX0_keptBy cX0_keptBy 7 (some .int) 0 Tx_keptBy := by
  refine eh_mk (rb := 0) (nm := eh_nX) (fl := eh_fl0) (kn := eh_kn0) (cs := (fun _ => none)) (ss := (fun _ => none)) (by decide) (eh_worldX h99) eh_fl0_ok eh_kn0_ok (fun _ _ _ h => by cases h) (fun _ _ _ h => by cases h) ?_
  rintro as σ bd K ⟨_, rfl, a, b, z, rfl, ha, hb, hz, ho, hK⟩
  refine ⟨Nat.le_of_ble_eq_true rfl, fun X hX => ?_⟩
  have hE := ho.1.1
  have h105 := hz.2.2.2.1.1
  obtain ⟨Gs, hG, hI⟩ := hz.2.2.2.2.2.1
  -- one way
  have keyW : ∀ (row : pu_Rw) (σ' : eh_S) (w c p r : Int) (Q : Int → Prop) (o1 : Option eh_V), xw_way σ row w → (∀ x ∈ row, 0 ≤ x.1 ∧ x.1 < z.1.1 0 0) → eh_fr [] [120] σ σ' → (∀ e, 0 ≤ e → e < z.1.1 0 0 → σ'.2 120 0 e = bz (Q e)) → c = pp_sum (fun e => bz (Q e)) (z.1.1 0 0).toNat 0 → (∀ (σ'' : eh_S) (c' w' : Int), eh_fr [] [120] σ σ'' → (∀ e, 0 ≤ e → e < z.1.1 0 0 → σ''.2 120 0 e = bz (Q e ∨ pz_has row e)) → c' = pp_sum (fun e => bz (Q e ∨ pz_has row e)) (z.1.1 0 0).toNat 0 → X 37 [some (.inr (some (0, 0))), o1, some (.inl b), some (.inl c'), some (.inl p), some (.inl (r + 1)), some (.inl w')] [] σ'' (0, 0)) → X 67 [some (.inr (some (0, 0))), o1, some (.inl b), some (.inl c), some (.inl p), some (.inl r), some (.inl w)] [] σ' (0, 0) := by
    intro row
    induction row with
    | nil =>
      intro σ' w c p r Q o1 hw hx hf hq hc hcont
      have hw : w = -1 := hw
      refine bX0_keptBy_67 hX (fun hok => ⟨by omega, fun _ => ?_, fun h => absurd hw h⟩)
      have hQ : ∀ e, bz (Q e) = bz (Q e ∨ pz_has [] e) := fun e => bz_congr ⟨Or.inl, fun h => by
        rcases h with h | ⟨s, h⟩
        · exact h
        · cases h⟩
      exact hcont σ' c w hf (fun e h0 h1 => by rw [hq e h0 h1]; exact hQ e) (by rw [hc]; exact pp_sum_congr _ _ (fun i _ _ => hQ i))
    | cons x row ih =>
      intro σ' w c p r Q o1 hw hx hf hq hc hcont
      obtain ⟨w1, w2, w3, w4⟩ := hw
      have hxe := hx x List.mem_cons_self
      have e200 : σ'.2 200 0 w = x.1 := by rw [hf.2 200 (by decide)]; exact w2
      have e202 : σ'.2 202 0 w = σ.2 202 0 w := by rw [hf.2 202 (by decide)]
      refine bX0_keptBy_67 hX (fun hok => ?_)
      rw [e200, e202, hq x.1 hxe.1 hxe.2]
      have step : ∀ c1 : Int, c1 = c + (1 - bz (Q x.1)) → X 67 [some (.inr (some (0, 0))), o1, some (.inl b), some (.inl c1), some (.inl p), some (.inl r), some (.inl (σ.2 202 0 w))] [] (eh_sA σ' 120 0 x.1 1) (0, 0) := by
        intro c1 hc1
        have hbx : bz (Q x.1 ∨ x.1 = x.1) = 1 := bz_t (Or.inr rfl)
        refine ih _ _ c1 p r (fun e => Q e ∨ e = x.1) o1 w4 (fun y hy => hx y (List.mem_cons_of_mem _ hy)) (eh_fr_sA hf (by decide)) (fun e h0 h1 => ?_) ?_ (fun σ'' c' w' a1 a2 a3 => hcont σ'' c' w' a1 (fun e h0 h1 => ?_) ?_)
        · by_cases hex : e = x.1
          · rw [hex, eh_sA_p]; exact hbx.symm
          · rw [eh_sA_n hex, hq e h0 h1]
            exact bz_congr ⟨Or.inl, fun h => h.resolve_right hex⟩
        · rw [hc1, hc]
          refine (pp_sum_upd (x := x.1) (d := 1 - bz (Q x.1)) _ _ (by omega) (fun i hi => bz_congr ⟨fun h => h.resolve_right hi, Or.inl⟩) ?_).symm
          show bz (Q x.1 ∨ x.1 = x.1) = bz (Q x.1) + (1 - bz (Q x.1))
          rw [hbx]; omega
        · rw [a2 e h0 h1]
          exact bz_congr (by
            constructor
            · rintro ((h | h) | ⟨s, h⟩)
              · exact Or.inl h
              · exact Or.inr ⟨x.2, by rw [h]; exact List.mem_cons_self⟩
              · exact Or.inr ⟨s, List.mem_cons_of_mem _ h⟩
            · rintro (h | ⟨s, h⟩)
              · exact Or.inl (Or.inl h)
              · rcases List.mem_cons.mp h with h | h
                · exact Or.inl (Or.inr (congrArg Prod.fst h))
                · exact Or.inr ⟨s, h⟩)
        · rw [a3]
          refine pp_sum_congr _ _ (fun e _ _ => bz_congr ?_)
          constructor
          · rintro ((h | h) | ⟨s, h⟩)
            · exact Or.inl h
            · exact Or.inr ⟨x.2, by rw [h]; exact List.mem_cons_self⟩
            · exact Or.inr ⟨s, List.mem_cons_of_mem _ h⟩
          · rintro (h | ⟨s, h⟩)
            · exact Or.inl (Or.inl h)
            · rcases List.mem_cons.mp h with h | h
              · exact Or.inl (Or.inr (congrArg Prod.fst h))
              · exact Or.inr ⟨s, h⟩
      refine ⟨by omega, fun h => by omega, fun _ => ⟨w1, by omega, fun h => step _ (by rw [h]; omega), fun h => step _ (by rw [bz_t (bz_n.mp h)]; omega)⟩⟩
  -- the runs of a pattern
  have keyR : ∀ (T : List (Int × pu_Rn)) (σ' : eh_S) (c p : Int) (r : Nat) (Q : Int → Prop) (o1 o6 : Option eh_V), (0 ≤ p ∧ p < 8) → (Gs p).drop r = T → r ≤ (Gs p).length → eh_fr [] [120] σ σ' → (∀ e, 0 ≤ e → e < z.1.1 0 0 → σ'.2 120 0 e = bz (Q e)) → c = pp_sum (fun e => bz (Q e)) (z.1.1 0 0).toNat 0 → (∀ (σ'' : eh_S) (c' : Int) (o5 o6 : Option eh_V), eh_fr [] [120] σ σ'' → (∀ e, 0 ≤ e → e < z.1.1 0 0 → σ''.2 120 0 e = bz (Q e ∨ ∃ y ∈ T, pz_has y.2.1 e)) → c' = pp_sum (fun e => bz (Q e ∨ ∃ y ∈ T, pz_has y.2.1 e)) (z.1.1 0 0).toNat 0 → X 28 [some (.inr (some (0, 0))), o1, some (.inl b), some (.inl c'), some (.inl (p + 1)), o5, o6] [] σ'' (0, 0)) → X 37 [some (.inr (some (0, 0))), o1, some (.inl b), some (.inl c), some (.inl p), some (.inl (r : Int)), o6] [] σ' (0, 0) := by
    intro T
    induction T with
    | nil =>
      intro σ' c p r Q o1 o6 hp hd hr hf hq hc hcont
      obtain ⟨g1, g2, g3⟩ := hG p hp.1 hp.2
      have hl : (Gs p).length ≤ 200 := by
        have := (ho.2.1 p hp.1 hp.2).2.2.2.2.2.2.1.1
        rw [← g1, List.length_map] at this
        exact this
      have h415 : σ'.1 415 p = ((Gs p).length : Int) := by rw [hf.1 415 (by decide)]; exact g2.1
      have hrl := List.drop_eq_nil_iff.mp hd
      have hQ : ∀ e, bz (Q e) = bz (Q e ∨ ∃ y ∈ ([] : List (Int × pu_Rn)), pz_has y.2.1 e) := fun e => bz_congr ⟨Or.inl, fun h => by
        rcases h with h | ⟨y, h, _⟩
        · exact h
        · cases h⟩
      exact bX0_keptBy_37 hX (fun hok => ⟨hp, by omega, fun _ => hcont σ' c _ _ hf (fun e h0 h1 => by rw [hq e h0 h1]; exact hQ e) (by rw [hc]; exact pp_sum_congr _ _ (fun i _ _ => hQ i)), fun h => by omega⟩)
    | cons y T ih =>
      intro σ' c p r Q o1 o6 hp hd hr hf hq hc hcont
      obtain ⟨g1, g2, g3⟩ := hG p hp.1 hp.2
      have hL := (ho.2.1 p hp.1 hp.2).2.2.2.2.2.2.1
      have hl : (Gs p).length ≤ 200 := by
        have := hL.1
        rw [← g1, List.length_map] at this
        exact this
      have hy : (Gs p)[r]? = some y := by
        have : ((Gs p).drop r)[0]? = some y := by rw [hd]; rfl
        rwa [List.getElem?_drop, Nat.add_zero] at this
      have hrl := ls_lt hy
      have hyG := List.mem_of_getElem? hy
      have hgy : pu_gd (pz_P z p) (z.1.1 0 0) y.2.1 := hL.2 y.2 (by rw [← g1]; exact List.mem_map.mpr ⟨y, hyG, rfl⟩)
      have h415 : σ'.1 415 p = ((Gs p).length : Int) := by rw [hf.1 415 (by decide)]; exact g2.1
      have h413 : σ'.2 413 p (r : Int) = y.1 := by rw [hf.2 413 (by decide)]; exact (g2.2 r y hy).1
      refine bX0_keptBy_37 hX (fun hok => ⟨hp, by omega, fun h => by omega, fun _ => ⟨by omega, ?_⟩⟩)
      rw [h413]
      refine keyW y.2.1 σ' y.1 c p r Q o1 (g3 y hyG) (pu_gd_mem hgy) hf hq hc (fun σ2 c2 w2 a1 a2 a3 => ?_)
      have := ih σ2 c2 p (r + 1) (fun e => Q e ∨ pz_has y.2.1 e) o1 (some (.inl w2)) hp (by rw [← List.tail_drop, hd]; rfl) (by omega) a1 a2 a3 (fun σ3 c3 o5 o6 b1 b2 b3 => hcont σ3 c3 o5 o6 b1 (fun e h0 h1 => ?_) ?_)
      · simpa using this
      · rw [b2 e h0 h1]
        refine bz_congr ?_
        constructor
        · rintro ((h | h) | ⟨y', h, h'⟩)
          · exact Or.inl h
          · exact Or.inr ⟨y, List.mem_cons_self, h⟩
          · exact Or.inr ⟨y', List.mem_cons_of_mem _ h, h'⟩
        · rintro (h | ⟨y', h, h'⟩)
          · exact Or.inl (Or.inl h)
          · rcases List.mem_cons.mp h with rfl | h
            · exact Or.inl (Or.inr h')
            · exact Or.inr ⟨y', h, h'⟩
      · rw [b3]
        refine pp_sum_congr _ _ (fun e _ _ => bz_congr ?_)
        constructor
        · rintro ((h | h) | ⟨y', h, h'⟩)
          · exact Or.inl h
          · exact Or.inr ⟨y, List.mem_cons_self, h⟩
          · exact Or.inr ⟨y', List.mem_cons_of_mem _ h, h'⟩
        · rintro (h | ⟨y', h, h'⟩)
          · exact Or.inl (Or.inl h)
          · rcases List.mem_cons.mp h with rfl | h
            · exact Or.inl (Or.inr h')
            · exact Or.inr ⟨y', h, h'⟩
  -- the patterns
  have keyP : ∀ (m : Nat) (σ' : eh_S) (c p : Int) (o1 o5 o6 : Option eh_V), (a ≤ p ∧ p ≤ 8) → b ≤ p + m → eh_fr [] [120] σ σ' → (∀ e, 0 ≤ e → e < z.1.1 0 0 → σ'.2 120 0 e = bz (∃ q, (a ≤ q ∧ q < p) ∧ ∃ x ∈ z.2.1 q, pz_has x.1 e)) → (p ≤ b ∨ p = a) → c = pp_sum (fun e => bz (∃ q, (a ≤ q ∧ q < p) ∧ ∃ x ∈ z.2.1 q, pz_has x.1 e)) (z.1.1 0 0).toNat 0 → X 28 [some (.inr (some (0, 0))), o1, some (.inl b), some (.inl c), some (.inl p), o5, o6] [] σ' (0, 0) := by
    intro m
    induction m with
    | zero =>
      intro σ' c p o1 o5 o6 hp hm hf hq hpb hc
      refine bX0_keptBy_28 hX (fun hok => ⟨by omega, by omega, fun _ => eh_ki (hK σ' hf) ?_, fun h => by omega⟩)
      rw [hc]
      unfold pz_kept
      refine pp_sum_congr _ _ (fun e _ _ => bz_congr ⟨fun ⟨q, h1, h2⟩ => ⟨q, by omega, h2⟩, fun ⟨q, h1, h2⟩ => ⟨q, by omega, h2⟩⟩)
    | succ m ih =>
      intro σ' c p o1 o5 o6 hp hm hf hq hpb hc
      refine bX0_keptBy_28 hX (fun hok => ⟨by omega, by omega, fun h => eh_ki (hK σ' hf) ?_, fun h => ?_⟩)
      · rw [hc]
        unfold pz_kept
        refine pp_sum_congr _ _ (fun e _ _ => bz_congr ⟨fun ⟨q, h1, h2⟩ => ⟨q, by omega, h2⟩, fun ⟨q, h1, h2⟩ => ⟨q, by omega, h2⟩⟩)
      · have g1 := (hG p (by omega) (by omega)).1
        have hiff : ∀ e, ((∃ q, (a ≤ q ∧ q < p) ∧ ∃ x ∈ z.2.1 q, pz_has x.1 e) ∨ ∃ y ∈ Gs p, pz_has y.2.1 e) ↔ (∃ q, (a ≤ q ∧ q < p + 1) ∧ ∃ x ∈ z.2.1 q, pz_has x.1 e) := by
          intro e
          constructor
          · rintro (⟨q, h1, h2⟩ | ⟨y, h1, h2⟩)
            · exact ⟨q, by omega, h2⟩
            · exact ⟨p, by omega, y.2, by rw [← g1]; exact List.mem_map.mpr ⟨y, h1, rfl⟩, h2⟩
          · rintro ⟨q, h1, x, h2, h3⟩
            by_cases hqp : q = p
            · rw [hqp, ← g1] at h2
              obtain ⟨y, hy, rfl⟩ := List.mem_map.mp h2
              exact Or.inr ⟨y, hy, h3⟩
            · exact Or.inl ⟨q, by omega, x, h2, h3⟩
        refine keyR (Gs p) σ' c p 0 _ o1 _ (by omega) rfl (Nat.zero_le _) hf hq hc (fun σ2 c2 o5 o6 a1 a2 a3 => ih σ2 c2 (p + 1) o1 o5 o6 (by omega) (by omega) a1 (fun e h0 h1 => ?_) (Or.inl (by omega)) ?_)
        · rw [a2 e h0 h1]
          exact bz_congr (hiff e)
        · rw [a3]
          exact pp_sum_congr _ _ (fun e _ _ => bz_congr (hiff e))
  -- none is seen yet
  have key0 : ∀ (m : Nat) (σ' : eh_S) (e : Int) (o4 o5 o6 : Option eh_V), (0 ≤ e ∧ e ≤ 1000) → z.1.1 0 0 ≤ e + m → eh_fr [] [120] σ σ' → (∀ i, 0 ≤ i → i < e → σ'.2 120 0 i = 0) → X 2 [some (.inr (some (0, 0))), some (.inl a), some (.inl b), some (.inl e), o4, o5, o6] [] σ' (0, 0) := by
    have hend : ∀ (σ' : eh_S) (o5 o6 : Option eh_V), eh_fr [] [120] σ σ' → (∀ i, 0 ≤ i → i < z.1.1 0 0 → σ'.2 120 0 i = 0) → X 28 [some (.inr (some (0, 0))), some (.inl a), some (.inl b), some (.inl 0), some (.inl a), o5, o6] [] σ' (0, 0) := by
      intro σ' o5 o6 hf hq
      refine keyP 8 σ' 0 a _ _ _ (by omega) (by omega) hf (fun e h0 h1 => ?_) (Or.inr rfl) ?_
      · rw [hq e h0 h1]
        exact (bz_f (fun ⟨q, h2, _⟩ => by omega)).symm
      · exact (pp_sum_z _ _ (fun i _ _ => bz_f (fun ⟨q, h2, _⟩ => by omega))).symm
    intro m
    induction m with
    | zero =>
      intro σ' e o4 o5 o6 he hm hf hq
      have h5 : σ'.1 105 0 = z.1.1 0 0 := by rw [hf.1 105 (by decide)]; exact h105
      exact bX0_keptBy_2 hX (fun hok => ⟨by omega, fun _ => hend σ' _ _ hf (fun i h0 h1 => hq i h0 (by omega)), fun h => by omega⟩)
    | succ m ih =>
      intro σ' e o4 o5 o6 he hm hf hq
      have h5 : σ'.1 105 0 = z.1.1 0 0 := by rw [hf.1 105 (by decide)]; exact h105
      refine bX0_keptBy_2 hX (fun hok => ⟨by omega, fun _ => hend σ' _ _ hf (fun i h0 h1 => hq i h0 (by omega)), fun h => ⟨by omega, ih _ (e + 1) _ _ _ (by omega) (by omega) (eh_fr_sA hf (by decide)) (fun i h0 h1 => ?_)⟩⟩)
      by_cases hie : i = e
      · rw [hie, eh_sA_p]
      · rw [eh_sA_n hie]; exact hq i h0 (by omega)
  exact bX0_keptBy_0 hX (fun hok => key0 1000 σ 0 _ _ _ (by omega) (by omega) eh_fr_rf (fun i h0 h1 => by omega))
theorem xz_has {σ σ' : eh_S} {z : pz_Z} (h : xz σ z) (hf : eh_fr [] [120] σ σ') : xz σ' z := by
  obtain ⟨a1, a2, a3, a4, a5, a6, a7⟩ := h
  exact ⟨xz_A_t a1 (hf.2 100 (by decide)) rfl, xz_B_t a2 (hf.1 106 (by decide)) (fun c hc => hf.2 c (by simp only [List.mem_cons, List.not_mem_nil, or_false] at hc ⊢; omega)) rfl (fun _ _ => rfl), xz_C_t a3 (hf.2 109 (by decide)) rfl, xz_D_t a4 (fun v hv => hf.1 v (by simp)) (fun _ _ => rfl), xz_F_t a5 (fun v hv => hf.1 v (by simp)) (fun c hc => hf.2 c (by simp only [List.mem_cons, List.not_mem_nil, or_false] at hc ⊢; omega)) (fun _ _ _ => rfl), xz_W_t a6 hf (by decide) (by decide) rfl, xm_M_fr a7 hf (by decide) (by decide)⟩
def Tx_count : eh_T := eh_R0 fun as σ _ K => ∃ (w : Int) (z : pz_Z), as = [.inl w] ∧ eh_r w ∧ xz σ z ∧ pz_ok z ∧ xk (pz_count w z, z) σ K
theorem cx_count (l : Launch) (D : va_G) (tc : Nat → ClassId) (ad : Nat → Int → Nat) (h99 : ∀ a : Int, ad 99 a = a.toNat) : eh_M l D tc ad eh_LX yX0_count cX0_count 2 (some .int) 1 Tx_count := by
  refine eh_mk (rb := 0) (nm := eh_nX) (fl := eh_fl0) (kn := eh_kn0) (cs := (fun kk => match kk with | 193 => some (3, Tx_keptBy) | _ => none)) (ss := (fun _ => none)) (by decide) (eh_worldX h99) eh_fl0_ok eh_kn0_ok (fun kk n T h => by
    split at h
    · cases h; exact eh_callV (c0 := 0) (cx_keptBy l D tc ad h99) q435 q437 qs13 q45 q438 (by decide +kernel) (by decide) (by decide) (by decide) rfl (eh_worldX h99) (fun _ _ _ _ h => eh_R0_rec h)
    · cases h) (fun _ _ _ h => by cases h) ?_
  rintro as σ bd K ⟨_, rfl, w, z, rfl, hw, hz, ho, hK⟩
  refine ⟨Nat.le_of_ble_eq_true rfl, fun X hX => ?_⟩
  have hnp := pz_np ho
  have hE := ho.1.1
  obtain ⟨d1, d2, d3, d4⟩ := hz.2.2.2.1
  have h106 := hz.2.1.1
  have hK0 := xk_s hK hz
  refine bX0_count_0 hX (T193 := Tx_keptBy) rfl (fun hok => ?_)
  rw [d1, d2, d3, d4, h106]
  refine ⟨hw, fun h => eh_ki hK0 ?_, fun h => eh_ki hK0 ?_, fun h => eh_ki hK0 ?_, fun h => eh_ki hK0 ?_, fun h => eh_ki hK0 ?_, fun h => eh_ki hK0 ?_, fun h => ⟨_, rfl, 0, _, z, rfl, by omega, by omega, hz, ho, fun σ' hf => bX0_count_79 hX (fun hok => eh_ki (hK σ' (eh_fr_up hf (by decide) (by decide)) (xz_has hz hf)) ?_)⟩⟩
  · unfold pz_count
    rw [if_neg (by omega), if_neg (by omega), if_neg (by omega), if_neg (by omega), if_neg (by omega), if_neg (by omega)]
  all_goals
    unfold pz_count
    rw [h]
    rfl
def Tx_about : eh_T := eh_R0 fun as σ _ K => ∃ (p w : Int) (z : pz_Z), as = [.inl p, .inl w] ∧ (eh_r p ∧ eh_r w) ∧ xz σ z ∧ pz_ok z ∧ xk (pz_about p w z, z) σ K
theorem cx_about (l : Launch) (D : va_G) (tc : Nat → ClassId) (ad : Nat → Int → Nat) (h99 : ∀ a : Int, ad 99 a = a.toNat) : eh_M l D tc ad eh_LX yX0_about cX0_about 6 (some .int) 2 Tx_about := by
  refine eh_mk (rb := 0) (nm := eh_nX) (fl := eh_fl0) (kn := eh_kn0) (cs := (fun kk => match kk with | 99 => some (2, Tx_isPattern) | 193 => some (3, Tx_keptBy) | _ => none)) (ss := (fun kk => match kk with | 77 => some (3, Tx_within) | _ => none)) (by decide) (eh_worldX h99) eh_fl0_ok eh_kn0_ok (fun kk n T h => by
    split at h
    · cases h; exact eh_callV (c0 := 0) (cx_isPattern l D tc ad h99) q294 q296 qs0 q45 q297 (by decide +kernel) (by decide) (by decide) (by decide) rfl (eh_worldX h99) (fun _ _ _ _ h => eh_R0_rec h)
    · cases h; exact eh_callV (c0 := 0) (cx_keptBy l D tc ad h99) q435 q437 qs13 q45 q438 (by decide +kernel) (by decide) (by decide) (by decide) rfl (eh_worldX h99) (fun _ _ _ _ h => eh_R0_rec h)
    · cases h) (fun kk n T h => by
    split at h
    · cases h; exact eh_callS (cx_within l D tc ad h99) q283 q284 q45 q285 (by decide +kernel) (by decide) (by decide)
    · cases h) ?_
  rintro as σ bd K ⟨_, rfl, p, w, z, rfl, ⟨hp, hw⟩, hz, ho, hK⟩
  refine ⟨Nat.le_of_ble_eq_true rfl, fun X hX => ?_⟩
  have hnp := pz_np ho
  have hK0 := xk_s hK hz
  refine bX0_about_0 hX (T99 := Tx_isPattern) rfl (fun hok => isP hz ho hp ?_)
  refine bX0_about_5 hX (T77 := Tx_within) rfl (fun hok => ⟨bz_r _, fun h => eh_ki hK0 ?_, fun h1 => wi hw (eh_rc (by omega)) (eh_rc (by omega)) ?_⟩)
  · unfold pz_about
    rw [pz_if_t (fun h2 => bz_0.mp h h2.1)]
  refine bX0_about_14 hX (fun hok => ⟨bz_r _, fun h => eh_ki hK0 ?_, fun h2 => ?_⟩)
  · unfold pz_about
    rw [pz_if_t (fun h2 => bz_0.mp h h2.2)]
  have b1 := bz_n.mp h1
  have b2 := bz_n.mp h2
  refine ⟨by omega, ?_⟩
  have hab : pz_about p w z = (if w = 0 then z.1.2 15 p 0 else if w = 1 then ((z.2.1 p).length : Int) else if w = 2 then pz_hurt (z.2.1 p) else if w = 3 then z.1.2 21 p 0 else if w = 4 then z.1.2 20 p 0 else pz_kept z p (p + 1)) := by
    unfold pz_about
    rw [pz_if_f (fun h => h ⟨b1, b2⟩)]
  rw [hab] at hK hK0
  obtain ⟨Gs, hG, hI⟩ := hz.2.2.2.2.2.1
  obtain ⟨g1, g2, g3⟩ := hG p b1.1 (by omega)
  obtain ⟨⟨f1, f2, f3, f4⟩, ⟨e1, e2, e3, e4⟩, d1⟩ := hz.2.2.2.2.1 p b1.1 (by omega)
  have hokp := ho.2.1 p b1.1 (by omega)
  have hl : (z.2.1 p).length ≤ 200 := hokp.2.2.2.2.2.2.1.1
  have hgl : (Gs p).length = (z.2.1 p).length := by rw [← g1, List.length_map]
  have key : ∀ (T : List (Int × pu_Rn)) (r : Nat) (c : Int), (Gs p).drop r = T → r ≤ (Gs p).length → c + pz_hurt (T.map Prod.snd) = pz_hurt (z.2.1 p) → X 32 [some (.inr (some (0, 0))), some (.inl p), some (.inl w), some (.inr (some (3, p))), some (.inl c), some (.inl (r : Int))] [] σ (0, 0) := by
    intro T
    induction T with
    | nil =>
      intro r c hd hr hc
      have hrl := List.drop_eq_nil_iff.mp hd
      have h415 := g2.1
      have hc' : c = pz_hurt (z.2.1 p) := by rw [← hc]; simp [pz_hurt]
      refine bX0_about_32 hX (T193 := Tx_keptBy) rfl (by omega) (fun hok => ?_)
      rw [f4, e2, e1, h415]
      refine ⟨by omega, fun _ => ⟨hw, fun h => ⟨_, rfl, p, _, z, rfl, by omega, by omega, hz, ho, fun σ' hf => bX0_about_151 hX (fun hok => eh_ki (hK σ' (eh_fr_up hf (by decide) (by decide)) (xz_has hz hf)) ?_)⟩, fun h => eh_ki hK0 (if_pos h), fun h => eh_ki hK0 ?_, fun h => eh_ki hK0 ?_, fun h => ⟨fun h3 => eh_ki hK0 ?_, fun h3 => eh_ki hK0 ?_⟩, fun h => ⟨fun h3 => eh_ki hK0 ?_, fun h3 => eh_ki hK0 ?_⟩⟩, fun h => by omega⟩
      · dsimp only
        rw [if_neg (by omega), if_neg (by omega), if_neg (by omega), if_neg (by omega), if_neg (by omega)]
      · rw [if_neg (by omega), if_pos h, hgl]
      · rw [if_neg (by omega), if_neg (by omega), if_pos h, hc']
      · rw [if_neg (by omega), if_neg (by omega), if_neg (by omega), if_pos h, h3]
      · rw [if_neg (by omega), if_neg (by omega), if_neg (by omega), if_pos h]
        have := hokp.2.2.2.2.1
        omega
      · rw [if_neg (by omega), if_neg (by omega), if_neg (by omega), if_neg (by omega), if_pos h, h3]
      · rw [if_neg (by omega), if_neg (by omega), if_neg (by omega), if_neg (by omega), if_pos h]
        have := hokp.2.2.2.1
        omega
    | cons y T ih =>
      intro r c hd hr hc
      have hy : (Gs p)[r]? = some y := by
        have : ((Gs p).drop r)[0]? = some y := by rw [hd]; rfl
        rwa [List.getElem?_drop, Nat.add_zero] at this
      have hrl := ls_lt hy
      have h415 := g2.1
      have h414 := (g2.2 r y hy).2
      have hd' : (Gs p).drop (r + 1) = T := by rw [← List.tail_drop, hd]; rfl
      refine bX0_about_32 hX (T193 := Tx_keptBy) rfl (by omega) (fun hok => ?_)
      rw [h414, h415]
      refine ⟨by omega, fun h => by omega, fun _ => ⟨by omega, fun h => ?_, fun h => ?_⟩⟩
      · have := ih (r + 1) (c + 0) hd' (by omega) (by rw [← hc, List.map_cons]; unfold pz_hurt; rw [List.filter_cons_of_neg (p := fun x : pu_Rn => x.2) (bz_0.mp h)]; omega)
        simpa using this
      · have := ih (r + 1) (c + 1) hd' (by omega) (by rw [← hc, List.map_cons]; unfold pz_hurt; rw [List.filter_cons_of_pos (p := fun x : pu_Rn => x.2) (bz_n.mp h), List.length_cons]; omega)
        simpa using this
  exact key (Gs p) 0 0 rfl (Nat.zero_le _) (by rw [g1]; omega)
def Tx_run : eh_T := eh_R0 fun as σ _ K => ∃ (p r k h : Int) (z : pz_Z), as = [.inl p, .inl r, .inl k, .inl h] ∧ (eh_r p ∧ eh_r r ∧ eh_r k ∧ eh_r h) ∧ xz σ z ∧ pz_ok z ∧ xk (pz_run p r k h z, z) σ K
theorem cx_run (l : Launch) (D : va_G) (tc : Nat → ClassId) (ad : Nat → Int → Nat) (h99 : ∀ a : Int, ad 99 a = a.toNat) : eh_M l D tc ad eh_LX yX0_run cX0_run 7 (some .int) 2 Tx_run := by
  refine eh_mk (rb := 0) (nm := eh_nX) (fl := eh_fl0) (kn := eh_kn0) (cs := (fun kk => match kk with | 99 => some (2, Tx_isPattern) | 196 => some (2, Tw_length) | 199 => some (3, Tw_at) | _ => none)) (ss := (fun kk => match kk with | 77 => some (3, Tx_within) | _ => none)) (by decide) (eh_worldX h99) eh_fl0_ok eh_kn0_ok (fun kk n T h => by
    split at h
    · cases h; exact eh_callV (c0 := 0) (cx_isPattern l D tc ad h99) q294 q296 qs0 q45 q297 (by decide +kernel) (by decide) (by decide) (by decide) rfl (eh_worldX h99) (fun _ _ _ _ h => eh_R0_rec h)
    · cases h; exact eh_callV (c0 := 1) (cw_length l D tc ad h99) q443 q391 q392 q46 q393 (by decide +kernel) (by decide) (by decide) (by decide) rfl (eh_worldX h99) (fun _ _ _ _ h => eh_R1_rec h)
    · cases h; exact eh_callV (c0 := 1) (cw_at l D tc ad h99) q444 q445 q446 q46 q447 (by decide +kernel) (by decide) (by decide) (by decide) rfl (eh_worldX h99) (fun _ _ _ _ h => eh_R1_rec h)
    · cases h) (fun kk n T h => by
    split at h
    · cases h; exact eh_callS (cx_within l D tc ad h99) q283 q284 q45 q285 (by decide +kernel) (by decide) (by decide)
    · cases h) ?_
  rintro as σ bd K ⟨_, rfl, p, r, k, w, z, rfl, ⟨hp, hr, hk, hw⟩, hz, ho, hK⟩
  refine ⟨Nat.le_of_ble_eq_true rfl, fun X hX => ?_⟩
  have hnp := pz_np ho
  have hK := xk_s hK hz
  unfold pz_run at hK
  refine bX0_run_0 hX (T99 := Tx_isPattern) rfl (fun hok => isP hz ho hp ?_)
  refine bX0_run_5 hX (T77 := Tx_within) rfl (fun hok => ⟨bz_r _, fun h => ?_, fun h1 => ?_⟩)
  · rw [pz_if_t (fun h2 => bz_0.mp h h2.1)] at hK
    exact hK
  have b1 := bz_n.mp h1
  obtain ⟨Gs, hG, hI⟩ := hz.2.2.2.2.2.1
  obtain ⟨g1, g2, g3⟩ := hG p b1.1 (by omega)
  have hokp := ho.2.1 p b1.1 (by omega)
  have hL := hokp.2.2.2.2.2.2.1
  have hl := hL.1
  have hgl : (Gs p).length = (z.2.1 p).length := by rw [← g1, List.length_map]
  have h415 := g2.1
  refine ⟨by omega, wi hr (eh_rc (by omega)) (eh_rc (by omega)) ?_⟩
  refine bX0_run_24 hX (T77 := Tx_within) rfl (fun hok => ⟨bz_r _, fun h => ?_, fun h2 => wi hw (eh_rc (by omega)) (eh_rc (by omega)) ?_⟩)
  · rw [pz_if_t (fun h2 => bz_0.mp h (by have := h2.2.1; omega))] at hK
    exact hK
  have b2 := bz_n.mp h2
  refine bX0_run_34 hX (T196 := Tw_length) rfl (fun hok => ⟨bz_r _, fun h => ?_, fun h3 => ⟨by omega, by omega, ?_⟩⟩)
  · rw [pz_if_t (fun h2 => bz_0.mp h (by have := h2.2.2.2; omega))] at hK
    exact hK
  have b3 := bz_n.mp h3
  obtain ⟨y, hy⟩ : ∃ y, (Gs p)[r.toNat]? = some y := ⟨_, List.getElem?_eq_getElem (by omega)⟩
  have hyG := List.mem_of_getElem? hy
  have hrn : pz_rn z p r = y.2.1 := by
    unfold pz_rn
    rw [← g1, List.getElem?_map, hy]
    rfl
  have hgy : pu_gd (pz_P z p) (z.1.1 0 0) y.2.1 := hL.2 y.2 (by rw [← g1]; exact List.mem_map.mpr ⟨y, hyG, rfl⟩)
  have hyl := pu_gd_len hgy hokp.1
  have h413 : σ.2 413 p r = y.1 := by
    have := (g2.2 r.toNat y hy).1
    rwa [Int.toNat_of_nonneg b2.1] at this
  have hwy := g3 y hyG
  rw [h413]
  rw [hrn] at hK
  refine ⟨_, rfl, y.1, y.2.1, rfl, hwy, ?_⟩
  refine bX0_run_63 hX (T77 := Tx_within) rfl (fun hok => wi hk (eh_rc (by omega)) (eh_rc (by omega)) ?_)
  refine bX0_run_68 hX (T199 := Tw_at) rfl (fun hok => ⟨bz_r _, fun h => ?_, fun h4 => ?_⟩)
  · rw [pz_if_t (fun h2 => bz_0.mp h (by have := h2.2.2.1; omega))] at hK
    exact hK
  have b4 := bz_n.mp h4
  rw [pz_if_f (fun h => h ⟨b1, by omega, by omega, by omega⟩)] at hK
  refine ⟨_, rfl, y.1, k.toNat, y.2.1, by rw [Int.toNat_of_nonneg b4.1], by omega, by omega, hwy, fun m hm hmr => ?_⟩
  have hn : pz_nth y.2.1 k = (σ.2 200 0 m, σ.2 201 0 m) := by
    unfold pz_nth
    rw [hmr]
    rfl
  rw [hn] at hK
  exact bX0_run_83 hX (fun hok => ⟨hw, fun h => ⟨hm, eh_ki hK (if_pos h)⟩, fun h => ⟨hm, eh_ki hK (if_neg h)⟩⟩)
theorem pu_lk_r {P : Nat → Int → Int} : ∀ (k : Nat) (j : Int), 0 ≤ pu_lk P k j ∧ pu_lk P k j ≤ k := by
  intro k
  induction k with
  | zero => intro j; exact ⟨Int.le_refl _, Int.le_refl _⟩
  | succ k ih =>
    intro j
    rw [pu_lk]
    have := ih (j + 1)
    split
    · split <;> omega
    · omega
def Tx_almost : eh_T := eh_R0 fun as σ _ K => ∃ (p n : Int) (z : pz_Z), as = [.inl p, .inl n] ∧ (eh_r p ∧ eh_r n) ∧ xz σ z ∧ pz_ok z ∧ xk (pz_almost p n z, z) σ K
theorem cx_almost (l : Launch) (D : va_G) (tc : Nat → ClassId) (ad : Nat → Int → Nat) (h99 : ∀ a : Int, ad 99 a = a.toNat) : eh_M l D tc ad eh_LX yX0_almost cX0_almost 5 (some .int) 2 Tx_almost := by
  refine eh_mk (rb := 0) (nm := eh_nX) (fl := eh_fl0) (kn := eh_kn0) (cs := (fun kk => match kk with | 99 => some (2, Tx_isPattern) | 205 => some (2, Tp_lacks) | _ => none)) (ss := (fun kk => match kk with | 77 => some (3, Tx_within) | _ => none)) (by decide) (eh_worldX h99) eh_fl0_ok eh_kn0_ok (fun kk n T h => by
    split at h
    · cases h; exact eh_callV (c0 := 0) (cx_isPattern l D tc ad h99) q294 q296 qs0 q45 q297 (by decide +kernel) (by decide) (by decide) (by decide) rfl (eh_worldX h99) (fun _ _ _ _ h => eh_R0_rec h)
    · cases h; exact eh_callV (c0 := 3) (cp_lacks l D tc ad h99) q453 q454 q455 q48 q456 (by decide +kernel) (by decide) (by decide) (by decide) rfl (eh_worldX h99) (fun _ _ _ _ h => eh_R3_rec h)
    · cases h) (fun kk n T h => by
    split at h
    · cases h; exact eh_callS (cx_within l D tc ad h99) q283 q284 q45 q285 (by decide +kernel) (by decide) (by decide)
    · cases h) ?_
  rintro as σ bd K ⟨_, rfl, p, n, z, rfl, ⟨hp, hn⟩, hz, ho, hK⟩
  refine ⟨Nat.le_of_ble_eq_true rfl, fun X hX => ?_⟩
  have hnp := pz_np ho
  have hK := xk_s hK hz
  unfold pz_almost at hK
  refine bX0_almost_0 hX (T99 := Tx_isPattern) rfl (fun hok => isP hz ho hp ?_)
  refine bX0_almost_5 hX (T77 := Tx_within) rfl (fun hok => ⟨bz_r _, fun h => ?_, fun h1 => wi hn (eh_rc (by omega)) (eh_rc (by omega)) ?_⟩)
  · rw [pz_if_t (fun h2 => bz_0.mp h h2.1)] at hK
    exact hK
  refine bX0_almost_14 hX (fun hok => ⟨bz_r _, fun h => ?_, fun h2 => ?_⟩)
  · rw [pz_if_t (fun h2 => bz_0.mp h h2.2)] at hK
    exact hK
  have b1 := bz_n.mp h1
  have b2 := bz_n.mp h2
  rw [pz_if_f (fun h => h ⟨b1, b2⟩)] at hK
  obtain ⟨Gs, hG, hI⟩ := hz.2.2.2.2.2.1
  obtain ⟨g1, g2, g3⟩ := hG p b1.1 (by omega)
  have hokp := ho.2.1 p b1.1 (by omega)
  have hL := hokp.2.2.2.2.2.2.1
  have hl := hL.1
  have hgl : (Gs p).length = (z.2.1 p).length := by rw [← g1, List.length_map]
  have h415 := g2.1
  have hC := xz_ctx hz ho (p := p) (by omega) (n := z.1.1 0 0) (by have := ho.1.1; omega)
  have key : ∀ (T : List (Int × pu_Rn)) (r : Nat) (c : Int), (Gs p).drop r = T → r ≤ (Gs p).length → K (some (.inl (c + (((T.map Prod.snd).filter (fun x => decide (pu_lk (pz_P z p) 7 (pu_tip x.1 + 1) ≤ n))).length : Int)))) σ → X 24 [some (.inr (some (0, 0))), some (.inl p), some (.inl n), some (.inl c), some (.inl (r : Int))] [] σ (0, 0) := by
    intro T
    induction T with
    | nil =>
      intro r c hd hr hK
      have hrl := List.drop_eq_nil_iff.mp hd
      exact bX0_almost_24 hX (T205 := Tp_lacks) rfl (fun hok => ⟨by omega, by omega, fun _ => eh_ki hK (by simp), fun h => by omega⟩)
    | cons y T ih =>
      intro r c hd hr hK
      have hy : (Gs p)[r]? = some y := by
        have : ((Gs p).drop r)[0]? = some y := by rw [hd]; rfl
        rwa [List.getElem?_drop, Nat.add_zero] at this
      have hrl := ls_lt hy
      have hyG := List.mem_of_getElem? hy
      have hgy : pu_gd (pz_P z p) (z.1.1 0 0) y.2.1 := hL.2 y.2 (by rw [← g1]; exact List.mem_map.mpr ⟨y, hyG, rfl⟩)
      have h413 := (g2.2 r y hy).1
      have hd' : (Gs p).drop (r + 1) = T := by rw [← List.tail_drop, hd]; rfl
      have hlk := pu_lk_r (P := pz_P z p) 7 (pu_tip y.2.1 + 1)
      refine bX0_almost_24 hX (T205 := Tp_lacks) rfl (fun hok => ⟨by omega, by omega, fun h => by omega, fun _ => ⟨by omega, ?_⟩⟩)
      rw [h413]
      refine ⟨p, _, rfl, by omega, y.1, z.1.1 0 0, pz_E z, pz_P z p, y.2.1, rfl, hC, hgy.1, g3 y hyG, (pu_gd_tip hgy).1, ?_⟩
      rw [List.map_cons] at hK
      refine bX0_almost_60 hX (fun hok => ⟨by omega, hn, fun h => ?_, fun h => ?_⟩)
      · rw [List.filter_cons_of_neg (by simp; omega)] at hK
        have := ih (r + 1) (c + 0) hd' (by omega) (eh_ki hK (by omega))
        simpa using this
      · rw [List.filter_cons_of_pos (by simp; omega), List.length_cons] at hK
        have := ih (r + 1) (c + 1) hd' (by omega) (eh_ki hK (by omega))
        simpa using this
  exact key (Gs p) 0 0 rfl (Nat.zero_le _) (by rw [g1]; exact eh_ki hK (by omega))
def Tx_plain : eh_T := eh_R0 fun as σ _ K => ∃ (p : Int) (z : pz_Z), as = [.inl p] ∧ eh_r p ∧ xz σ z ∧ pz_ok z ∧ xk (eh_wr (pz_plain p z), z) σ K
theorem cx_plain (l : Launch) (D : va_G) (tc : Nat → ClassId) (ad : Nat → Int → Nat) (h99 : ∀ a : Int, ad 99 a = a.toNat) : eh_M l D tc ad eh_LX yX0_plain cX0_plain 2 (some .int) 25 Tx_plain := by
  refine eh_mk (rb := 0) (nm := eh_nX) (fl := eh_fl0) (kn := eh_kn0) (cs := (fun kk => match kk with | 99 => some (2, Tx_isPattern) | 208 => some (2, Tn_count) | _ => none)) (ss := (fun _ => none)) (by decide) (eh_worldX h99) eh_fl0_ok eh_kn0_ok (fun kk n T h => by
    split at h
    · cases h; exact eh_callV (c0 := 0) (cx_isPattern l D tc ad h99) q294 q296 qs0 q45 q297 (by decide +kernel) (by decide) (by decide) (by decide) rfl (eh_worldX h99) (fun _ _ _ _ h => eh_R0_rec h)
    · cases h; exact eh_callV (c0 := 2) (cn_count l D tc ad h99) q461 q462 q463 q47 q464 (by decide +kernel) (by decide) (by decide) (by decide) rfl (eh_worldX h99) (fun _ _ _ _ h => eh_R2_rec h)
    · cases h) (fun _ _ _ h => by cases h) ?_
  rintro as σ bd K ⟨_, rfl, p, z, rfl, hp, hz, ho, hK⟩
  refine ⟨Nat.le_of_ble_eq_true rfl, fun X hX => ?_⟩
  have hnp := pz_np ho
  have hE := ho.1.1
  have hK0 := xk_s hK hz
  have h105 := hz.2.2.2.1.1
  unfold pz_plain at hK hK0
  refine bX0_plain_0 hX (T99 := Tx_isPattern) rfl (fun hok => isP hz ho hp ?_)
  refine bX0_plain_5 hX (T208 := Tn_count) rfl (fun hok => ⟨bz_r _, fun h => ?_, fun h1 => ?_⟩)
  · rw [pz_if_t (fun h2 => bz_0.mp h h2.1)] at hK0
    exact hK0
  have b1 := bz_n.mp h1
  obtain ⟨⟨f1, f2, f3, f4⟩, ⟨e1, e2, e3, e4⟩, d1⟩ := hz.2.2.2.2.1 p b1.1 (by omega)
  have hokp := ho.2.1 p b1.1 (by omega)
  have hsi := hokp.2.2.1
  rw [e1, e3, h105]
  refine ⟨by omega, fun h => ?_, fun h2 => ⟨by omega, fun h12 => ?_, fun h12 => ?_⟩⟩
  · rw [pz_if_t (fun h2 => h2.2 h)] at hK0
    exact hK0
  · rw [pz_if_f (fun h => h ⟨b1, h2⟩), pz_if_f (by omega)] at hK
    refine ⟨_, rfl, p, z.1.1 0 0, z.1.2 19 p 0, pz_E z, pz_P z p, rfl, xz_ctx hz ho (by omega) (by omega), fun j h0 h1 => ?_, h105, hokp.2.2.2.2.2.2.2.2.1 h2, e3, hsi, h12, fun σ' hf => bX0_plain_59 hX (fun hok => hK σ' (eh_fr_up hf (by decide) (by decide)) ?_)⟩
    · rw [(d1 j h0 h1).2.2.2.1]
      exact hokp.2.1 j h0 h1
    · obtain ⟨a1, a2, a3, a4, a5, a6, a7⟩ := hz
      exact ⟨xz_A_t a1 (hf.2 100 (by decide)) rfl, xz_B_t a2 (hf.1 106 (by decide)) (fun c hc => hf.2 c (by simp only [List.mem_cons, List.not_mem_nil, or_false] at hc ⊢; omega)) rfl (fun _ _ => rfl), xz_C_t a3 (hf.2 109 (by decide)) rfl, xz_D_t a4 (fun v hv => hf.1 v (by simp only [List.mem_cons, List.not_mem_nil, or_false] at hv ⊢; omega)) (fun _ _ => rfl), xz_F_t a5 (fun v hv => hf.1 v (by simp only [List.mem_cons, List.not_mem_nil, or_false] at hv ⊢; omega)) (fun c hc => hf.2 c (by simp only [List.mem_cons, List.not_mem_nil, or_false] at hc ⊢; omega)) (fun _ _ _ => rfl), xz_W_t a6 hf (by decide) (by decide) rfl, xm_M_fr a7 hf (by decide) (by decide)⟩
  · rw [pz_if_f (fun h => h ⟨b1, h2⟩), pz_if_t (by omega)] at hK0
    exact bX0_plain_59 hX (fun hok => hK0)
