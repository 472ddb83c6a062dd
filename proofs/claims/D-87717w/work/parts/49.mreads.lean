/-! EventHunterModel: calls that only tell -/
def Tm_is : eh_T := eh_RM fun as σ _ K => ∃ (a b : Int) (z : pz_Z), as = [.inl a, .inl b] ∧ (eh_r a ∧ eh_r b) ∧ mz σ z ∧ pz_ok z ∧ mk (pz_is a b z, z) σ K
theorem cm_is (l : Launch) (D : va_G) (tc : Nat → ClassId) (ad : Nat → Int → Nat) (h99 : ∀ a : Int, ad 99 a = a.toNat) : eh_M l D tc ad eh_LX yX4_is cX4_is 3 (some .int) 1 Tm_is := by
  refine eh_mk (rb := 0) (nm := eh_nX) (fl := eh_fl4) (kn := eh_kn4) (cs := (fun kk => match kk with | 157 => some (3, Tm_isA) | _ => none)) (ss := (fun kk => match kk with | 136 => some (1, Tm_isKind) | _ => none)) (by decide) (eh_worldX h99) eh_fl4_ok eh_kn4_ok (fun kk n T h => by
    split at h
    · cases h; exact eh_callV (c0 := 4) (cm_isA l D tc ad h99) q730 q732 qs31 q49 q733 (by decide +kernel) (by decide) (by decide) (by decide) rfl (eh_worldX h99) (fun _ _ _ _ h => eh_RM_rec h)
    · cases h) (fun kk n T h => by
    split at h
    · cases h; exact eh_callS (cm_isKind l D tc ad h99) q655 q656 q49 q657 (by decide +kernel) (by decide) (by decide)
    · cases h) ?_
  rintro as σ bd K ⟨_, rfl, a, b, z, rfl, ⟨ha, hb⟩, hz, ho, hK⟩
  refine ⟨Nat.le_of_ble_eq_true rfl, fun X hX => ?_⟩
  have hK := mk_s hK hz
  unfold pz_is at hK
  refine bX4_is_0 hX (T136 := Tm_isKind) rfl (fun hok => misK ha ?_)
  refine bX4_is_4 hX (T136 := Tm_isKind) rfl (fun hok => ⟨bz_r _, fun h => ?_, fun h1 => misK hb ?_⟩)
  · rw [pz_if_t (by have := bz_0.mp h; omega)] at hK
    exact hK
  refine bX4_is_11 hX (T157 := Tm_isA) rfl (fun hok => ⟨bz_r _, fun h => ?_, fun h2 => ?_⟩)
  · rw [pz_if_t (by have := bz_0.mp h; omega)] at hK
    exact hK
  · have b1 := bz_n.mp h1
    have b2 := bz_n.mp h2
    rw [pz_if_f (by omega)] at hK
    have hpe : ∀ j, 0 ≤ j → j < 16 → -1 ≤ z.1.2 3 0 j ∧ z.1.2 3 0 j < j := ho.1.2.2.2.1.1
    have hpar : ∀ j, 0 ≤ j → j < 16 → -1 ≤ σ.2 501 0 j ∧ σ.2 501 0 j < j := fun j h0 h1 => by rw [hz.1 j h0 h1]; exact hpe j h0 h1
    refine ⟨_, rfl, a, b, rfl, by omega, hb, hpar, ?_⟩
    rw [pu_is_congr (fun k h0 h1 => hz.1 k h0 h1) hpe 17 a (by omega)]
    exact bX4_is_24 hX (fun hok => ⟨bz_r _, fun h => eh_ki hK h, fun h => eh_ki hK (bz_t (bz_n.mp h))⟩)
def Tm_matches : eh_T := eh_RM fun as σ _ K => ∃ (p : Int) (z : pz_Z), as = [.inl p] ∧ eh_r p ∧ mz σ z ∧ pz_ok z ∧ mk (pz_matches p z, z) σ K
theorem cm_matches (l : Launch) (D : va_G) (tc : Nat → ClassId) (ad : Nat → Int → Nat) (h99 : ∀ a : Int, ad 99 a = a.toNat) : eh_M l D tc ad eh_LX yX4_matches cX4_matches 2 (some .int) 1 Tm_matches := by
  refine eh_mk (rb := 0) (nm := eh_nX) (fl := eh_fl4) (kn := eh_kn4) (cs := (fun kk => match kk with | 143 => some (2, Tm_isPattern) | _ => none)) (ss := (fun _ => none)) (by decide) (eh_worldX h99) eh_fl4_ok eh_kn4_ok (fun kk n T h => by
    split at h
    · cases h; exact eh_callV (c0 := 4) (cm_isPattern l D tc ad h99) q666 q668 qs20 q49 q669 (by decide +kernel) (by decide) (by decide) (by decide) rfl (eh_worldX h99) (fun _ _ _ _ h => eh_RM_rec h)
    · cases h) (fun _ _ _ h => by cases h) ?_
  rintro as σ bd K ⟨_, rfl, p, z, rfl, hp, hz, ho, hK⟩
  refine ⟨Nat.le_of_ble_eq_true rfl, fun X hX => ?_⟩
  have hK := mk_s hK hz
  have hnp := pz_np ho
  unfold pz_matches at hK
  refine bX4_matches_0 hX (T143 := Tm_isPattern) rfl (fun hok => ⟨hp, fun h => ?_, fun h => misP hz hp ?_⟩)
  · rw [pz_if_t h] at hK
    rw [hz.2.2.2.2.2.2.2.1]; exact hK
  · rw [pz_if_f h] at hK
    refine bX4_matches_17 hX (fun hok => ⟨bz_r _, fun h2 => ?_, fun h2 => ⟨?_, ?_⟩⟩)
    · rw [pz_if_f (bz_0.mp h2)] at hK; exact hK
    · have := bz_n.mp h2; omega
    · have h3 := bz_n.mp h2
      rw [pz_if_t h3] at hK
      rw [(hz.2.2.2.2.2.1 p (by omega) (by omega)).2.1.2.2.2]; exact hK
theorem mz_mt {σ : eh_S} {z : pz_Z} {i : Int} (h : mm_M σ z.2.2) (hi : pz_isM z i) : mm_s σ i (pz_mt z i) ∧ pz_mt z i ∈ z.2.2 := by
  obtain ⟨h0, h1, h2⟩ := hi
  have hl : i.toNat < z.2.2.length := by omega
  have hg : z.2.2[i.toNat]? = some (z.2.2[i.toNat]) := List.getElem?_eq_getElem hl
  have he : pz_mt z i = z.2.2[i.toNat] := by unfold pz_mt; rw [hg]; rfl
  have := h.2 i.toNat _ (by omega) hg
  rw [Int.toNat_of_nonneg h0] at this
  exact ⟨by rw [he]; exact this, by rw [he]; exact List.getElem_mem hl⟩
theorem misM {σ : eh_S} {z : pz_Z} {i : Int} {bd : Nat × Nat} {K : Option eh_V → eh_S → Prop} (h : mz σ z) (hi : eh_r i) (hK : K (some (.inl (bz (pz_isM z i)))) σ) : Tm_isMatch [.inr (some (4, 0)), .inl i] σ bd K := by
  refine ⟨_, rfl, i, rfl, hi, ?_⟩
  rw [h.2.2.2.2.2.2.2.1]
  exact hK
def Tm_match : eh_T := eh_RM fun as σ _ K => ∃ (i w : Int) (z : pz_Z), as = [.inl i, .inl w] ∧ (eh_r i ∧ eh_r w) ∧ mz σ z ∧ pz_ok z ∧ mk (pz_match i w z, z) σ K
theorem cm_match (l : Launch) (D : va_G) (tc : Nat → ClassId) (ad : Nat → Int → Nat) (h99 : ∀ a : Int, ad 99 a = a.toNat) : eh_M l D tc ad eh_LX yX4_match cX4_match 3 (some .int) 1 Tm_match := by
  refine eh_mk (rb := 0) (nm := eh_nX) (fl := eh_fl4) (kn := eh_kn4) (cs := (fun kk => match kk with | 224 => some (2, Tm_isMatch) | _ => none)) (ss := (fun _ => none)) (by decide) (eh_worldX h99) eh_fl4_ok eh_kn4_ok (fun kk n T h => by
    split at h
    · cases h; exact eh_callV (c0 := 4) (cm_isMatch l D tc ad h99) q758 q760 qs36 q49 q761 (by decide +kernel) (by decide) (by decide) (by decide) rfl (eh_worldX h99) (fun _ _ _ _ h => eh_RM_rec h)
    · cases h) (fun _ _ _ h => by cases h) ?_
  rintro as σ bd K ⟨_, rfl, i, w, z, rfl, ⟨hi, hw⟩, hz, ho, hK⟩
  refine ⟨Nat.le_of_ble_eq_true rfl, fun X hX => ?_⟩
  have hK := mk_s hK hz
  unfold pz_match at hK
  refine bX4_match_0 hX (T224 := Tm_isMatch) rfl (fun hok => misM hz hi ?_)
  refine bX4_match_5 hX (fun hok => ⟨bz_r _, fun h => ?_, fun h1 => ⟨hw, fun h => ?_, fun h => ?_, fun h => ?_, fun h => ?_, fun h => ?_⟩⟩)
  · rw [pz_if_t (fun h2 => bz_0.mp h h2.1)] at hK
    exact hK
  · rw [pz_if_t (fun h2 => by have := h2.2; omega)] at hK
    exact hK
  all_goals
    have b1 := bz_n.mp h1
    rw [pz_if_f (fun h2 => h2 ⟨b1, by omega⟩)] at hK
    obtain ⟨⟨x1, x2, x3, x4⟩, x5⟩ := mz_mt hz.2.2.2.2.2.2.2 b1
    have hne := (ho.2.2.2 _ x5).2.1
    have hlp : 0 < (pz_mt z i).2.length := List.length_pos_iff.mpr hne
    obtain ⟨c0, c1, c2⟩ := b1
  · rw [x1]; exact ⟨by omega, eh_ki hK (if_pos h)⟩
  · rw [x2]; exact ⟨by omega, eh_ki hK (by rw [if_neg (by omega), if_pos h])⟩
  · refine ⟨by omega, eh_ki hK ?_⟩
    rw [if_neg (by omega), if_neg (by omega), if_pos h, ← x4, pu_first_rowL hlp, Int.add_zero]
  · rw [x2]
    refine ⟨by omega, by omega, eh_ki hK ?_⟩
    rw [if_neg (by omega), if_neg (by omega), if_neg (by omega)]
    have hh := pu_head_rowL (f := fun k => σ.2 538 0 (24 * i + k)) (g := fun k => σ.2 539 0 (24 * i + k)) hlp
    rw [x4] at hh
    rw [hh, Int.add_sub_assoc]
def Tm_member : eh_T := eh_RM fun as σ _ K => ∃ (i k h : Int) (z : pz_Z), as = [.inl i, .inl k, .inl h] ∧ (eh_r i ∧ eh_r k ∧ eh_r h) ∧ mz σ z ∧ pz_ok z ∧ mk (pz_member i k h z, z) σ K
theorem cm_member (l : Launch) (D : va_G) (tc : Nat → ClassId) (ad : Nat → Int → Nat) (h99 : ∀ a : Int, ad 99 a = a.toNat) : eh_M l D tc ad eh_LX yX4_member cX4_member 4 (some .int) 1 Tm_member := by
  refine eh_mk (rb := 0) (nm := eh_nX) (fl := eh_fl4) (kn := eh_kn4) (cs := (fun kk => match kk with | 224 => some (2, Tm_isMatch) | _ => none)) (ss := (fun _ => none)) (by decide) (eh_worldX h99) eh_fl4_ok eh_kn4_ok (fun kk n T h => by
    split at h
    · cases h; exact eh_callV (c0 := 4) (cm_isMatch l D tc ad h99) q758 q760 qs36 q49 q761 (by decide +kernel) (by decide) (by decide) (by decide) rfl (eh_worldX h99) (fun _ _ _ _ h => eh_RM_rec h)
    · cases h) (fun _ _ _ h => by cases h) ?_
  rintro as σ bd K ⟨_, rfl, i, k, w, z, rfl, ⟨hi, hk, hw⟩, hz, ho, hK⟩
  refine ⟨Nat.le_of_ble_eq_true rfl, fun X hX => ?_⟩
  have hK := mk_s hK hz
  unfold pz_member at hK
  refine bX4_member_0 hX (T224 := Tm_isMatch) rfl (fun hok => misM hz hi ?_)
  refine bX4_member_5 hX (fun hok => ⟨bz_r _, fun h => ?_, fun h1 => ⟨hk, fun h => ?_, fun h2 => ?_⟩⟩)
  · rw [pz_if_t (fun h2 => bz_0.mp h h2.1)] at hK
    exact hK
  · rw [pz_if_t (fun h2 => by have := h2.2.1; omega)] at hK
    exact hK
  have b1 := bz_n.mp h1
  obtain ⟨⟨x1, x2, x3, x4⟩, x5⟩ := mz_mt hz.2.2.2.2.2.2.2 b1
  have b1' := b1
  obtain ⟨c0, c1, c2⟩ := b1
  rw [x2]
  refine ⟨by omega, fun h => ?_, fun h3 => ⟨hw, fun h => ?_, fun h4 => ⟨fun h5 => ?_, fun h => ?_⟩⟩⟩
  · rw [pz_if_t (fun h2 => by have := h2.2.1; omega)] at hK
    exact hK
  · rw [pz_if_t (fun h2 => by have := h2.2.2; omega)] at hK
    exact hK
  · rw [pz_if_f (fun h => h ⟨b1', by omega, by omega⟩)] at hK
    have hn := pz_nth_rowL (f := fun k => σ.2 538 0 (24 * i + k)) (g := fun k => σ.2 539 0 (24 * i + k)) (n := (pz_mt z i).2.length) (k := k) (by omega) (by omega)
    rw [x4] at hn
    rw [hn] at hK
    exact ⟨fun h => ⟨by omega, eh_ki hK (if_pos h)⟩, fun h => ⟨by omega, eh_ki hK (if_neg h)⟩⟩
  · rw [pz_if_t (fun h2 => by have := h2.2.2; omega)] at hK
    exact hK
def mz_hk (σ : eh_S) (i k e : Int) : Prop := ∃ j : Int, 0 ≤ j ∧ j < k ∧ σ.2 538 0 (24 * i + j) = e
def Tm_matchesWith : eh_T := eh_RM fun as σ _ K => ∃ (e : Int) (z : pz_Z), as = [.inl e] ∧ eh_r e ∧ mz σ z ∧ pz_ok z ∧ K (some (.inl (pz_mwith z e))) σ
theorem cm_matchesWith (l : Launch) (D : va_G) (tc : Nat → ClassId) (ad : Nat → Int → Nat) (h99 : ∀ a : Int, ad 99 a = a.toNat) : eh_M l D tc ad eh_LX yX4_matchesWith cX4_matchesWith 6 (some .int) 0 Tm_matchesWith := by
  refine eh_mk (rb := 0) (nm := eh_nX) (fl := eh_fl4) (kn := eh_kn4) (cs := (fun _ => none)) (ss := (fun _ => none)) (by decide) (eh_worldX h99) eh_fl4_ok eh_kn4_ok (fun _ _ _ h => by cases h) (fun _ _ _ h => by cases h) ?_
  rintro as σ bd K ⟨_, rfl, e, z, rfl, he, hz, ho, hK⟩
  refine ⟨Nat.le_of_ble_eq_true rfl, fun X hX => ?_⟩
  have hml := pz_ml ho
  have h535 : σ.1 535 0 = (z.2.2.length : Int) := hz.2.2.2.2.2.2.2.1
  unfold pz_mwith at hK
  have keyK : ∀ (m : Nat) (i c a4 k : Int), pz_isM z i → (0 ≤ k ∧ k ≤ (pz_mt z i).2.length) → (pz_mt z i).2.length - k < m → (a4 = bz (mz_hk σ i k e)) → (∀ (o4 o5 : Option eh_V), X 4 [some (.inr (some (4, 0))), some (.inl e), some (.inl (c + bz (pz_has (pz_mt z i).2 e))), some (.inl (i + 1)), o4, o5] [] σ (0, 0)) → X 25 [some (.inr (some (4, 0))), some (.inl e), some (.inl c), some (.inl i), some (.inl a4), some (.inl k)] [] σ (0, 0) := by
    intro m
    induction m with
    | zero => intro i c a4 k _ h1 h2; omega
    | succ m ih =>
      intro i c a4 k hi hk hm ha4 hcont
      obtain ⟨⟨x1, x2, x3, x4⟩, x5⟩ := mz_mt hz.2.2.2.2.2.2.2 hi
      obtain ⟨c0, c1, c2⟩ := hi
      have h01 : a4 = 0 ∨ a4 = 1 := by rw [ha4]; exact bz_01 _
      have hhas : mz_hk σ i ((pz_mt z i).2.length : Int) e ↔ pz_has (pz_mt z i).2 e := by
        have := (pz_has_rowL (f := fun k => σ.2 538 0 (24 * i + k)) (g := fun k => σ.2 539 0 (24 * i + k)) (n := (pz_mt z i).2.length) (e := e)).symm
        rwa [x4] at this
      have hup : mz_hk σ i k e → a4 = 1 := fun h => by rw [ha4]; exact bz_t h
      refine bX4_matchesWith_25 hX (fun hok => ?_)
      rw [x2]
      refine ⟨by omega, by omega, fun hd => ⟨by omega, fun h => ?_, fun h => ?_⟩, fun hd => ⟨by omega, fun h4 => ⟨by omega, he, fun h => ih i c _ (k + 1) ⟨c0, c1, c2⟩ (by omega) (by omega) ?_ hcont, fun h => ih i c _ (k + 1) ⟨c0, c1, c2⟩ (by omega) (by omega) ?_ hcont⟩, fun h4 => ih i c _ (k + 1) ⟨c0, c1, c2⟩ (by omega) (by omega) ?_ hcont⟩⟩
      · have hcc := hcont (some (.inl a4)) (some (.inl k))
        rw [show k = ((pz_mt z i).2.length : Int) by omega, bz_congr hhas] at ha4
        rw [← ha4, h] at hcc
        rw [h]
        exact hcc
      · have hcc := hcont (some (.inl a4)) (some (.inl k))
        rw [show k = ((pz_mt z i).2.length : Int) by omega, bz_congr hhas] at ha4
        rw [← ha4, show a4 = 1 by omega] at hcc
        rw [show a4 = 1 by omega]
        exact hcc
      · exact (bz_t ⟨k, by omega, by omega, h⟩).symm
      · rw [← h4, ha4]
        refine bz_congr ⟨fun ⟨j, p1, p2, p3⟩ => ⟨j, p1, by omega, p3⟩, fun ⟨j, p1, p2, p3⟩ => ⟨j, p1, ?_, p3⟩⟩
        by_cases hjk : j = k
        · rw [hjk] at p3; exact absurd p3 h
        · omega
      · have hb : mz_hk σ i k e := bz_n.mp (by rw [← ha4]; exact h4)
        obtain ⟨j, p1, p2, p3⟩ := hb
        exact (bz_t ⟨j, p1, by omega, p3⟩).symm
  have keyI : ∀ (m : Nat) (i c : Int) (o4 o5 : Option eh_V), (0 ≤ i ∧ i + m = (min z.2.2.length 1000 : Nat)) → K (some (.inl (c + pp_sum (fun i => bz (pz_has (pz_mt z i).2 e)) m i))) σ → X 4 [some (.inr (some (4, 0))), some (.inl e), some (.inl c), some (.inl i), o4, o5] [] σ (0, 0) := by
    intro m
    induction m with
    | zero =>
      intro i c o4 o5 hi hK
      have hK' : K (some (.inl c)) σ := eh_ki hK (by simp [pp_sum])
      exact bX4_matchesWith_4 hX (fun hok => ⟨by omega, fun _ => hK', fun h => ⟨fun _ => hK', fun h2 => by omega⟩⟩)
    | succ m ih =>
      intro i c o4 o5 hi hK
      refine bX4_matchesWith_4 hX (fun hok => ⟨by omega, fun h => by omega, fun _ => ⟨fun h => by omega, fun _ => ?_⟩⟩)
      refine keyK 30 i c 0 0 ⟨by omega, by omega, by omega⟩ (by omega) ?_ ?_ (fun o4 o5 => ih (i + 1) _ o4 o5 (by omega) (eh_ki hK (by rw [pp_sum]; omega)))
      · obtain ⟨⟨x1, x2, x3, x4⟩, x5⟩ := mz_mt hz.2.2.2.2.2.2.2 (i := i) ⟨by omega, by omega, by omega⟩
        omega
      · exact (bz_f (fun ⟨j, p1, p2, p3⟩ => by omega)).symm
  exact bX4_matchesWith_0 hX (fun hok => keyI _ 0 0 _ _ ⟨Int.le_refl _, Int.zero_add _⟩ (eh_ki hK (by omega)))
def Tm_told : eh_T := eh_RM fun as σ _ K => ∃ (e w : Int) (z : pz_Z), as = [.inl e, .inl w] ∧ (eh_r e ∧ eh_r w) ∧ mz σ z ∧ pz_ok z ∧ mk (pz_told e w z, z) σ K
theorem cm_told (l : Launch) (D : va_G) (tc : Nat → ClassId) (ad : Nat → Int → Nat) (h99 : ∀ a : Int, ad 99 a = a.toNat) : eh_M l D tc ad eh_LX yX4_told cX4_told 3 (some .int) 1 Tm_told := by
  refine eh_mk (rb := 0) (nm := eh_nX) (fl := eh_fl4) (kn := eh_kn4) (cs := (fun kk => match kk with | 227 => some (2, Tm_matchesWith) | _ => none)) (ss := (fun _ => none)) (by decide) (eh_worldX h99) eh_fl4_ok eh_kn4_ok (fun kk n T h => by
    split at h
    · cases h; exact eh_callV (c0 := 4) (cm_matchesWith l D tc ad h99) q770 q772 qs37 q49 q773 (by decide +kernel) (by decide) (by decide) (by decide) rfl (eh_worldX h99) (fun _ _ _ _ h => eh_RM_rec h)
    · cases h) (fun _ _ _ h => by cases h) ?_
  rintro as σ bd K ⟨_, rfl, e, w, z, rfl, ⟨he, hw⟩, hz, ho, hK⟩
  refine ⟨Nat.le_of_ble_eq_true rfl, fun X hX => ?_⟩
  have hK := mk_s hK hz
  have hE := ho.1.1
  have h508 := hz.2.1.1
  unfold pz_told at hK
  have bad : ¬ ((0 ≤ e ∧ e < z.1.1 0 0) ∧ (0 ≤ w ∧ w ≤ 7)) → K (some (.inl (-2000))) σ := fun h => by
    rw [pz_if_t h] at hK
    exact hK
  refine bX4_told_0 hX (T227 := Tm_matchesWith) rfl (fun hok => ?_)
  rw [h508]
  refine ⟨he, fun h => bad (by omega), fun h1 => ⟨fun h => bad (by omega), fun h2 => ⟨hw, fun h => bad (by omega), fun h3 => ⟨fun h4 => ?_, fun h => bad (by omega)⟩⟩⟩⟩
  rw [pz_if_f (by omega)] at hK
  obtain ⟨x1, x2, x3⟩ := hz.2.1.2.1 e (by omega) (by omega)
  have hx := hz.2.1.2.2 (4 * e + (w - 3))
  rw [x1, x2, x3]
  have mid : 3 ≤ w → w ≤ 6 → (0 ≤ 4 * e + w - 3 ∧ 4 * e + w - 3 < 4000) ∧ K (some (.inl (σ.2 512 0 (4 * e + w - 3)))) σ := fun a b => by
    refine ⟨by omega, eh_ki hK ?_⟩
    rw [if_neg (by omega), if_neg (by omega), if_neg (by omega), if_neg (by omega), ← hx (by omega) (by omega), show 4 * e + (w - 3) = 4 * e + w - 3 by omega]
  refine ⟨fun h => by omega, fun h => ⟨by omega, eh_ki hK (if_pos h)⟩, fun h => ⟨by omega, eh_ki hK (by rw [if_neg (by omega), if_pos h])⟩, fun h => ⟨by omega, eh_ki hK (by rw [if_neg (by omega), if_neg (by omega), if_pos h])⟩, fun h => mid (by omega) (by omega), fun h => mid (by omega) (by omega), fun h => mid (by omega) (by omega), fun h => mid (by omega) (by omega), fun h => ⟨_, rfl, e, z, rfl, he, hz, ho, bX4_told_98 hX (fun _ => eh_ki hK (by rw [if_neg (by omega), if_neg (by omega), if_neg (by omega), if_pos h]))⟩⟩
