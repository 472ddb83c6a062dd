/-! EventHunterModel: leaves -/
def pm_E (σ : eh_S) : Nat → Int → Int := fun id => match id with
  | 0 => σ.2 509 0
  | 1 => σ.2 510 0
  | 2 => σ.2 512 0
  | _ => σ.2 501 0
def pm_P (σ : eh_S) (p : Int) : Nat → Int → Int := fun id j => match id with
  | 0 => σ.2 524 0 (6 * p + j)
  | 1 => σ.2 525 0 (6 * p + j)
  | 2 => σ.2 526 0 (6 * p + j)
  | 3 => σ.2 527 0 (6 * p + j)
  | 4 => σ.2 528 0 (6 * p + j)
  | 5 => σ.2 519 0 p
  | 6 => σ.2 518 0 p
  | 7 => σ.2 516 0 p
  | _ => σ.2 517 0 p
def pm_row (σ : eh_S) : List (Int × Int) := pu_rowL (σ.2 540 0) (σ.2 541 0) (σ.1 542 0).toNat
/-- receivers -/
def eh_RM (F : List eh_V → eh_S → Nat × Nat → (Option eh_V → eh_S → Prop) → Prop) : eh_T := fun as σ bd K => ∃ as', as = .inr (some (4, 0)) :: as' ∧ F as' σ bd K
theorem eh_RM_rec {F : List eh_V → eh_S → Nat × Nat → (Option eh_V → eh_S → Prop) → Prop} {as : List eh_V} {σ : eh_S} {bd : Nat × Nat} {K : Option eh_V → eh_S → Prop} (h : eh_RM F as σ bd K) : ∃ (i : Int) (as' : List eh_V), as = .inr (some (4, i)) :: as' ∧ 0 ≤ i ∧ i < eh_nX 4 := by
  obtain ⟨as', h, -⟩ := h
  exact ⟨0, as', h, by decide, by decide⟩
def eh_R0 (F : List eh_V → eh_S → Nat × Nat → (Option eh_V → eh_S → Prop) → Prop) : eh_T := fun as σ bd K => ∃ as', as = .inr (some (0, 0)) :: as' ∧ F as' σ bd K
theorem eh_R0_rec {F : List eh_V → eh_S → Nat × Nat → (Option eh_V → eh_S → Prop) → Prop} {as : List eh_V} {σ : eh_S} {bd : Nat × Nat} {K : Option eh_V → eh_S → Prop} (h : eh_R0 F as σ bd K) : ∃ (i : Int) (as' : List eh_V), as = .inr (some (0, i)) :: as' ∧ 0 ≤ i ∧ i < eh_nX 0 := by
  obtain ⟨as', h, -⟩ := h
  exact ⟨0, as', h, by decide, by decide⟩
def eh_R1 (F : List eh_V → eh_S → Nat × Nat → (Option eh_V → eh_S → Prop) → Prop) : eh_T := fun as σ bd K => ∃ as', as = .inr (some (1, 0)) :: as' ∧ F as' σ bd K
theorem eh_R1_rec {F : List eh_V → eh_S → Nat × Nat → (Option eh_V → eh_S → Prop) → Prop} {as : List eh_V} {σ : eh_S} {bd : Nat × Nat} {K : Option eh_V → eh_S → Prop} (h : eh_R1 F as σ bd K) : ∃ (i : Int) (as' : List eh_V), as = .inr (some (1, i)) :: as' ∧ 0 ≤ i ∧ i < eh_nX 1 := by
  obtain ⟨as', h, -⟩ := h
  exact ⟨0, as', h, by decide, by decide⟩
def eh_R2 (F : List eh_V → eh_S → Nat × Nat → (Option eh_V → eh_S → Prop) → Prop) : eh_T := fun as σ bd K => ∃ as', as = .inr (some (2, 0)) :: as' ∧ F as' σ bd K
theorem eh_R2_rec {F : List eh_V → eh_S → Nat × Nat → (Option eh_V → eh_S → Prop) → Prop} {as : List eh_V} {σ : eh_S} {bd : Nat × Nat} {K : Option eh_V → eh_S → Prop} (h : eh_R2 F as σ bd K) : ∃ (i : Int) (as' : List eh_V), as = .inr (some (2, i)) :: as' ∧ 0 ≤ i ∧ i < eh_nX 2 := by
  obtain ⟨as', h, -⟩ := h
  exact ⟨0, as', h, by decide, by decide⟩
/-- of a pattern, by its number -/
def eh_R3 (F : Int → List eh_V → eh_S → Nat × Nat → (Option eh_V → eh_S → Prop) → Prop) : eh_T := fun as σ bd K => ∃ (q : Int) (as' : List eh_V), as = .inr (some (3, q)) :: as' ∧ (0 ≤ q ∧ q < 8) ∧ F q as' σ bd K
theorem eh_R3_rec {F : Int → List eh_V → eh_S → Nat × Nat → (Option eh_V → eh_S → Prop) → Prop} {as : List eh_V} {σ : eh_S} {bd : Nat × Nat} {K : Option eh_V → eh_S → Prop} (h : eh_R3 F as σ bd K) : ∃ (i : Int) (as' : List eh_V), as = .inr (some (3, i)) :: as' ∧ 0 ≤ i ∧ i < eh_nX 3 := by
  obtain ⟨q, as', h, hq, -⟩ := h
  exact ⟨q, as', h, hq.1, hq.2⟩
def Tm_isKind : eh_T := fun as σ _ K => ∃ k : Int, as = [.inl k] ∧ eh_r k ∧ K (some (.inl (bz (0 ≤ k ∧ k < 16)))) σ
def Tm_isSure : eh_T := fun as σ _ K => ∃ k : Int, as = [.inl k] ∧ eh_r k ∧ K (some (.inl (bz (k = 0 ∨ k = 1)))) σ
def Tm_isPattern : eh_T := eh_RM fun as σ _ K => ∃ p : Int, as = [.inl p] ∧ eh_r p ∧ K (some (.inl (bz (0 ≤ p ∧ p < σ.1 515 0)))) σ
def Tm_isMatch : eh_T := eh_RM fun as σ _ K => ∃ i : Int, as = [.inl i] ∧ eh_r i ∧ K (some (.inl (bz (0 ≤ i ∧ i < σ.1 535 0 ∧ i < 1000)))) σ
def Tm_isTest : eh_T := fun as σ _ K => ∃ t f c n : Int, as = [.inl t, .inl f, .inl c, .inl n] ∧ (eh_r t ∧ eh_r f ∧ eh_r c ∧ eh_r n) ∧ K (some (.inl (bz (t = 0 ∨ (0 ≤ t ∧ t ≤ 6 ∧ 0 ≤ f ∧ f ≤ 3 ∧ (t < 4 → -1000 ≤ c ∧ c ≤ 1000) ∧ (4 ≤ t → 0 ≤ c ∧ c < n)))))) σ
def Tm_isA : eh_T := eh_RM fun as σ _ K => ∃ k o : Int, as = [.inl k, .inl o] ∧ (-1 ≤ k ∧ k < 16) ∧ eh_r o ∧ (∀ j, 0 ≤ j → j < 16 → -1 ≤ σ.2 501 0 j ∧ σ.2 501 0 j < j) ∧ K (some (.inl (bz (pu_is (σ.2 501 0) 17 k o = true)))) σ
def Tm_real : eh_T := eh_RM fun as σ _ K => ∃ p : Int, as = [.inl p] ∧ (0 ≤ p ∧ p < 8) ∧ (σ.2 519 0 p ≤ 6) ∧ K (some (.inl (pu_real (pm_P σ p)))) σ
theorem cm_isKind (l : Launch) (D : va_G) (tc : Nat → ClassId) (ad : Nat → Int → Nat) (h99 : ∀ a : Int, ad 99 a = a.toNat) : eh_M l D tc ad eh_LX yX4_isKind cX4_isKind 1 (some .boolean) 0 Tm_isKind := by
  refine eh_mk (rb := 1) (nm := eh_nX) (fl := eh_fl4) (kn := eh_kn4) (cs := (fun _ => none)) (ss := (fun _ => none)) (by decide) (eh_worldX h99) eh_fl4_ok eh_kn4_ok (fun _ _ _ h => by cases h) (fun _ _ _ h => by cases h) ?_
  rintro as σ bd K ⟨k, rfl, hr, hK⟩
  refine ⟨Nat.le_of_ble_eq_true rfl, fun X hX => ?_⟩
  refine bX4_isKind_0 hX (fun hok => ?_)
  repeat' (first | intro _ | apply And.intro)
  all_goals first | exact hr.1 | exact hr.2 | exact eh_b0 hK (by omega) | exact eh_b1 hK (by omega)
theorem cm_isSure (l : Launch) (D : va_G) (tc : Nat → ClassId) (ad : Nat → Int → Nat) (h99 : ∀ a : Int, ad 99 a = a.toNat) : eh_M l D tc ad eh_LX yX4_isSure cX4_isSure 1 (some .boolean) 0 Tm_isSure := by
  refine eh_mk (rb := 1) (nm := eh_nX) (fl := eh_fl4) (kn := eh_kn4) (cs := (fun _ => none)) (ss := (fun _ => none)) (by decide) (eh_worldX h99) eh_fl4_ok eh_kn4_ok (fun _ _ _ h => by cases h) (fun _ _ _ h => by cases h) ?_
  rintro as σ bd K ⟨k, rfl, hr, hK⟩
  refine ⟨Nat.le_of_ble_eq_true rfl, fun X hX => ?_⟩
  refine bX4_isSure_0 hX (fun hok => ?_)
  repeat' (first | intro _ | apply And.intro)
  all_goals first | exact hr.1 | exact hr.2 | exact eh_b0 hK (by omega) | exact eh_b1 hK (by omega)
theorem cm_isPattern (l : Launch) (D : va_G) (tc : Nat → ClassId) (ad : Nat → Int → Nat) (h99 : ∀ a : Int, ad 99 a = a.toNat) : eh_M l D tc ad eh_LX yX4_isPattern cX4_isPattern 2 (some .boolean) 0 Tm_isPattern := by
  refine eh_mk (rb := 1) (nm := eh_nX) (fl := eh_fl4) (kn := eh_kn4) (cs := (fun _ => none)) (ss := (fun _ => none)) (by decide) (eh_worldX h99) eh_fl4_ok eh_kn4_ok (fun _ _ _ h => by cases h) (fun _ _ _ h => by cases h) ?_
  rintro as σ bd K ⟨_, rfl, k, rfl, hr, hK⟩
  refine ⟨Nat.le_of_ble_eq_true rfl, fun X hX => ?_⟩
  refine bX4_isPattern_0 hX (fun hok => ?_)
  repeat' (first | intro _ | apply And.intro)
  all_goals first | exact hr.1 | exact hr.2 | exact eh_b0 hK (by omega) | exact eh_b1 hK (by omega)
theorem cm_isMatch (l : Launch) (D : va_G) (tc : Nat → ClassId) (ad : Nat → Int → Nat) (h99 : ∀ a : Int, ad 99 a = a.toNat) : eh_M l D tc ad eh_LX yX4_isMatch cX4_isMatch 2 (some .boolean) 0 Tm_isMatch := by
  refine eh_mk (rb := 1) (nm := eh_nX) (fl := eh_fl4) (kn := eh_kn4) (cs := (fun _ => none)) (ss := (fun _ => none)) (by decide) (eh_worldX h99) eh_fl4_ok eh_kn4_ok (fun _ _ _ h => by cases h) (fun _ _ _ h => by cases h) ?_
  rintro as σ bd K ⟨_, rfl, k, rfl, hr, hK⟩
  refine ⟨Nat.le_of_ble_eq_true rfl, fun X hX => ?_⟩
  refine bX4_isMatch_0 hX (fun hok => ?_)
  repeat' (first | intro _ | apply And.intro)
  all_goals first | exact hr.1 | exact hr.2 | exact eh_b0 hK (by omega) | exact eh_b1 hK (by omega)
theorem cm_isTest (l : Launch) (D : va_G) (tc : Nat → ClassId) (ad : Nat → Int → Nat) (h99 : ∀ a : Int, ad 99 a = a.toNat) : eh_M l D tc ad eh_LX yX4_isTest cX4_isTest 4 (some .boolean) 0 Tm_isTest := by
  refine eh_mk (rb := 1) (nm := eh_nX) (fl := eh_fl4) (kn := eh_kn4) (cs := (fun _ => none)) (ss := (fun _ => none)) (by decide) (eh_worldX h99) eh_fl4_ok eh_kn4_ok (fun _ _ _ h => by cases h) (fun _ _ _ h => by cases h) ?_
  rintro as σ bd K ⟨t, f, c, n, rfl, ⟨hr1, hr2, hr3, hr4⟩, hK⟩
  refine ⟨Nat.le_of_ble_eq_true rfl, fun X hX => ?_⟩
  unfold eh_r at hr1 hr2 hr3 hr4
  refine bX4_isTest_0 hX (fun hok => ?_)
  repeat' (first | intro _ | apply And.intro)
  all_goals first | omega | exact eh_b0 hK (by omega) | exact eh_b1 hK (by omega)
theorem cm_isA (l : Launch) (D : va_G) (tc : Nat → ClassId) (ad : Nat → Int → Nat) (h99 : ∀ a : Int, ad 99 a = a.toNat) : eh_M l D tc ad eh_LX yX4_isA cX4_isA 4 (some .boolean) 0 Tm_isA := by
  refine eh_mk (rb := 1) (nm := eh_nX) (fl := eh_fl4) (kn := eh_kn4) (cs := (fun _ => none)) (ss := (fun _ => none)) (by decide) (eh_worldX h99) eh_fl4_ok eh_kn4_ok (fun _ _ _ h => by cases h) (fun _ _ _ h => by cases h) ?_
  rintro as σ bd K ⟨_, rfl, k, o, rfl, hk, ho, hpar, hK⟩
  refine ⟨Nat.le_of_ble_eq_true rfl, fun X hX => ?_⟩
  unfold eh_r at ho
  have key : ∀ (n : Nat) (k : Int) (o1 : Option eh_V), -1 ≤ k → k < 16 → k < n → K (some (.inl (bz (pu_is (σ.2 501 0) n k o = true)))) σ → X 2 [some (.inr (some (4, 0))), o1, some (.inl o), some (.inl k)] [] σ (0, 0) := by
    intro n
    induction n with
    | zero =>
      intro k o1 h0 h1 h2 hK
      refine bX4_isA_2 hX (fun hok => ?_)
      repeat' (first | intro _ | apply And.intro)
      all_goals first | omega | exact eh_b0 hK (by simp [pu_is])
    | succ n ih =>
      intro k o1 h0 h1 h2 hK
      refine bX4_isA_2 hX (fun hok => ⟨by omega, fun hn => ?_, fun hn => ⟨by omega, fun he => ?_, fun he => ⟨by omega, ?_⟩⟩⟩)
      · exact eh_b0 hK (by simp [pu_is, hn])
      · exact eh_b1 hK (by rw [pu_is, if_neg hn, if_pos he])
      · have h3 := hpar k (by omega) h1
        refine ih _ _ h3.1 (by omega) (by omega) ?_
        rw [pu_is, if_neg hn, if_neg he] at hK
        exact hK
  exact bX4_isA_0 hX (fun hok => key 17 k _ hk.1 hk.2 (by omega) hK)
theorem cm_real (l : Launch) (D : va_G) (tc : Nat → ClassId) (ad : Nat → Int → Nat) (h99 : ∀ a : Int, ad 99 a = a.toNat) : eh_M l D tc ad eh_LX yX4_real cX4_real 2 (some .int) 0 Tm_real := by
  refine eh_mk (rb := 0) (nm := eh_nX) (fl := eh_fl4) (kn := eh_kn4) (cs := (fun _ => none)) (ss := (fun _ => none)) (by decide) (eh_worldX h99) eh_fl4_ok eh_kn4_ok (fun _ _ _ h => by cases h) (fun _ _ _ h => by cases h) ?_
  rintro as σ bd K ⟨_, rfl, p, rfl, hp, hs, hK⟩
  refine ⟨Nat.le_of_ble_eq_true rfl, fun X hX => ?_⟩
  have e1 : pm_P σ p 5 0 = σ.2 519 0 p := rfl
  have e2 : pm_P σ p 0 (pm_P σ p 5 0 - 1) = σ.2 524 0 (((6 * p) + (σ.2 519 0 p)) - 1) := by
    show σ.2 524 0 (6 * p + (σ.2 519 0 p - 1)) = _
    rw [show 6 * p + (σ.2 519 0 p - 1) = 6 * p + σ.2 519 0 p - 1 by omega]
  unfold pu_real at hK
  rw [e2, e1] at hK
  refine bX4_real_0 hX (fun hok => ⟨hp, fun h1 => ?_, fun h1 => ⟨by omega, fun h2 => ?_, fun h2 => ?_⟩⟩)
  · rw [if_neg (by omega)] at hK; exact hK
  · rw [if_pos ⟨by omega, h2⟩] at hK; exact hK
  · rw [if_neg (by omega)] at hK; exact hK
