/-! EventHunter.Web: ways, and who leads to them -/
def xw_way (σ : eh_S) : pu_Rw → Int → Prop
  | [], n => n = -1
  | x :: r, n => (0 ≤ n ∧ n < 38424) ∧ σ.2 200 0 n = x.1 ∧ σ.2 201 0 n = x.2 ∧ xw_way σ r (σ.2 202 0 n)
theorem xw_way_fr {SV SA : List Nat} {σ σ' : eh_S} (hf : eh_fr SV SA σ σ') (hd : ∀ c ∈ [200, 201, 202], c ∉ SA) : ∀ {row : pu_Rw} {n : Int}, xw_way σ row n → xw_way σ' row n := by
  intro row
  induction row with
  | nil => intro n h; exact h
  | cons x r ih =>
    intro n h
    unfold xw_way at h ⊢
    rw [hf.2 200 (hd 200 (by decide)), hf.2 201 (hd 201 (by decide)), hf.2 202 (hd 202 (by decide))]
    exact ⟨h.1, h.2.1, h.2.2.1, ih h.2.2.2⟩
theorem xw_way_r {σ : eh_S} {row : pu_Rw} {n : Int} (h : xw_way σ row n) : n = -1 ∧ row = [] ∨ (0 ≤ n ∧ n < 38424) ∧ row ≠ [] := by
  cases row with
  | nil => exact Or.inl ⟨h, rfl⟩
  | cons x r => exact Or.inr ⟨h.1, by simp⟩
def Tw_first : eh_T := eh_R1 fun as σ _ K => ∃ (n : Int) (row : pu_Rw), as = [.inl n] ∧ row ≠ [] ∧ xw_way σ row n ∧ K (some (.inl (pu_first row))) σ
theorem cw_first (l : Launch) (D : va_G) (tc : Nat → ClassId) (ad : Nat → Int → Nat) (h99 : ∀ a : Int, ad 99 a = a.toNat) : eh_M l D tc ad eh_LX yX1_first cX1_first 3 (some .int) 0 Tw_first := by
  refine eh_mk (rb := 0) (nm := eh_nX) (fl := eh_fl1) (kn := eh_kn1) (cs := (fun _ => none)) (ss := (fun _ => none)) (by decide) (eh_worldX h99) eh_fl1_ok eh_kn1_ok (fun _ _ _ h => by cases h) (fun _ _ _ h => by cases h) ?_
  rintro as σ bd K ⟨_, rfl, n, row, rfl, hne, hw, hK⟩
  refine ⟨Nat.le_of_ble_eq_true rfl, fun X hX => ?_⟩
  have key : ∀ (row : pu_Rw) (k : Int) (o1 : Option eh_V), row ≠ [] → xw_way σ row k → K (some (.inl (pu_first row))) σ → X 2 [some (.inr (some (1, 0))), o1, some (.inl k)] [] σ (0, 0) := by
    intro row
    induction row with
    | nil => intro k o1 h; exact absurd rfl h
    | cons x r ih =>
      intro k o1 _ hw hK
      obtain ⟨h1, h2, h3, h4⟩ := hw
      refine bX1_first_2 hX (fun hok => ⟨h1, fun hq => ?_, fun hq => ?_⟩)
      · rcases xw_way_r h4 with ⟨_, rfl⟩ | ⟨h5, _⟩
        · rw [h2]; exact hK
        · omega
      · rcases xw_way_r h4 with ⟨h5, _⟩ | ⟨_, h5⟩
        · exact absurd h5 hq
        · refine ih _ _ h5 h4 ?_
          rw [pu_first_cons h5] at hK
          exact hK
  exact bX1_first_0 hX (fun hok => key row n _ hne hw hK)
def Tw_last : eh_T := eh_R1 fun as σ _ K => ∃ (n s : Int) (row : pu_Rw), as = [.inl n, .inl s] ∧ eh_r s ∧ xw_way σ row n ∧ K (some (.inl (pu_last row s))) σ
theorem cw_last (l : Launch) (D : va_G) (tc : Nat → ClassId) (ad : Nat → Int → Nat) (h99 : ∀ a : Int, ad 99 a = a.toNat) : eh_M l D tc ad eh_LX yX1_last cX1_last 4 (some .int) 0 Tw_last := by
  refine eh_mk (rb := 0) (nm := eh_nX) (fl := eh_fl1) (kn := eh_kn1) (cs := (fun _ => none)) (ss := (fun _ => none)) (by decide) (eh_worldX h99) eh_fl1_ok eh_kn1_ok (fun _ _ _ h => by cases h) (fun _ _ _ h => by cases h) ?_
  rintro as σ bd K ⟨_, rfl, n, s, row, rfl, hs, hw, hK⟩
  refine ⟨Nat.le_of_ble_eq_true rfl, fun X hX => ?_⟩
  unfold eh_r at hs
  have key : ∀ (row : pu_Rw) (k : Int) (o1 : Option eh_V), xw_way σ row k → K (some (.inl (pu_last row s))) σ → X 2 [some (.inr (some (1, 0))), o1, some (.inl s), some (.inl k)] [] σ (0, 0) := by
    intro row
    induction row with
    | nil =>
      intro k o1 hw hK
      have hw : k = -1 := hw
      exact bX1_last_2 hX (fun hok => ⟨by omega, fun _ => hK, fun q => absurd hw q⟩)
    | cons x r ih =>
      intro k o1 hw hK
      obtain ⟨h1, h2, h3, h4⟩ := hw
      rw [pu_last] at hK
      refine bX1_last_2 hX (fun hok => ⟨by omega, fun q => by omega, fun _ => ⟨h1, by omega, fun hq => ?_, fun hq => ?_⟩⟩)
      · rw [if_pos (by rw [← h3]; exact hq)] at hK
        rw [h2]; exact hK
      · rw [if_neg (by rw [← h3]; exact hq)] at hK
        exact ih _ _ h4 hK
  exact bX1_last_0 hX (fun hok => key row n _ hw hK)
def Tw_length : eh_T := eh_R1 fun as σ _ K => ∃ (n : Int) (row : pu_Rw), as = [.inl n] ∧ xw_way σ row n ∧ K (some (.inl (row.length : Int))) σ
theorem cw_length (l : Launch) (D : va_G) (tc : Nat → ClassId) (ad : Nat → Int → Nat) (h99 : ∀ a : Int, ad 99 a = a.toNat) : eh_M l D tc ad eh_LX yX1_length cX1_length 4 (some .int) 0 Tw_length := by
  refine eh_mk (rb := 0) (nm := eh_nX) (fl := eh_fl1) (kn := eh_kn1) (cs := (fun _ => none)) (ss := (fun _ => none)) (by decide) (eh_worldX h99) eh_fl1_ok eh_kn1_ok (fun _ _ _ h => by cases h) (fun _ _ _ h => by cases h) ?_
  rintro as σ bd K ⟨_, rfl, n, row, rfl, hw, hK⟩
  refine ⟨Nat.le_of_ble_eq_true rfl, fun X hX => ?_⟩
  have key : ∀ (row : pu_Rw) (k c : Int) (o1 : Option eh_V), xw_way σ row k → K (some (.inl (c + (row.length : Int)))) σ → X 4 [some (.inr (some (1, 0))), o1, some (.inl c), some (.inl k)] [] σ (0, 0) := by
    intro row
    induction row with
    | nil =>
      intro k c o1 hw hK
      have hw : k = -1 := hw
      refine bX1_length_4 hX (fun hok => ⟨by omega, fun _ => eh_ki hK (by simp), fun q => absurd hw q⟩)
    | cons x r ih =>
      intro k c o1 hw hK
      obtain ⟨h1, h2, h3, h4⟩ := hw
      refine bX1_length_4 hX (fun hok => ⟨by omega, fun q => by omega, fun _ => ⟨h1, ih _ _ _ h4 (eh_ki hK ?_)⟩⟩)
      rw [List.length_cons]
      omega
  exact bX1_length_0 hX (fun hok => key row n 0 _ hw (eh_ki hK (by omega)))
def Tw_count : eh_T := eh_R1 fun as σ _ K => ∃ (n : Int) (row : pu_Rw) (a k : Int), as = [.inl n] ∧ row ≠ [] ∧ pu_rok a k row ∧ xw_way σ row n ∧ K (some (.inl (pu_cnt row (pu_tip row)))) σ
theorem cw_count (l : Launch) (D : va_G) (tc : Nat → ClassId) (ad : Nat → Int → Nat) (h99 : ∀ a : Int, ad 99 a = a.toNat) : eh_M l D tc ad eh_LX yX1_count cX1_count 4 (some .int) 0 Tw_count := by
  refine eh_mk (rb := 0) (nm := eh_nX) (fl := eh_fl1) (kn := eh_kn1) (cs := (fun _ => none)) (ss := (fun _ => none)) (by decide) (eh_worldX h99) eh_fl1_ok eh_kn1_ok (fun _ _ _ h => by cases h) (fun _ _ _ h => by cases h) ?_
  rintro as σ bd K ⟨_, rfl, n, row, a, k0, rfl, hne, hro, hw, hK⟩
  refine ⟨Nat.le_of_ble_eq_true rfl, fun X hX => ?_⟩
  have hn : (0 ≤ n ∧ n < 38424) ∧ σ.2 201 0 n = pu_tip row := by
    cases row with
    | nil => exact absurd rfl hne
    | cons x r => exact ⟨hw.1, hw.2.2.1⟩
  have key : ∀ (r : pu_Rw) (k c : Int), xw_way σ r k → pu_rok a k0 r → (∀ q ∈ r, q.2 ≤ pu_tip row) → K (some (.inl (c + pu_cnt r (pu_tip row)))) σ → X 4 [some (.inr (some (1, 0))), some (.inl n), some (.inl c), some (.inl k)] [] σ (0, 0) := by
    intro r
    induction r with
    | nil =>
      intro k c hw _ _ hK
      have hw : k = -1 := hw
      refine bX1_count_4 hX (fun hok => ⟨by omega, fun _ => eh_ki hK (by simp [pu_cnt]), fun q => absurd hw q⟩)
    | cons x r ih =>
      intro k c hw hro hle hK
      obtain ⟨e, t⟩ := x
      obtain ⟨h1, h2, h3, h4⟩ := hw
      obtain ⟨g1, g2, g3, g4⟩ := hro
      dsimp only at h3
      refine bX1_count_4 hX (fun hok => ?_)
      rw [hn.2, h3]
      refine ⟨by omega, fun q => by omega, fun _ => ⟨h1, hn.1, fun hq => ih _ _ h4 g4 (fun q hq' => hle q (List.mem_cons_of_mem _ hq')) (eh_ki hK ?_), fun hq => eh_ki hK ?_⟩⟩
      · rw [pu_cnt, if_pos hq]
        omega
      · have h5 := hle (e, t) List.mem_cons_self
        dsimp only at h5
        rw [pu_cnt, if_neg hq, pu_cnt_0 (fun q hq' => ?_)]
        · omega
        · have := (g3 q hq').2
          omega
  exact bX1_count_0 hX (fun hok => key row n 0 hw hro (pu_rok_tip hro) (eh_ki hK (by omega)))
def Tw_at : eh_T := eh_R1 fun as σ _ K => ∃ (n : Int) (k : Nat) (row : pu_Rw), as = [.inl n, .inl (k : Int)] ∧ k < row.length ∧ row.length ≤ 1000 ∧ xw_way σ row n ∧ ∀ m, (0 ≤ m ∧ m < 38424) → row[row.length - 1 - k]? = some (σ.2 200 0 m, σ.2 201 0 m) → K (some (.inl m)) σ
theorem cw_at (l : Launch) (D : va_G) (tc : Nat → ClassId) (ad : Nat → Int → Nat) (h99 : ∀ a : Int, ad 99 a = a.toNat) : eh_M l D tc ad eh_LX yX1_at cX1_at 5 (some .int) 1 Tw_at := by
  refine eh_mk (rb := 0) (nm := eh_nX) (fl := eh_fl1) (kn := eh_kn1) (cs := (fun kk => match kk with | 32 => some (2, Tw_length) | _ => none)) (ss := (fun _ => none)) (by decide) (eh_worldX h99) eh_fl1_ok eh_kn1_ok (fun kk n T h => by
    split at h
    · cases h; exact eh_callV (c0 := 1) (cw_length l D tc ad h99) q448 q391 q392 q46 q393 (by decide +kernel) (by decide) (by decide) (by decide) rfl (eh_worldX h99) (fun _ _ _ _ h => eh_R1_rec h)
    · cases h) (fun _ _ _ h => by cases h) ?_
  rintro as σ bd K ⟨_, rfl, n, k, row, rfl, hk, hl, hw, hK⟩
  refine ⟨Nat.le_of_ble_eq_true rfl, fun X hX => ?_⟩
  have key : ∀ (r : pu_Rw) (c : Int) (o1 : Option eh_V), r.length ≤ 1000 → k < r.length → xw_way σ r c → (∀ m, (0 ≤ m ∧ m < 38424) → r[r.length - 1 - k]? = some (σ.2 200 0 m, σ.2 201 0 m) → K (some (.inl m)) σ) → X 11 [some (.inr (some (1, 0))), o1, some (.inl (k : Int)), some (.inl c), some (.inl ((r.length : Int) - 1))] [] σ (0, 0) := by
    intro r
    induction r with
    | nil => intro c o1 _ h; exact absurd h (Nat.not_lt_zero _)
    | cons x r ih =>
      intro c o1 hl hk hw hK
      obtain ⟨h1, h2, h3, h4⟩ := hw
      rw [List.length_cons] at hl hk
      refine bX1_at_11 hX (fun hok => ?_)
      rw [List.length_cons]
      refine ⟨by omega, by omega, fun hq => hK c h1 ?_, fun hq => ⟨h1, ?_⟩⟩
      · rw [List.length_cons, show r.length + 1 - 1 - k = 0 by omega]
        show some x = _
        rw [h2, h3]
      · have := ih (σ.2 202 0 c) o1 (by omega) (by omega) h4 (fun m hm h => hK m hm ?_)
        · rw [show ((r.length + 1 : Nat) : Int) - 1 + -1 = (r.length : Int) - 1 by omega]
          exact this
        · rw [List.length_cons, show r.length + 1 - 1 - k = (r.length - 1 - k) + 1 by omega, List.getElem?_cons_succ]
          exact h
  refine bX1_at_0 hX (T32 := Tw_length) rfl (fun hok => ⟨_, rfl, n, row, rfl, hw, ?_⟩)
  exact bX1_at_7 hX (fun hok => key row n _ hl hk hw hK)
/-! who leads to a node: R (with how often), and the nodes in use themselves -/
def xw_fc (σ : eh_S) : List Int → Int → Prop
  | [], n => n = -1
  | f :: t, n => n = f ∧ xw_fc σ t (σ.2 202 0 f)
def xw_J (σ : eh_S) (R Lv F : List Int) : Prop :=
  Lv.Nodup ∧ F.Nodup ∧ (∀ m ∈ F, m ∉ Lv) ∧ (∀ m ∈ F, 0 ≤ m ∧ m < σ.1 205 0) ∧ (∀ m ∈ Lv, 0 ≤ m ∧ m < σ.1 205 0) ∧ σ.1 205 0 = ((F.length + Lv.length : Nat) : Int) ∧ σ.1 205 0 ≤ 38424 ∧ xw_fc σ F (σ.1 204 0) ∧
  (∀ m ∈ Lv, σ.2 203 0 m = ((R ++ Lv.map (σ.2 202 0)).count m : Int) ∧ 1 ≤ (R ++ Lv.map (σ.2 202 0)).count m ∧ (σ.2 202 0 m = -1 ∨ σ.2 202 0 m ∈ Lv ∧ σ.2 200 0 (σ.2 202 0 m) < σ.2 200 0 m) ∧ (0 ≤ σ.2 200 0 m ∧ σ.2 200 0 m < 1000)) ∧
  ∀ r ∈ R, r = -1 ∨ r ∈ Lv
def xw_I (σ : eh_S) (R : List Int) : Prop := ∃ Lv F : List Int, xw_J σ R Lv F
theorem xw_fc_same {σ σ' : eh_S} : ∀ {F : List Int} {n : Int}, (∀ m ∈ F, σ'.2 202 0 m = σ.2 202 0 m) → xw_fc σ F n → xw_fc σ' F n := by
  intro F
  induction F with
  | nil => intro n _ h; exact h
  | cons f t ih =>
    intro n hs h
    refine ⟨h.1, ?_⟩
    rw [hs f List.mem_cons_self]
    exact ih (fun m hm => hs m (List.mem_cons_of_mem _ hm)) h.2
theorem xw_I_perm {σ : eh_S} {R R' : List Int} (h : xw_I σ R) (hp : R.Perm R') : xw_I σ R' := by
  obtain ⟨Lv, F, a1, a2, a3, a4, a5, a6, a7, a8, a9, a10⟩ := h
  refine ⟨Lv, F, a1, a2, a3, a4, a5, a6, a7, a8, fun m hm => ?_, fun r hr => a10 r (hp.symm.subset hr)⟩
  obtain ⟨b1, b2, b3, b4⟩ := a9 m hm
  have e : (R' ++ Lv.map (σ.2 202 0)).count m = (R ++ Lv.map (σ.2 202 0)).count m := by rw [List.count_append, List.count_append, hp.count_eq]
  exact ⟨by rw [e]; exact b1, by rw [e]; exact b2, b3, b4⟩
theorem xw_I_fr {SV SA : List Nat} {σ σ' : eh_S} {R : List Int} (h : xw_I σ R) (hf : eh_fr SV SA σ σ') (hd : ∀ c ∈ [200, 201, 202, 203], c ∉ SA) (h4 : 204 ∉ SV) (h5 : 205 ∉ SV) : xw_I σ' R := by
  obtain ⟨Lv, F, a1, a2, a3, a4, a5, a6, a7, a8, a9, a10⟩ := h
  have e0 := hf.2 200 (hd 200 (by decide))
  have e2 := hf.2 202 (hd 202 (by decide))
  have e3 := hf.2 203 (hd 203 (by decide))
  refine ⟨Lv, F, a1, a2, a3, ?_, ?_, ?_, ?_, ?_, ?_, a10⟩
  · rw [hf.1 205 h5]; exact a4
  · rw [hf.1 205 h5]; exact a5
  · rw [hf.1 205 h5]; exact a6
  · rw [hf.1 205 h5]; exact a7
  · rw [hf.1 204 h4]; exact xw_fc_same (fun m _ => by rw [e2]) a8
  · rw [e0, e2, e3]; exact a9
/-- ways of nodes in use stay while their nodes stay -/
theorem xw_way_keep {σ σ' : eh_S} {Lv : List Int} (hc : ∀ m ∈ Lv, σ.2 202 0 m = -1 ∨ σ.2 202 0 m ∈ Lv) (hs : ∀ m ∈ Lv, σ'.2 200 0 m = σ.2 200 0 m ∧ σ'.2 201 0 m = σ.2 201 0 m ∧ σ'.2 202 0 m = σ.2 202 0 m) : ∀ {row : pu_Rw} {n : Int}, (n = -1 ∨ n ∈ Lv) → xw_way σ row n → xw_way σ' row n := by
  intro row
  induction row with
  | nil => intro n _ h; exact h
  | cons x r ih =>
    intro n hn h
    obtain ⟨h1, h2, h3, h4⟩ := h
    rcases hn with hn | hn
    · omega
    · obtain ⟨s0, s1, s2⟩ := hs n hn
      refine ⟨h1, by rw [s0]; exact h2, by rw [s1]; exact h3, ?_⟩
      rw [s2]
      exact ih (hc n hn) h4
def Tw_leave : eh_T := eh_R1 fun as σ _ K => ∃ (n : Int) (R : List Int), as = [.inl n] ∧ xw_I σ (n :: R) ∧ R.length ≤ 100000 ∧ ∀ σ', eh_fr [204] [202, 203] σ σ' → xw_I σ' R → (∀ r ∈ R, ∀ row, xw_way σ row r → xw_way σ' row r) → K none σ'
theorem cw_leave (l : Launch) (D : va_G) (tc : Nat → ClassId) (ad : Nat → Int → Nat) (h99 : ∀ a : Int, ad 99 a = a.toNat) : eh_M l D tc ad eh_LX yX1_leave cX1_leave 4 none 0 Tw_leave := by
  refine eh_mk (rb := 2) (nm := eh_nX) (fl := eh_fl1) (kn := eh_kn1) (cs := (fun _ => none)) (ss := (fun _ => none)) (by decide) (eh_worldX h99) eh_fl1_ok eh_kn1_ok (fun _ _ _ h => by cases h) (fun _ _ _ h => by cases h) ?_
  rintro as σ bd K ⟨_, rfl, n, R, rfl, hI, hRl, hK⟩
  refine ⟨Nat.le_of_ble_eq_true rfl, fun X hX => ?_⟩
  have key : ∀ (b : Nat) (σ' : eh_S) (k : Int) (o1 o3 : Option eh_V) (Lv F : List Int), Lv.length < b → xw_J σ' (k :: R) Lv F → eh_fr [204] [202, 203] σ σ' → (∀ r ∈ R, ∀ row, xw_way σ row r → xw_way σ' row r) → X 2 [some (.inr (some (1, 0))), o1, some (.inl k), o3] [] σ' (0, 0) := by
    intro b
    induction b with
    | zero => intro σ' k o1 o3 Lv F h; exact absurd h (Nat.not_lt_zero _)
    | succ b ih =>
      intro σ' k o1 o3 Lv F hb hJ hf hw
      obtain ⟨a1, a2, a3, a4, a5, a6, a7, a8, a9, a10⟩ := hJ
      rcases a10 k List.mem_cons_self with hk | hk
      · refine bX1_leave_2 hX (fun hok => ⟨by omega, fun _ => hK σ' hf ⟨Lv, F, a1, a2, a3, a4, a5, a6, a7, a8, fun m hm => ?_, fun r hr => a10 r (List.mem_cons_of_mem _ hr)⟩ hw, fun q => absurd hk q⟩)
        obtain ⟨b1, b2, b3, b4⟩ := a9 m hm
        have e : (k :: R ++ Lv.map (σ'.2 202 0)).count m = (R ++ Lv.map (σ'.2 202 0)).count m := by
          rw [List.cons_append, List.count_cons, if_neg (by have := a5 m hm; simp; omega), Nat.add_zero]
        rw [e] at b1 b2
        exact ⟨b1, b2, b3, b4⟩
      · obtain ⟨b1, b2, b3, b4⟩ := a9 k hk
        have hkr := a5 k hk
        have ek : (k :: R ++ Lv.map (σ'.2 202 0)).count k = (R ++ Lv.map (σ'.2 202 0)).count k + 1 := by
          rw [List.cons_append, List.count_cons_self]
        rw [ek] at b1
        have hcl := List.count_le_length (a := k) (l := R ++ Lv.map (σ'.2 202 0))
        rw [List.length_append, List.length_map] at hcl
        have hLvl : (Lv.length : Int) ≤ 38424 := by omega
        refine bX1_leave_2 hX (fun hok => ⟨by omega, fun q => by omega, fun _ => ⟨by omega, by omega, fun h0 => ?_, fun h0 => ?_⟩⟩)
        · have h00 : (R ++ Lv.map (σ'.2 202 0)).count k = 0 := by omega
          have hnk := List.count_eq_zero.mp h00
          have hnR : k ∉ R := fun q => hnk (List.mem_append_left _ q)
          have hnB : ∀ m ∈ Lv, σ'.2 202 0 m ≠ k := fun m hm q => hnk (List.mem_append_right _ (List.mem_map.mpr ⟨m, hm, q⟩))
          have hme : ∀ m, m ∈ Lv.erase k ↔ m ≠ k ∧ m ∈ Lv := fun m => a1.mem_erase_iff
          have hkF : k ∉ F := fun q => a3 k q hk
          have hbk : σ'.2 202 0 k = -1 ∨ σ'.2 202 0 k ∈ Lv.erase k := by
            rcases b3 with b3 | b3
            · exact Or.inl b3
            · exact Or.inr ((hme _).mpr ⟨hnB k hk, b3.1⟩)
          generalize hσ2 : eh_sV (eh_sA (eh_sA σ' 203 0 k ((σ'.2 203 0 k) - 1)) 202 0 k (σ'.1 204 0)) 204 0 k = σ2
          have e200 : σ2.2 200 = σ'.2 200 := by rw [← hσ2, eh_sV_2, eh_sA_c (by decide), eh_sA_c (by decide)]
          have e201 : σ2.2 201 = σ'.2 201 := by rw [← hσ2, eh_sV_2, eh_sA_c (by decide), eh_sA_c (by decide)]
          have e202 : ∀ m, m ≠ k → σ2.2 202 0 m = σ'.2 202 0 m := fun m hm => by rw [← hσ2, eh_sV_2, eh_sA_n hm, eh_sA_c (by decide)]
          have e202k : σ2.2 202 0 k = σ'.1 204 0 := by rw [← hσ2, eh_sV_2, eh_sA_p]
          have e203 : ∀ m, m ≠ k → σ2.2 203 0 m = σ'.2 203 0 m := fun m hm => by rw [← hσ2, eh_sV_2, eh_sA_c (by decide), eh_sA_n hm]
          have e204 : σ2.1 204 0 = k := by rw [← hσ2, eh_sV_p]
          have e205 : σ2.1 205 = σ'.1 205 := by rw [← hσ2, eh_sV_v (by decide)]; rfl
          have hf2 : eh_fr [204] [202, 203] σ σ2 := by
            rw [← hσ2]
            exact eh_fr_sV (eh_fr_sA (eh_fr_sA hf (by decide)) (by decide)) (by decide)
          have hmap : (Lv.erase k).map (σ2.2 202 0) = (Lv.erase k).map (σ'.2 202 0) := List.map_congr_left (fun m hm => e202 m ((hme m).mp hm).1)
          have hcnt : ∀ m, (Lv.map (σ'.2 202 0)).count m = (σ'.2 202 0 k :: (Lv.erase k).map (σ'.2 202 0)).count m := fun m => by
            have := ((List.perm_cons_erase hk).map (σ'.2 202 0)).count_eq m
            rw [List.map_cons] at this
            exact this
          have hlen : (Lv.erase k).length = Lv.length - 1 := List.length_erase_of_mem hk
          have hpos : 0 < Lv.length := List.length_pos_of_mem hk
          refine ih σ2 (σ'.2 202 0 k) o1 _ (Lv.erase k) (k :: F) (by omega) ⟨a1.erase k, List.nodup_cons.mpr ⟨hkF, a2⟩, fun m hm => ?_, fun m hm => ?_, fun m hm => ?_, ?_, ?_, ⟨e204, ?_⟩, fun m hm => ?_, fun r hr => ?_⟩ hf2 (fun r hr row h => ?_)
          · rw [hme]
            rcases List.mem_cons.mp hm with rfl | hm
            · exact fun q => q.1 rfl
            · exact fun q => a3 m hm q.2
          · rw [e205]
            rcases List.mem_cons.mp hm with rfl | hm
            · exact hkr
            · exact a4 m hm
          · rw [e205]; exact a5 m ((hme m).mp hm).2
          · rw [e205, a6, hlen, List.length_cons]
            omega
          · rw [e205]; exact a7
          · rw [e202k]
            exact xw_fc_same (fun m hm => e202 m (fun q => hkF (q ▸ hm))) a8
          · obtain ⟨hmk, hmL⟩ := (hme m).mp hm
            obtain ⟨c1, c2, c3, c4⟩ := a9 m hmL
            have ec : (σ'.2 202 0 k :: R ++ (Lv.erase k).map (σ2.2 202 0)).count m = (k :: R ++ Lv.map (σ'.2 202 0)).count m := by
              rw [hmap, List.cons_append, List.cons_append, List.count_cons, List.count_cons, List.count_append, List.count_append, hcnt m, List.count_cons, if_neg (show ¬ (k == m) = true by simp; exact fun q => hmk q.symm)]
              omega
            rw [ec, e203 m hmk, e202 m hmk, e200]
            refine ⟨c1, c2, ?_, c4⟩
            rcases c3 with c3 | c3
            · exact Or.inl c3
            · exact Or.inr ⟨(hme _).mpr ⟨hnB m hmL, c3.1⟩, c3.2⟩
          · rcases List.mem_cons.mp hr with rfl | hr
            · exact hbk
            · rcases a10 r (List.mem_cons_of_mem _ hr) with h | h
              · exact Or.inl h
              · exact Or.inr ((hme r).mpr ⟨fun q => hnR (q ▸ hr), h⟩)
          · refine xw_way_keep (Lv := Lv.erase k) (fun m hm => ?_) (fun m hm => ?_) ?_ (hw r hr row h)
            · obtain ⟨hmk, hmL⟩ := (hme m).mp hm
              rcases (a9 m hmL).2.2.1 with c3 | c3
              · exact Or.inl c3
              · exact Or.inr ((hme _).mpr ⟨hnB m hmL, c3.1⟩)
            · rw [e200, e201]
              exact ⟨rfl, rfl, e202 m ((hme m).mp hm).1⟩
            · rcases a10 r (List.mem_cons_of_mem _ hr) with h | h
              · exact Or.inl h
              · exact Or.inr ((hme r).mpr ⟨fun q => hnR (q ▸ hr), h⟩)
        · have hf2 : eh_fr [] [203] σ' (eh_sA σ' 203 0 k ((σ'.2 203 0 k) - 1)) := eh_fr_sA eh_fr_rf (by decide)
          refine hK _ (eh_fr_sA hf (by decide)) ⟨Lv, F, a1, a2, a3, a4, a5, a6, a7, ?_, fun m hm => ?_, fun r hr => a10 r (List.mem_cons_of_mem _ hr)⟩ (fun r hr row h => xw_way_fr hf2 (by decide) (hw r hr row h))
          · exact xw_fc_same (fun m _ => by rw [eh_sA_c (by decide)]) a8
          · obtain ⟨c1, c2, c3, c4⟩ := a9 m hm
            rw [hf2.2 202 (by decide), hf2.2 200 (by decide)]
            by_cases hmk : m = k
            · subst hmk
              rw [eh_sA_p]
              exact ⟨by omega, by omega, c3, c4⟩
            · have e : (k :: R ++ Lv.map (σ'.2 202 0)).count m = (R ++ Lv.map (σ'.2 202 0)).count m := by
                rw [List.cons_append, List.count_cons, if_neg (by simp; exact fun q => hmk q.symm), Nat.add_zero]
              rw [e] at c1 c2
              rw [eh_sA_n hmk]
              exact ⟨c1, c2, c3, c4⟩
  obtain ⟨Lv, F, hJ⟩ := hI
  exact bX1_leave_0 hX (fun hok => key (Lv.length + 1) σ n _ _ Lv F (Nat.lt_succ_self _) hJ eh_fr_rf (fun _ _ _ h => h))
