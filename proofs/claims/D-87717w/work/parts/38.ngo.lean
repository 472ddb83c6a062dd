/-! EventHunter.Plain: all rows -/
def pp_sum (f : Int → Int) : Nat → Int → Int
  | 0, _ => 0
  | k + 1, a => f a + pp_sum f k (a + 1)
noncomputable def pp_if (Q : Prop) (x : Int) : Int := by classical exact if Q then x else 0
theorem pp_if_t {Q : Prop} {x : Int} (h : Q) : pp_if Q x = x := by unfold pp_if; exact if_pos h
theorem pp_if_f {Q : Prop} {x : Int} (h : ¬ Q) : pp_if Q x = 0 := by unfold pp_if; exact if_neg h
theorem pp_sum_z {f : Int → Int} : ∀ (k : Nat) (a : Int), (∀ i, a ≤ i → i < a + k → f i = 0) → pp_sum f k a = 0 := by
  intro k
  induction k with
  | zero => intro a _; rfl
  | succ k ih =>
    intro a h
    rw [pp_sum, h a (by omega) (by omega), ih (a + 1) (fun i h1 h2 => h i (by omega) (by omega))]
    rfl
theorem pp_sum_skip {f : Int → Int} : ∀ (d k : Nat) (a : Int), (∀ i, a ≤ i → i < a + d → f i = 0) → pp_sum f (d + k) a = pp_sum f k (a + d) := by
  intro d
  induction d with
  | zero => intro k a _; rw [Nat.zero_add]; congr 1; omega
  | succ d ih =>
    intro k a h
    rw [show d + 1 + k = (d + k) + 1 by omega, pp_sum, h a (by omega) (by omega), ih k (a + 1) (fun i h1 h2 => h i (by omega) (by omega))]
    rw [Int.zero_add]
    congr 1
    omega
/-- whether a row may go on with event e to step s -/
def pp_may (E P : Nat → Int → Int) (row : pu_Rw) (e s : Int) : Prop := (0 ≤ s ∧ s < P 5 0) ∧ P 0 s ≠ 3 ∧ pu_fits E P row s e = true ∧ pu_key E P (pu_first row) e = true ∧ E 1 e - E 1 (pu_first row) ≤ P 7 0 ∧ (s = pu_tip row ∧ P 0 s = 1 ∧ pu_cnt row s < 4 ∨ pu_tip row < s ∧ pp_leads E P row s e)
noncomputable def pp_go (E P : Nat → Int → Int) (n : Int) : Nat → pu_Rw → Int
  | 0, _ => 0
  | k + 1, row => bz (pu_wh P (pu_tip row) = true) + pp_sum (fun e => pp_sum (fun s => pp_if (pp_may E P row e s) (pp_go E P n k ((e, s) :: row))) 6 0) (n - (pu_head row + 1)).toNat (pu_head row + 1)
theorem pu_rok_lo {n m k : Int} {row : pu_Rw} (h : pu_rok n k row) (hm : ∀ q ∈ row, q.1 < m) : pu_rok m k row := by
  induction row with
  | nil => trivial
  | cons x r ih =>
    obtain ⟨e, s⟩ := x
    obtain ⟨h1, h2, h3, h4⟩ := h
    exact ⟨⟨h1.1, hm (e, s) List.mem_cons_self⟩, h2, h3, ih h4 (fun q hq => hm q (List.mem_cons_of_mem _ hq))⟩
theorem pu_rok_head {n k : Int} {row : pu_Rw} (h : pu_rok n k row) : ∀ q ∈ row, q.1 ≤ pu_head row := by
  cases row with
  | nil => intro q hq; cases hq
  | cons x r =>
    intro q hq
    rcases List.mem_cons.mp hq with rfl | hq
    · exact Int.le_refl _
    · exact Int.le_of_lt (h.2.2.1 q hq).1
theorem pu_gd_lo {P : Nat → Int → Int} {n e : Int} {row : pu_Rw} (h : pu_gd P n row) (he : pu_head row < e) : pu_gd P e row := ⟨h.1, pu_rok_lo h.2.1 (fun q hq => by have := pu_rok_head h.2.1 q hq; omega), h.2.2⟩
theorem pu_gd_head {P : Nat → Int → Int} {n : Int} {row : pu_Rw} (h : pu_gd P n row) : 0 ≤ pu_head row ∧ pu_head row < n := by
  have hm := pu_gd_mem h
  cases row with
  | nil => exact absurd rfl h.1
  | cons x r => exact hm x List.mem_cons_self
theorem pu_gd_consS {P : Nat → Int → Int} {row : pu_Rw} {e s : Int} (h : pu_gd P e row) (he : 0 ≤ e) (hs : (pu_tip row < s ∧ s < P 5 0 ∧ P 0 s ≠ 3) ∨ (s = pu_tip row ∧ P 0 s = 1 ∧ pu_cnt row s < 4)) : pu_gd P (e + 1) ((e, s) :: row) := by
  have ht := pu_gd_tip h
  have hr := pu_rok_tip h.2.1
  have hm := pu_gd_mem h
  refine ⟨by simp, ⟨⟨he, by omega⟩, ⟨by omega, by omega⟩, fun q hq => ⟨(hm q hq).2, ?_⟩, pu_rok_up h.2.1 (by omega)⟩, fun q hq => ?_, fun t => ?_⟩
  · have := hr q hq
    omega
  · rcases List.mem_cons.mp hq with rfl | hq
    · dsimp only
      omega
    · exact h.2.2.1 q hq
  · rw [pu_cnt]
    split
    · rename_i hst
      subst hst
      rcases hs with hs | hs
      · rw [pu_cnt_0 (fun q hq => ?_)]
        · omega
        · have := hr q hq
          omega
      · omega
    · have := h.2.2.2 t
      omega
theorem pp_may_gd {E P : Nat → Int → Int} {row : pu_Rw} {n e s : Int} (h : pp_may E P row e s) (hg : pu_gd P n row) (he : pu_head row < e) (hn : e < n) : pu_gd P n ((e, s) :: row) := by
  obtain ⟨h1, h2, h3, h4, h5, h6⟩ := h
  have hh := pu_gd_head hg
  refine pu_gd_up (pu_gd_consS (pu_gd_lo hg he) (by omega) ?_) (show e + 1 ≤ n by omega)
  rcases h6 with h6 | h6
  · exact Or.inr h6
  · exact Or.inl ⟨h6.1, h1.2, h2⟩
theorem eh_wr_add (a b : Int) : eh_wr (eh_wr a + b) = eh_wr (a + b) := by
  unfold eh_wr
  rw [show eh_i ((eh_i a).toInt + b) = eh_i a + eh_i b by rw [← eh_i_add, eh_i_of], eh_i_add]
def Tn_go (k : Nat) : eh_T := eh_R2 fun as σ _ K => ∃ (n q c : Int) (E P : Nat → Int → Int) (row : pu_Rw), as = [.inl (row.length : Int)] ∧ 0 < k ∧ row.length + k = 13 ∧ nc_C σ q E P n ∧ nc_row σ row ∧ pu_gd P n row ∧ n - pu_head row ≤ k ∧ σ.1 303 0 = eh_wr c ∧ ∀ σ', eh_fr [303] [300, 301] σ σ' → (∀ j : Int, j < row.length → σ'.2 300 0 j = σ.2 300 0 j ∧ σ'.2 301 0 j = σ.2 301 0 j) → σ'.1 303 0 = eh_wr (c + pp_go E P n k row) → K none σ'
theorem cn_go (l : Launch) (D : va_G) (tc : Nat → ClassId) (ad : Nat → Int → Nat) (h99 : ∀ a : Int, ad 99 a = a.toNat) : ∀ k : Nat, eh_M l D tc ad eh_LX yX2_go cX2_go 6 none (10 + k) (Tn_go k) := by
  intro k
  induction k with
  | zero =>
    rintro as σ bd K ⟨_, rfl, n, q, c, E, P, row, rfl, h0, h⟩
    exact absurd h0 (Nat.lt_irrefl _)
  | succ k ih =>
  refine eh_mk (rb := 2) (nm := eh_nX) (fl := eh_fl2) (kn := eh_kn2) (cs := (fun kk => match kk with | 38 => some (4, Tn_fits) | 42 => some (2, (Tn_go k)) | 78 => some (3, Tp_hasKey) | 81 => some (2, Tn_isWhole) | 91 => some (2, Tn_takes) | 95 => some (4, Tn_leads) | _ => none)) (ss := (fun _ => none)) (by decide) (eh_worldX h99) eh_fl2_ok eh_kn2_ok (fun kk n T h => by
    split at h
    · cases h; exact eh_callV (c0 := 2) (cn_fits l D tc ad h99) q465 q467 qs14 q47 q468 (by decide +kernel) (by omega) (by decide) (by decide) rfl (eh_worldX h99) (fun _ _ _ _ h => eh_R2_rec h)
    · cases h; exact eh_callV (c0 := 2) (ih) q474 q476 qs16 q47 q477 (by decide +kernel) (by omega) (by decide) (by decide) rfl (eh_worldX h99) (fun _ _ _ _ h => eh_R2_rec h)
    · cases h; exact eh_callV (c0 := 3) (cp_hasKey l D tc ad h99) q482 q343 q344 q48 q345 (by decide +kernel) (by omega) (by decide) (by decide) rfl (eh_worldX h99) (fun _ _ _ _ h => eh_R3_rec h)
    · cases h; exact eh_callV (c0 := 2) (cn_isWhole l D tc ad h99) q478 q480 qs17 q47 q481 (by decide +kernel) (by omega) (by decide) (by decide) rfl (eh_worldX h99) (fun _ _ _ _ h => eh_R2_rec h)
    · cases h; exact eh_callV (c0 := 2) (cn_takes l D tc ad h99) q483 q485 qs18 q47 q486 (by decide +kernel) (by omega) (by decide) (by decide) rfl (eh_worldX h99) (fun _ _ _ _ h => eh_R2_rec h)
    · cases h; exact eh_callV (c0 := 2) (cn_leads l D tc ad h99) q487 q489 qs19 q47 q490 (by decide +kernel) (by omega) (by decide) (by decide) rfl (eh_worldX h99) (fun _ _ _ _ h => eh_R2_rec h)
    · cases h) (fun _ _ _ h => by cases h) ?_
  rintro as σ bd K ⟨_, rfl, n, q, c, E, P, row, rfl, h0k, hlk, hN, hr, hg, hnk, hc, hK⟩
  refine ⟨Nat.le_of_ble_eq_true rfl, fun X hX => ?_⟩
  have hC := hN.2.1
  have hq := hC.1
  have hpo := hC.2.2.2
  have heo := hC.2.1.2.2
  have hn := hC.2.1.1
  have h5 := hpo.1
  have hpos : 0 < row.length := List.length_pos_iff.mpr hg.1
  have htip := pu_gd_tip hg
  have hfst := pu_gd_first hg
  have hmem := pu_gd_mem hg
  have hhd := pu_gd_head hg
  have hcn := pu_cnt_nn row (pu_tip row)
  have r2 := (heo.2 (pu_first row) hfst.1 hfst.2).2
  rw [pp_go] at hK
  -- the steps, one by one
  have keyS : ∀ (m : Nat) (σ' : eh_S) (c' e s : Int) (o5 : Option eh_V), (pu_head row < e ∧ e < n) → row.length < 12 → pu_key E P (pu_first row) e = true → E 1 e - E 1 (pu_first row) ≤ P 7 0 → (pu_tip row ≤ s ∧ s + m = 6) → eh_fr [303] [300, 301] σ σ' → (∀ j : Int, j < row.length → σ'.2 300 0 j = σ.2 300 0 j ∧ σ'.2 301 0 j = σ.2 301 0 j) → σ'.1 303 0 = eh_wr c' → (∀ (σ'' : eh_S) (o4 o5 : Option eh_V), eh_fr [303] [300, 301] σ σ'' → (∀ j : Int, j < row.length → σ''.2 300 0 j = σ.2 300 0 j ∧ σ''.2 301 0 j = σ.2 301 0 j) → σ''.1 303 0 = eh_wr (c' + pp_sum (fun s => pp_if (pp_may E P row e s) (pp_go E P n k ((e, s) :: row))) m s) → X 52 [some (.inr (some (2, 0))), some (.inl (row.length : Int)), some (.inl (pu_tip row)), some (.inl (e + 1)), o4, o5] [] σ'' (0, 0)) → X 120 [some (.inr (some (2, 0))), some (.inl (row.length : Int)), some (.inl (pu_tip row)), some (.inl e), some (.inl s), o5] [] σ' (0, 0) := by
    intro m
    induction m with
    | zero =>
      intro σ' c' e s o5 he h12 hkey hwi hs hf hsame hc' hcont
      have hN' := nc_C_fr hN hf (by decide) (by decide)
      have e5 := xc_steps hN'.2.1
      refine bX2_go_120 hX (T91 := Tn_takes) (T95 := Tn_leads) rfl rfl (fun hok => ?_)
      rw [hN'.1, e5]
      exact ⟨hq, by omega, fun _ => hcont σ' _ _ hf hsame (by rw [hc']; congr 1; simp [pp_sum]), fun h => by omega⟩
    | succ m ih =>
      intro σ' c' e s o5 he h12 hkey hwi hs hf hsame hc' hcont
      have hN' := nc_C_fr hN hf (by decide) (by decide)
      have hC' := hN'.2.1
      have e5 := xc_steps hC'
      have hr' : nc_row σ' row := by
        unfold nc_row
        rw [pu_rowL_congr (f' := σ.2 300 0) (g' := σ.2 301 0) (fun k h0 h1 => hsame k (by omega))]
        exact hr
      have skip : ∀ o5 : Option eh_V, ¬ pp_may E P row e s → X 220 [some (.inr (some (2, 0))), some (.inl (row.length : Int)), some (.inl (pu_tip row)), some (.inl e), some (.inl s), o5] [] σ' (0, 0) := by
        intro o5 hnm
        refine bX2_go_220 hX (fun hok => ih σ' c' e (s + 1) _ he h12 hkey hwi (by omega) hf hsame hc' (fun σ'' o4 o5 a b d => hcont σ'' o4 o5 a b ?_))
        rw [d, pp_sum, pp_if_f hnm]
        congr 1
        omega
      by_cases hs5 : s < P 5 0
      · have hvs := xc_sort hC' (show 0 ≤ s by omega) hs5
        -- it leads on: fits?
        have go177 : ∀ (v : Int) (o5 : Option eh_V), (v = 0 ∨ v = 1) → (v = 0 → ¬ pp_may E P row e s) → (v = 1 → pu_fits E P row s e = true → pp_may E P row e s) → X 177 [some (.inr (some (2, 0))), some (.inl (row.length : Int)), some (.inl (pu_tip row)), some (.inl e), some (.inl s), o5] [.inl v] σ' (0, 0) := by
          intro v o5 hv hv0 hv1
          refine bX2_go_177 hX (T38 := Tn_fits) rfl (fun hok => ⟨by omega, fun h => skip _ (hv0 h), fun h => ?_⟩)
          refine ⟨_, rfl, s, e, n, q, E, P, row, rfl, hN', by omega, by omega, by omega, hr', hmem, ?_⟩
          refine bX2_go_192 hX (T42 := Tn_go k) rfl (fun hok => ⟨bz_r _, fun h1 => skip _ (fun hm => bz_0.mp h1 hm.2.2.1), fun h1 => ⟨by omega, by omega, by omega, ?_⟩⟩)
          have hmay := hv1 (by omega) (bz_n.mp h1)
          have hg' := pp_may_gd hmay hg he.1 he.2
          have hf1 : eh_fr [] [300, 301] σ' (eh_sA (eh_sA σ' 300 0 (row.length : Int) e) 301 0 (row.length : Int) s) := eh_fr_sA (eh_fr_sA eh_fr_rf (by decide)) (by decide)
          refine ⟨_, rfl, n, q, c', E, P, (e, s) :: row, by rw [List.length_cons]; simp, by omega, by rw [List.length_cons]; omega, nc_C_fr hN' hf1 (by decide) (by decide), ?_, hg', by show n - e ≤ (k : Int); omega, by rw [hf1.1 303 (by decide)]; exact hc', fun σ2 hf2 hs2 hc2 => ?_⟩
          · unfold nc_row
            rw [List.length_cons, pu_rowL, eh_sA_c (by decide), eh_sA_p, eh_sA_p]
            congr 1
            rw [pu_rowL_congr (f' := σ'.2 300 0) (g' := σ'.2 301 0) (fun k h0 h1 => ⟨by rw [eh_sA_n (by omega)], by rw [eh_sA_n (by omega), eh_sA_c (by decide)]⟩)]
            exact hr'
          · refine bX2_go_220 hX (fun hok => ih σ2 _ e (s + 1) _ he h12 hkey hwi (by omega) (eh_fr_tr hf (eh_fr_tr (eh_fr_up hf1 (by decide) (by decide)) hf2)) (fun j hj => ?_) hc2 (fun σ'' o4 o5 a b d => hcont σ'' o4 o5 a b ?_))
            · have h3 := hs2 j (by rw [List.length_cons]; omega)
              rw [h3.1, h3.2, eh_sA_c (by decide), eh_sA_n (by omega), eh_sA_n (by omega), eh_sA_c (by decide)]
              exact hsame j hj
            · rw [d, pp_sum, pp_if_t hmay]
              congr 1
              omega
        refine bX2_go_120 hX (T91 := Tn_takes) (T95 := Tn_leads) rfl rfl (fun hok => ?_)
        rw [hN'.1, e5, hvs]
        refine ⟨hq, by omega, fun h => by omega, fun _ => ⟨by omega, fun hst => ⟨by omega, fun h1 => ?_, fun h1 => ?_⟩, fun hst => ?_⟩⟩
        · refine ⟨_, rfl, row, n, P 5 0, rfl, hg.1, by omega, hg.2.1, hr', ?_⟩
          refine bX2_go_157 hX (fun hok => ⟨by omega, fun h4 => go177 0 _ (Or.inl rfl) (fun _ hm => ?_) (fun h => by omega), fun h4 => go177 1 _ (Or.inr rfl) (fun h => by omega) (fun _ hft => ⟨by omega, by omega, hft, hkey, hwi, Or.inl ⟨hst, h1, by rw [hst]; omega⟩⟩)⟩)
          rcases hm.2.2.2.2.2 with h | h
          · rw [hst] at h; omega
          · omega
        · refine go177 0 _ (Or.inl rfl) (fun _ hm => ?_) (fun h => by omega)
          rcases hm.2.2.2.2.2 with h | h
          · exact h1 h.2.1
          · omega
        · refine ⟨_, rfl, s, e, n, q, E, P, row, rfl, hN', by omega, by omega, by omega, hr', hg, ?_⟩
          refine go177 _ _ (bz_01 _) (fun h hm => ?_) (fun h hft => ?_)
          · rcases hm.2.2.2.2.2 with h2 | h2
            · exact hst h2.1
            · exact bz_0.mp h h2.2
          · have hl := bz_1.mp h
            exact ⟨by omega, hl.2, hft, hkey, hwi, Or.inr ⟨by omega, hl⟩⟩
      · refine bX2_go_120 hX (T91 := Tn_takes) (T95 := Tn_leads) rfl rfl (fun hok => ?_)
        rw [hN'.1, e5]
        refine ⟨hq, by omega, fun _ => hcont σ' _ _ hf hsame ?_, fun h => by omega⟩
        rw [hc', pp_sum_z _ _ (fun i h1 h2 => pp_if_f (fun hm => ?_)), Int.add_zero]
        have := hm.1.2
        omega
  -- the events, one by one
  have keyE : ∀ (m : Nat) (σ' : eh_S) (c' e : Int) (o4 o5 : Option eh_V), pu_head row < e → row.length < 12 → (n - e).toNat = m → e ≤ 1001 → eh_fr [303] [300, 301] σ σ' → (∀ j : Int, j < row.length → σ'.2 300 0 j = σ.2 300 0 j ∧ σ'.2 301 0 j = σ.2 301 0 j) → σ'.1 303 0 = eh_wr c' → (∀ σ'', eh_fr [303] [300, 301] σ σ'' → (∀ j : Int, j < row.length → σ''.2 300 0 j = σ.2 300 0 j ∧ σ''.2 301 0 j = σ.2 301 0 j) → σ''.1 303 0 = eh_wr (c' + pp_sum (fun e => pp_sum (fun s => pp_if (pp_may E P row e s) (pp_go E P n k ((e, s) :: row))) 6 0) m e) → K none σ'') → X 52 [some (.inr (some (2, 0))), some (.inl (row.length : Int)), some (.inl (pu_tip row)), some (.inl e), o4, o5] [] σ' (0, 0) := by
    intro m
    induction m with
    | zero =>
      intro σ' c' e o4 o5 he h12 hm he2 hf hsame hc' hcont
      have hN' := nc_C_fr hN hf (by decide) (by decide)
      refine bX2_go_52 hX (T78 := Tp_hasKey) rfl (fun hok => ?_)
      rw [hN'.2.2.2]
      exact ⟨by omega, fun _ => hcont σ' hf hsame (by rw [hc']; congr 1; simp [pp_sum]), fun h => by omega⟩
    | succ m ih =>
      intro σ' c' e o4 o5 he h12 hm he2 hf hsame hc' hcont
      have hN' := nc_C_fr hN hf (by decide) (by decide)
      have hC' := hN'.2.1
      have hr' : nc_row σ' row := by
        unfold nc_row
        rw [pu_rowL_congr (f' := σ.2 300 0) (g' := σ.2 301 0) (fun k h0 h1 => hsame k (by omega))]
        exact hr
      obtain ⟨t1, t2, t3⟩ := nc_row_tip hr' hpos
      have hm1 : ∀ j, 0 ≤ j → j < n → σ'.2 102 0 j = E 1 j := fun j h0 h1 => (hC'.2.1.2.1.2.1 j h0 h1).2
      have e400 : σ'.1 400 q = P 7 0 := hC'.2.2.1.2.2.1
      have r1 := (heo.2 e (by omega) (by omega)).2
      have skip : ∀ o4 o5 : Option eh_V, (∀ s, ¬ pp_may E P row e s) → X 52 [some (.inr (some (2, 0))), some (.inl (row.length : Int)), some (.inl (pu_tip row)), some (.inl (e + 1)), o4, o5] [] σ' (0, 0) := by
        intro o4 o5 hnm
        refine ih σ' c' (e + 1) _ _ (by omega) h12 (by omega) (by omega) hf hsame hc' (fun σ'' a b d => hcont σ'' a b ?_)
        rw [d, pp_sum, pp_sum_z _ _ (fun i h1 h2 => pp_if_f (hnm i))]
        congr 1
        omega
      refine bX2_go_52 hX (T78 := Tp_hasKey) rfl (fun hok => ?_)
      rw [hN'.2.2.2, hN'.1, t3, hm1 e (by omega) (by omega), hm1 _ hfst.1 hfst.2, e400]
      refine ⟨by omega, fun h => by omega, fun _ => ⟨by omega, by omega, hq, by omega, fun h => skip _ _ (fun s hm => ?_), fun h => ⟨q, _, rfl, hq, pu_first row, e, n, E, P, rfl, hC', hfst, by omega, ?_⟩⟩⟩
      · have := hm.2.2.2.2.1
        omega
      · refine bX2_go_111 hX (fun hok => ⟨bz_r _, fun h0 => skip _ _ (fun s hm => bz_0.mp h0 hm.2.2.2.1), fun h0 => ?_⟩)
        refine keyS (6 - (pu_tip row).toNat) σ' c' e (pu_tip row) _ (by omega) h12 (bz_n.mp h0) (by omega) (by omega) hf hsame hc' (fun σ'' o4 o5 a b d => ?_)
        refine ih σ'' _ (e + 1) _ _ (by omega) h12 (by omega) (by omega) a b d (fun σ3 a3 b3 d3 => hcont σ3 a3 b3 ?_)
        have hsk := pp_sum_skip (f := fun s => pp_if (pp_may E P row e s) (pp_go E P n k ((e, s) :: row))) (pu_tip row).toNat (6 - (pu_tip row).toNat) 0 (fun i h1 h2 => pp_if_f (fun hm => by rcases hm.2.2.2.2.2 with h | h <;> omega))
        rw [show (pu_tip row).toNat + (6 - (pu_tip row).toNat) = 6 by omega, show (0 : Int) + ((pu_tip row).toNat : Int) = pu_tip row by omega] at hsk
        rw [d3, pp_sum, hsk]
        congr 1
        omega
  obtain ⟨t1, t2, t3⟩ := nc_row_tip hr hpos
  refine bX2_go_0 hX (T81 := Tn_isWhole) rfl (fun hok => ⟨by omega, ?_⟩)
  rw [t1]
  refine ⟨_, rfl, pu_tip row, n, q, E, P, rfl, hN, htip.1, ?_⟩
  have hf1 : eh_fr [303] [] σ (eh_sV σ 303 0 (eh_wr (σ.1 303 0 + 1))) := eh_fr_sV eh_fr_rf (by decide)
  have hz12 : row.length = 12 → (n - (pu_head row + 1)).toNat = 0 := fun h => by omega
  refine bX2_go_12 hX (fun hok => ?_)
  rw [t1, t2]
  refine ⟨bz_r _, fun h0 => ⟨by omega, fun h12 => ?_, fun h12 => ⟨by omega, ?_⟩⟩, fun h0 => ⟨by omega, fun h12 => ?_, fun h12 => ⟨by omega, ?_⟩⟩⟩
  · refine hK σ eh_fr_rf (fun _ _ => ⟨rfl, rfl⟩) ?_
    rw [hz12 (by omega), pp_sum, h0, hc]
    congr 1
    omega
  · refine keyE _ σ c _ _ _ (by omega) (by omega) rfl (by omega) eh_fr_rf (fun _ _ => ⟨rfl, rfl⟩) hc (fun σ'' a b d => hK σ'' a b ?_)
    rw [d, h0]
    congr 1
    omega
  · have h1 : bz (pu_wh P (pu_tip row) = true) = 1 := bz_t (bz_n.mp h0)
    refine hK _ (eh_fr_up hf1 (by decide) (by decide)) (fun _ _ => ⟨rfl, rfl⟩) ?_
    rw [hz12 (by omega), pp_sum, h1, eh_sV_p, hc, eh_wr_add]
    congr 1
  · have h1 : bz (pu_wh P (pu_tip row) = true) = 1 := bz_t (bz_n.mp h0)
    refine keyE _ _ (c + 1) _ _ _ (by omega) (by omega) rfl (by omega) (eh_fr_up hf1 (by decide) (by decide)) (fun _ _ => ⟨rfl, rfl⟩) (by rw [eh_sV_p, hc, eh_wr_add]) (fun σ'' a b d => hK σ'' a b ?_)
    rw [d, h1]
    congr 1
    omega
/-- all rows from event a on -/
noncomputable def pp_all (E P : Nat → Int → Int) (n a : Int) : Int := pp_sum (fun e => pp_if (pu_fits E P [] 0 e = true) (pp_go E P n 12 [(e, 0)])) (n - a).toNat a
def Tn_count : eh_T := eh_R2 fun as σ _ K => ∃ (q n a : Int) (E P : Nat → Int → Int), as = [.inr (some (3, q))] ∧ xc_C σ q E P n ∧ (∀ j, 0 ≤ j → j < P 5 0 → 0 ≤ σ.2 407 q j ∧ σ.2 407 q j ≤ 3) ∧ σ.1 105 0 = n ∧ 0 < P 5 0 ∧ σ.1 411 q = a ∧ (0 ≤ a ∧ a ≤ n) ∧ n - a ≤ 12 ∧ ∀ σ', eh_fr [302, 303] [300, 301] σ σ' → K (some (.inl (eh_wr (pp_all E P n a)))) σ'
theorem cn_count (l : Launch) (D : va_G) (tc : Nat → ClassId) (ad : Nat → Int → Nat) (h99 : ∀ a : Int, ad 99 a = a.toNat) : eh_M l D tc ad eh_LX yX2_count cX2_count 3 (some .int) 24 Tn_count := by
  refine eh_mk (rb := 0) (nm := eh_nX) (fl := eh_fl2) (kn := eh_kn2) (cs := (fun kk => match kk with | 38 => some (4, Tn_fits) | 42 => some (2, (Tn_go 12)) | _ => none)) (ss := (fun _ => none)) (by decide) (eh_worldX h99) eh_fl2_ok eh_kn2_ok (fun kk n T h => by
    split at h
    · cases h; exact eh_callV (c0 := 2) (cn_fits l D tc ad h99) q465 q467 qs14 q47 q468 (by decide +kernel) (by decide) (by decide) (by decide) rfl (eh_worldX h99) (fun _ _ _ _ h => eh_R2_rec h)
    · cases h; exact eh_callV (c0 := 2) (cn_go l D tc ad h99 12) q474 q476 qs16 q47 q477 (by decide +kernel) (by decide) (by decide) (by decide) rfl (eh_worldX h99) (fun _ _ _ _ h => eh_R2_rec h)
    · cases h) (fun _ _ _ h => by cases h) ?_
  rintro as σ bd K ⟨_, rfl, q, n, a, E, P, rfl, hC, hby, h105, h50, h411, ha, hna, hK⟩
  refine ⟨Nat.le_of_ble_eq_true rfl, fun X hX => ?_⟩
  have hq := hC.1
  have hpo := hC.2.2.2
  have hn := hC.2.1.1
  have hf0 : eh_fr [302, 303] [] σ (eh_sV (eh_sV σ 302 0 q) 303 0 0) := eh_fr_sV (eh_fr_sV eh_fr_rf (by decide)) (by decide)
  have hN0 : nc_C (eh_sV (eh_sV σ 302 0 q) 303 0 0) q E P n := ⟨by rw [eh_sV_v (by decide), eh_sV_p], xc_C_fr hC hf0 (by decide) (by decide), hby, by rw [hf0.1 105 (by decide)]; exact h105⟩
  have h00 : (eh_sV (eh_sV σ 302 0 q) 303 0 0).1 303 0 = eh_wr 0 := by rw [eh_sV_p]; rfl
  refine bX2_count_0 hX hq (fun hok => ?_)
  rw [h411]
  generalize eh_sV (eh_sV σ 302 0 q) 303 0 0 = σ0 at hf0 hN0 h00
  have key : ∀ (m : Nat) (σ' : eh_S) (c e : Int) (o1 : Option eh_V), (0 ≤ e ∧ a ≤ e ∧ e ≤ n) → (n - e).toNat = m → eh_fr [303] [300, 301] σ0 σ' → σ'.1 303 0 = eh_wr c → eh_wr (c + pp_sum (fun e => pp_if (pu_fits E P [] 0 e = true) (pp_go E P n 12 [(e, 0)])) m e) = eh_wr (pp_all E P n a) → X 18 [some (.inr (some (2, 0))), o1, some (.inl e)] [] σ' (0, 0) := by
    intro m
    induction m with
    | zero =>
      intro σ' c e o1 he hm hf hc heq
      have hN' := nc_C_fr hN0 hf (by decide) (by decide)
      refine bX2_count_18 hX (T38 := Tn_fits) rfl (fun hok => ?_)
      rw [hN'.2.2.2]
      refine ⟨by omega, fun _ => ?_, fun h => by omega⟩
      rw [hc, show c = c + pp_sum (fun e => pp_if (pu_fits E P [] 0 e = true) (pp_go E P n 12 [(e, 0)])) 0 e by simp [pp_sum], heq]
      exact hK σ' (eh_fr_tr (eh_fr_up hf0 (by decide) (by decide)) (eh_fr_up hf (by decide) (by decide)))
    | succ m ih =>
      intro σ' c e o1 he hm hf hc heq
      have hN' := nc_C_fr hN0 hf (by decide) (by decide)
      refine bX2_count_18 hX (T38 := Tn_fits) rfl (fun hok => ?_)
      rw [hN'.2.2.2]
      refine ⟨by omega, fun h => by omega, fun _ => ⟨_, rfl, 0, e, n, q, E, P, [], rfl, hN', ⟨Int.le_refl _, h50⟩, by omega, by simp, rfl, fun x hx => (by cases hx), ?_⟩⟩
      rw [pp_sum] at heq
      refine bX2_count_36 hX (T42 := Tn_go 12) rfl (fun hok => ⟨bz_r _, fun h0 => ?_, fun h0 => ⟨by omega, ?_⟩⟩)
      · rw [pp_if_f (bz_0.mp h0)] at heq
        exact bX2_count_61 hX (fun hok => ih σ' c (e + 1) _ (by omega) (by omega) hf hc (by rw [← heq]; congr 1; omega))
      · rw [pp_if_t (bz_n.mp h0)] at heq
        have hf1 : eh_fr [] [300, 301] σ' (eh_sA (eh_sA σ' 300 0 0 e) 301 0 0 0) := eh_fr_sA (eh_fr_sA eh_fr_rf (by decide)) (by decide)
        refine ⟨_, rfl, n, q, c, E, P, [(e, 0)], rfl, by decide, rfl, nc_C_fr hN' hf1 (by decide) (by decide), ?_, pu_gd_up (pu_gd_new hpo h50 (by omega)) (by omega), by show n - e ≤ 12; omega, by rw [hf1.1 303 (by decide)]; exact hc, fun σ2 hf2 hs2 hc2 => ?_⟩
        · show [((eh_sA (eh_sA σ' 300 0 0 e) 301 0 0 0).2 300 0 0, (eh_sA (eh_sA σ' 300 0 0 e) 301 0 0 0).2 301 0 0)] = [(e, 0)]
          rw [eh_sA_c (by decide), eh_sA_p, eh_sA_p]
        · exact bX2_count_61 hX (fun hok => ih σ2 _ (e + 1) _ (by omega) (by omega) (eh_fr_tr hf (eh_fr_tr (eh_fr_up hf1 (by decide) (by decide)) hf2)) hc2 (by rw [← heq]; congr 1; omega))
  exact key _ σ0 0 a _ (by omega) rfl eh_fr_rf h00 (by rw [Int.zero_add]; rfl)
