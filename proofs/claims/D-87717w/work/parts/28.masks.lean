/-! EventHunterModel: a run is asked -/
abbrev fm_V : List Nat := [535, 542, 544]
abbrev fm_A : List Nat := [522, 523, 529, 530, 531, 532, 533, 534, 536, 537, 538, 539, 540, 541, 543]
theorem pu_adds_eq {P : Nat → Int → Int} : ∀ (cs : List pu_Rw) (st : List pu_Rn × List pu_Rw), (pu_adds P cs st).2.2 = false → (pu_adds P cs st).1 = st.1 ++ cs.map (fun c => (c, false)) := by
  intro cs
  induction cs with
  | nil => intro st _; simp [pu_adds]
  | cons c cs ih =>
    intro st h
    rw [pu_adds] at h ⊢
    split
    · rename_i h2
      rw [if_pos h2] at h
      cases h
    · rename_i h2
      rw [if_neg h2] at h
      rw [ih _ h]
      simp
theorem pu_adds_len {P : Nat → Int → Int} : ∀ (cs : List pu_Rw) (st : List pu_Rn × List pu_Rw), st.1.length ≤ 200 → st.2.length ≤ st.1.length → (pu_adds P cs st).2.1.length ≤ 200 ∧ (pu_adds P cs st).1.length ≤ 200 ∧ ((pu_adds P cs st).2.2 = false → (pu_adds P cs st).2.1.length ≤ (pu_adds P cs st).1.length) ∧ ((pu_adds P cs st).2.2 = true → (pu_adds P cs st).1 = []) := by
  intro cs
  induction cs with
  | nil => intro st h1 h2; exact ⟨by show st.2.length ≤ 200; omega, h1, fun _ => h2, fun h => by cases h⟩
  | cons c cs ih =>
    intro st h1 h2
    rw [pu_adds]
    split
    · exact ⟨by show st.2.length ≤ 200; omega, Nat.zero_le _, fun h => (by cases h), fun _ => rfl⟩
    · refine ih _ ?_ ?_
      · simp only [List.length_append, List.length_cons, List.length_nil]
        omega
      · simp only [List.length_append, List.length_cons, List.length_nil]
        split
        · simp only [List.length_cons, List.length_nil]; omega
        · simp only [List.length_nil]; omega
/-- the state while the runs of p are asked -/
def ma_S (σ0 σ : eh_S) (p : Int) (L0 : Nat) (L : List pu_Rn) (ms0 : List (Int × pu_Rw)) (o : List pu_Rw) (tl sp : Int) : Prop :=
  eh_fr fm_V fm_A σ0 σ ∧ mo_O σ0 σ p ∧ mr_L σ p L ∧ mm_M σ (ms0 ++ o.map (fun c => (p, c))) ∧ σ.2 523 0 p = tl + (o.length : Int) ∧ σ.2 522 0 p = sp ∧ ∀ i : Nat, (i < L0 → σ.2 534 0 i = σ0.2 534 0 i) ∧ (L0 ≤ i → i < L.length → σ.2 534 0 i = 0)
theorem ma_S_fr {SV SA : List Nat} {σ0 σ σ' : eh_S} {p tl sp : Int} {L0 : Nat} {L : List pu_Rn} {ms0 : List (Int × pu_Rw)} {o : List pu_Rw} (h : ma_S σ0 σ p L0 L ms0 o tl sp) (hf : eh_fr SV SA σ σ') (h1 : ∀ v ∈ SV, v ∈ [542, 544]) (h2 : ∀ c ∈ SA, c ∈ [540, 541, 543]) : ma_S σ0 σ' p L0 L ms0 o tl sp := by
  have hf : eh_fr [542, 544] [540, 541, 543] σ σ' := eh_fr_up hf h1 h2
  obtain ⟨a1, a2, a3, a4, a5, a6, a7⟩ := h
  refine ⟨eh_fr_tr a1 (eh_fr_up hf (by decide) (by decide)), mo_O_tr a2 (mo_O_fr hf (by decide) (by decide) (by decide)), mr_L_fr a3 hf (by decide), mm_M_fr a4 hf (by decide) (by decide), ?_, ?_, ?_⟩
  · rw [hf.2 523 (by decide)]; exact a5
  · rw [hf.2 522 (by decide)]; exact a6
  · rw [hf.2 534 (by decide)]; exact a7
theorem mm_M_app {σ : eh_S} {ms0 : List (Int × pu_Rw)} {o : List pu_Rw} {p : Int} {c : pu_Rw} (h : mm_M σ ((ms0 ++ o.map (fun c => (p, c))) ++ [(p, c)])) : mm_M σ (ms0 ++ (o ++ [c]).map (fun c => (p, c))) := by
  rw [List.map_append, ← List.append_assoc]
  exact h
def Tm_asks : eh_T := eh_RM fun as σ _ K => ∃ (p e : Int) (r : Nat) (E P : Nat → Int → Int) (L : List pu_Rn) (x : pu_Rn) (ms0 : List (Int × pu_Rw)) (o : List pu_Rw) (tl : Int), as = [.inl p, .inl (r : Int), .inl e] ∧ mc_C σ p E P (e + 1) ∧ 0 ≤ e ∧ r < 200 ∧ mr_s σ p r x ∧ pu_gd P e x.1 ∧ mm_M σ (ms0 ++ o.map (fun c => (p, c))) ∧ σ.2 523 0 p = tl + (o.length : Int) ∧ o.length ≤ 200 ∧ (0 ≤ tl ∧ tl ≤ 1990000) ∧ ms0.length ≤ 1990000 ∧
  (P 8 0 ≠ 1 → mr_L σ p L ∧ L.length ≤ 200 ∧ L[r]? = some x ∧ o.length ≤ L.length ∧ ∀ σ', ma_S σ σ' p L.length (pu_ask E P e r x (L, o)).1 ms0 (pu_ask E P e r x (L, o)).2.1 tl (if (pu_ask E P e r x (L, o)).2.2 = true then 1 else σ.2 522 0 p) → K (some (.inl (bz ((pu_ask E P e r x (L, o)).2.2 = false)))) σ') ∧
  (P 8 0 = 1 → ∀ σ', eh_fr fm_V fm_A σ σ' → mo_O σ σ' p → pm_slot σ σ' (201 * p + (r : Int)) → σ'.2 529 = σ.2 529 → σ'.2 522 = σ.2 522 → mm_M σ' (ms0 ++ (o ++ (pu_nx E P e x).2.toList).map (fun c => (p, c))) → σ'.2 523 0 p = tl + ((o ++ (pu_nx E P e x).2.toList).length : Int) → eh_at σ σ' 534 r → σ'.2 534 0 r = (if (pu_nx E P e x).1 = none then 1 else σ.2 534 0 r) → (∀ x', (pu_nx E P e x).1 = some x' → mr_s σ' p r x') → K (some (.inl 1)) σ')
theorem cm_asks (l : Launch) (D : va_G) (tc : Nat → ClassId) (ad : Nat → Int → Nat) (h99 : ∀ a : Int, ad 99 a = a.toNat) : eh_M l D tc ad eh_LX yX4_asks cX4_asks 8 (some .boolean) 3 Tm_asks := by
  refine eh_mk (rb := 1) (nm := eh_nX) (fl := eh_fl4) (kn := eh_kn4) (cs := (fun kk => match kk with | 163 => some (2, Tm_real) | 173 => some (4, Tm_fits) | 177 => some (4, Tm_store) | 181 => some (3, Tm_load) | 185 => some (4, Tm_findMoves) | 188 => some (3, Tm_add) | 191 => some (2, Tm_isWhole) | 194 => some (2, Tm_tell) | 198 => some (2, Tm_make) | _ => none)) (ss := (fun _ => none)) (by decide) (eh_worldX h99) eh_fl4_ok eh_kn4_ok (fun kk n T h => by
    split at h
    · cases h; exact eh_callV (c0 := 4) (cm_real l D tc ad h99) q722 q724 qs29 q49 q725 (by decide +kernel) (by decide) (by decide) (by decide) rfl (eh_worldX h99) (fun _ _ _ _ h => eh_RM_rec h)
    · cases h; exact eh_callV (c0 := 4) (cm_fits l D tc ad h99) q726 q728 qs30 q49 q729 (by decide +kernel) (by decide) (by decide) (by decide) rfl (eh_worldX h99) (fun _ _ _ _ h => eh_RM_rec h)
    · cases h; exact eh_callV (c0 := 4) (cm_store l D tc ad h99) q710 q712 qs26 q49 q713 (by decide +kernel) (by decide) (by decide) (by decide) rfl (eh_worldX h99) (fun _ _ _ _ h => eh_RM_rec h)
    · cases h; exact eh_callV (c0 := 4) (cm_load l D tc ad h99) q706 q708 qs25 q49 q709 (by decide +kernel) (by decide) (by decide) (by decide) rfl (eh_worldX h99) (fun _ _ _ _ h => eh_RM_rec h)
    · cases h; exact eh_callV (c0 := 4) (cm_findMoves l D tc ad h99) q718 q720 qs28 q49 q721 (by decide +kernel) (by decide) (by decide) (by decide) rfl (eh_worldX h99) (fun _ _ _ _ h => eh_RM_rec h)
    · cases h; exact eh_callV (c0 := 4) (cm_add l D tc ad h99) q734 q736 qs32 q49 q737 (by decide +kernel) (by decide) (by decide) (by decide) rfl (eh_worldX h99) (fun _ _ _ _ h => eh_RM_rec h)
    · cases h; exact eh_callV (c0 := 4) (cm_isWhole l D tc ad h99) q738 q740 qs33 q49 q741 (by decide +kernel) (by decide) (by decide) (by decide) rfl (eh_worldX h99) (fun _ _ _ _ h => eh_RM_rec h)
    · cases h; exact eh_callV (c0 := 4) (cm_tell l D tc ad h99) q742 q744 qs34 q49 q745 (by decide +kernel) (by decide) (by decide) (by decide) rfl (eh_worldX h99) (fun _ _ _ _ h => eh_RM_rec h)
    · cases h; exact eh_callV (c0 := 4) (cm_make l D tc ad h99) q746 q748 qs35 q49 q749 (by decide +kernel) (by decide) (by decide) (by decide) rfl (eh_worldX h99) (fun _ _ _ _ h => eh_RM_rec h)
    · cases h) (fun _ _ _ h => by cases h) ?_
  rintro as σ bd K ⟨_, rfl, p, e, r, E, P, L, x, ms0, o, tl, rfl, hC, he, hr2, hsx, hg, hm, htl, hol, htl2, hms, hKE, hKN⟩
  refine ⟨Nat.le_of_ble_eq_true rfl, fun X hX => ?_⟩
  have hp := hC.1
  have hn := hC.2.1
  have hpo := hC.2.2.2.2.2
  have h5 := hpo.1
  have h8 := hpo.2.2.2.2.1
  have hlen := pu_gd_len hg hpo
  have htip := pu_gd_tip hg
  have hfst := pu_gd_first hg
  have hg1 := pu_gd_up hg (show e ≤ e + 1 by omega)
  have hmem := pu_gd_mem hg1
  have hrl := pu_real_le P
  obtain ⟨s1, s2, s3, s4⟩ := hsx
  -- every
  have hm7 := pu_moves_len (E := E) (P := P) (row := x.1) (hurt := x.2) (e := e)
  have keyE : ∀ (rem : List Int) (σ' : eh_S) (L' : List pu_Rn) (o' : List pu_Rw) (m : Nat) (a6 : Int) (o4 o5 : Option eh_V), (pu_moves E P x.1 x.2 e).drop m = rem → m ≤ 7 → (a6 = 0 ∨ a6 = 1) → ma_S σ σ' p L.length L' ms0 o' tl (σ.2 522 0 p) → mv_st σ' (pu_moves E P x.1 x.2 e) → L'.length ≤ 200 → L.length ≤ L'.length → L'[r]? = some x → o'.length ≤ L'.length → ((pu_adds P (rem.map (fun s => (e, s) :: x.1)) (L', o')).2.2 = true → ∀ σ'', ma_S σ σ'' p L.length (pu_adds P (rem.map (fun s => (e, s) :: x.1)) (L', o')).1 ms0 (pu_adds P (rem.map (fun s => (e, s) :: x.1)) (L', o')).2.1 tl 1 → K (some (.inl 0)) σ'') → ((pu_adds P (rem.map (fun s => (e, s) :: x.1)) (L', o')).2.2 = false → ∀ σ'', ma_S σ σ'' p L.length (pu_adds P (rem.map (fun s => (e, s) :: x.1)) (L', o')).1 ms0 (pu_adds P (rem.map (fun s => (e, s) :: x.1)) (L', o')).2.1 tl (σ.2 522 0 p) → (a6 = 0 → K (some (.inl 1)) σ'') ∧ (a6 = 1 → K (some (.inl 1)) (eh_sA σ'' 531 0 (201 * p + (r : Int)) 1))) → X 217 [some (.inr (some (4, 0))), some (.inl p), some (.inl (r : Int)), some (.inl e), o4, o5, some (.inl a6), some (.inl (m : Int))] [] σ' (0, 0) := by
    intro rem
    induction rem with
    | nil =>
      intro σ' L' o' m a6 o4 o5 hd hm7' ha6 hS hmv hl' hll hx' ho' hk1 hk2
      have hmv1 := hmv.1
      have hml := List.drop_eq_nil_iff.mp hd
      have h2 := hk2 rfl σ' hS
      exact bX4_asks_217 hX (T181 := Tm_load) rfl (fun hok => ⟨by omega, fun _ => ⟨by omega, h2.1, fun h6 => ⟨by omega, h2.2 (by omega)⟩⟩, fun q => absurd (show σ'.1 544 0 ≤ (m : Int) by omega) q⟩)
    | cons s rem ih =>
      intro σ' L' o' m a6 o4 o5 hd hm7' ha6 hS hmv hl' hll hx' ho' hk1 hk2
      have hmv1 := hmv.1
      have hms : (pu_moves E P x.1 x.2 e)[m]? = some s := by
        have : ((pu_moves E P x.1 x.2 e).drop m)[0]? = some s := by rw [hd]; rfl
        rwa [List.getElem?_drop, Nat.add_zero] at this
      have hml := ls_lt hms
      have hsm : s ∈ pu_moves E P x.1 x.2 e := List.mem_of_getElem? hms
      have hd' : (pu_moves E P x.1 x.2 e).drop (m + 1) = rem := by
        rw [← List.tail_drop, hd]
        rfl
      have hgc := pu_gd_cons hg he hsm
      have hgl := pu_gd_len hgc hpo
      have hgt := pu_gd_tip hgc
      have hsr := pu_moves_s hsm
      have hlc : ((e, s) :: x.1).length = x.1.length + 1 := rfl
      rw [List.map_cons, pu_adds] at hk1 hk2
      obtain ⟨S1, S2, S3, S4, S5, S6, S7⟩ := hS
      have hS : ma_S σ σ' p L.length L' ms0 o' tl (σ.2 522 0 p) := ⟨S1, S2, S3, S4, S5, S6, S7⟩
      obtain ⟨t1, t2, t3, t4⟩ := S3.2 r x hx'
      refine bX4_asks_217 hX (T181 := Tm_load) rfl (fun hok => ⟨by omega, fun q => by omega, fun q => ?_⟩)
      refine ⟨_, rfl, p, _, rfl, hp, by omega, by omega, fun σ1 hf1 h1m h1r => ?_⟩
      have hS1 := ma_S_fr hS hf1 (by decide) (by decide)
      have hmv1' := mv_st_fr hmv hf1 (by decide) (by decide)
      have e0 : σ1.2 543 0 (m : Int) = s := hmv1'.2 m s hms
      refine bX4_asks_232 hX (T188 := Tm_add) rfl (fun hok => ⟨by omega, ?_⟩)
      rw [e0]
      refine ⟨_, rfl, e, s, rfl, ⟨by unfold eh_r; omega, by unfold eh_r; omega⟩, by omega, fun σ2 hf2 h2m h2r => ?_⟩
      have hS2 := ma_S_fr hS1 hf2 (by decide) (by decide)
      have hmv2 := mv_st_fr hmv1' hf2 (by decide) (by decide)
      have hrow2 : mc_row σ2 ((e, s) :: x.1) := mc_row_mk (by rw [h2r, h1r, t3]) (by omega)
      have hC2 : mc_C σ2 p E P (e + 1) := mc_C_fr hC hS2.1 (by decide)
      refine bX4_asks_244 hX (T198 := Tm_make) rfl (fun hok => ?_)
      refine ⟨_, rfl, p, (e, s) :: x.1, L', rfl, hp, hS2.2.2.1, hl', hrow2, hgl.2, fun h200 σ3 hf3 ha3 hb3 h3s h3L => ?_, fun h200 σ3 hf3 hmo3 hg3 hg3' h3L => ?_⟩
      · rw [if_pos h200] at hk1
        refine bX4_asks_249 hX (T191 := Tm_isWhole) rfl (fun hok => ⟨by omega, fun _ => ?_, fun q => absurd rfl q⟩)
        obtain ⟨b1, b2, b3, b4, b5, b6, b7⟩ := hS2
        refine hk1 rfl σ3 ⟨eh_fr_tr b1 (eh_fr_up hf3 (by decide) (by decide)), mo_O_tr b2 ⟨⟨hb3, fun j _ => ?_, fun j _ => ?_⟩, ha3, eh_at_fr hf3 (by decide)⟩, h3L, mm_M_fr b4 hf3 (by decide) (by decide), ?_, h3s, fun i => ⟨fun hi => ?_, fun _ hi => ?_⟩⟩
        · rw [hf3.2 530 (by decide), hf3.2 531 (by decide)]; exact ⟨rfl, rfl⟩
        · rw [hf3.2 532 (by decide), hf3.2 533 (by decide)]; exact ⟨rfl, rfl⟩
        · rw [hf3.2 523 (by decide)]; exact b5
        · rw [hf3.2 534 (by decide)]; exact (b7 i).1 hi
        · exact absurd hi (Nat.not_lt_zero _)
      · rw [if_neg h200] at hk1 hk2
        obtain ⟨b1, b2, b3, b4, b5, b6, b7⟩ := hS2
        have hS3 : ma_S σ σ3 p L.length (L' ++ [((e, s) :: x.1, false)]) ms0 o' tl (σ.2 522 0 p) := by
          refine ⟨eh_fr_tr b1 (eh_fr_up hf3 (by decide) (by decide)), mo_O_tr b2 ⟨hmo3, eh_at_fr hf3 (by decide), eh_at_fr hf3 (by decide)⟩, h3L, mm_M_fr b4 hf3 (by decide) (by decide), ?_, ?_, fun i => ⟨fun hi => ?_, fun h0 hi => ?_⟩⟩
          · rw [hf3.2 523 (by decide)]; exact b5
          · rw [hf3.2 522 (by decide)]; exact b6
          · rw [hg3 i (by omega)]; exact (b7 i).1 hi
          · rw [List.length_append] at hi
            simp only [List.length_cons, List.length_nil] at hi
            by_cases hil : i = L'.length
            · rw [hil]; exact hg3'
            · rw [hg3 i (by omega)]; exact (b7 i).2 h0 (by omega)
        have hrow3 := mc_row_fr hrow2 hf3 (by decide) (by decide)
        have hmv3 := mv_st_fr hmv2 hf3 (by decide) (by decide)
        have hx3 : (L' ++ [((e, s) :: x.1, false)])[r]? = some x := by
          rw [List.getElem?_append_left (ls_lt hx')]; exact hx'
        have hl3 : (L' ++ [((e, s) :: x.1, false)]).length = L'.length + 1 := by simp
        refine bX4_asks_249 hX (T191 := Tm_isWhole) rfl (fun hok => ⟨by omega, fun q => absurd q (by decide), fun _ => ?_⟩)
        refine Tm_isWhole_go (mc_C_fr hC2 hf3 (by decide)) hrow3 (by omega) hgt.1 ?_
        by_cases hw : pu_wh P (pu_tip ((e, s) :: x.1)) = true
        · rw [if_pos hw] at hk1 hk2
          refine bX4_asks_259 hX (T194 := Tm_tell) rfl (fun hok => ⟨bz_r _, fun q => absurd hw (bz_0.mp q), fun _ => ?_⟩)
          obtain ⟨c1, c2, c3, c4, c5, c6, c7⟩ := hS3
          refine ⟨_, rfl, p, (e, s) :: x.1, _, rfl, hp, hrow3, hgl.2, c4, by omega, by rw [List.length_append, List.length_map]; omega, fun σ4 hf4 h4m h4a h4t => ?_⟩
          refine bX4_asks_267 hX (fun hok => ?_)
          have hS4 : ma_S σ σ4 p L.length (L' ++ [((e, s) :: x.1, false)]) ms0 (o' ++ [(e, s) :: x.1]) tl (σ.2 522 0 p) := by
            refine ⟨eh_fr_tr c1 (eh_fr_up hf4 (by decide) (by decide)), mo_O_tr c2 ⟨mo_R_fr hf4 (by decide), eh_at_fr hf4 (by decide), h4a⟩, mr_L_fr c3 hf4 (by decide), mm_M_app h4m, ?_, ?_, ?_⟩
            · rw [h4t, c5, List.length_append]
              simp only [List.length_cons, List.length_nil]
              omega
            · rw [hf4.2 522 (by decide)]; exact c6
            · rw [hf4.2 534 (by decide)]; exact c7
          have := ih σ4 _ _ (m + 1) a6 o4 o5 hd' (by omega) ha6 hS4 (mv_st_fr hmv3 hf4 (by decide) (by decide)) (by omega) (by omega) hx3 (by rw [List.length_append]; simp only [List.length_cons, List.length_nil]; omega) hk1 hk2
          simpa using this
        · rw [if_neg hw, List.append_nil] at hk1 hk2
          refine bX4_asks_259 hX (T194 := Tm_tell) rfl (fun hok => ⟨bz_r _, fun _ => ?_, fun q => absurd (bz_n.mp q) hw⟩)
          refine bX4_asks_267 hX (fun hok => ?_)
          have := ih σ3 _ _ (m + 1) a6 o4 o5 hd' (by omega) ha6 hS3 hmv3 (by omega) (by omega) hx3 (by omega) hk1 hk2
          simpa using this
  -- the row at hand, and its moves
  have tail : ∀ (σ2 : eh_S) (hf : eh_fr [542, 544] [540, 541, 543] σ σ2) (hrow : mc_row σ2 x.1) (hmv : mv_st σ2 (pu_moves E P x.1 x.2 e)) (hkey : pu_key E P (pu_first x.1) e = true) (a6 : Int) (ha6 : eh_fl01 a6 (pu_hurts E P x.1 e)), (P 8 0 = 1 → (σ2.1 544 0 ≤ 0 → (a6 = 0 → K (some (.inl 1)) σ2) ∧ (a6 = 1 → K (some (.inl 1)) (eh_sA σ2 531 0 (201 * p + (r : Int)) 1))) ∧ (¬ σ2.1 544 0 ≤ 0 → ∀ o4 o5 o6 o7 : Option eh_V, Tm_add [.inr (some (4, 0)), .inl e, .inl (σ2.2 543 0 0)] σ2 (0, 0) (fun r_1 σ1 => X 164 [some (.inr (some (4, 0))), some (.inl p), some (.inl (r : Int)), some (.inl e), o4, o5, o6, o7] (r_1.toList ++ []) σ1 (0, 0)))) ∧ (¬ P 8 0 = 1 → ∀ o4 o5 : Option eh_V, X 217 [some (.inr (some (4, 0))), some (.inl p), some (.inl (r : Int)), some (.inl e), o4, o5, some (.inl a6), some (.inl 0)] [] σ2 (0, 0)) := by
    intro σ2 hf hrow hmv hkey a6 ha6
    have hmv1 := hmv.1
    have hm2 := mm_M_fr hm hf (by decide) (by decide)
    have ht2 : σ2.2 523 0 p = tl + (o.length : Int) := by rw [hf.2 523 (by decide)]; exact htl
    refine ⟨fun h81 => ?_, fun h81 o4 o5 => ?_⟩
    · have hKN := hKN h81
      cases hmvs : pu_moves E P x.1 x.2 e with
      | nil =>
        rw [hmvs] at hmv1
        have hnx : pu_nx E P e x = (some (x.1, x.2 || pu_hurts E P x.1 e), none) := by
          unfold pu_nx
          rw [if_pos hkey, hmvs]
        rw [hnx] at hKN
        simp only [Option.toList_none, List.append_nil, reduceCtorEq, if_false] at hKN
        refine ⟨fun _ => ⟨fun h6 => ?_, fun h6 => ?_⟩, fun q => absurd (show σ2.1 544 0 ≤ 0 by rw [hmv1]; exact Int.le_refl _) q⟩
        · refine hKN σ2 (eh_fr_up hf (by decide) (by decide)) (mo_O_fr hf (by decide) (by decide) (by decide)) (pm_slot_fr hf (by decide)) (hf.2 529 (by decide)) (hf.2 522 (by decide)) hm2 ht2 (eh_at_fr hf (by decide)) (by rw [hf.2 534 (by decide)]) (fun x' hx' => ?_)
          cases hx'
          refine mr_s_fr ⟨s1, s2, s3, ?_⟩ hf (by decide)
          rcases ha6 with ha6 | ha6
          · rw [ha6.2, Bool.or_false]; exact s4
          · omega
        · have hf' : eh_fr [542, 544] [531, 540, 541, 543] σ (eh_sA σ2 531 0 (201 * p + (r : Int)) 1) := eh_fr_sA (eh_fr_up hf (by decide) (by decide)) (by decide)
          have hsl : pm_slot σ (eh_sA σ2 531 0 (201 * p + (r : Int)) 1) (201 * p + (r : Int)) := by
            refine ⟨fun j hj => ?_, fun j hj => ?_⟩
            · rw [eh_sA_c (by decide), eh_sA_n hj, hf.2 530 (by decide), hf.2 531 (by decide)]; exact ⟨rfl, rfl⟩
            · rw [eh_sA_c (by decide), eh_sA_c (by decide), hf.2 532 (by decide), hf.2 533 (by decide)]; exact ⟨rfl, rfl⟩
          refine hKN _ (eh_fr_up hf' (by decide) (by decide)) ⟨mo_R_slot (eh_at_fr hf' (by decide)) hsl (by omega), eh_at_fr hf' (by decide), eh_at_fr hf' (by decide)⟩ hsl (hf'.2 529 (by decide)) (hf'.2 522 (by decide)) (mm_M_fr hm hf' (by decide) (by decide)) (by rw [hf'.2 523 (by decide)]; exact htl) (eh_at_fr hf' (by decide)) (by rw [hf'.2 534 (by decide)]) (fun x' hx' => ?_)
          cases hx'
          have ht : pu_hurts E P x.1 e = true := by
            rcases ha6 with ha6 | ha6
            · omega
            · exact ha6.2
          refine ⟨?_, s2, ?_, ?_⟩
          · rw [hf'.2 530 (by decide)]; exact s1
          · unfold pm_run
            rw [hf'.2 530 (by decide), hf'.2 532 (by decide), hf'.2 533 (by decide)]
            exact s3
          · rw [eh_sA_p, ht, Bool.or_true]
            exact (bz_t rfl).symm
      | cons s mvs =>
        rw [hmvs] at hmv hmv1
        have hms : (s :: mvs)[0]? = some s := rfl
        have e0 : σ2.2 543 0 0 = s := hmv.2 0 s hms
        have hsm : s ∈ pu_moves E P x.1 x.2 e := by rw [hmvs]; exact List.mem_cons_self
        have hgc := pu_gd_cons hg he hsm
        have hgl := pu_gd_len hgc hpo
        have hgt := pu_gd_tip hgc
        have hsr := pu_moves_s hsm
        have hlc : ((e, s) :: x.1).length = x.1.length + 1 := rfl
        have hr1 := hrow.1
        refine ⟨fun q => absurd q (by rw [hmv1]; simp only [List.length_cons]; omega), fun _ o4 o5 o6 o7 => ?_⟩
        rw [e0]
        refine ⟨_, rfl, e, s, rfl, ⟨by unfold eh_r; omega, by unfold eh_r; omega⟩, by omega, fun σ3 hf3 h3m h3r => ?_⟩
        have hrow3 : mc_row σ3 ((e, s) :: x.1) := mc_row_mk (by rw [h3r, hrow.2]) (by omega)
        have hf03 : eh_fr [542, 544] [540, 541, 543] σ σ3 := eh_fr_tr hf (eh_fr_up hf3 (by decide) (by decide))
        refine bX4_asks_164 hX (T177 := Tm_store) rfl (fun hok => ?_)
        refine ⟨_, rfl, p, _, 0, rfl, hp, by omega, Or.inl rfl, by rw [hrow3.1]; omega, fun σ4 hf4 hs4 t1 t2 t3 => ?_⟩
        have hrow4 := mc_row_fr hrow3 hf4 (by decide) (by decide)
        have hf04 : eh_fr [542, 544] [530, 531, 532, 533, 540, 541, 543] σ σ4 := eh_fr_tr (eh_fr_up hf03 (by decide) (by decide)) (eh_fr_up hf4 (by decide) (by decide))
        have hsl4 : pm_slot σ σ4 (201 * p + (r : Int)) := pm_slot_tr (pm_slot_fr hf03 (by decide)) hs4
        have hmo4 : mo_O σ σ4 p := ⟨mo_R_slot (eh_at_fr hf04 (by decide)) hsl4 (by omega), eh_at_fr hf04 (by decide), eh_at_fr hf04 (by decide)⟩
        have hm4 := mm_M_fr hm hf04 (by decide) (by decide)
        have ht4 : σ4.2 523 0 p = tl + (o.length : Int) := by rw [hf04.2 523 (by decide)]; exact htl
        refine bX4_asks_171 hX (T191 := Tm_isWhole) rfl (fun hok => ?_)
        refine Tm_isWhole_go (mc_C_fr hC hf04 (by decide)) hrow4 (by omega) hgt.1 ?_
        have htp : pu_tip ((e, s) :: x.1) = s := rfl
        rw [htp]
        by_cases hw : pu_wh P s = true
        · have hnx : pu_nx E P e x = (none, some ((e, s) :: x.1)) := by
            unfold pu_nx
            rw [if_pos hkey, hmvs]
            exact if_pos hw
          rw [hnx] at hKN
          simp only [Option.toList_some, if_true] at hKN
          refine bX4_asks_176 hX (T194 := Tm_tell) rfl (fun hok => ⟨bz_r _, fun q => absurd hw (bz_0.mp q), fun _ => ?_⟩)
          refine ⟨_, rfl, p, (e, s) :: x.1, _, rfl, hp, hrow4, hgl.2, hm4, by omega, by rw [List.length_append, List.length_map]; omega, fun σ5 hf5 h5m h5a h5t => ?_⟩
          refine bX4_asks_184 hX (fun hok => ⟨by omega, ?_⟩)
          have hf45 : eh_fr [535] [523, 534, 536, 537, 538, 539] σ4 (eh_sA σ5 534 0 (r : Int) 1) := eh_fr_sA (eh_fr_up hf5 (by decide) (by decide)) (by decide)
          have hf55 : eh_fr [] [534] σ5 (eh_sA σ5 534 0 (r : Int) 1) := eh_fr_sA eh_fr_rf (by decide)
          refine hKN _ (eh_fr_tr (eh_fr_up hf04 (by decide) (by decide)) (eh_fr_up hf45 (by decide) (by decide))) (mo_O_tr hmo4 ⟨mo_R_fr hf45 (by decide), eh_at_fr hf45 (by decide), fun j hj => ?_⟩) (pm_slot_tr hsl4 (pm_slot_fr hf45 (by decide))) ?_ ?_ (mm_M_fr (mm_M_app h5m) hf55 (by decide) (by decide)) ?_ (fun j hj => ?_) ?_ (fun x' hx' => by cases hx')
          · rw [eh_sA_c (by decide)]; exact h5a j hj
          · rw [hf45.2 529 (by decide), hf04.2 529 (by decide)]
          · rw [hf45.2 522 (by decide), hf04.2 522 (by decide)]
          · rw [eh_sA_c (by decide), h5t, ht4, List.length_append]
            simp only [List.length_cons, List.length_nil]
            omega
          · rw [eh_sA_n hj, hf5.2 534 (by decide), hf04.2 534 (by decide)]
          · rw [eh_sA_p]
        · have hnx : pu_nx E P e x = (some ((e, s) :: x.1, false), none) := by
            unfold pu_nx
            rw [if_pos hkey, hmvs]
            exact if_neg hw
          rw [hnx] at hKN
          simp only [Option.toList_none, List.append_nil, reduceCtorEq, if_false] at hKN
          refine bX4_asks_176 hX (T194 := Tm_tell) rfl (fun hok => ⟨bz_r _, fun _ => ?_, fun q => absurd (bz_n.mp q) hw⟩)
          refine hKN σ4 (eh_fr_up hf04 (by decide) (by decide)) hmo4 hsl4 (hf04.2 529 (by decide)) (hf04.2 522 (by decide)) hm4 ht4 (eh_at_fr hf04 (by decide)) (by rw [hf04.2 534 (by decide)]) (fun x' hx' => ?_)
          cases hx'
          refine ⟨?_, hgl.2, ?_, ?_⟩
          · rw [t1]; exact hrow3.1
          · rw [t3]; exact hrow3.2
          · rw [t2]; exact (bz_f Bool.false_ne_true).symm
    · obtain ⟨hL, hLl, hx, hoL, hKE⟩ := hKE h81
      have hrlt := ls_lt hx
      have hS0 : ma_S σ σ2 p L.length L ms0 o tl (σ.2 522 0 p) := by
        refine ⟨eh_fr_up hf (by decide) (by decide), mo_O_fr hf (by decide) (by decide) (by decide), mr_L_fr hL hf (by decide), hm2, ht2, by rw [hf.2 522 (by decide)], fun i => ⟨fun _ => by rw [hf.2 534 (by decide)], fun h1 h2 => by omega⟩⟩
      have hask : pu_ask E P e r x (L, o) = (if (pu_adds P ((pu_moves E P x.1 x.2 e).map (fun s => (e, s) :: x.1)) (L, o)).2.2 = true then (pu_adds P ((pu_moves E P x.1 x.2 e).map (fun s => (e, s) :: x.1)) (L, o)) else (if pu_hurts E P x.1 e = true then ((pu_adds P ((pu_moves E P x.1 x.2 e).map (fun s => (e, s) :: x.1)) (L, o)).1.set r (x.1, true), (pu_adds P ((pu_moves E P x.1 x.2 e).map (fun s => (e, s) :: x.1)) (L, o)).2.1, false) else (pu_adds P ((pu_moves E P x.1 x.2 e).map (fun s => (e, s) :: x.1)) (L, o)))) := by
        unfold pu_ask pu_cand
        rw [if_pos hkey]
      rw [hask] at hKE
      refine keyE (pu_moves E P x.1 x.2 e) σ2 L o 0 a6 o4 o5 rfl (by omega) (eh_fl01_r ha6) hS0 hmv hLl (Nat.le_refl _) hx hoL (fun hsp σ3 hS3 => ?_) (fun hsp σ3 hS3 => ?_)
      · rw [if_pos hsp, if_pos hsp] at hKE
        have := hKE σ3 hS3
        rw [hsp, bz_f (by decide)] at this
        exact this
      · have heq := pu_adds_eq _ _ hsp
        rw [if_neg (by rw [hsp]; decide)] at hKE
        refine ⟨fun h6 => ?_, fun h6 => ?_⟩
        · have hnh : ¬ pu_hurts E P x.1 e = true := by
            rcases ha6 with ha6 | ha6
            · rw [ha6.2]; decide
            · omega
          rw [if_neg hnh] at hKE
          rw [if_neg (by rw [hsp]; decide)] at hKE
          have := hKE σ3 hS3
          rw [hsp, bz_t rfl] at this
          exact this
        · have ht : pu_hurts E P x.1 e = true := by
            rcases ha6 with ha6 | ha6
            · omega
            · exact ha6.2
          rw [if_pos ht] at hKE
          dsimp only at hKE
          rw [if_neg (by decide), bz_t rfl] at hKE
          obtain ⟨c1, c2, c3, c4, c5, c6, c7⟩ := hS3
          have hf' : eh_fr [] [531] σ3 (eh_sA σ3 531 0 (201 * p + (r : Int)) 1) := eh_fr_sA eh_fr_rf (by decide)
          have hsl : pm_slot σ3 (eh_sA σ3 531 0 (201 * p + (r : Int)) 1) (201 * p + (r : Int)) := by
            refine ⟨fun j hj => ?_, fun j hj => ?_⟩
            · rw [eh_sA_c (by decide), eh_sA_n hj]; exact ⟨rfl, rfl⟩
            · rw [eh_sA_c (by decide), eh_sA_c (by decide)]; exact ⟨rfl, rfl⟩
          have hxr : (pu_adds P ((pu_moves E P x.1 x.2 e).map (fun s => (e, s) :: x.1)) (L, o)).1[r]? = some x := by
            rw [heq, List.getElem?_append_left hrlt]; exact hx
          obtain ⟨u1, u2, u3, u4⟩ := c3.2 r x hxr
          refine hKE _ ⟨eh_fr_tr c1 (eh_fr_up hf' (by decide) (by decide)), mo_O_tr c2 ⟨mo_R_slot (eh_at_fr hf' (by decide)) hsl (by omega), eh_at_fr hf' (by decide), eh_at_fr hf' (by decide)⟩, ⟨?_, fun i y hy => ?_⟩, mm_M_fr c4 hf' (by decide) (by decide), ?_, ?_, ?_⟩
          · rw [hf'.2 529 (by decide), List.length_set]; exact c3.1
          · by_cases hir : i = r
            · rw [hir, List.getElem?_set_self (by rw [heq, List.length_append]; exact Nat.lt_of_lt_of_le hrlt (Nat.le_add_right _ _))] at hy
              cases hy
              rw [hir]
              refine ⟨?_, u2, ?_, ?_⟩
              · rw [hf'.2 530 (by decide)]; exact u1
              · unfold pm_run
                rw [hf'.2 530 (by decide), hf'.2 532 (by decide), hf'.2 533 (by decide)]
                exact u3
              · rw [eh_sA_p]; exact (bz_t rfl).symm
            · rw [List.getElem?_set_ne (Ne.symm hir)] at hy
              exact mr_s_slot (c3.2 i y hy) hsl (by omega)
          · rw [hf'.2 523 (by decide)]; exact c5
          · rw [hf'.2 522 (by decide)]; exact c6
          · rw [hf'.2 534 (by decide), List.length_set]; exact c7
  refine bX4_asks_0 hX (T181 := Tm_load) rfl (fun hok => ⟨_, rfl, p, _, rfl, hp, by omega, by omega, fun σ1 hf1 h1m h1r => ?_⟩)
  have hrow1 : mc_row σ1 x.1 := mc_row_mk (by rw [h1r, s3]) (by omega)
  have hC1 := mc_C_fr hC hf1 (by decide)
  have hsx1 : mr_s σ1 p r x := mr_s_fr ⟨s1, s2, s3, s4⟩ hf1 (by decide)
  have hm1 := mm_M_fr hm hf1 (by decide) (by decide)
  have ht1 : σ1.2 523 0 p = tl + (o.length : Int) := by rw [hf1.2 523 (by decide)]; exact htl
  have hP6 : σ1.2 518 0 p = P 6 0 := hC1.2.2.2.1.2.1
  have hk6 := hpo.2.2.1
  have hf0 : σ1.2 540 0 0 = pu_first x.1 := by
    rw [← hrow1.2]
    unfold pm_row
    rw [pu_first_rowL (by have := hrow1.1; omega)]
  have hE2 : ∀ j, 0 ≤ j → j < 4 * (e + 1) → σ1.2 512 0 j = E 2 j := hC1.2.2.1.2.2
  have h31 : σ1.2 531 0 (201 * p + (r : Int)) = bz (x.2 = true) := hsx1.2.2.2
  have behind : ∀ (o4 o5 o6 o7 : Option eh_V), pu_key E P (pu_first x.1) e = true → Tm_findMoves [.inr (some (4, 0)), .inl p, .inl e, .inl (bz (x.2 = true))] σ1 (0, 0) (fun r_1 σ1 => X 77 [some (.inr (some (4, 0))), some (.inl p), some (.inl (r : Int)), some (.inl e), o4, o5, o6, o7] (r_1.toList ++ []) σ1 (0, 0)) := by
    intro o4 o5 o6 o7 hkey
    refine ⟨_, rfl, p, e, _, e + 1, x.2, E, P, x.1, rfl, hC1, hrow1, hg1, by omega, eh_fl01_bz _, fun σ2 hf2 hmv => ?_⟩
    have hrow2 := mc_row_fr hrow1 hf2 (by decide) (by decide)
    have hC2 := mc_C_fr hC1 hf2 (by decide)
    have hf02 : eh_fr [542, 544] [540, 541, 543] σ σ2 := eh_fr_tr (eh_fr_up hf1 (by decide) (by decide)) (eh_fr_up hf2 (by decide) (by decide))
    have ht : σ2.2 541 0 (σ2.1 542 0 - 1) = pu_tip x.1 := by
      rw [← hrow2.2]
      unfold pm_row
      have := hrow2.1
      rw [pu_tip_rowL (by omega), Int.toNat_of_nonneg (by omega)]
    have hT0 := tail σ2 hf02 hrow2 hmv hkey
    have hP8 : σ2.2 517 0 p = P 8 0 := hC2.2.2.2.1.2.2.2.1
    refine bX4_asks_77 hX (T163 := Tm_real) rfl (fun hok => ⟨by rw [hrow2.1]; omega, ?_⟩)
    rw [ht]
    refine Tm_real_go hC2 ?_
    have nohurt : pu_hurts E P x.1 e = false → (σ2.2 517 0 p = 1 → ((σ2.1 544 0 ≤ 0 → K (some (.inl 1)) σ2) ∧ (¬ σ2.1 544 0 ≤ 0 → ∀ o4 o5 o6 o7 : Option eh_V, Tm_add [.inr (some (4, 0)), .inl e, .inl (σ2.2 543 0 0)] σ2 (0, 0) (fun r_1 σ1 => X 164 [some (.inr (some (4, 0))), some (.inl p), some (.inl (r : Int)), some (.inl e), o4, o5, o6, o7] (r_1.toList ++ []) σ1 (0, 0))))) ∧ (¬ σ2.2 517 0 p = 1 → ∀ o4 o5 : Option eh_V, X 217 [some (.inr (some (4, 0))), some (.inl p), some (.inl (r : Int)), some (.inl e), o4, o5, some (.inl 0), some (.inl 0)] [] σ2 (0, 0)) := by
      intro hh
      obtain ⟨t1, t2⟩ := hT0 0 (Or.inl ⟨rfl, hh⟩)
      rw [hP8]
      exact ⟨fun h81 => ⟨fun h => ((t1 h81).1 h).1 rfl, (t1 h81).2⟩, t2⟩
    refine bX4_asks_99 hX (T173 := Tm_fits) (T188 := Tm_add) rfl rfl (fun hok => ⟨by omega, by omega, fun h1 => ?_, fun h1 => ⟨by omega, fun h2 => ?_, fun h2 => ?_⟩⟩)
    · have hh : pu_hurts E P x.1 e = false := by
        unfold pu_hurts
        rw [decide_eq_false (by omega)]
        rfl
      obtain ⟨t1, t2⟩ := nohurt hh
      exact ⟨hp, fun q => ⟨(t1 q).1, fun q2 => (t1 q).2 q2 _ _ _ _⟩, fun q => t2 q _ _⟩
    · have hv := mc_sort hC2 (show 0 ≤ pu_tip x.1 + 1 by omega) (show pu_tip x.1 + 1 < P 5 0 by omega)
      refine Tm_fits_go hC2 hrow2 (by omega) hmem (by omega) (by omega) ?_
      rw [hv] at h2
      have hhe : pu_hurts E P x.1 e = pu_fits E P x.1 (pu_tip x.1 + 1) e := by
        unfold pu_hurts
        rw [decide_eq_true (show pu_tip x.1 + 1 < pu_real P by omega), decide_eq_true h2]
        rfl
      refine bX4_asks_126 hX (T188 := Tm_add) rfl (fun hok => ⟨bz_r _, fun h0 => ?_, fun h0 => ?_⟩)
      · obtain ⟨t1, t2⟩ := nohurt (by rw [hhe]; have := bz_0.mp h0; simpa using this)
        exact ⟨hp, fun q => ⟨(t1 q).1, fun q2 => (t1 q).2 q2 _ _ _ _⟩, fun q => t2 q _ _⟩
      · obtain ⟨t1, t2⟩ := hT0 1 (Or.inr ⟨rfl, by rw [hhe]; exact bz_n.mp h0⟩)
        rw [hP8]
        exact ⟨hp, fun q => ⟨fun q2 => ⟨by omega, ((t1 q).1 q2).2 rfl⟩, fun q2 => (t1 q).2 q2 _ _ _ _⟩, fun q => t2 q _ _⟩
    · have hv := mc_sort hC2 (show 0 ≤ pu_tip x.1 + 1 by omega) (show pu_tip x.1 + 1 < P 5 0 by omega)
      rw [hv] at h2
      have hh : pu_hurts E P x.1 e = false := by
        unfold pu_hurts
        rw [decide_eq_false h2, Bool.and_false]
        rfl
      obtain ⟨t1, t2⟩ := nohurt hh
      exact ⟨hp, fun q => ⟨(t1 q).1, fun q2 => (t1 q).2 q2 _ _ _ _⟩, fun q => t2 q _ _⟩
  refine bX4_asks_6 hX (T185 := Tm_findMoves) rfl (fun hok => ?_)
  rw [h31, hP6, hf0]
  refine ⟨hp, fun h6 => ⟨by omega, behind _ _ _ _ (by unfold pu_key; rw [decide_eq_true h6]; rfl)⟩, fun h6 => ⟨by omega, by omega, fun hq => ⟨by omega, behind _ _ _ _ ?_⟩, fun hq => ?_⟩⟩
  · rw [hE2 _ (by omega) (by omega), hE2 _ (by omega) (by omega)] at hq
    unfold pu_key
    rw [decide_eq_true hq, Bool.or_true]
  · rw [hE2 _ (by omega) (by omega), hE2 _ (by omega) (by omega)] at hq
    have hkey : ¬ pu_key E P (pu_first x.1) e = true := by
      unfold pu_key
      rw [decide_eq_false h6, decide_eq_false hq]
      decide
    by_cases h81 : P 8 0 = 1
    · have hKN := hKN h81
      have hnx : pu_nx E P e x = (some x, none) := by
        unfold pu_nx
        rw [if_neg hkey]
      rw [hnx] at hKN
      simp only [Option.toList_none, List.append_nil, reduceCtorEq, if_false] at hKN
      refine hKN σ1 (eh_fr_up hf1 (by decide) (by decide)) (mo_O_fr hf1 (by decide) (by decide) (by decide)) (pm_slot_fr hf1 (by decide)) (hf1.2 529 (by decide)) (hf1.2 522 (by decide)) hm1 ht1 (eh_at_fr hf1 (by decide)) (by rw [hf1.2 534 (by decide)]) (fun x' hx' => ?_)
      cases hx'
      exact hsx1
    · obtain ⟨hL, hLl, hx, hoL, hKE⟩ := hKE h81
      have hask : pu_ask E P e r x (L, o) = (L, o, false) := by
        unfold pu_ask
        rw [if_neg hkey]
      rw [hask] at hKE
      dsimp only at hKE
      rw [if_neg (by decide), bz_t rfl] at hKE
      exact hKE σ1 ⟨eh_fr_up hf1 (by decide) (by decide), mo_O_fr hf1 (by decide) (by decide) (by decide), mr_L_fr hL hf1 (by decide), hm1, ht1, by rw [hf1.2 522 (by decide)], fun i => ⟨fun _ => by rw [hf1.2 534 (by decide)], fun h1 h2 => by omega⟩⟩
