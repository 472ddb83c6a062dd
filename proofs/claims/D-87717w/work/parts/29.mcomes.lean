/-! EventHunterModel: an event comes -/
theorem pu_ask_keep {E P : Nat → Int → Int} {e : Int} {r : Nat} {x : pu_Rn} {st : List pu_Rn × List pu_Rw} (h1 : st.1.length ≤ 200) (h2 : st.2.length ≤ st.1.length) : (pu_ask E P e r x st).2.1.length ≤ 200 ∧ (pu_ask E P e r x st).1.length ≤ 200 ∧ ((pu_ask E P e r x st).2.2 = true → (pu_ask E P e r x st).1 = []) ∧ ((pu_ask E P e r x st).2.2 = false → (pu_ask E P e r x st).2.1.length ≤ (pu_ask E P e r x st).1.length ∧ st.1.length ≤ (pu_ask E P e r x st).1.length ∧ ∀ i : Nat, i < st.1.length → i ≠ r → (pu_ask E P e r x st).1[i]? = st.1[i]?) := by
  unfold pu_ask
  split
  · obtain ⟨a1, a2, a3, a4⟩ := pu_adds_len (P := P) (pu_cand E P e x) st h1 h2
    dsimp only
    split
    · rename_i hs
      exact ⟨a1, a2, a4, fun h => by rw [hs] at h; cases h⟩
    · rename_i hs
      have hs' : (pu_adds P (pu_cand E P e x) st).2.2 = false := by simpa using hs
      have heq := pu_adds_eq _ _ hs'
      have hle : st.1.length ≤ (pu_adds P (pu_cand E P e x) st).1.length := by rw [heq, List.length_append]; omega
      have hkeep : ∀ i : Nat, i < st.1.length → i ≠ r → (pu_adds P (pu_cand E P e x) st).1[i]? = st.1[i]? := fun i hi _ => by rw [heq, List.getElem?_append_left hi]
      split
      · refine ⟨a1, by dsimp only; rw [List.length_set]; exact a2, fun h => (by cases h), fun _ => ⟨by dsimp only; rw [List.length_set]; exact a3 hs', by dsimp only; rw [List.length_set]; exact hle, fun i hi hir => ?_⟩⟩
        dsimp only
        rw [List.getElem?_set_ne (Ne.symm hir)]
        exact hkeep i hi hir
      · exact ⟨a1, a2, a4, fun _ => ⟨a3 hs', hle, hkeep⟩⟩
  · exact ⟨by dsimp only; omega, h1, fun h => (by cases h), fun _ => ⟨h2, Nat.le_refl _, fun _ _ _ => rfl⟩⟩
/-- while an event comes -/
def mb_S (σ0 σ : eh_S) (p : Int) (L : List pu_Rn) (ms0 : List (Int × pu_Rw)) (o : List pu_Rw) (tl : Int) : Prop :=
  eh_fr fm_V fm_A σ0 σ ∧ mo_O σ0 σ p ∧ mr_L σ p L ∧ mm_M σ (ms0 ++ o.map (fun c => (p, c))) ∧ σ.2 523 0 p = tl + (o.length : Int) ∧ σ.2 522 0 p = 0
def Tm_comes : eh_T := eh_RM fun as σ _ K => ∃ (p e : Int) (E P : Nat → Int → Int) (L : List pu_Rn) (ms0 : List (Int × pu_Rw)) (tl : Int), as = [.inl p, .inl e] ∧ mc_C σ p E P (e + 1) ∧ 0 ≤ e ∧ 0 < P 5 0 ∧ mr_L σ p L ∧ pu_Lok P e L ∧ mm_M σ ms0 ∧ σ.2 523 0 p = tl ∧ (0 ≤ tl ∧ tl ≤ 1990000) ∧ ms0.length ≤ 1990000 ∧ σ.2 522 0 p = 0 ∧ ∀ σ', eh_fr fm_V fm_A σ σ' → mo_O σ σ' p → mr_L σ' p (pu_come E P e L).1 → mm_M σ' (ms0 ++ (pu_come E P e L).2.1.map (fun c => (p, c))) → σ'.2 523 0 p = tl + ((pu_come E P e L).2.1.length : Int) → σ'.2 522 0 p = bz ((pu_come E P e L).2.2 = true) → K none σ'
theorem cm_comes (l : Launch) (D : va_G) (tc : Nat → ClassId) (ad : Nat → Int → Nat) (h99 : ∀ a : Int, ad 99 a = a.toNat) : eh_M l D tc ad eh_LX yX4_comes cX4_comes 5 none 4 Tm_comes := by
  refine eh_mk (rb := 2) (nm := eh_nX) (fl := eh_fl4) (kn := eh_kn4) (cs := (fun kk => match kk with | 173 => some (4, Tm_fits) | 188 => some (3, Tm_add) | 191 => some (2, Tm_isWhole) | 194 => some (2, Tm_tell) | 198 => some (2, Tm_make) | 201 => some (2, Tm_sweep) | 204 => some (4, Tm_asks) | _ => none)) (ss := (fun _ => none)) (by decide) (eh_worldX h99) eh_fl4_ok eh_kn4_ok (fun kk n T h => by
    split at h
    · cases h; exact eh_callV (c0 := 4) (cm_fits l D tc ad h99) q726 q728 qs30 q49 q729 (by decide +kernel) (by decide) (by decide) (by decide) rfl (eh_worldX h99) (fun _ _ _ _ h => eh_RM_rec h)
    · cases h; exact eh_callV (c0 := 4) (cm_add l D tc ad h99) q734 q736 qs32 q49 q737 (by decide +kernel) (by decide) (by decide) (by decide) rfl (eh_worldX h99) (fun _ _ _ _ h => eh_RM_rec h)
    · cases h; exact eh_callV (c0 := 4) (cm_isWhole l D tc ad h99) q738 q740 qs33 q49 q741 (by decide +kernel) (by decide) (by decide) (by decide) rfl (eh_worldX h99) (fun _ _ _ _ h => eh_RM_rec h)
    · cases h; exact eh_callV (c0 := 4) (cm_tell l D tc ad h99) q742 q744 qs34 q49 q745 (by decide +kernel) (by decide) (by decide) (by decide) rfl (eh_worldX h99) (fun _ _ _ _ h => eh_RM_rec h)
    · cases h; exact eh_callV (c0 := 4) (cm_make l D tc ad h99) q746 q748 qs35 q49 q749 (by decide +kernel) (by decide) (by decide) (by decide) rfl (eh_worldX h99) (fun _ _ _ _ h => eh_RM_rec h)
    · cases h; exact eh_callV (c0 := 4) (cm_sweep l D tc ad h99) q702 q704 qs24 q49 q705 (by decide +kernel) (by decide) (by decide) (by decide) rfl (eh_worldX h99) (fun _ _ _ _ h => eh_RM_rec h)
    · cases h; exact eh_callV (c0 := 4) (cm_asks l D tc ad h99) q714 q716 qs27 q49 q717 (by decide +kernel) (by decide) (by decide) (by decide) rfl (eh_worldX h99) (fun _ _ _ _ h => eh_RM_rec h)
    · cases h) (fun _ _ _ h => by cases h) ?_
  rintro as σ bd K ⟨_, rfl, p, e, E, P, L, ms0, tl, rfl, hC, he, h50, hL, hLo, hm, htl, htl2, hms, hsp, hK⟩
  refine ⟨Nat.le_of_ble_eq_true rfl, fun X hX => ?_⟩
  have hp := hC.1
  have hn := hC.2.1
  have heo := hC.2.2.2.2.1
  have hpo := hC.2.2.2.2.2
  have h5 := hpo.1
  have h8 := hpo.2.2.2.2.1
  have hL1 := hL.1
  have hLl := hLo.1
  -- the event alone
  have fin : ∀ (σ' : eh_S) (Lc : List pu_Rn) (o : List pu_Rw) (o3 o4 : Option eh_V), mb_S σ σ' p Lc ms0 o tl → Lc.length ≤ 200 → o.length ≤ 200 → (∀ σ'', eh_fr fm_V fm_A σ σ'' → mo_O σ σ'' p → mr_L σ'' p (pu_first1 E P e Lc o).1 → mm_M σ'' (ms0 ++ (pu_first1 E P e Lc o).2.1.map (fun c => (p, c))) → σ''.2 523 0 p = tl + ((pu_first1 E P e Lc o).2.1.length : Int) → σ''.2 522 0 p = bz ((pu_first1 E P e Lc o).2.2 = true) → K none σ'') → X 132 [some (.inr (some (4, 0))), some (.inl p), some (.inl e), o3, o4] [] σ' (0, 0) := by
    intro σ' Lc o o3 o4 hS hl ho hk
    have hf1 : eh_fr [542] [] σ' (eh_sV σ' 542 0 0) := eh_fr_sV eh_fr_rf (by decide)
    obtain ⟨a1, a2, a3, a4, a5, a6⟩ := hS
    have b1 : eh_fr fm_V fm_A σ (eh_sV σ' 542 0 0) := eh_fr_tr a1 (eh_fr_up hf1 (by decide) (by decide))
    have hrow1 : mc_row (eh_sV σ' 542 0 0) [] := by
      refine mc_row_mk ?_ (by rw [eh_sV_p]; exact Int.le_refl _)
      unfold pm_row
      rw [eh_sV_p]
      rfl
    have hC1 := mc_C_fr hC b1 (by decide)
    refine bX4_comes_132 hX (T173 := Tm_fits) rfl (fun hok => Tm_fits_go hC1 hrow1 (by simp) (fun q hq => by cases hq) ⟨Int.le_refl _, h50⟩ (by omega) ?_)
    unfold pu_first1 at hk
    by_cases hft : pu_fits E P [] 0 e = true
    · rw [if_pos hft] at hk
      refine bX4_comes_144 hX (T188 := Tm_add) rfl (fun hok => ⟨bz_r _, fun q => absurd hft (bz_0.mp q), fun _ => ?_⟩)
      refine ⟨_, rfl, e, 0, rfl, ⟨by unfold eh_r; omega, by unfold eh_r; omega⟩, by rw [hrow1.1]; simp, fun σ2 hf2 h2m h2r => ?_⟩
      have hr0 := hrow1.1
      simp only [List.length_nil, Int.natCast_zero] at hr0
      have hrow2 : mc_row σ2 [(e, 0)] := mc_row_mk (by rw [h2r, hrow1.2]) (by omega)
      have hf12 : eh_fr [542] [540, 541] σ' σ2 := eh_fr_tr (eh_fr_up hf1 (by decide) (by decide)) hf2
      have c1 : eh_fr fm_V fm_A σ σ2 := eh_fr_tr a1 (eh_fr_up hf12 (by decide) (by decide))
      have c2 : mo_O σ σ2 p := mo_O_tr a2 (mo_O_fr hf12 (by decide) (by decide) (by decide))
      have c3 := mr_L_fr a3 hf12 (by decide)
      have c4 := mm_M_fr a4 hf12 (by decide) (by decide)
      have c5 : σ2.2 523 0 p = tl + (o.length : Int) := by rw [hf12.2 523 (by decide)]; exact a5
      have c6 : σ2.2 522 0 p = 0 := by rw [hf12.2 522 (by decide)]; exact a6
      refine bX4_comes_154 hX (T198 := Tm_make) rfl (fun hok => ?_)
      refine ⟨_, rfl, p, [(e, 0)], Lc, rfl, hp, c3, hl, hrow2, by simp, fun h200 σ3 hf3 ha3 hb3 h3s h3L => ?_, fun h200 σ3 hf3 hmo3 hg3 hg3' h3L => ?_⟩
      · rw [if_pos h200] at hk
        refine bX4_comes_159 hX (T191 := Tm_isWhole) rfl (fun hok => ⟨by omega, fun _ => ?_, fun q => absurd rfl q⟩)
        refine hk σ3 (eh_fr_tr c1 (eh_fr_up hf3 (by decide) (by decide))) (mo_O_tr c2 ⟨⟨hb3, fun j _ => ?_, fun j _ => ?_⟩, ha3, eh_at_fr hf3 (by decide)⟩) h3L (mm_M_fr c4 hf3 (by decide) (by decide)) ?_ ?_
        · rw [hf3.2 530 (by decide), hf3.2 531 (by decide)]; exact ⟨rfl, rfl⟩
        · rw [hf3.2 532 (by decide), hf3.2 533 (by decide)]; exact ⟨rfl, rfl⟩
        · rw [hf3.2 523 (by decide)]; exact c5
        · rw [h3s]; exact (bz_t rfl).symm
      · rw [if_neg h200] at hk
        have hrow3 := mc_row_fr hrow2 hf3 (by decide) (by decide)
        have d1 : eh_fr fm_V fm_A σ σ3 := eh_fr_tr c1 (eh_fr_up hf3 (by decide) (by decide))
        have d2 : mo_O σ σ3 p := mo_O_tr c2 ⟨hmo3, eh_at_fr hf3 (by decide), eh_at_fr hf3 (by decide)⟩
        have d4 := mm_M_fr c4 hf3 (by decide) (by decide)
        have d5 : σ3.2 523 0 p = tl + (o.length : Int) := by rw [hf3.2 523 (by decide)]; exact c5
        have d6 : σ3.2 522 0 p = 0 := by rw [hf3.2 522 (by decide)]; exact c6
        refine bX4_comes_159 hX (T191 := Tm_isWhole) rfl (fun hok => ⟨by omega, fun q => absurd q (by decide), fun _ => ?_⟩)
        refine Tm_isWhole_go (mc_C_fr hC d1 (by decide)) hrow3 (by simp) ⟨Int.le_refl _, h50⟩ ?_
        have htp : pu_tip [(e, (0 : Int))] = 0 := rfl
        rw [htp]
        by_cases hw : pu_wh P 0 = true
        · rw [if_pos hw] at hk
          refine bX4_comes_168 hX (T194 := Tm_tell) rfl (fun hok => ⟨bz_r _, fun q => absurd hw (bz_0.mp q), fun _ => ?_⟩)
          refine ⟨_, rfl, p, [(e, 0)], _, rfl, hp, hrow3, by simp, d4, by omega, by rw [List.length_append, List.length_map]; omega, fun σ4 hf4 h4m h4a h4t => ?_⟩
          have g1 : eh_fr fm_V fm_A σ σ4 := eh_fr_tr d1 (eh_fr_up hf4 (by decide) (by decide))
          have g2 : mo_O σ σ4 p := mo_O_tr d2 ⟨mo_R_fr hf4 (by decide), eh_at_fr hf4 (by decide), h4a⟩
          have g3 := mr_L_fr h3L hf4 (by decide)
          have g4 := mm_M_app h4m
          have g5 : σ4.2 523 0 p = tl + ((o ++ [[(e, 0)]]).length : Int) := by
            rw [h4t, d5, List.length_append]
            simp only [List.length_cons, List.length_nil]
            omega
          have g6 : σ4.2 522 0 p = 0 := by rw [hf4.2 522 (by decide)]; exact d6
          have gl : σ4.2 529 0 p = (Lc.length : Int) + 1 := by rw [g3.1, List.length_append]; rfl
          have hP8 : σ4.2 517 0 p = P 8 0 := (mc_C_fr hC g1 (by decide)).2.2.2.1.2.2.2.1
          refine bX4_comes_177 hX (fun hok => ?_)
          rw [hP8]
          refine ⟨hp, fun h81 => ⟨by omega, ?_⟩, fun h81 => ?_⟩
          · rw [if_pos h81] at hk
            have hf5 : eh_fr [] [529] σ4 (eh_sA σ4 529 0 p (σ4.2 529 0 p - 1)) := eh_fr_sA eh_fr_rf (by decide)
            refine hk _ (eh_fr_tr g1 (eh_fr_up hf5 (by decide) (by decide))) (mo_O_tr g2 ⟨⟨fun j hj => eh_sA_n hj, fun j _ => ?_, fun j _ => ?_⟩, eh_at_fr hf5 (by decide), eh_at_fr hf5 (by decide)⟩) ⟨?_, fun i x hx => ?_⟩ (mm_M_fr g4 hf5 (by decide) (by decide)) ?_ ?_
            · rw [hf5.2 530 (by decide), hf5.2 531 (by decide)]; exact ⟨rfl, rfl⟩
            · rw [hf5.2 532 (by decide), hf5.2 533 (by decide)]; exact ⟨rfl, rfl⟩
            · rw [eh_sA_p, gl]; dsimp only; omega
            · refine mr_s_fr (g3.2 i x ?_) hf5 (by decide)
              rw [List.getElem?_append_left (ls_lt hx)]
              exact hx
            · rw [hf5.2 523 (by decide)]; exact g5
            · rw [hf5.2 522 (by decide), g6]; exact (bz_f Bool.false_ne_true).symm
          · rw [if_neg h81] at hk
            exact hk σ4 g1 g2 g3 g4 g5 (by rw [g6]; exact (bz_f Bool.false_ne_true).symm)
        · rw [if_neg hw] at hk
          refine bX4_comes_168 hX (T194 := Tm_tell) rfl (fun hok => ⟨bz_r _, fun _ => ?_, fun q => absurd (bz_n.mp q) hw⟩)
          exact hk σ3 d1 d2 h3L d4 d5 (by rw [d6]; exact (bz_f Bool.false_ne_true).symm)
    · rw [if_neg hft] at hk
      refine bX4_comes_144 hX (T188 := Tm_add) rfl (fun hok => ⟨bz_r _, fun _ => ?_, fun q => absurd (bz_n.mp q) hft⟩)
      exact hk _ b1 (mo_O_tr a2 (mo_O_fr hf1 (by decide) (by decide) (by decide))) (mr_L_fr a3 hf1 (by decide)) (mm_M_fr a4 hf1 (by decide) (by decide)) a5 (by rw [eh_sV_2, a6]; exact (bz_f Bool.false_ne_true).symm)
  -- every: run by run
  have keyE : P 8 0 ≠ 1 → ∀ (k : Nat) (σ' : eh_S) (Lc : List pu_Rn) (o : List pu_Rw) (r ah : Nat), ah = r + k → ah ≤ Lc.length → mb_S σ σ' p Lc ms0 o tl → (∀ i : Nat, i < Lc.length → σ'.2 534 0 i = 0) → Lc.length ≤ 200 → o.length ≤ Lc.length → (∀ (i : Nat) (x : pu_Rn), r ≤ i → i < ah → Lc[i]? = some x → pu_gd P e x.1) → (∀ σ'', eh_fr fm_V fm_A σ σ'' → mo_O σ σ'' p → mr_L σ'' p (let y := pu_ev E P e k r (Lc, o); if y.2.2 = true then y else pu_first1 E P e y.1 y.2.1).1 → mm_M σ'' (ms0 ++ (let y := pu_ev E P e k r (Lc, o); if y.2.2 = true then y else pu_first1 E P e y.1 y.2.1).2.1.map (fun c => (p, c))) → σ''.2 523 0 p = tl + ((let y := pu_ev E P e k r (Lc, o); if y.2.2 = true then y else pu_first1 E P e y.1 y.2.1).2.1.length : Int) → σ''.2 522 0 p = bz ((let y := pu_ev E P e k r (Lc, o); if y.2.2 = true then y else pu_first1 E P e y.1 y.2.1).2.2 = true) → K none σ'') → X 103 [some (.inr (some (4, 0))), some (.inl p), some (.inl e), some (.inl (ah : Int)), some (.inl (r : Int))] [] σ' (0, 0) := by
    intro h81 k
    induction k with
    | zero =>
      intro σ' Lc o r ah hah hahl hS hgo hl ho hgd hk
      refine bX4_comes_103 hX (T201 := Tm_sweep) (T204 := Tm_asks) rfl rfl (fun hok => ⟨by omega, by omega, fun h1 => ?_, fun h1 => absurd (show (ah : Int) ≤ r by omega) h1⟩)
      obtain ⟨a1, a2, a3, a4, a5, a6⟩ := hS
      have hkept : pm_kept (Lc.map (fun x => (x, false))) = Lc := by
        unfold pm_kept
        rw [List.filter_eq_self.mpr (fun y hy => by obtain ⟨x, -, rfl⟩ := List.mem_map.mp hy; rfl), List.map_map]
        exact List.map_id' Lc
      refine ⟨_, rfl, p, Lc.map (fun x => (x, false)), rfl, hp, by rw [List.length_map]; exact a3.1, by rw [List.length_map]; exact hl, fun i y hy => ?_, fun σ2 hf2 hmo2 h2L => ?_⟩
      · rw [List.getElem?_map] at hy
        cases hx : Lc[i]? with
        | none => rw [hx] at hy; cases hy
        | some x =>
          rw [hx] at hy
          cases hy
          exact ⟨by rw [hgo i (ls_lt hx)]; exact (bz_f Bool.false_ne_true).symm, fun _ => a3.2 i x hx⟩
      · rw [hkept] at h2L
        refine fin σ2 Lc o _ _ ⟨eh_fr_tr a1 (eh_fr_up hf2 (by decide) (by decide)), mo_O_tr a2 ⟨hmo2, eh_at_fr hf2 (by decide), eh_at_fr hf2 (by decide)⟩, h2L, mm_M_fr a4 hf2 (by decide) (by decide), by rw [hf2.2 523 (by decide)]; exact a5, by rw [hf2.2 522 (by decide)]; exact a6⟩ hl (by omega) ?_
        rw [pu_ev] at hk
        exact hk
    | succ k ih =>
      intro σ' Lc o r ah hah hahl hS hgo hl ho hgd hk
      have hS' := hS
      obtain ⟨a1, a2, a3, a4, a5, a6⟩ := hS
      have hrl : r < Lc.length := by omega
      obtain ⟨x, hx⟩ : ∃ x, Lc[r]? = some x := ⟨_, List.getElem?_eq_getElem hrl⟩
      rw [pu_ev, hx] at hk
      dsimp only at hk
      obtain ⟨q1, q2, q3, q4⟩ := pu_ask_keep (E := E) (P := P) (e := e) (r := r) (x := x) (st := (Lc, o)) hl ho
      refine bX4_comes_103 hX (T201 := Tm_sweep) (T204 := Tm_asks) rfl rfl (fun hok => ⟨by omega, by omega, fun h1 => by omega, fun h1 => ?_⟩)
      refine ⟨_, rfl, p, e, r, E, P, Lc, x, ms0, o, tl, rfl, mc_C_fr hC a1 (by decide), he, by omega, a3.2 r x hx, hgd r x (Nat.le_refl _) (by omega) hx, a4, a5, by omega, htl2, hms, fun _ => ⟨a3, hl, hx, ho, fun σ2 hS2 => ?_⟩, fun q => absurd q h81⟩
      obtain ⟨c1, c2, c3, c4, c5, c6, c7⟩ := hS2
      by_cases hsp2 : (pu_ask E P e r x (Lc, o)).2.2 = true
      · rw [if_pos hsp2] at hk c6
        rw [if_pos hsp2] at hk
        refine bX4_comes_117 hX (fun hok => ⟨bz_r _, fun _ => ?_, fun q => ?_⟩)
        · exact hk σ2 (eh_fr_tr a1 c1) (mo_O_tr a2 c2) c3 c4 c5 (by rw [c6]; exact (bz_t hsp2).symm)
        · rw [hsp2] at q
          exact absurd (bz_n.mp q) (by decide)
      · rw [if_neg hsp2] at hk c6
        have hsp3 : (pu_ask E P e r x (Lc, o)).2.2 = false := by simpa using hsp2
        obtain ⟨w1, w2, w3⟩ := q4 hsp3
        dsimp only at w2 w3
        refine bX4_comes_117 hX (fun hok => ⟨bz_r _, fun q => absurd hsp3 (bz_0.mp q), fun _ => ?_⟩)
        have := ih σ2 (pu_ask E P e r x (Lc, o)).1 (pu_ask E P e r x (Lc, o)).2.1 (r + 1) ah (by omega) (by omega) ⟨eh_fr_tr a1 c1, mo_O_tr a2 c2, c3, c4, c5, by rw [c6]; exact a6⟩ (fun i hi => ?_) q2 w1 (fun i y h0 h1 hy => ?_) hk
        · simpa using this
        · by_cases hil : i < Lc.length
          · rw [(c7 i).1 hil]; exact hgo i hil
          · exact (c7 i).2 (by omega) hi
        · rw [w3 i (by omega) (by omega)] at hy
          exact hgd i y (by omega) h1 hy
  -- next: run by run
  have keyN : P 8 0 = 1 → ∀ (todo : List pu_Rn) (σ' : eh_S) (D : List (pu_Rn × Bool)) (o : List pu_Rw) (ah : Nat), ah = D.length + todo.length → ah ≤ 200 → eh_fr fm_V fm_A σ σ' → mo_O σ σ' p → σ'.2 529 0 p = (ah : Int) → mm_M σ' (ms0 ++ o.map (fun c => (p, c))) → σ'.2 523 0 p = tl + (o.length : Int) → σ'.2 522 0 p = 0 → o.length ≤ D.length → (∀ (i : Nat) (y : pu_Rn × Bool), D[i]? = some y → σ'.2 534 0 i = bz (y.2 = true) ∧ (y.2 = false → mr_s σ' p i y.1)) → (∀ (i : Nat) (x : pu_Rn), todo[i]? = some x → σ'.2 534 0 ((D.length + i : Nat) : Int) = 0 ∧ mr_s σ' p ((D.length + i : Nat) : Int) x ∧ pu_gd P e x.1) → (∀ σ'', eh_fr fm_V fm_A σ σ'' → mo_O σ σ'' p → mr_L σ'' p (pu_first1 E P e (pm_kept D ++ todo.filterMap (fun x => (pu_nx E P e x).1)) (o ++ todo.filterMap (fun x => (pu_nx E P e x).2))).1 → mm_M σ'' (ms0 ++ (pu_first1 E P e (pm_kept D ++ todo.filterMap (fun x => (pu_nx E P e x).1)) (o ++ todo.filterMap (fun x => (pu_nx E P e x).2))).2.1.map (fun c => (p, c))) → σ''.2 523 0 p = tl + ((pu_first1 E P e (pm_kept D ++ todo.filterMap (fun x => (pu_nx E P e x).1)) (o ++ todo.filterMap (fun x => (pu_nx E P e x).2))).2.1.length : Int) → σ''.2 522 0 p = bz ((pu_first1 E P e (pm_kept D ++ todo.filterMap (fun x => (pu_nx E P e x).1)) (o ++ todo.filterMap (fun x => (pu_nx E P e x).2))).2.2 = true) → K none σ'') → X 103 [some (.inr (some (4, 0))), some (.inl p), some (.inl e), some (.inl (ah : Int)), some (.inl (D.length : Int))] [] σ' (0, 0) := by
    intro h81 todo
    induction todo with
    | nil =>
      intro σ' D o ah hah hahl a1 a2 a9 a4 a5 a6 ho hD htd hk
      simp only [List.length_nil, Nat.add_zero] at hah
      refine bX4_comes_103 hX (T201 := Tm_sweep) (T204 := Tm_asks) rfl rfl (fun hok => ⟨by omega, by omega, fun h1 => ?_, fun h1 => absurd (show (ah : Int) ≤ D.length by omega) h1⟩)
      refine ⟨_, rfl, p, D, rfl, hp, by rw [a9, hah], by omega, hD, fun σ2 hf2 hmo2 h2L => ?_⟩
      have hkl : (pm_kept D).length ≤ D.length := by
        unfold pm_kept
        rw [List.length_map]
        exact List.length_filter_le _ _
      refine fin σ2 (pm_kept D) o _ _ ⟨eh_fr_tr a1 (eh_fr_up hf2 (by decide) (by decide)), mo_O_tr a2 ⟨hmo2, eh_at_fr hf2 (by decide), eh_at_fr hf2 (by decide)⟩, h2L, mm_M_fr a4 hf2 (by decide) (by decide), by rw [hf2.2 523 (by decide)]; exact a5, by rw [hf2.2 522 (by decide)]; exact a6⟩ (by omega) (by omega) ?_
      simp only [List.filterMap_nil, List.append_nil] at hk
      exact hk
    | cons x t ih =>
      intro σ' D o ah hah hahl a1 a2 a9 a4 a5 a6 ho hD htd hk
      rw [List.length_cons] at hah
      obtain ⟨g0, gs, gg⟩ := htd 0 x rfl
      rw [Nat.add_zero] at g0 gs
      refine bX4_comes_103 hX (T201 := Tm_sweep) (T204 := Tm_asks) rfl rfl (fun hok => ⟨by omega, by omega, fun h1 => by omega, fun h1 => ?_⟩)
      refine ⟨_, rfl, p, e, D.length, E, P, [], x, ms0, o, tl, rfl, mc_C_fr hC a1 (by decide), he, by omega, gs, gg, a4, a5, by omega, htl2, hms, fun q => absurd h81 q, fun _ σ2 b1 b2 b3 b4 b5 b6 b7 b8 b9 b10 => ?_⟩
      refine bX4_comes_117 hX (fun hok => ⟨by omega, fun q => absurd q (by decide), fun _ => ?_⟩)
      have c9 : σ2.2 529 0 p = (ah : Int) := by rw [b4]; exact a9
      have c6 : σ2.2 522 0 p = 0 := by rw [b5]; exact a6
      have htd2 : ∀ (i : Nat) (y : pu_Rn), t[i]? = some y → σ2.2 534 0 ((D.length + 1 + i : Nat) : Int) = 0 ∧ mr_s σ2 p ((D.length + 1 + i : Nat) : Int) y ∧ pu_gd P e y.1 := by
        intro i y hy
        have := htd (i + 1) y hy
        rw [show D.length + (i + 1) = D.length + 1 + i by omega] at this
        obtain ⟨z1, z2, z3⟩ := this
        exact ⟨by rw [b8 _ (by omega)]; exact z1, mr_s_slot z2 b3 (by omega), z3⟩
      have step : ∀ (y : pu_Rn) (g : Bool), (σ2.2 534 0 (D.length : Int) = bz (g = true)) → (g = false → mr_s σ2 p (D.length : Int) y) → pm_kept D ++ (x :: t).filterMap (fun x => (pu_nx E P e x).1) = pm_kept (D ++ [(y, g)]) ++ t.filterMap (fun x => (pu_nx E P e x).1) → X 103 [some (.inr (some (4, 0))), some (.inl p), some (.inl e), some (.inl (ah : Int)), some (.inl ((D.length : Int) + 1))] [] σ2 (0, 0) := by
        intro y g hg0 hg1 hkp
        have ho2 : (x :: t).filterMap (fun x => (pu_nx E P e x).2) = (pu_nx E P e x).2.toList ++ t.filterMap (fun x => (pu_nx E P e x).2) := by
          rw [List.filterMap_cons]
          cases (pu_nx E P e x).2 <;> rfl
        rw [hkp, ho2, ← List.append_assoc] at hk
        have hdl : (D ++ [(y, g)]).length = D.length + 1 := by simp
        have hol : (pu_nx E P e x).2.toList.length ≤ 1 := by cases (pu_nx E P e x).2 <;> simp
        have := ih σ2 (D ++ [(y, g)]) (o ++ (pu_nx E P e x).2.toList) ah (by omega) hahl (eh_fr_tr a1 b1) (mo_O_tr a2 b2) c9 b6 b7 c6 (by rw [List.length_append]; omega) (fun i z hz => ?_) (fun i z hz => by rw [hdl]; exact htd2 i z hz) hk
        · rw [hdl] at this
          simpa using this
        · rcases ls_snoc hz with ⟨h4, h5⟩ | ⟨h4, rfl⟩
          · obtain ⟨z1, z2⟩ := hD i z h5
            exact ⟨by rw [b8 _ (by omega)]; exact z1, fun q => mr_s_slot (z2 q) b3 (by omega)⟩
          · rw [h4]
            exact ⟨hg0, hg1⟩
      have hfm : (x :: t).filterMap (fun x => (pu_nx E P e x).1) = (pu_nx E P e x).1.toList ++ t.filterMap (fun x => (pu_nx E P e x).1) := by
        rw [List.filterMap_cons]
        cases (pu_nx E P e x).1 <;> rfl
      cases hnx : (pu_nx E P e x).1 with
      | none =>
        rw [hnx, if_pos rfl] at b9
        refine step x true (by rw [b9]; exact (bz_t rfl).symm) (fun q => by cases q) ?_
        rw [hfm, hnx]
        unfold pm_kept
        rw [List.filter_append]
        simp
      | some y =>
        rw [hnx, if_neg (by simp)] at b9
        refine step y false (by rw [b9, g0]; exact (bz_f Bool.false_ne_true).symm) (fun _ => b10 y hnx) ?_
        rw [hfm, hnx]
        unfold pm_kept
        rw [List.filter_append]
        simp
  -- gone: none
  have key0 : ∀ (k : Nat) (σ' : eh_S) (r ah : Nat), ah = r + k → ah ≤ 200 → (∀ σ'', eh_fr [] [534] σ' σ'' → (∀ i : Nat, i < ah → σ''.2 534 0 i = 0) → X 103 [some (.inr (some (4, 0))), some (.inl p), some (.inl e), some (.inl (ah : Int)), some (.inl 0)] [] σ'' (0, 0)) → (∀ i : Nat, i < r → σ'.2 534 0 i = 0) → X 80 [some (.inr (some (4, 0))), some (.inl p), some (.inl e), some (.inl (ah : Int)), some (.inl (r : Int))] [] σ' (0, 0) := by
    intro k
    induction k with
    | zero =>
      intro σ' r ah hah hahl hk hg
      refine bX4_comes_80 hX (fun hok => ⟨by omega, by omega, fun h1 => hk σ' eh_fr_rf (fun i hi => hg i (by omega)), fun h1 => absurd (show (ah : Int) ≤ r by omega) h1⟩)
    | succ k ih =>
      intro σ' r ah hah hahl hk hg
      refine bX4_comes_80 hX (fun hok => ⟨by omega, by omega, fun h1 => by omega, fun h1 => ⟨by omega, ?_⟩⟩)
      have := ih (eh_sA σ' 534 0 (r : Int) 0) (r + 1) ah (by omega) hahl (fun σ'' hf hg => hk σ'' (eh_fr_tr (eh_fr_sA eh_fr_rf (by decide)) hf) hg) (fun i hi => ?_)
      · simpa using this
      · by_cases hir : i = r
        · rw [hir, eh_sA_p]
        · rw [eh_sA_n (by omega)]
          exact hg i (by omega)
  -- too old
  have key1 : ∀ (k : Nat) (σ' : eh_S) (r : Nat) (o4 : Option eh_V), L.length = r + k → eh_fr [] [534] σ σ' → (∀ (i : Nat) (x : pu_Rn), i < r → L[i]? = some x → σ'.2 534 0 i = bz ((!pu_young E P e x) = true)) → X 2 [some (.inr (some (4, 0))), some (.inl p), some (.inl e), some (.inl (r : Int)), o4] [] σ' (0, 0) := by
    intro k
    induction k with
    | zero =>
      intro σ' r o4 hr hf hg
      have e9 : σ'.2 529 0 p = (L.length : Int) := by rw [hf.2 529 (by decide)]; exact hL1
      refine bX4_comes_2 hX (T201 := Tm_sweep) rfl (fun hok => ⟨hp, by omega, fun h1 => ?_, fun h1 => absurd (show σ'.2 529 0 p ≤ r by omega) h1⟩)
      have hkept : pm_kept (L.map (fun x => (x, !pu_young E P e x))) = L.filter (pu_young E P e) := by
        unfold pm_kept
        rw [List.filter_map, List.map_map]
        have : ((fun y : pu_Rn × Bool => !y.2) ∘ fun x => (x, !pu_young E P e x)) = pu_young E P e := by
          funext x
          simp
        rw [this]
        exact List.map_id' _
      refine ⟨_, rfl, p, L.map (fun x => (x, !pu_young E P e x)), rfl, hp, by rw [List.length_map]; exact e9, by rw [List.length_map]; exact hLl, fun i y hy => ?_, fun σ2 hf2 hmo2 h2L => ?_⟩
      · rw [List.getElem?_map] at hy
        cases hx : L[i]? with
        | none => rw [hx] at hy; cases hy
        | some x =>
          rw [hx] at hy
          cases hy
          exact ⟨hg i x (by have := ls_lt hx; omega) hx, fun _ => mr_s_fr (hL.2 i x hx) hf (by decide)⟩
      · rw [hkept] at h2L
        have hl0 : (L.filter (pu_young E P e)).length ≤ 200 := Nat.le_trans (List.length_filter_le _ _) hLl
        have hgd0 : ∀ x ∈ L.filter (pu_young E P e), pu_gd P e x.1 := fun x hx => hLo.2 x (List.mem_filter.mp hx).1
        have hf02 : eh_fr [542] [529, 530, 531, 532, 533, 534, 540, 541] σ σ2 := eh_fr_tr (eh_fr_up hf (by decide) (by decide)) (eh_fr_up hf2 (by decide) (by decide))
        refine bX4_comes_70 hX (fun hok => ⟨hp, ?_⟩)
        rw [h2L.1]
        refine key0 _ σ2 0 _ (Nat.zero_add _).symm hl0 (fun σ3 hf3 hg3 => ?_) (fun i hi => absurd hi (Nat.not_lt_zero _))
        have hf03 : eh_fr [542] [529, 530, 531, 532, 533, 534, 540, 541] σ σ3 := eh_fr_tr hf02 (eh_fr_up hf3 (by decide) (by decide))
        have a1 : eh_fr fm_V fm_A σ σ3 := eh_fr_up hf03 (by decide) (by decide)
        have a2 : mo_O σ σ3 p := ⟨mo_R_tr (mo_R_fr hf (by decide)) (mo_R_tr hmo2 (mo_R_fr hf3 (by decide))), eh_at_fr hf03 (by decide), eh_at_fr hf03 (by decide)⟩
        have a3 := mr_L_fr h2L hf3 (by decide)
        have a4 : mm_M σ3 (ms0 ++ ([] : List pu_Rw).map (fun c => (p, c))) := by
          rw [List.map_nil, List.append_nil]
          exact mm_M_fr hm hf03 (by decide) (by decide)
        have a5 : σ3.2 523 0 p = tl + (([] : List pu_Rw).length : Int) := by
          rw [hf03.2 523 (by decide), htl]
          simp
        have a6 : σ3.2 522 0 p = 0 := by rw [hf03.2 522 (by decide)]; exact hsp
        unfold pu_come at hK
        by_cases h81 : P 8 0 = 1
        · rw [if_pos h81] at hK
          have := keyN h81 (L.filter (pu_young E P e)) σ3 [] [] _ (Nat.zero_add _).symm hl0 a1 a2 a3.1 a4 a5 a6 (Nat.le_refl _) (fun i y hy => by simp at hy) (fun i x hx => ?_) hK
          · exact this
          · have e0 : (([] : List (pu_Rn × Bool)).length + i : Nat) = i := Nat.zero_add i
            rw [e0]
            exact ⟨hg3 i (ls_lt hx), a3.2 i x hx, hgd0 x (List.mem_of_getElem? hx)⟩
        · rw [if_neg h81] at hK
          exact keyE h81 _ σ3 (L.filter (pu_young E P e)) [] 0 _ (Nat.zero_add _).symm (Nat.le_refl _) ⟨a1, a2, a3, a4, a5, a6⟩ hg3 hl0 (Nat.zero_le _) (fun i x _ _ hx => hgd0 x (List.mem_of_getElem? hx)) hK
    | succ k ih =>
      intro σ' r o4 hr hf hg
      have e9 : σ'.2 529 0 p = (L.length : Int) := by rw [hf.2 529 (by decide)]; exact hL1
      obtain ⟨x, hx⟩ : ∃ x, L[r]? = some x := ⟨_, List.getElem?_eq_getElem (show r < L.length by omega)⟩
      obtain ⟨s1, s2, s3, s4⟩ := mr_s_fr (hL.2 r x hx) hf (by decide)
      have hgx := hLo.2 x (List.mem_of_getElem? hx)
      have hlx := pu_gd_len hgx hpo
      have hfx := pu_gd_first hgx
      have hfst : σ'.2 532 0 (24 * (201 * p + (r : Int))) = pu_first x.1 := by
        rw [← s3]
        unfold pm_run
        rw [pu_first_rowL (by omega), Int.add_zero]
      have hC' := mc_C_fr hC hf (by decide)
      have hm1 : ∀ j, 0 ≤ j → j < e + 1 → σ'.2 510 0 j = E 1 j := fun j h0 h1 => (hC'.2.2.1.2.1 j h0 h1).2
      have hP7 : σ'.2 516 0 p = P 7 0 := hC'.2.2.2.1.2.2.1
      have r1 := (heo.2 e he (by omega)).2
      have r2 := (heo.2 (pu_first x.1) hfx.1 (by omega)).2
      refine bX4_comes_2 hX (T201 := Tm_sweep) rfl (fun hok => ?_)
      rw [hfst, hm1 e he (by omega), hm1 _ hfx.1 (by omega), hP7]
      have stp : ∀ v : Int, v = bz ((!pu_young E P e x) = true) → X 2 [some (.inr (some (4, 0))), some (.inl p), some (.inl e), some (.inl ((r : Int) + 1)), o4] [] (eh_sA σ' 534 0 (r : Int) v) (0, 0) := by
        intro v hv
        have := ih (eh_sA σ' 534 0 (r : Int) v) (r + 1) o4 (by omega) (eh_fr_sA hf (by decide)) (fun i y hi hy => ?_)
        · simpa using this
        · by_cases hir : i = r
          · rw [hir] at hy ⊢
            rw [hx] at hy
            cases hy
            rw [eh_sA_p]
            exact hv
          · rw [eh_sA_n (by omega)]
            exact hg i y (by omega) hy
      refine ⟨hp, by omega, fun h1 => by omega, fun h1 => ⟨by omega, by omega, by omega, by omega, fun h2 => ⟨by omega, stp 0 ?_⟩, fun h2 => ⟨by omega, stp 1 ?_⟩⟩⟩
      · unfold pu_young
        rw [decide_eq_true h2]
        exact (bz_f Bool.false_ne_true).symm
      · unfold pu_young
        rw [decide_eq_false h2]
        exact (bz_t rfl).symm
  refine bX4_comes_0 hX (fun hok => ?_)
  exact key1 L.length σ 0 _ (Nat.zero_add _).symm eh_fr_rf (fun i x hi _ => absurd hi (Nat.not_lt_zero _))
