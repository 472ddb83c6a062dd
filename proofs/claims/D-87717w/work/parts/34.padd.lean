/-! EventHunter.Pattern: age, spend, add -/
def xr_s (σ : eh_S) (q i : Int) (y : Int × pu_Rn) : Prop := σ.2 413 q i = y.1 ∧ σ.2 414 q i = bz (y.2.2 = true)
theorem xr_s_fr {SV SA : List Nat} {σ σ' : eh_S} {q i : Int} {y : Int × pu_Rn} (h : xr_s σ q i y) (hf : eh_fr SV SA σ σ') (hd : ∀ c ∈ [413, 414], c ∉ SA) : xr_s σ' q i y := by
  unfold xr_s
  rw [hf.2 413 (hd 413 (by decide)), hf.2 414 (hd 414 (by decide))]
  exact h
def xr_G (σ : eh_S) (q : Int) (G : List (Int × pu_Rn)) : Prop := σ.1 415 q = (G.length : Int) ∧ ∀ (i : Nat) (y : Int × pu_Rn), G[i]? = some y → xr_s σ q i y
theorem xr_G_fr {SV SA : List Nat} {σ σ' : eh_S} {q : Int} {G : List (Int × pu_Rn)} (h : xr_G σ q G) (hf : eh_fr SV SA σ σ') (hd : ∀ c ∈ [413, 414], c ∉ SA) (hv : 415 ∉ SV) : xr_G σ' q G := by
  refine ⟨?_, fun i y hy => xr_s_fr (h.2 i y hy) hf hd⟩
  rw [hf.1 415 hv]
  exact h.1
/-- of what belongs to the patterns' runs only that of q has changed -/
def xo_Q (σ σ' : eh_S) (q : Int) : Prop := ∀ i, i ≠ q → σ'.2 413 i = σ.2 413 i ∧ σ'.2 414 i = σ.2 414 i ∧ σ'.1 415 i = σ.1 415 i ∧ σ'.1 410 i = σ.1 410 i ∧ σ'.1 412 i = σ.1 412 i
theorem xo_Q_tr {σ σ' σ'' : eh_S} {q : Int} (h : xo_Q σ σ' q) (h' : xo_Q σ' σ'' q) : xo_Q σ σ'' q := fun i hi => by
  obtain ⟨a1, a2, a3, a4, a5⟩ := h i hi
  obtain ⟨b1, b2, b3, b4, b5⟩ := h' i hi
  exact ⟨b1.trans a1, b2.trans a2, b3.trans a3, b4.trans a4, b5.trans a5⟩
theorem xo_Q_fr {SV SA : List Nat} {σ σ' : eh_S} {q : Int} (hf : eh_fr SV SA σ σ') (hd : ∀ c ∈ [413, 414], c ∉ SA) (hv : ∀ v ∈ [410, 412, 415], v ∉ SV) : xo_Q σ σ' q := fun i _ => by
  rw [hf.2 413 (hd 413 (by decide)), hf.2 414 (hd 414 (by decide)), hf.1 415 (hv 415 (by decide)), hf.1 410 (hv 410 (by decide)), hf.1 412 (hv 412 (by decide))]
  exact ⟨rfl, rfl, rfl, rfl, rfl⟩
theorem xo_Q_A {σ σ' : eh_S} {q z x : Int} {c : Nat} (h : xo_Q σ σ' q) : xo_Q σ (eh_sA σ' c q z x) q := fun i hi => by
  obtain ⟨a1, a2, a3, a4, a5⟩ := h i hi
  refine ⟨?_, ?_, a3, a4, a5⟩
  · rw [eh_sA_r (fun q => hi q.2)]; exact a1
  · rw [eh_sA_r (fun q => hi q.2)]; exact a2
theorem xo_Q_V {σ σ' : eh_S} {q z : Int} {v : Nat} (h : xo_Q σ σ' q) : xo_Q σ (eh_sV σ' v q z) q := fun i hi => by
  obtain ⟨a1, a2, a3, a4, a5⟩ := h i hi
  have e : ∀ v', (eh_sV σ' v q z).1 v' i = σ'.1 v' i := fun v' => if_neg (fun q => hi q.2)
  exact ⟨a1, a2, by rw [e]; exact a3, by rw [e]; exact a4, by rw [e]; exact a5⟩
theorem xo_Q_rf {σ : eh_S} {q : Int} : xo_Q σ σ q := fun _ _ => ⟨rfl, rfl, rfl, rfl, rfl⟩
theorem xr_perm {A B : List (Int × pu_Rn)} {y : Int × pu_Rn} {O : List Int} : ((A ++ y :: B).map Prod.fst ++ O).Perm (y.1 :: ((A ++ B).map Prod.fst ++ O)) := by
  rw [List.map_append, List.map_cons, List.append_assoc, List.cons_append, List.map_append, List.append_assoc]
  exact List.perm_middle
def Tp_age : eh_T := eh_R3 fun q as σ _ K => ∃ (e : Int) (E P : Nat → Int → Int) (G : List (Int × pu_Rn)) (O : List Int), as = [.inl e] ∧ xc_C σ q E P (e + 1) ∧ 0 ≤ e ∧ xr_G σ q G ∧ G.length ≤ 200 ∧ (∀ y ∈ G, pu_gd P e y.2.1 ∧ xw_way σ y.2.1 y.1) ∧ xw_I σ (G.map Prod.fst ++ O) ∧ O.length ≤ 1400 ∧ ∀ σ', eh_fr [204, 415] [202, 203, 413, 414] σ σ' → xo_Q σ σ' q → xr_G σ' q (G.filter (fun y => pu_young E P e y.2)) → (∀ y ∈ G.filter (fun y => pu_young E P e y.2), xw_way σ' y.2.1 y.1) → xw_I σ' ((G.filter (fun y => pu_young E P e y.2)).map Prod.fst ++ O) → (∀ r ∈ O, ∀ row, xw_way σ row r → xw_way σ' row r) → K none σ'
theorem cp_age (l : Launch) (D : va_G) (tc : Nat → ClassId) (ad : Nat → Int → Nat) (h99 : ∀ a : Int, ad 99 a = a.toNat) : eh_M l D tc ad eh_LX yX3_age cX3_age 4 none 1 Tp_age := by
  refine eh_mk (rb := 2) (nm := eh_nX) (fl := eh_fl3) (kn := eh_kn3) (cs := (fun kk => match kk with | 114 => some (2, Tw_first) | 120 => some (2, Tw_leave) | _ => none)) (ss := (fun _ => none)) (by decide) (eh_worldX h99) eh_fl3_ok eh_kn3_ok (fun kk n T h => by
    split at h
    · cases h; exact eh_callV (c0 := 1) (cw_first l D tc ad h99) q334 q335 q336 q46 q337 (by decide +kernel) (by decide) (by decide) (by decide) rfl (eh_worldX h99) (fun _ _ _ _ h => eh_R1_rec h)
    · cases h; exact eh_callV (c0 := 1) (cw_leave l D tc ad h99) q338 q339 q340 q46 q341 (by decide +kernel) (by decide) (by decide) (by decide) rfl (eh_worldX h99) (fun _ _ _ _ h => eh_R1_rec h)
    · cases h) (fun _ _ _ h => by cases h) ?_
  rintro as σ bd K ⟨q, _, rfl, hq, e, E, P, G, O, rfl, hC, he, hG, hGl, hgd, hI, hOl, hK⟩
  refine ⟨Nat.le_of_ble_eq_true rfl, fun X hX => ?_⟩
  have hn := hC.2.1.1
  have heo := hC.2.1.2.2
  have hpo := hC.2.2.2
  have key : ∀ (T : List (Int × pu_Rn)) (σ' : eh_S) (Kp : List (Int × pu_Rn)) (r : Nat), G.length = r + T.length → Kp.length ≤ r → eh_fr [204, 415] [202, 203, 413, 414] σ σ' → xo_Q σ σ' q → σ'.1 415 q = (G.length : Int) → (∀ (i : Nat) (y : Int × pu_Rn), Kp[i]? = some y → xr_s σ' q i y) → (∀ (i : Nat) (y : Int × pu_Rn), T[i]? = some y → xr_s σ' q ((r + i : Nat) : Int) y) → (∀ y ∈ Kp ++ T, pu_gd P e y.2.1 ∧ xw_way σ' y.2.1 y.1) → xw_I σ' ((Kp ++ T).map Prod.fst ++ O) → (∀ r ∈ O, ∀ row, xw_way σ row r → xw_way σ' row r) → (∀ σ', eh_fr [204, 415] [202, 203, 413, 414] σ σ' → xo_Q σ σ' q → xr_G σ' q (Kp ++ T.filter (fun y => pu_young E P e y.2)) → (∀ y ∈ Kp ++ T.filter (fun y => pu_young E P e y.2), xw_way σ' y.2.1 y.1) → xw_I σ' ((Kp ++ T.filter (fun y => pu_young E P e y.2)).map Prod.fst ++ O) → (∀ r ∈ O, ∀ row, xw_way σ row r → xw_way σ' row r) → K none σ') → X 4 [some (.inr (some (3, q))), some (.inl e), some (.inl (Kp.length : Int)), some (.inl (r : Int))] [] σ' (0, 0) := by
    intro T
    induction T with
    | nil =>
      intro σ' Kp r hlen hkr hf hQ h415 hkp htd hwy hI' hO hK
      simp only [List.length_nil, Nat.add_zero] at hlen
      simp only [List.filter_nil, List.append_nil] at hK hwy hI'
      refine bX3_age_4 hX (T114 := Tw_first) rfl hq (fun hok => ⟨by omega, fun h1 => ⟨by omega, ?_⟩, fun h1 => by omega⟩)
      have hf1 : eh_fr [415] [] σ' (eh_sV σ' 415 q (Kp.length : Int)) := eh_fr_sV eh_fr_rf (by decide)
      exact hK _ (eh_fr_tr hf (eh_fr_up hf1 (by decide) (by decide))) (xo_Q_V hQ) ⟨eh_sV_p, fun i y hy => xr_s_fr (hkp i y hy) hf1 (by decide)⟩ (fun y hy => xw_way_fr hf1 (by decide) (hwy y hy).2) (xw_I_fr hI' hf1 (by decide) (by decide) (by decide)) (fun r hr row h => xw_way_fr hf1 (by decide) (hO r hr row h))
    | cons y t ih =>
      intro σ' Kp r hlen hkr hf hQ h415 hkp htd hwy hI' hO hK
      rw [List.length_cons] at hlen
      obtain ⟨s1, s2⟩ := htd 0 y rfl
      rw [Nat.add_zero] at s1 s2
      obtain ⟨gy, wy⟩ := hwy y (List.mem_append_right _ List.mem_cons_self)
      have hfy := pu_gd_first gy
      have hC' := xc_C_fr hC hf (by decide) (by decide)
      have hm1 : ∀ j, 0 ≤ j → j < e + 1 → σ'.2 102 0 j = E 1 j := fun j h0 h1 => (hC'.2.1.2.1.2.1 j h0 h1).2
      have e400 : σ'.1 400 q = P 7 0 := hC'.2.2.1.2.2.1
      have r1 := (heo.2 e he (by omega)).2
      have r2 := (heo.2 (pu_first y.2.1) hfy.1 (by omega)).2
      have htd' : ∀ (i : Nat) (z : Int × pu_Rn), t[i]? = some z → xr_s σ' q ((r + 1 + i : Nat) : Int) z := fun i z hz => by
        have := htd (i + 1) z hz
        rw [show r + (i + 1) = r + 1 + i by omega] at this
        exact this
      refine bX3_age_4 hX (T114 := Tw_first) rfl hq (fun hok => ⟨by omega, fun h1 => by omega, fun h1 => ⟨by omega, by omega, ?_⟩⟩)
      rw [s1]
      refine ⟨_, rfl, y.1, y.2.1, rfl, gy.1, wy, ?_⟩
      refine bX3_age_44 hX (T120 := Tw_leave) rfl hq (fun hok => ?_)
      rw [hm1 e he (by omega), hm1 _ hfy.1 (by omega), e400, s1, s2]
      refine ⟨by omega, by omega, fun h2 => ⟨by omega, by omega, bz_01 _, ?_⟩, fun h2 => ⟨by omega, ?_⟩⟩
      · have hyg : pu_young E P e y.2 = true := decide_eq_true h2
        have hf1 : eh_fr [] [413, 414] σ' (eh_sA (eh_sA σ' 413 q (Kp.length : Int) y.1) 414 q (Kp.length : Int) (bz (y.2.2 = true))) := eh_fr_sA (eh_fr_sA eh_fr_rf (by decide)) (by decide)
        have hfl : (y :: t).filter (fun y => pu_young E P e y.2) = y :: t.filter (fun y => pu_young E P e y.2) := List.filter_cons_of_pos hyg
        have e1 : Kp ++ y :: t = (Kp ++ [y]) ++ t := by simp
        have e2 : Kp ++ (y :: t).filter (fun y => pu_young E P e y.2) = (Kp ++ [y]) ++ t.filter (fun y => pu_young E P e y.2) := by rw [hfl]; simp
        rw [e1] at hwy hI'
        rw [e2] at hK
        have := ih _ (Kp ++ [y]) (r + 1) (by omega) (by simp; omega) (eh_fr_tr hf (eh_fr_up hf1 (by decide) (by decide))) (xo_Q_A (xo_Q_A hQ)) h415 (fun i z hz => ?_) (fun i z hz => ?_) (fun z hz => ⟨(hwy z hz).1, xw_way_fr hf1 (by decide) (hwy z hz).2⟩) (xw_I_fr hI' hf1 (by decide) (by decide) (by decide)) (fun r hr row h => xw_way_fr hf1 (by decide) (hO r hr row h)) hK
        · rw [List.length_append] at this
          simpa using this
        · rcases ls_snoc hz with ⟨h4, h5⟩ | ⟨h4, rfl⟩
          · obtain ⟨v1, v2⟩ := hkp i z h5
            refine ⟨?_, ?_⟩
            · rw [eh_sA_c (by decide), eh_sA_n (by omega)]; exact v1
            · rw [eh_sA_n (by omega), eh_sA_c (by decide)]; exact v2
          · rw [h4]
            exact ⟨by rw [eh_sA_c (by decide), eh_sA_p], by rw [eh_sA_p]⟩
        · obtain ⟨v1, v2⟩ := htd' i z hz
          refine ⟨?_, ?_⟩
          · rw [eh_sA_c (by decide), eh_sA_n (by omega)]; exact v1
          · rw [eh_sA_n (by omega), eh_sA_c (by decide)]; exact v2
      · have hyg : ¬ pu_young E P e y.2 = true := by unfold pu_young; simpa using h2
        have hfl : (y :: t).filter (fun y => pu_young E P e y.2) = t.filter (fun y => pu_young E P e y.2) := List.filter_cons_of_neg hyg
        rw [hfl] at hK
        have hkl : Kp.length + t.length ≤ 200 := by omega
        refine ⟨_, rfl, y.1, (Kp ++ t).map Prod.fst ++ O, rfl, xw_I_perm hI' xr_perm, by simp only [List.length_append, List.length_map]; omega, fun σ2 hf2 hI2 hw2 => ?_⟩
        refine bX3_age_69 hX hq (fun hok => ?_)
        have hroot : ∀ z ∈ Kp ++ t, z.1 ∈ (Kp ++ t).map Prod.fst ++ O := fun z hz => List.mem_append_left _ (List.mem_map.mpr ⟨z, hz, rfl⟩)
        have hsub : ∀ z ∈ Kp ++ t, z ∈ Kp ++ y :: t := fun z hz => by
          rcases List.mem_append.mp hz with h | h
          · exact List.mem_append_left _ h
          · exact List.mem_append_right _ (List.mem_cons_of_mem _ h)
        have := ih σ2 Kp (r + 1) (by omega) (by omega) (eh_fr_tr hf (eh_fr_up hf2 (by decide) (by decide))) (xo_Q_tr hQ (xo_Q_fr hf2 (by decide) (by decide))) (by rw [hf2.1 415 (by decide)]; exact h415) (fun i z hz => xr_s_fr (hkp i z hz) hf2 (by decide)) (fun i z hz => xr_s_fr (htd' i z hz) hf2 (by decide)) (fun z hz => ⟨(hwy z (hsub z hz)).1, hw2 _ (hroot z hz) _ (hwy z (hsub z hz)).2⟩) hI2 (fun r hr row h => hw2 r (List.mem_append_right _ hr) row (hO r hr row h)) hK
        simpa using this
  refine bX3_age_0 hX hq (fun hok => ?_)
  exact key G σ [] 0 (Nat.zero_add _).symm (Nat.le_refl _) eh_fr_rf xo_Q_rf hG.1 (fun i y hy => by simp at hy) (fun i y hy => by rw [Nat.zero_add]; exact hG.2 i y hy) hgd hI (fun _ _ _ h => h) hK
def Tp_spend : eh_T := eh_R3 fun q as σ _ K => ∃ (G : List (Int × pu_Rn)) (O : List Int), as = [] ∧ xr_G σ q G ∧ G.length ≤ 200 ∧ xw_I σ (G.map Prod.fst ++ O) ∧ O.length ≤ 1400 ∧ ∀ σ', eh_fr [204, 410, 415] [202, 203] σ σ' → xo_Q σ σ' q → σ'.1 415 q = 0 → σ'.1 410 q = 1 → xw_I σ' O → (∀ r ∈ O, ∀ row, xw_way σ row r → xw_way σ' row r) → K none σ'
theorem cp_spend (l : Launch) (D : va_G) (tc : Nat → ClassId) (ad : Nat → Int → Nat) (h99 : ∀ a : Int, ad 99 a = a.toNat) : eh_M l D tc ad eh_LX yX3_spend cX3_spend 2 none 1 Tp_spend := by
  refine eh_mk (rb := 2) (nm := eh_nX) (fl := eh_fl3) (kn := eh_kn3) (cs := (fun kk => match kk with | 120 => some (2, Tw_leave) | _ => none)) (ss := (fun _ => none)) (by decide) (eh_worldX h99) eh_fl3_ok eh_kn3_ok (fun kk n T h => by
    split at h
    · cases h; exact eh_callV (c0 := 1) (cw_leave l D tc ad h99) q338 q339 q340 q46 q341 (by decide +kernel) (by decide) (by decide) (by decide) rfl (eh_worldX h99) (fun _ _ _ _ h => eh_R1_rec h)
    · cases h) (fun _ _ _ h => by cases h) ?_
  rintro as σ bd K ⟨q, _, rfl, hq, G, O, rfl, hG, hGl, hI, hOl, hK⟩
  refine ⟨Nat.le_of_ble_eq_true rfl, fun X hX => ?_⟩
  have key : ∀ (T : List (Int × pu_Rn)) (σ' : eh_S) (r : Nat), G.length = r + T.length → eh_fr [204, 410, 415] [202, 203] σ σ' → xo_Q σ σ' q → σ'.1 415 q = (G.length : Int) → (∀ (i : Nat) (y : Int × pu_Rn), T[i]? = some y → xr_s σ' q ((r + i : Nat) : Int) y) → xw_I σ' (T.map Prod.fst ++ O) → (∀ r ∈ O, ∀ row, xw_way σ row r → xw_way σ' row r) → X 2 [some (.inr (some (3, q))), some (.inl (r : Int))] [] σ' (0, 0) := by
    intro T
    induction T with
    | nil =>
      intro σ' r hlen hf hQ h415 htd hI' hO
      simp only [List.length_nil, Nat.add_zero] at hlen
      refine bX3_spend_2 hX (T120 := Tw_leave) rfl hq (fun hok => ⟨by omega, fun _ => ?_, fun h1 => by omega⟩)
      have hf1 : eh_fr [410, 415] [] σ' (eh_sV (eh_sV σ' 415 q 0) 410 q 1) := eh_fr_sV (eh_fr_sV eh_fr_rf (by decide)) (by decide)
      exact hK _ (eh_fr_tr hf (eh_fr_up hf1 (by decide) (by decide))) (xo_Q_V (xo_Q_V hQ)) (by rw [eh_sV_v (by decide), eh_sV_p]) eh_sV_p (xw_I_fr hI' hf1 (by decide) (by decide) (by decide)) (fun r hr row h => xw_way_fr hf1 (by decide) (hO r hr row h))
    | cons y t ih =>
      intro σ' r hlen hf hQ h415 htd hI' hO
      rw [List.length_cons] at hlen
      obtain ⟨s1, s2⟩ := htd 0 y rfl
      rw [Nat.add_zero] at s1
      refine bX3_spend_2 hX (T120 := Tw_leave) rfl hq (fun hok => ⟨by omega, fun h1 => by omega, fun _ => ⟨by omega, ?_⟩⟩)
      rw [s1]
      refine ⟨_, rfl, y.1, t.map Prod.fst ++ O, rfl, hI', by simp only [List.length_append, List.length_map]; omega, fun σ2 hf2 hI2 hw2 => ?_⟩
      refine bX3_spend_26 hX hq (fun hok => ?_)
      have := ih σ2 (r + 1) (by omega) (eh_fr_tr hf (eh_fr_up hf2 (by decide) (by decide))) (xo_Q_tr hQ (xo_Q_fr hf2 (by decide) (by decide))) (by rw [hf2.1 415 (by decide)]; exact h415) (fun i z hz => ?_) hI2 (fun r hr row h => hw2 r (List.mem_append_right _ hr) row (hO r hr row h))
      · simpa using this
      · have := htd (i + 1) z hz
        rw [show r + (i + 1) = r + 1 + i by omega] at this
        exact xr_s_fr this hf2 (by decide)
  refine bX3_spend_0 hX hq (fun hok => ?_)
  exact key G σ 0 (Nat.zero_add _).symm eh_fr_rf xo_Q_rf hG.1 (fun i y hy => by rw [Nat.zero_add]; exact hG.2 i y hy) hI (fun _ _ _ h => h)
def Tp_add : eh_T := eh_R3 fun q as σ bd K => ∃ (w n : Int) (E P : Nat → Int → Int) (G : List (Int × pu_Rn)) (O : List Int) (row : pu_Rw) (ms : List (Int × pu_Rw)), as = [.inl w] ∧ xc_C σ q E P n ∧ xr_G σ q G ∧ G.length ≤ 200 ∧ xw_way σ row w ∧ pu_gd P n row ∧ xw_I σ (w :: (G.map Prod.fst ++ O)) ∧ O.length ≤ 1400 ∧ xm_M σ ms ∧ ms.length ≤ 2000000 ∧ (0 ≤ σ.1 412 q ∧ σ.1 412 q ≤ 2000000) ∧ (2 ≤ bd.1 ∧ 48 ≤ bd.2) ∧
  (G.length = 200 → ∀ σ', eh_fr [204, 410, 415] [202, 203] σ σ' → xo_Q σ σ' q → σ'.1 415 q = 0 → σ'.1 410 q = 1 → xw_I σ' O → (∀ r ∈ O, ∀ row, xw_way σ row r → xw_way σ' row r) → K none σ') ∧
  (G.length ≠ 200 → ∀ σ', eh_fr [10, 11, 115, 412, 415] [10, 11, 12, 13, 14, 15, 111, 112, 113, 114, 413, 414] σ σ' → xo_Q σ σ' q → xr_G σ' q (G ++ [(w, (row, false))]) → xm_M σ' (ms ++ (if pu_wh P (pu_tip row) = true then [(σ.1 116 0, row)] else [])) → σ'.1 412 q = σ.1 412 q + (if pu_wh P (pu_tip row) = true then 1 else 0) → K none σ')
theorem cp_add (l : Launch) (D : va_G) (tc : Nat → ClassId) (ad : Nat → Int → Nat) (h99 : ∀ a : Int, ad 99 a = a.toNat) : eh_M l D tc ad eh_LX yX3_add cX3_add 2 none 2 Tp_add := by
  refine eh_mk (rb := 2) (nm := eh_nX) (fl := eh_fl3) (kn := eh_kn3) (cs := (fun kk => match kk with | 120 => some (2, Tw_leave) | 128 => some (1, Tp_spend) | 131 => some (2, Tp_isWhole) | 135 => some (2, Tp_tell) | _ => none)) (ss := (fun _ => none)) (by decide) (eh_worldX h99) eh_fl3_ok eh_kn3_ok (fun kk n T h => by
    split at h
    · cases h; exact eh_callV (c0 := 1) (cw_leave l D tc ad h99) q338 q339 q340 q46 q341 (by decide +kernel) (by decide) (by decide) (by decide) rfl (eh_worldX h99) (fun _ _ _ _ h => eh_R1_rec h)
    · cases h; exact eh_callV (c0 := 3) (cp_spend l D tc ad h99) q378 q380 qs7 q48 q381 (by decide +kernel) (by decide) (by decide) (by decide) rfl (eh_worldX h99) (fun _ _ _ _ h => eh_R3_rec h)
    · cases h; exact eh_callV (c0 := 3) (cp_isWhole l D tc ad h99) q382 q383 q384 q48 q385 (by decide +kernel) (by decide) (by decide) (by decide) rfl (eh_worldX h99) (fun _ _ _ _ h => eh_R3_rec h)
    · cases h; exact eh_callV (c0 := 3) (cp_tell l D tc ad h99) q386 q388 qs8 q48 q389 (by decide +kernel) (by decide) (by decide) (by decide) rfl (eh_worldX h99) (fun _ _ _ _ h => eh_R3_rec h)
    · cases h) (fun _ _ _ h => by cases h) ?_
  rintro as σ bd K ⟨q, _, rfl, hq, w, n, E, P, G, O, row, ms, rfl, hC, hG, hGl, hw, hg, hI, hOl, hm, hml, ht, hbd, hK1, hK2⟩
  refine ⟨Nat.le_of_ble_eq_true rfl, fun X hX => ?_⟩
  have hn := hC.2.1.1
  have hpo := hC.2.2.2
  have h5 := hpo.1
  have hG1 := hG.1
  have hlen := pu_gd_len hg hpo
  have htip := pu_gd_tip hg
  obtain ⟨hwr, hwt⟩ := xw_tip hg.1 hw
  have hz : (0, 0).1 ≤ bd.1 ∧ (0, 0).2 ≤ bd.2 := ⟨Nat.zero_le _, Nat.zero_le _⟩
  refine bX3_add_0 hX (T120 := Tw_leave) (T131 := Tp_isWhole) rfl rfl hz hq (fun hok => ⟨fun h1 => ?_, fun h1 => ⟨by omega, by omega, by omega, ?_⟩⟩)
  · refine ⟨_, rfl, w, G.map Prod.fst ++ O, rfl, hI, by simp only [List.length_append, List.length_map]; omega, fun σ1 hf1 hI1 hw1 => ?_⟩
    refine bX3_add_21 hX (T128 := Tp_spend) rfl hz hq (fun hok => ⟨q, _, rfl, hq, G, O, rfl, xr_G_fr hG hf1 (by decide) (by decide), hGl, hI1, hOl, fun σ2 hf2 hQ2 h4 h5 hI2 hw2 => ?_⟩)
    refine bX3_add_25 hX hz (fun hok => ?_)
    exact hK1 (by omega) σ2 (eh_fr_tr (eh_fr_up hf1 (by decide) (by decide)) hf2) (xo_Q_tr (xo_Q_fr hf1 (by decide) (by decide)) hQ2) h4 h5 hI2 (fun r hr row h => hw2 r hr row (hw1 r (List.mem_append_right _ hr) row h))
  · have hK2 := hK2 (by omega)
    rw [hG1]
    have hf1 : eh_fr [415] [413, 414] σ (eh_sA (eh_sV (eh_sA σ 413 q (G.length : Int) w) 415 q ((G.length : Int) + 1)) 414 q (G.length : Int) 0) := eh_fr_sA (eh_fr_sV (eh_fr_sA eh_fr_rf (by decide)) (by decide)) (by decide)
    have hQ1 : xo_Q σ (eh_sA (eh_sV (eh_sA σ 413 q (G.length : Int) w) 415 q ((G.length : Int) + 1)) 414 q (G.length : Int) 0) q := xo_Q_A (xo_Q_V (xo_Q_A xo_Q_rf))
    have hGn : xr_G (eh_sA (eh_sV (eh_sA σ 413 q (G.length : Int) w) 415 q ((G.length : Int) + 1)) 414 q (G.length : Int) 0) q (G ++ [(w, (row, false))]) := by
      refine ⟨?_, fun i y hy => ?_⟩
      · rw [eh_sA_1, eh_sV_p]; simp
      · rcases ls_snoc hy with ⟨h4, h5⟩ | ⟨h4, rfl⟩
        · obtain ⟨v1, v2⟩ := hG.2 i y h5
          refine ⟨?_, ?_⟩
          · rw [eh_sA_c (by decide), eh_sV_2, eh_sA_n (by omega)]; exact v1
          · rw [eh_sA_n (by omega), eh_sV_2, eh_sA_c (by decide)]; exact v2
        · rw [h4]
          refine ⟨?_, ?_⟩
          · rw [eh_sA_c (by decide), eh_sV_2, eh_sA_p]
          · rw [eh_sA_p]; exact (bz_f Bool.false_ne_true).symm
    generalize eh_sA (eh_sV (eh_sA σ 413 q (G.length : Int) w) 415 q ((G.length : Int) + 1)) 414 q (G.length : Int) 0 = σ1 at hf1 hQ1 hGn
    have hC1 := xc_C_fr hC hf1 (by decide) (by decide)
    have hw1 := xw_way_fr hf1 (by decide) hw
    have e116 : σ1.1 116 0 = σ.1 116 0 := by rw [hf1.1 116 (by decide)]
    have e412 : σ1.1 412 q = σ.1 412 q := by rw [hf1.1 412 (by decide)]
    have hm1 := xm_M_fr hm hf1 (by decide) (by decide)
    refine ⟨q, _, rfl, hq, w, n, E, P, row, rfl, hC1, hg.1, hw1, htip.1, ?_⟩
    by_cases hwh : pu_wh P (pu_tip row) = true
    · rw [if_pos hwh, if_pos hwh] at hK2
      refine bX3_add_58 hX (T135 := Tp_tell) rfl hz hq (fun hok => ⟨bz_r _, fun h0 => absurd hwh (bz_0.mp h0), fun _ => ⟨(2, 48), ⟨by show 0 + 2 ≤ bd.1; omega, by show 0 + 48 ≤ bd.2; omega⟩, q, _, rfl, hq, w, row, ms, rfl, hw1, hlen.2, fun x hx => ?_, hm1, hml, by omega, ⟨Nat.le_refl _, Nat.le_refl _⟩, fun σ2 hf2 hm2 hv2 h2 => ?_⟩⟩)
      · have := pu_rok_mem hg.2.1 hx
        omega
      · refine bX3_add_66 hX ⟨by show 0 + 2 ≤ bd.1; omega, by show 0 + 48 ≤ bd.2; omega⟩ (fun hok => ?_)
        rw [e116] at hm2
        refine hK2 σ2 (eh_fr_tr (eh_fr_up hf1 (by decide) (by decide)) (eh_fr_up hf2 (by decide) (by decide))) (xo_Q_tr hQ1 (fun i hi => ?_)) (xr_G_fr hGn hf2 (by decide) (by decide)) hm2 (by rw [h2, e412])
        rw [hf2.2 413 (by decide), hf2.2 414 (by decide), hf2.1 415 (by decide), hf2.1 410 (by decide)]
        exact ⟨rfl, rfl, rfl, rfl, hv2 i hi⟩
    · rw [if_neg hwh, if_neg hwh, List.append_nil] at hK2
      refine bX3_add_58 hX (T135 := Tp_tell) rfl hz hq (fun hok => ⟨bz_r _, fun _ => ?_, fun h0 => absurd (bz_n.mp h0) hwh⟩)
      refine bX3_add_66 hX hz (fun hok => ?_)
      exact hK2 σ1 (eh_fr_up hf1 (by decide) (by decide)) hQ1 hGn hm1 (by rw [e412]; omega)
