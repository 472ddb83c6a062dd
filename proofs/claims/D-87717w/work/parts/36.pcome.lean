/-! EventHunter.Pattern: come -/
theorem eh_sA_same {σ : eh_S} {c : Nat} {i z x : Int} (h : σ.2 c i z = x) : eh_sA σ c i z x = σ := by
  refine Prod.ext rfl ?_
  funext c' i' j'
  show (if c' = c ∧ i' = i ∧ j' = z then x else σ.2 c' i' j') = σ.2 c' i' j'
  split
  · rename_i hc
    rw [hc.1, hc.2.1, hc.2.2, h]
  · rfl
theorem xa_S_fr {SV SA : List Nat} {σ0 σ σ' : eh_S} {q tl sp : Int} {G : List (Int × pu_Rn)} {O : List Int} {ms0 : List (Int × pu_Rw)} {o : List pu_Rw} (h : xa_S σ0 σ q G O ms0 o tl sp) (hf : eh_fr SV SA σ σ') (hd : ∀ c ∈ SA, c ∈ [413, 414]) (hv : SV = []) (hQ : xo_Q σ σ' q) (hG : xr_G σ' q G) : xa_S σ0 σ' q G O ms0 o tl sp := by
  subst hv
  have hf : eh_fr [] [413, 414] σ σ' := eh_fr_up hf (fun _ h => h) hd
  obtain ⟨a1, a2, a3, a4, a5, a6, a7, a8, a9⟩ := h
  exact ⟨eh_fr_tr a1 (eh_fr_up hf (by decide) (by decide)), xo_Q_tr a2 hQ, hG, fun y hy => xw_way_fr hf (by decide) (a4 y hy), xw_I_fr a5 hf (by decide) (by decide) (by decide), fun r hr row h => xw_way_fr hf (by decide) (a6 r hr row h), xm_M_fr a7 hf (by decide) (by decide), by rw [hf.1 412 (by decide)]; exact a8, by rw [hf.1 410 (by decide)]; exact a9⟩
def Tp_come : eh_T := eh_R3 fun q as σ bd K => ∃ (e : Int) (E P : Nat → Int → Int) (G : List (Int × pu_Rn)) (O : List Int) (ms0 : List (Int × pu_Rw)) (tl : Int), as = [.inl e] ∧ xc_C σ q E P (e + 1) ∧ 0 ≤ e ∧ 0 < P 5 0 ∧ σ.1 116 0 = q ∧ xr_G σ q G ∧ pu_Lok P e (G.map Prod.snd) ∧ (∀ y ∈ G, xw_way σ y.2.1 y.1) ∧ xw_I σ (G.map Prod.fst ++ O) ∧ O.length ≤ 1400 ∧ xw_C σ O ∧ xm_M σ ms0 ∧ σ.1 412 q = tl ∧ (0 ≤ tl ∧ tl ≤ 1990000) ∧ ms0.length ≤ 1990000 ∧ σ.1 410 q = 0 ∧ (416 ≤ bd.1 ∧ 9984 ≤ bd.2) ∧ ∀ (σ' : eh_S) (G' : List (Int × pu_Rn)), G'.map Prod.snd = (pu_come E P e (G.map Prod.snd)).1 → xa_S σ σ' q G' O ms0 (pu_come E P e (G.map Prod.snd)).2.1 tl (bz ((pu_come E P e (G.map Prod.snd)).2.2 = true)) → K none σ'
theorem cp_come (l : Launch) (D : va_G) (tc : Nat → ClassId) (ad : Nat → Int → Nat) (h99 : ∀ a : Int, ad 99 a = a.toNat) : eh_M l D tc ad eh_LX yX3_come cX3_come 7 none 4 Tp_come := by
  refine eh_mk (rb := 2) (nm := eh_nX) (fl := eh_fl3) (kn := eh_kn3) (cs := (fun kk => match kk with | 68 => some (4, Tp_fits) | 114 => some (2, Tw_first) | 120 => some (2, Tw_leave) | 128 => some (1, Tp_spend) | 131 => some (2, Tp_isWhole) | 135 => some (2, Tp_tell) | 142 => some (4, Tw_take) | 146 => some (2, Tp_add) | 149 => some (2, Tp_age) | 152 => some (3, Tp_hasKey) | 158 => some (3, Tp_every) | 162 => some (3, Tp_next) | 165 => some (3, Tp_isHurtBy) | _ => none)) (ss := (fun _ => none)) (by decide) (eh_worldX h99) eh_fl3_ok eh_kn3_ok (fun kk n T h => by
    split at h
    · cases h; exact eh_callV (c0 := 3) (cp_fits l D tc ad h99) q354 q355 q356 q48 q357 (by decide +kernel) (by decide) (by decide) (by decide) rfl (eh_worldX h99) (fun _ _ _ _ h => eh_R3_rec h)
    · cases h; exact eh_callV (c0 := 1) (cw_first l D tc ad h99) q334 q335 q336 q46 q337 (by decide +kernel) (by decide) (by decide) (by decide) rfl (eh_worldX h99) (fun _ _ _ _ h => eh_R1_rec h)
    · cases h; exact eh_callV (c0 := 1) (cw_leave l D tc ad h99) q338 q339 q340 q46 q341 (by decide +kernel) (by decide) (by decide) (by decide) rfl (eh_worldX h99) (fun _ _ _ _ h => eh_R1_rec h)
    · cases h; exact eh_callV (c0 := 3) (cp_spend l D tc ad h99) q378 q380 qs7 q48 q381 (by decide +kernel) (by decide) (by decide) (by decide) rfl (eh_worldX h99) (fun _ _ _ _ h => eh_R3_rec h)
    · cases h; exact eh_callV (c0 := 3) (cp_isWhole l D tc ad h99) q382 q383 q384 q48 q385 (by decide +kernel) (by decide) (by decide) (by decide) rfl (eh_worldX h99) (fun _ _ _ _ h => eh_R3_rec h)
    · cases h; exact eh_callV (c0 := 3) (cp_tell l D tc ad h99) q386 q388 qs8 q48 q389 (by decide +kernel) (by decide) (by decide) (by decide) rfl (eh_worldX h99) (fun _ _ _ _ h => eh_R3_rec h)
    · cases h; exact eh_callV (c0 := 1) (cw_take l D tc ad h99) q370 q371 q372 q46 q373 (by decide +kernel) (by decide) (by decide) (by decide) rfl (eh_worldX h99) (fun _ _ _ _ h => eh_R1_rec h)
    · cases h; exact eh_callV (c0 := 3) (cp_add l D tc ad h99) q374 q376 qs6 q48 q377 (by decide +kernel) (by decide) (by decide) (by decide) rfl (eh_worldX h99) (fun _ _ _ _ h => eh_R3_rec h)
    · cases h; exact eh_callV (c0 := 3) (cp_age l D tc ad h99) q330 q332 qs3 q48 q333 (by decide +kernel) (by decide) (by decide) (by decide) rfl (eh_worldX h99) (fun _ _ _ _ h => eh_R3_rec h)
    · cases h; exact eh_callV (c0 := 3) (cp_hasKey l D tc ad h99) q342 q343 q344 q48 q345 (by decide +kernel) (by decide) (by decide) (by decide) rfl (eh_worldX h99) (fun _ _ _ _ h => eh_R3_rec h)
    · cases h; exact eh_callV (c0 := 3) (cp_every l D tc ad h99) q346 q348 qs4 q48 q349 (by decide +kernel) (by decide) (by decide) (by decide) rfl (eh_worldX h99) (fun _ _ _ _ h => eh_R3_rec h)
    · cases h; exact eh_callV (c0 := 3) (cp_next l D tc ad h99) q394 q396 qs9 q48 q397 (by decide +kernel) (by decide) (by decide) (by decide) rfl (eh_worldX h99) (fun _ _ _ _ h => eh_R3_rec h)
    · cases h; exact eh_callV (c0 := 3) (cp_isHurtBy l D tc ad h99) q398 q400 qs10 q48 q401 (by decide +kernel) (by decide) (by decide) (by decide) rfl (eh_worldX h99) (fun _ _ _ _ h => eh_R3_rec h)
    · cases h) (fun _ _ _ h => by cases h) ?_
  rintro as σ bd K ⟨q, _, rfl, hq, e, E, P, G, O, ms0, tl, rfl, hC, he, h50, h116, hG, hLo, hwy, hI, hOl, hOC, hm, htl, htl2, hms, hsp, hbd, hK⟩
  refine ⟨Nat.le_of_ble_eq_true rfl, fun X hX => ?_⟩
  have hn := hC.2.1.1
  have hpo := hC.2.2.2
  have h5 := hpo.1
  have h8 := hpo.2.2.2.2.1
  have hGl : G.length ≤ 200 := by have := hLo.1; rwa [List.length_map] at this
  have hgd0 : ∀ y ∈ G, pu_gd P e y.2.1 := fun y hy => hLo.2 y.2 (List.mem_map.mpr ⟨y, hy, rfl⟩)
  have hzb : (0, 0).1 ≤ bd.1 ∧ (0, 0).2 ≤ bd.2 := ⟨Nat.zero_le _, Nat.zero_le _⟩
  -- the event alone
  have fin : ∀ (σ' : eh_S) (Gc : List (Int × pu_Rn)) (o : List pu_Rw) (b : Nat × Nat) (o2 o3 o4 o5 o6 : Option eh_V), xa_S σ σ' q Gc O ms0 o tl 0 → Gc.length ≤ 200 → o.length ≤ 200 → (∀ z ∈ Gc, pu_gd P (e + 1) z.2.1) → (b.1 ≤ 414 ∧ b.2 ≤ 9936) → (∀ (σ'' : eh_S) (G' : List (Int × pu_Rn)), G'.map Prod.snd = (pu_first1 E P e (Gc.map Prod.snd) o).1 → xa_S σ σ'' q G' O ms0 (pu_first1 E P e (Gc.map Prod.snd) o).2.1 tl (bz ((pu_first1 E P e (Gc.map Prod.snd) o).2.2 = true)) → K none σ'') → Tp_fits [.inr (some (3, q)), .inl 0, .inl (-1), .inl e] σ' (0, 0) (fun r σ1 => X 231 [some (.inr (some (3, q))), some (.inl e), o2, o3, o4, o5, o6] (r.toList ++ []) σ1 b) := by
    intro σ' Gc o b o2 o3 o4 o5 o6 hS hl ho hgc hb hk
    have hS' := hS
    obtain ⟨a1, a2, a3, a4, a5, a6, a7, a8, a9⟩ := hS
    have hC' := xc_C_fr hC a1 (by decide) (by decide)
    have hbb : b.1 ≤ bd.1 ∧ b.2 ≤ bd.2 := by omega
    have e401 : σ'.1 401 q = P 8 0 := hC'.2.2.1.2.2.2.1
    refine ⟨q, _, rfl, hq, 0, -1, e, e + 1, E, P, [], rfl, hC', ⟨Int.le_refl _, h50⟩, by omega, rfl, fun x hx => (by cases hx), ?_⟩
    unfold pu_first1 at hk
    by_cases hft : pu_fits E P [] 0 e = true
    · rw [if_pos hft] at hk
      refine bX3_come_231 hX (T142 := Tw_take) rfl hbb hq (fun hok => ⟨bz_r _, fun h => absurd hft (bz_0.mp h), fun _ => ?_⟩)
      have hO' := xw_C_k hOC a6
      refine ⟨_, rfl, e, 0, -1, Gc.map Prod.fst ++ O, rfl, by omega, by omega, a5, by simp only [List.length_append, List.length_map]; omega, xw_C_G hpo a4 hgc hO', Or.inl rfl, fun h => absurd rfl h, fun σ1 n hf1 hnr hI1 hw1 hwn => ?_⟩
      have hwn : xw_way σ1 [(e, 0)] n := hwn [] rfl
      have hfa1 : eh_fr fx_V fx_A σ σ1 := eh_fr_tr a1 (eh_fr_up hf1 (by decide) (by decide))
      have hC1 := xc_C_fr hC hfa1 (by decide) (by decide)
      have hG1 := xr_G_fr a3 hf1 (by decide) (by decide)
      have hQ1 : xo_Q σ σ1 q := xo_Q_tr a2 (xo_Q_fr hf1 (by decide) (by decide))
      have hm1 := xm_M_fr a7 hf1 (by decide) (by decide)
      have e116 : σ1.1 116 0 = q := by rw [hfa1.1 116 (by decide)]; exact h116
      have e412 : σ1.1 412 q = tl + (o.length : Int) := by rw [hf1.1 412 (by decide)]; exact a8
      have e410 : σ1.1 410 q = 0 := by rw [hf1.1 410 (by decide)]; exact a9
      have e415 : σ1.1 415 q = (Gc.length : Int) := hG1.1
      have e401' : σ1.1 401 q = P 8 0 := by rw [hf1.1 401 (by decide)]; exact e401
      have hgn := pu_gd_new (P := P) hpo h50 he
      have hO1 : ∀ r ∈ O, ∀ row, xw_way σ row r → xw_way σ1 row r := fun r hr row h => hw1 r (List.mem_append_right _ hr) row (a6 r hr row h)
      have hms1 : (ms0 ++ o.map (fun c => (q, c))).length ≤ 2000000 := by rw [List.length_append, List.length_map]; omega
      have htp : pu_tip [(e, (0 : Int))] = 0 := rfl
      have hml : (Gc.map Prod.snd).length = Gc.length := List.length_map _
      -- add
      have goadd : (P 8 0 ≠ 1 ∨ ¬ pu_wh P 0 = true) → ∀ (o1 o2 o3 o5 o6 : Option eh_V), ∃ bd2 : Nat × Nat, (b.1 + bd2.1 ≤ bd.1 ∧ b.2 + bd2.2 ≤ bd.2) ∧ Tp_add [.inr (some (3, q)), .inl n] σ1 bd2 (fun r σ1 => X 318 [some (.inr (some (3, q))), o1, o2, o3, some (.inl n), o5, o6] (r.toList ++ []) σ1 (b.1 + bd2.1, b.2 + bd2.2)) := by
        intro hor o1 o2 o3 o5 o6
        refine ⟨(2, 48), ⟨by dsimp only; omega, by dsimp only; omega⟩, q, _, rfl, hq, n, e + 1, E, P, Gc, O, [(e, 0)], _, rfl, hC1, hG1, hl, hwn, hgn, hI1, hOl, hm1, hms1, by omega, ⟨Nat.le_refl _, Nat.le_refl _⟩, fun h200 σ2 hf2 hQ2 h4 h5' hI2 hw2 => ?_, fun h200 σ2 hf2 hQ2 hG2 hm2 ht2 => ?_⟩
        · refine bX3_come_318 hX ⟨by dsimp only; omega, by dsimp only; omega⟩ (fun hok => ?_)
          rw [hml, if_pos h200] at hk
          exact hk σ2 [] rfl ⟨eh_fr_tr hfa1 (eh_fr_up hf2 (by decide) (by decide)), xo_Q_tr hQ1 hQ2, ⟨h4, fun i z hz => by simp at hz⟩, fun z hz => (by cases hz), hI2, fun r hr row h => hw2 r hr row (hO1 r hr row h), xm_M_fr hm1 hf2 (by decide) (by decide), by rw [hf2.1 412 (by decide)]; exact e412, by rw [h5']; exact (bz_t rfl).symm⟩
        · refine bX3_come_318 hX ⟨by dsimp only; omega, by dsimp only; omega⟩ (fun hok => ?_)
          rw [hml, if_neg h200] at hk
          have hS2 : ∀ o2 : List pu_Rw, xm_M σ2 (ms0 ++ o2.map (fun c => (q, c))) → σ2.1 412 q = tl + (o2.length : Int) → xa_S σ σ2 q (Gc ++ [(n, ([(e, 0)], false))]) O ms0 o2 tl 0 := by
            intro o2 hmm htt
            refine ⟨eh_fr_tr hfa1 (eh_fr_up hf2 (by decide) (by decide)), xo_Q_tr hQ1 hQ2, hG2, fun z hz => ?_, ?_, fun r hr row h => xw_way_fr hf2 (by decide) (hO1 r hr row h), hmm, htt, by rw [hf2.1 410 (by decide)]; exact e410⟩
            · rcases List.mem_append.mp hz with h | h
              · exact xw_way_fr hf2 (by decide) (hw1 z.1 (List.mem_append_left _ (List.mem_map.mpr ⟨z, h, rfl⟩)) _ (a4 z h))
              · rcases List.mem_cons.mp h with rfl | h
                · exact xw_way_fr hf2 (by decide) hwn
                · cases h
            · refine xw_I_perm (xw_I_fr hI1 hf2 (by decide) (by decide) (by decide)) ?_
              have := xr_perm (A := Gc) (B := []) (y := (n, ([(e, 0)], false))) (O := O)
              rw [List.append_nil] at this
              exact this.symm
          rw [htp] at hm2 ht2
          have h0z : bz (false = true) = 0 := bz_f Bool.false_ne_true
          by_cases hwh : pu_wh P 0 = true
          · have h81 : ¬ P 8 0 = 1 := by
              rcases hor with h | h
              · exact h
              · exact absurd hwh h
            rw [if_pos hwh, if_neg h81] at hk
            rw [if_pos hwh] at hm2 ht2
            rw [e116] at hm2
            refine hk σ2 (Gc ++ [(n, ([(e, 0)], false))]) (by rw [List.map_append]; rfl) ?_
            dsimp only
            rw [h0z]
            refine hS2 _ ?_ ?_
            · rw [List.map_append, ← List.append_assoc]; exact hm2
            · rw [ht2, e412, List.length_append]
              simp only [List.length_cons, List.length_nil]
              omega
          · rw [if_neg hwh] at hk
            rw [if_neg hwh] at hm2 ht2
            rw [List.append_nil] at hm2
            refine hk σ2 (Gc ++ [(n, ([(e, 0)], false))]) (by rw [List.map_append]; rfl) ?_
            dsimp only
            rw [h0z]
            exact hS2 _ hm2 (by rw [ht2, e412]; omega)
      refine bX3_come_248 hX (T131 := Tp_isWhole) (T146 := Tp_add) rfl rfl hbb hq (fun hok => ?_)
      rw [e401']
      refine ⟨fun h80 => goadd (Or.inl (by omega)) _ _ _ _ _, fun h80 => ?_⟩
      have h81 : P 8 0 = 1 := by omega
      refine ⟨q, _, rfl, hq, n, e + 1, E, P, [(e, 0)], rfl, hC1, by simp, hwn, ⟨Int.le_refl _, h50⟩, ?_⟩
      rw [htp]
      refine bX3_come_263 hX (T120 := Tw_leave) (T135 := Tp_tell) (T146 := Tp_add) rfl rfl rfl hbb hq (fun hok => ⟨bz_r _, fun h0 => goadd (Or.inr (bz_0.mp h0)) _ _ _ _ _, fun h0 => ⟨fun h2 => ?_, fun h2 => ?_⟩⟩)
      · rw [hml, if_pos (show Gc.length = 200 by omega)] at hk
        refine ⟨_, rfl, n, Gc.map Prod.fst ++ O, rfl, hI1, by simp only [List.length_append, List.length_map]; omega, fun σ2 hf2 hI2 hw2 => ?_⟩
        refine bX3_come_288 hX (T128 := Tp_spend) rfl hbb hq (fun hok => ⟨q, _, rfl, hq, Gc, O, rfl, xr_G_fr hG1 hf2 (by decide) (by decide), hl, hI2, hOl, fun σ3 hf3 hQ3 h4 h5' hI3 hw3 => ?_⟩)
        refine bX3_come_292 hX hbb (fun hok => ?_)
        have hf23 : eh_fr [204, 410, 415] [202, 203] σ1 σ3 := eh_fr_tr (eh_fr_up hf2 (by decide) (by decide)) hf3
        exact hk σ3 [] rfl ⟨eh_fr_tr hfa1 (eh_fr_up hf23 (by decide) (by decide)), xo_Q_tr hQ1 (xo_Q_tr (xo_Q_fr hf2 (by decide) (by decide)) hQ3), ⟨h4, fun i z hz => by simp at hz⟩, fun z hz => (by cases hz), hI3, fun r hr row h => hw3 r hr row (hw2 r (List.mem_append_right _ hr) row (hO1 r hr row h)), xm_M_fr hm1 hf23 (by decide) (by decide), by rw [hf23.1 412 (by decide)]; exact e412, by rw [h5']; exact (bz_t rfl).symm⟩
      · rw [hml, if_neg (show ¬ Gc.length = 200 by omega), if_pos (bz_n.mp h0), if_pos h81] at hk
        refine ⟨(2, 48), ⟨by dsimp only; omega, by dsimp only; omega⟩, q, _, rfl, hq, n, [(e, 0)], _, rfl, hwn, by simp, fun x hx => ?_, hm1, hms1, by omega, ⟨Nat.le_refl _, Nat.le_refl _⟩, fun σ2 hf2 hm2 hv2 h2' => ?_⟩
        · rcases List.mem_cons.mp hx with rfl | hx
          · dsimp only; omega
          · cases hx
        · refine bX3_come_299 hX (T120 := Tw_leave) rfl ⟨by dsimp only; omega, by dsimp only; omega⟩ hq (fun hok => ⟨_, rfl, n, Gc.map Prod.fst ++ O, rfl, xw_I_fr hI1 hf2 (by decide) (by decide) (by decide), by simp only [List.length_append, List.length_map]; omega, fun σ3 hf3 hI3 hw3 => ?_⟩)
          refine bX3_come_311 hX ⟨by dsimp only; omega, by dsimp only; omega⟩ (fun hok => ?_)
          rw [e116] at hm2
          refine hk σ3 Gc rfl ⟨eh_fr_tr hfa1 (eh_fr_tr (eh_fr_up hf2 (by decide) (by decide)) (eh_fr_up hf3 (by decide) (by decide))), xo_Q_tr hQ1 (xo_Q_tr (fun i hi => ?_) (xo_Q_fr hf3 (by decide) (by decide))), xr_G_fr (xr_G_fr hG1 hf2 (by decide) (by decide)) hf3 (by decide) (by decide), fun z hz => ?_, hI3, fun r hr row h => hw3 r (List.mem_append_right _ hr) row (xw_way_fr hf2 (by decide) (hO1 r hr row h)), ?_, ?_, ?_⟩
          · rw [hf2.2 413 (by decide), hf2.2 414 (by decide), hf2.1 415 (by decide), hf2.1 410 (by decide)]
            exact ⟨rfl, rfl, rfl, rfl, hv2 i hi⟩
          · have hz1 : z.1 ∈ Gc.map Prod.fst ++ O := List.mem_append_left _ (List.mem_map.mpr ⟨z, hz, rfl⟩)
            exact hw3 z.1 hz1 _ (xw_way_fr hf2 (by decide) (hw1 z.1 hz1 _ (a4 z hz)))
          · refine xm_M_fr ?_ hf3 (by decide) (by decide)
            rw [List.map_append, ← List.append_assoc]
            exact hm2
          · rw [hf3.1 412 (by decide), h2', e412, List.length_append]
            simp only [List.length_cons, List.length_nil]
            omega
          · rw [hf3.1 410 (by decide), hf2.1 410 (by decide), e410]; exact (bz_f Bool.false_ne_true).symm
    · rw [if_neg hft] at hk
      refine bX3_come_231 hX (T142 := Tw_take) rfl hbb hq (fun hok => ⟨bz_r _, fun _ => ?_, fun h => absurd (bz_n.mp h) hft⟩)
      refine hk σ' Gc rfl ?_
      dsimp only
      rw [bz_f Bool.false_ne_true]
      exact hS'
  -- every: run by run
  have keyE : P 8 0 = 0 → ∀ (k : Nat) (σ' : eh_S) (Gc : List (Int × pu_Rn)) (o : List pu_Rw) (r ah : Nat) (b : Nat × Nat) (o5 o6 : Option eh_V), ah = r + k → ah ≤ Gc.length → xa_S σ σ' q Gc O ms0 o tl 0 → Gc.length ≤ 200 → o.length ≤ Gc.length → (∀ z ∈ Gc, pu_gd P (e + 1) z.2.1) → (∀ (i : Nat) (z : Int × pu_Rn), r ≤ i → i < ah → Gc[i]? = some z → pu_gd P e z.2.1) → (b.1 ≤ 2 * Gc.length ∧ b.2 ≤ 48 * Gc.length) → (∀ (σ'' : eh_S) (G' : List (Int × pu_Rn)), G'.map Prod.snd = (let y := pu_ev E P e k r (Gc.map Prod.snd, o); if y.2.2 = true then y else pu_first1 E P e y.1 y.2.1).1 → xa_S σ σ'' q G' O ms0 (let y := pu_ev E P e k r (Gc.map Prod.snd, o); if y.2.2 = true then y else pu_first1 E P e y.1 y.2.1).2.1 tl (bz ((let y := pu_ev E P e k r (Gc.map Prod.snd, o); if y.2.2 = true then y else pu_first1 E P e y.1 y.2.1).2.2 = true)) → K none σ'') → X 15 [some (.inr (some (3, q))), some (.inl e), some (.inl (ah : Int)), some (.inl (r : Int)), some (.inl (r : Int)), o5, o6] [] σ' b := by
    intro h80 k
    induction k with
    | zero =>
      intro σ' Gc o r ah b o5 o6 hah hahl hS hl ho hgc hge hb hk
      have hbb : b.1 ≤ bd.1 ∧ b.2 ≤ bd.2 := by omega
      have e401 : σ'.1 401 q = P 8 0 := (xc_C_fr hC hS.1 (by decide) (by decide)).2.2.1.2.2.2.1
      refine bX3_come_15 hX (T68 := Tp_fits) (T114 := Tw_first) rfl rfl hbb hq (fun hok => ?_)
      rw [e401]
      refine ⟨by omega, by omega, fun _ => ⟨fun _ => fin σ' Gc o b _ _ _ _ _ hS hl (by omega) hgc (by omega) hk, fun h => absurd h80 h⟩, fun h => absurd (show (ah : Int) ≤ r by omega) h⟩
    | succ k ih =>
      intro σ' Gc o r ah b o5 o6 hah hahl hS hl ho hgc hge hb hk
      have hbb : b.1 ≤ bd.1 ∧ b.2 ≤ bd.2 := by omega
      have hS' := hS
      obtain ⟨a1, a2, a3, a4, a5, a6, a7, a8, a9⟩ := hS
      have hC' := xc_C_fr hC a1 (by decide) (by decide)
      have e401 : σ'.1 401 q = P 8 0 := hC'.2.2.1.2.2.2.1
      have hrl : r < Gc.length := by omega
      obtain ⟨y, hy⟩ : ∃ y, Gc[r]? = some y := ⟨_, List.getElem?_eq_getElem hrl⟩
      have hyG := List.mem_of_getElem? hy
      obtain ⟨s1, s2⟩ := a3.2 r y hy
      have hgy := hge r y (Nat.le_refl _) (by omega) hy
      have hfy := pu_gd_first hgy
      have hwy' := a4 y hyG
      have hyL : (Gc.map Prod.snd)[r]? = some y.2 := by rw [List.getElem?_map, hy]; rfl
      have hml : (Gc.map Prod.snd).length = Gc.length := List.length_map _
      have hm7 := pu_moves_len (E := E) (P := P) (row := y.2.1) (hurt := y.2.2) (e := e)
      rw [pu_ev, hyL] at hk
      dsimp only at hk
      -- on to the next run
      have nxt : ∀ (σ2 : eh_S) (G2 : List (Int × pu_Rn)) (b2 : Nat × Nat) (o5 o6 : Option eh_V), (pu_ask E P e r y.2 (Gc.map Prod.snd, o)).2.2 = false → G2.map Prod.snd = (pu_ask E P e r y.2 (Gc.map Prod.snd, o)).1 → (∀ i : Nat, i < Gc.length → i ≠ r → G2[i]? = Gc[i]?) → (∀ z ∈ G2, pu_gd P (e + 1) z.2.1) → xa_S σ σ2 q G2 O ms0 (pu_ask E P e r y.2 (Gc.map Prod.snd, o)).2.1 tl 0 → (b2.1 ≤ 2 * G2.length ∧ b2.2 ≤ 48 * G2.length) → X 15 [some (.inr (some (3, q))), some (.inl e), some (.inl (ah : Int)), some (.inl ((r : Int) + 1)), some (.inl ((r : Int) + 1)), o5, o6] [] σ2 b2 := by
        intro σ2 G2 b2 o5 o6 hns hmap hkeep hgd2 hS2 hb2
        obtain ⟨q1, q2, q3, q4⟩ := pu_ask_keep (E := E) (P := P) (e := e) (r := r) (x := y.2) (st := (Gc.map Prod.snd, o)) (by rw [hml]; exact hl) (by rw [hml]; exact ho)
        obtain ⟨w1, w2, w3⟩ := q4 hns
        rw [← hmap, List.length_map] at q2 w1
        rw [← hmap] at w2
        simp only [List.length_map] at w2
        rw [if_neg (show ¬ (pu_ask E P e r y.2 (Gc.map Prod.snd, o)).2.2 = true by rw [hns]; decide), ← hmap] at hk
        have := ih σ2 G2 _ (r + 1) ah b2 o5 o6 (by omega) (by omega) hS2 q2 w1 hgd2 (fun i z h0 h1 hz => ?_) hb2 hk
        · simpa using this
        · rw [hkeep i (by omega) (by omega)] at hz
          exact hge i z (by omega) h1 hz
      refine bX3_come_15 hX (T68 := Tp_fits) (T114 := Tw_first) rfl rfl hbb hq (fun hok => ⟨by omega, by omega, fun h => by omega, fun _ => ⟨fun _ => ⟨by omega, ?_⟩, fun h => absurd a9 h⟩⟩)
      rw [s1]
      refine ⟨_, rfl, y.1, y.2.1, rfl, hgy.1, hwy', ?_⟩
      refine bX3_come_46 hX (T152 := Tp_hasKey) rfl hbb hq hq (fun hok => ⟨q, _, rfl, hq, pu_first y.2.1, e, e + 1, E, P, rfl, hC', by omega, by omega, ?_⟩)
      by_cases hkey : pu_key E P (pu_first y.2.1) e = true
      · -- asked
        have hask : pu_ask E P e r y.2 (Gc.map Prod.snd, o) = (if (pu_adds P (pu_cand E P e y.2) (Gc.map Prod.snd, o)).2.2 = true then pu_adds P (pu_cand E P e y.2) (Gc.map Prod.snd, o) else (if pu_hurts E P y.2.1 e = true then ((pu_adds P (pu_cand E P e y.2) (Gc.map Prod.snd, o)).1.set r (y.2.1, true), (pu_adds P (pu_cand E P e y.2) (Gc.map Prod.snd, o)).2.1, false) else pu_adds P (pu_cand E P e y.2) (Gc.map Prod.snd, o))) := by
          unfold pu_ask
          rw [if_pos hkey]
        refine bX3_come_50 hX (T158 := Tp_every) (T162 := Tp_next) rfl rfl hbb hq (fun hok => ?_)
        rw [e401]
        refine ⟨bz_r _, fun h => absurd hkey (bz_0.mp h), fun _ => ⟨fun _ => ⟨(2 * (pu_moves E P y.2.1 y.2.2 e).length, 48 * (pu_moves E P y.2.1 y.2.2 e).length), ⟨by dsimp only; omega, by dsimp only; omega⟩, q, _, rfl, hq, r, e, E, P, Gc, O, y, ms0, o, tl, rfl, hC', he, by rw [a1.1 116 (by decide)]; exact h116, ⟨eh_fr_rf, xo_Q_rf, a3, a4, a5, fun _ _ _ h => h, a7, a8, a9⟩, hl, hy, hgc, hgy, hOl, xw_C_k hOC a6, ho, htl2, hms, ⟨Nat.le_refl _, Nat.le_refl _⟩, fun σ2 G2 hmap2 hkeep2 hS2 => ?_⟩, fun h => absurd h80 h⟩⟩
        obtain ⟨c1, c2, c3, c4, c5, c6, c7, c8, c9⟩ := hS2
        have hS2 : xa_S σ σ2 q G2 O ms0 (pu_adds P (pu_cand E P e y.2) (Gc.map Prod.snd, o)).2.1 tl (bz ((pu_adds P (pu_cand E P e y.2) (Gc.map Prod.snd, o)).2.2 = true)) := ⟨eh_fr_tr a1 c1, xo_Q_tr a2 c2, c3, c4, c5, fun r' hr row h => c6 r' hr row (a6 r' hr row h), c7, c8, c9⟩
        have hbb2 : b.1 + 2 * (pu_moves E P y.2.1 y.2.2 e).length ≤ bd.1 ∧ b.2 + 48 * (pu_moves E P y.2.1 y.2.2 e).length ≤ bd.2 := by omega
        by_cases hsp2 : (pu_adds P (pu_cand E P e y.2) (Gc.map Prod.snd, o)).2.2 = true
        · rw [hask, if_pos hsp2, if_pos hsp2, if_pos hsp2] at hk
          rw [hsp2, bz_t rfl] at c9
          refine bX3_come_74 hX (T131 := Tp_isWhole) (T165 := Tp_isHurtBy) rfl rfl hbb2 hq (fun hok => ⟨fun h => by omega, fun _ => hk σ2 G2 hmap2 hS2⟩)
        · have hsp3 : (pu_adds P (pu_cand E P e y.2) (Gc.map Prod.snd, o)).2.2 = false := by simpa using hsp2
          have heq := pu_adds_eq _ _ hsp3
          rw [hsp3, bz_f Bool.false_ne_true] at c9 hS2
          have hkp := hkeep2 hsp3
          have hG2l : G2.length = Gc.length + (pu_moves E P y.2.1 y.2.2 e).length := by
            have h1 : (G2.map Prod.snd).length = ((Gc.map Prod.snd) ++ (pu_cand E P e y.2).map (fun c => (c, false))).length := by rw [hmap2, heq]
            simp only [List.length_map, List.length_append, pu_cand] at h1
            exact h1
          have hgd2 : ∀ z ∈ G2, pu_gd P (e + 1) z.2.1 := by
            intro z hz
            have h1 : z.2 ∈ G2.map Prod.snd := List.mem_map.mpr ⟨z, hz, rfl⟩
            rw [hmap2, heq] at h1
            rcases List.mem_append.mp h1 with h1 | h1
            · obtain ⟨z', hz', e1⟩ := List.mem_map.mp h1
              rw [← e1]
              exact hgc z' hz'
            · obtain ⟨c, hc, e1⟩ := List.mem_map.mp h1
              unfold pu_cand at hc
              obtain ⟨s, hs, e2⟩ := List.mem_map.mp hc
              rw [← e1, ← e2]
              exact pu_gd_cons hgy he hs
          have hy2 : G2[r]? = some y := by rw [hkp r hrl]; exact hy
          have hy2G := List.mem_of_getElem? hy2
          obtain ⟨t1, t2⟩ := c3.2 r y hy2
          refine bX3_come_74 hX (T131 := Tp_isWhole) (T165 := Tp_isHurtBy) rfl rfl hbb2 hq (fun hok => ⟨fun _ => ⟨bz_r _, fun h => absurd hkey (bz_0.mp h), fun _ => ⟨by omega, fun _ => ?_, fun h => absurd rfl h⟩⟩, fun h => absurd c9 h⟩)
          refine ⟨q, _, rfl, hq, (r : Int), y.1, e, e + 1, E, P, y.2.1, rfl, by omega, t1, xc_C_fr hC' c1 (by decide) (by decide), by omega, pu_gd_up hgy (by omega), c4 y hy2G, ?_⟩
          refine bX3_come_116 hX (T131 := Tp_isWhole) rfl hbb2 hq (fun hok => ?_)
          have hsm : eh_sA (eh_sA σ2 413 q (r : Int) (σ2.2 413 q (r : Int))) 414 q (r : Int) (σ2.2 414 q (r : Int)) = σ2 := by
            rw [eh_sA_same (σ := σ2) (c := 413) rfl, eh_sA_same rfl]
          have hsm1 : eh_sA (eh_sA (eh_sA σ2 414 q (r : Int) 1) 413 q (r : Int) (σ2.2 413 q (r : Int))) 414 q (r : Int) ((eh_sA σ2 414 q (r : Int) 1).2 414 q (r : Int)) = eh_sA σ2 414 q (r : Int) 1 := by
            rw [eh_sA_same (σ := eh_sA σ2 414 q (r : Int) 1) (c := 413) (by rw [eh_sA_c (by decide)]), eh_sA_same rfl]
          rw [hsm, hsm1, eh_sA_p]
          refine ⟨bz_r _, fun h0 => ⟨by omega, fun _ => ⟨by omega, by omega, by rw [t2]; exact bz_01 _, ?_⟩, fun h => absurd rfl h⟩, fun h0 => ⟨by omega, by omega, fun _ => ⟨by omega, Or.inr rfl, ?_⟩, fun h => absurd rfl h⟩⟩
          · have hh := bz_0.mp h0
            rw [if_neg hsp2, if_neg hh] at hask
            refine nxt σ2 G2 _ _ _ (by rw [hask]; exact hsp3) (by rw [hask]; exact hmap2) (fun i hi _ => hkp i hi) hgd2 (by rw [hask]; exact hS2) ⟨by dsimp only; omega, by dsimp only; omega⟩
          · have hh := bz_n.mp h0
            rw [if_neg hsp2, if_pos hh] at hask
            have hr2 : r < G2.length := ls_lt hy2
            have hf3 : eh_fr [] [414] σ2 (eh_sA σ2 414 q (r : Int) 1) := eh_fr_sA eh_fr_rf (by decide)
            refine nxt _ (G2.set r (y.1, (y.2.1, true))) _ _ _ (by rw [hask]) (by rw [hask]; dsimp only; rw [List.map_set, hmap2]) (fun i hi hir => by rw [List.getElem?_set_ne (Ne.symm hir)]; exact hkp i hi) (fun z hz => ?_) ?_ ⟨by rw [List.length_set]; dsimp only; omega, by rw [List.length_set]; dsimp only; omega⟩
            · rcases List.mem_or_eq_of_mem_set hz with h | h
              · exact hgd2 z h
              · rw [h]; exact pu_gd_up hgy (by omega)
            · rw [hask]
              dsimp only
              obtain ⟨d1, d2, d3, d4, d5, d6, d7, d8, d9⟩ := hS2
              have hset : (G2.set r (y.1, (y.2.1, true))).map Prod.fst = G2.map Prod.fst := by
                rw [List.map_set]
                refine List.ext_getElem? (fun i => ?_)
                by_cases hir : i = r
                · rw [hir, List.getElem?_set_self (by rw [List.length_map]; exact hr2), List.getElem?_map, hy2]
                  rfl
                · rw [List.getElem?_set_ne (Ne.symm hir)]
              refine ⟨eh_fr_tr d1 (eh_fr_up hf3 (by decide) (by decide)), xo_Q_A d2, ⟨by rw [List.length_set]; exact d3.1, fun i z hz => ?_⟩, fun z hz => ?_, by rw [hset]; exact xw_I_fr d5 hf3 (by decide) (by decide) (by decide), fun r' hr row h => xw_way_fr hf3 (by decide) (d6 r' hr row h), xm_M_fr d7 hf3 (by decide) (by decide), d8, d9⟩
              · by_cases hir : i = r
                · rw [hir, List.getElem?_set_self hr2] at hz
                  cases hz
                  rw [hir]
                  exact ⟨by rw [eh_sA_c (by decide)]; exact t1, by rw [eh_sA_p]; exact (bz_t rfl).symm⟩
                · rw [List.getElem?_set_ne (Ne.symm hir)] at hz
                  obtain ⟨v1, v2⟩ := d3.2 i z hz
                  exact ⟨by rw [eh_sA_c (by decide)]; exact v1, by rw [eh_sA_n (by omega)]; exact v2⟩
              · rcases List.mem_or_eq_of_mem_set hz with h | h
                · exact xw_way_fr hf3 (by decide) (d4 z h)
                · rw [h]; exact xw_way_fr hf3 (by decide) (d4 y hy2G)
      · have hask : pu_ask E P e r y.2 (Gc.map Prod.snd, o) = (Gc.map Prod.snd, o, false) := by
          unfold pu_ask
          rw [if_neg hkey]
        refine bX3_come_50 hX (T158 := Tp_every) (T162 := Tp_next) rfl rfl hbb hq (fun hok => ⟨bz_r _, fun _ => ⟨fun _ => ⟨by omega, by omega, by rw [s2]; exact bz_01 _, ?_⟩, fun h => absurd a9 h⟩, fun h => absurd (bz_n.mp h) hkey⟩)
        have hsm : eh_sA (eh_sA σ' 413 q (r : Int) (σ'.2 413 q (r : Int))) 414 q (r : Int) (σ'.2 414 q (r : Int)) = σ' := by
          rw [eh_sA_same (σ := σ') (c := 413) rfl, eh_sA_same rfl]
        rw [hsm]
        exact nxt σ' Gc b _ _ (by rw [hask]) (by rw [hask]) (fun _ _ _ => rfl) hgc (by rw [hask]; exact hS') hb
  -- next: run by run
  have keyN : P 8 0 = 1 → ∀ (T : List (Int × pu_Rn)) (σ' : eh_S) (Kp : List (Int × pu_Rn)) (o : List pu_Rw) (r ah : Nat) (b : Nat × Nat) (o5 o6 : Option eh_V), ah = r + T.length → Kp.length ≤ r → ah ≤ 200 → eh_fr fx_V fx_A σ σ' → xo_Q σ σ' q → (∀ (i : Nat) (y : Int × pu_Rn), Kp[i]? = some y → xr_s σ' q i y) → (∀ (i : Nat) (y : Int × pu_Rn), T[i]? = some y → xr_s σ' q ((r + i : Nat) : Int) y) → (∀ y ∈ Kp, pu_gd P (e + 1) y.2.1 ∧ xw_way σ' y.2.1 y.1) → (∀ y ∈ T, pu_gd P e y.2.1 ∧ xw_way σ' y.2.1 y.1) → xw_I σ' ((Kp ++ T).map Prod.fst ++ O) → (∀ r ∈ O, ∀ row, xw_way σ row r → xw_way σ' row r) → xm_M σ' (ms0 ++ o.map (fun c => (q, c))) → σ'.1 412 q = tl + (o.length : Int) → σ'.1 410 q = 0 → o.length ≤ r → (b.1 ≤ 2 * r ∧ b.2 ≤ 48 * r) → (∀ (σ'' : eh_S) (G' : List (Int × pu_Rn)), G'.map Prod.snd = (pu_first1 E P e (Kp.map Prod.snd ++ (T.map Prod.snd).filterMap (fun x => (pu_nx E P e x).1)) (o ++ (T.map Prod.snd).filterMap (fun x => (pu_nx E P e x).2))).1 → xa_S σ σ'' q G' O ms0 (pu_first1 E P e (Kp.map Prod.snd ++ (T.map Prod.snd).filterMap (fun x => (pu_nx E P e x).1)) (o ++ (T.map Prod.snd).filterMap (fun x => (pu_nx E P e x).2))).2.1 tl (bz ((pu_first1 E P e (Kp.map Prod.snd ++ (T.map Prod.snd).filterMap (fun x => (pu_nx E P e x).1)) (o ++ (T.map Prod.snd).filterMap (fun x => (pu_nx E P e x).2))).2.2 = true)) → K none σ'') → X 15 [some (.inr (some (3, q))), some (.inl e), some (.inl (ah : Int)), some (.inl (Kp.length : Int)), some (.inl (r : Int)), o5, o6] [] σ' b := by
    intro h81 T
    induction T with
    | nil =>
      intro σ' Kp o r ah b o5 o6 hah hkr hahl a1 a2 hkp htd hwk hwt hI' a6 a7 a8 a9 ho hb hk
      simp only [List.length_nil, Nat.add_zero] at hah
      have hbb : b.1 ≤ bd.1 ∧ b.2 ≤ bd.2 := by omega
      have e401 : σ'.1 401 q = P 8 0 := (xc_C_fr hC a1 (by decide) (by decide)).2.2.1.2.2.2.1
      simp only [List.map_nil, List.filterMap_nil, List.append_nil] at hk
      simp only [List.append_nil] at hI'
      have hf1 : eh_fr [415] [] σ' (eh_sV σ' 415 q (Kp.length : Int)) := eh_fr_sV eh_fr_rf (by decide)
      refine bX3_come_15 hX (T68 := Tp_fits) (T114 := Tw_first) rfl rfl hbb hq (fun hok => ?_)
      rw [e401]
      refine ⟨by omega, by omega, fun _ => ⟨fun h => by omega, fun _ => ⟨by omega, ?_⟩⟩, fun h => absurd (show (ah : Int) ≤ r by omega) h⟩
      exact fin _ Kp o b _ _ _ _ _ ⟨eh_fr_tr a1 (eh_fr_up hf1 (by decide) (by decide)), xo_Q_V a2, ⟨eh_sV_p, fun i y hy => xr_s_fr (hkp i y hy) hf1 (by decide)⟩, fun y hy => xw_way_fr hf1 (by decide) (hwk y hy).2, xw_I_fr hI' hf1 (by decide) (by decide) (by decide), fun r hr row h => xw_way_fr hf1 (by decide) (a6 r hr row h), xm_M_fr a7 hf1 (by decide) (by decide), by rw [hf1.1 412 (by decide)]; exact a8, by rw [hf1.1 410 (by decide)]; exact a9⟩ (by omega) (by omega) (fun z hz => (hwk z hz).1) (by omega) hk
    | cons y t ih =>
      intro σ' Kp o r ah b o5 o6 hah hkr hahl a1 a2 hkp htd hwk hwt hI' a6 a7 a8 a9 ho hb hk
      rw [List.length_cons] at hah
      have hbb : b.1 ≤ bd.1 ∧ b.2 ≤ bd.2 := by omega
      have hC' := xc_C_fr hC a1 (by decide) (by decide)
      have e401 : σ'.1 401 q = P 8 0 := hC'.2.2.1.2.2.2.1
      have hsy := htd 0 y rfl
      rw [Nat.add_zero] at hsy
      obtain ⟨s1, s2⟩ := hsy
      obtain ⟨hgy, hwy'⟩ := hwt y List.mem_cons_self
      have hfy := pu_gd_first hgy
      have htd' : ∀ (i : Nat) (z : Int × pu_Rn), t[i]? = some z → xr_s σ' q ((r + 1 + i : Nat) : Int) z := fun i z hz => by
        have := htd (i + 1) z hz
        rw [show r + (i + 1) = r + 1 + i by omega] at this
        exact this
      have hfm1 : ((y :: t).map Prod.snd).filterMap (fun x => (pu_nx E P e x).1) = (pu_nx E P e y.2).1.toList ++ (t.map Prod.snd).filterMap (fun x => (pu_nx E P e x).1) := by
        rw [List.map_cons, List.filterMap_cons]
        cases (pu_nx E P e y.2).1 <;> rfl
      have hfm2 : ((y :: t).map Prod.snd).filterMap (fun x => (pu_nx E P e x).2) = (pu_nx E P e y.2).2.toList ++ (t.map Prod.snd).filterMap (fun x => (pu_nx E P e x).2) := by
        rw [List.map_cons, List.filterMap_cons]
        cases (pu_nx E P e y.2).2 <;> rfl
      rw [hfm1, hfm2, ← List.append_assoc, ← List.append_assoc] at hk
      -- what is common: the run stays, as z; σ2 is the state with it in its place r
      have stay : ∀ (σ2 : eh_S) (z : Int × pu_Rn) (o5 o6 : Option eh_V), pu_nx E P e y.2 = (some z.2, none) → eh_fr fx_V fx_A σ σ2 → xo_Q σ σ2 q → xr_s σ2 q r z → (∀ (i : Nat) (w : Int × pu_Rn), Kp[i]? = some w → xr_s σ2 q i w) → (∀ (i : Nat) (w : Int × pu_Rn), t[i]? = some w → xr_s σ2 q ((r + 1 + i : Nat) : Int) w) → (∀ w ∈ Kp, xw_way σ2 w.2.1 w.1) → (∀ w ∈ t, xw_way σ2 w.2.1 w.1) → pu_gd P (e + 1) z.2.1 → xw_way σ2 z.2.1 z.1 → xw_I σ2 (z.1 :: ((Kp ++ t).map Prod.fst ++ O)) → (∀ r ∈ O, ∀ row, xw_way σ row r → xw_way σ2 row r) → xm_M σ2 (ms0 ++ o.map (fun c => (q, c))) → σ2.1 412 q = tl + (o.length : Int) → σ2.1 410 q = 0 → (σ2.2 414 q (r : Int) = 0 ∨ σ2.2 414 q (r : Int) = 1) ∧ X 15 [some (.inr (some (3, q))), some (.inl e), some (.inl (ah : Int)), some (.inl ((Kp.length : Int) + 1)), some (.inl ((r : Int) + 1)), o5, o6] [] (eh_sA (eh_sA σ2 413 q (Kp.length : Int) (σ2.2 413 q (r : Int))) 414 q (Kp.length : Int) (σ2.2 414 q (r : Int))) b := by
        intro σ2 z o5 o6 hnx c1 c2 hz hkp2 htd2 hwk2 hwt2 hgz hwz hI2 c6 c7 c8 c9
        obtain ⟨z1, z2⟩ := hz
        rw [z1, z2]
        refine ⟨bz_01 _, ?_⟩
        have hf3 : eh_fr [] [413, 414] σ2 (eh_sA (eh_sA σ2 413 q (Kp.length : Int) z.1) 414 q (Kp.length : Int) (bz (z.2.2 = true))) := eh_fr_sA (eh_fr_sA eh_fr_rf (by decide)) (by decide)
        rw [hnx] at hk
        simp only [Option.toList_some, Option.toList_none, List.append_nil] at hk
        have hkm : (Kp ++ [z]).map Prod.snd = Kp.map Prod.snd ++ [z.2] := by rw [List.map_append]; rfl
        rw [← hkm] at hk
        have := ih _ (Kp ++ [z]) o (r + 1) ah b o5 o6 (by omega) (by simp; omega) hahl (eh_fr_tr c1 (eh_fr_up hf3 (by decide) (by decide))) (xo_Q_A (xo_Q_A c2)) (fun i w hw => ?_) (fun i w hw => ?_) (fun w hw => ?_) (fun w hw => ⟨(hwt w (List.mem_cons_of_mem _ hw)).1, xw_way_fr hf3 (by decide) (hwt2 w hw)⟩) ?_ (fun r' hr row h => xw_way_fr hf3 (by decide) (c6 r' hr row h)) (xm_M_fr c7 hf3 (by decide) (by decide)) c8 c9 (by omega) (by omega) hk
        · rw [List.length_append] at this
          simpa using this
        · rcases ls_snoc hw with ⟨h4, h5⟩ | ⟨h4, rfl⟩
          · obtain ⟨v1, v2⟩ := hkp2 i w h5
            exact ⟨by rw [eh_sA_c (by decide), eh_sA_n (by omega)]; exact v1, by rw [eh_sA_n (by omega), eh_sA_c (by decide)]; exact v2⟩
          · rw [h4]
            exact ⟨by rw [eh_sA_c (by decide), eh_sA_p], by rw [eh_sA_p]⟩
        · obtain ⟨v1, v2⟩ := htd2 i w hw
          exact ⟨by rw [eh_sA_c (by decide), eh_sA_n (by omega)]; exact v1, by rw [eh_sA_n (by omega), eh_sA_c (by decide)]; exact v2⟩
        · rcases List.mem_append.mp hw with h | h
          · exact ⟨(hwk w h).1, xw_way_fr hf3 (by decide) (hwk2 w h)⟩
          · rcases List.mem_cons.mp h with rfl | h
            · exact ⟨hgz, xw_way_fr hf3 (by decide) hwz⟩
            · cases h
        · have e1 : (Kp ++ [z]) ++ t = Kp ++ z :: t := by simp
          rw [e1]
          exact xw_I_fr (xw_I_perm hI2 xr_perm.symm) hf3 (by decide) (by decide) (by decide)
      have hIy : xw_I σ' (y.1 :: ((Kp ++ t).map Prod.fst ++ O)) := xw_I_perm hI' xr_perm
      have hwkK : ∀ w ∈ Kp, xw_way σ' w.2.1 w.1 := fun w hw => (hwk w hw).2
      have hwtT : ∀ w ∈ t, xw_way σ' w.2.1 w.1 := fun w hw => (hwt w (List.mem_cons_of_mem _ hw)).2
      have hgy1 := pu_gd_up hgy (show e ≤ e + 1 by omega)
      refine bX3_come_15 hX (T68 := Tp_fits) (T114 := Tw_first) rfl rfl hbb hq (fun hok => ⟨by omega, by omega, fun h => by omega, fun _ => ⟨fun _ => ⟨by omega, ?_⟩, fun h => absurd a9 h⟩⟩)
      rw [s1]
      refine ⟨_, rfl, y.1, y.2.1, rfl, hgy.1, hwy', ?_⟩
      refine bX3_come_46 hX (T152 := Tp_hasKey) rfl hbb hq hq (fun hok => ⟨q, _, rfl, hq, pu_first y.2.1, e, e + 1, E, P, rfl, hC', by omega, by omega, ?_⟩)
      by_cases hkey : pu_key E P (pu_first y.2.1) e = true
      · refine bX3_come_50 hX (T158 := Tp_every) (T162 := Tp_next) rfl rfl hbb hq (fun hok => ?_)
        rw [e401]
        have hRC : xw_C σ' (y.1 :: ((Kp ++ t).map Prod.fst ++ O)) := by
          intro r' hr
          rcases List.mem_cons.mp hr with rfl | hr
          · exact ⟨y.2.1, hwy', (pu_gd_len hgy hpo).2⟩
          · rcases List.mem_append.mp hr with h | h
            · obtain ⟨w, hw, rfl⟩ := List.mem_map.mp h
              rcases List.mem_append.mp hw with h | h
              · exact ⟨w.2.1, (hwk w h).2, (pu_gd_len (hwk w h).1 hpo).2⟩
              · exact ⟨w.2.1, hwtT w h, (pu_gd_len (hwt w (List.mem_cons_of_mem _ h)).1 hpo).2⟩
            · exact xw_C_k hOC a6 r' h
        refine ⟨bz_r _, fun h => absurd hkey (bz_0.mp h), fun _ => ⟨fun h => by omega, fun _ => ⟨q, _, rfl, hq, (r : Int), e, E, P, y, (Kp ++ t).map Prod.fst ++ O, rfl, by omega, hC', he, ⟨s1, s2⟩, hgy, hwy', hIy, by simp only [List.length_append, List.length_map]; omega, hRC, fun hmv => ?_, fun s tl' hmv σ2 n hf2 hsl2 hs2 hI2 hw2 hwn => ?_⟩⟩⟩
        · -- no move
          refine bX3_come_89 hX (T131 := Tp_isWhole) (T165 := Tp_isHurtBy) rfl rfl hbb hq (fun hok => ⟨fun _ => ⟨bz_r _, fun h => absurd hkey (bz_0.mp h), fun _ => ⟨by omega, fun _ => ?_, fun h => absurd rfl h⟩⟩, fun h => absurd a9 h⟩)
          refine ⟨q, _, rfl, hq, (r : Int), y.1, e, e + 1, E, P, y.2.1, rfl, by omega, s1, hC', by omega, hgy1, hwy', ?_⟩
          have hnx : pu_nx E P e y.2 = (some (y.2.1, y.2.2 || pu_hurts E P y.2.1 e), none) := by
            unfold pu_nx
            rw [if_pos hkey, hmv]
          refine bX3_come_116 hX (T131 := Tp_isWhole) rfl hbb hq (fun hok => ⟨bz_r _, fun h0 => ⟨by omega, fun _ => ⟨by omega, by omega, ?_⟩, fun h => absurd rfl h⟩, fun h0 => ⟨by omega, by omega, fun _ => ⟨by omega, ?_⟩, fun h => absurd rfl h⟩⟩)
          · have hh : pu_hurts E P y.2.1 e = false := by simpa using bz_0.mp h0
            rw [hh, Bool.or_false] at hnx
            exact stay σ' y _ _ hnx a1 a2 ⟨s1, s2⟩ hkp htd' hwkK hwtT hgy1 hwy' hIy a6 a7 a8 a9
          · have hh : pu_hurts E P y.2.1 e = true := bz_n.mp h0
            rw [hh, Bool.or_true] at hnx
            have hf3 : eh_fr [] [414] σ' (eh_sA σ' 414 q (r : Int) 1) := eh_fr_sA eh_fr_rf (by decide)
            have e413 : σ'.2 413 q (r : Int) = (eh_sA σ' 414 q (r : Int) 1).2 413 q (r : Int) := by rw [eh_sA_c (by decide)]
            rw [e413]
            refine stay _ (y.1, (y.2.1, true)) _ _ hnx (eh_fr_tr a1 (eh_fr_up hf3 (by decide) (by decide))) (xo_Q_A a2) ⟨by rw [eh_sA_c (by decide)]; exact s1, by rw [eh_sA_p]; exact (bz_t rfl).symm⟩ (fun i w hw => ?_) (fun i w hw => ?_) (fun w hw => xw_way_fr hf3 (by decide) (hwkK w hw)) (fun w hw => xw_way_fr hf3 (by decide) (hwtT w hw)) hgy1 (xw_way_fr hf3 (by decide) hwy') (xw_I_fr hIy hf3 (by decide) (by decide) (by decide)) (fun r' hr row h => xw_way_fr hf3 (by decide) (a6 r' hr row h)) (xm_M_fr a7 hf3 (by decide) (by decide)) a8 a9
            · have hil := ls_lt hw
              obtain ⟨v1, v2⟩ := hkp i w hw
              exact ⟨by rw [eh_sA_c (by decide)]; exact v1, by rw [eh_sA_n (by omega)]; exact v2⟩
            · obtain ⟨v1, v2⟩ := htd' i w hw
              exact ⟨by rw [eh_sA_c (by decide)]; exact v1, by rw [eh_sA_n (by omega)]; exact v2⟩
        · -- it goes on
          have hsm : s ∈ pu_moves E P y.2.1 y.2.2 e := by rw [hmv]; exact List.mem_cons_self
          have hgc := pu_gd_cons hgy he hsm
          have hgl := pu_gd_len hgc hpo
          have c1 : eh_fr fx_V fx_A σ σ2 := eh_fr_tr a1 (eh_fr_up hf2 (by decide) (by decide))
          have c2 : xo_Q σ σ2 q := xo_Q_tr a2 (fun i hi => ⟨by funext j; exact (hsl2 i j (fun h => hi h.1)).1, by funext j; exact (hsl2 i j (fun h => hi h.1)).2, by rw [hf2.1 415 (by decide)], by rw [hf2.1 410 (by decide)], by rw [hf2.1 412 (by decide)]⟩)
          have hkp2 : ∀ (i : Nat) (w : Int × pu_Rn), Kp[i]? = some w → xr_s σ2 q i w := fun i w hw => by
            have hil := ls_lt hw
            obtain ⟨v1, v2⟩ := hkp i w hw
            obtain ⟨u1, u2⟩ := hsl2 q i (fun h => by omega)
            exact ⟨by rw [u1]; exact v1, by rw [u2]; exact v2⟩
          have htd2 : ∀ (i : Nat) (w : Int × pu_Rn), t[i]? = some w → xr_s σ2 q ((r + 1 + i : Nat) : Int) w := fun i w hw => by
            obtain ⟨v1, v2⟩ := htd' i w hw
            obtain ⟨u1, u2⟩ := hsl2 q ((r + 1 + i : Nat) : Int) (fun h => by omega)
            exact ⟨by rw [u1]; exact v1, by rw [u2]; exact v2⟩
          have hwk2 : ∀ w ∈ Kp, xw_way σ2 w.2.1 w.1 := fun w hw => hw2 w.1 (List.mem_append_left _ (List.mem_map.mpr ⟨w, List.mem_append_left _ hw, rfl⟩)) _ (hwkK w hw)
          have hwt2 : ∀ w ∈ t, xw_way σ2 w.2.1 w.1 := fun w hw => hw2 w.1 (List.mem_append_left _ (List.mem_map.mpr ⟨w, List.mem_append_right _ hw, rfl⟩)) _ (hwtT w hw)
          have c6 : ∀ r ∈ O, ∀ row, xw_way σ row r → xw_way σ2 row r := fun r' hr row h => hw2 r' (List.mem_append_right _ hr) row (a6 r' hr row h)
          have c7 := xm_M_fr a7 hf2 (by decide) (by decide)
          have c8 : σ2.1 412 q = tl + (o.length : Int) := by rw [hf2.1 412 (by decide)]; exact a8
          have c9 : σ2.1 410 q = 0 := by rw [hf2.1 410 (by decide)]; exact a9
          have hC2 := xc_C_fr hC c1 (by decide) (by decide)
          have htp : pu_tip ((e, s) :: y.2.1) = s := rfl
          refine bX3_come_89 hX (T131 := Tp_isWhole) (T165 := Tp_isHurtBy) rfl rfl hbb hq (fun hok => ⟨fun _ => ⟨bz_r _, fun h => absurd hkey (bz_0.mp h), fun _ => ⟨by omega, fun h => absurd h (by decide), fun _ => ⟨by omega, ?_⟩⟩⟩, fun h => absurd c9 h⟩)
          rw [hs2.1]
          refine ⟨q, _, rfl, hq, n, e + 1, E, P, (e, s) :: y.2.1, rfl, hC2, hgc.1, hwn, (pu_gd_tip hgc).1, ?_⟩
          rw [htp]
          by_cases hwh : pu_wh P s = true
          · have hnx : pu_nx E P e y.2 = (none, some ((e, s) :: y.2.1)) := by
              unfold pu_nx
              rw [if_pos hkey, hmv]
              exact if_pos hwh
            refine bX3_come_143 hX (T135 := Tp_tell) rfl hbb hq (fun hok => ⟨bz_r _, fun h => absurd hwh (bz_0.mp h), fun _ => ⟨by omega, (2, 48), ⟨by dsimp only; omega, by dsimp only; omega⟩, ?_⟩⟩)
            rw [hs2.1]
            refine ⟨q, _, rfl, hq, n, (e, s) :: y.2.1, _, rfl, hwn, hgl.2, fun x hx => ?_, c7, by rw [List.length_append, List.length_map]; omega, by omega, ⟨Nat.le_refl _, Nat.le_refl _⟩, fun σ3 hf3 hm3 hv3 h3t => ?_⟩
            · have := pu_rok_mem hgc.2.1 hx
              omega
            · have e116 : σ2.1 116 0 = q := by rw [c1.1 116 (by decide)]; exact h116
              rw [e116] at hm3
              have hs3 := xr_s_fr hs2 hf3 (by decide)
              refine bX3_come_157 hX (T120 := Tw_leave) rfl ⟨by dsimp only; omega, by dsimp only; omega⟩ hq (fun hok => ⟨by omega, ?_⟩)
              rw [hs3.1]
              refine ⟨_, rfl, n, (Kp ++ t).map Prod.fst ++ O, rfl, xw_I_fr hI2 hf3 (by decide) (by decide) (by decide), by simp only [List.length_append, List.length_map]; omega, fun σ4 hf4 hI4 hw4 => ?_⟩
              refine bX3_come_174 hX ⟨by dsimp only; omega, by dsimp only; omega⟩ hq (fun hok => ?_)
              rw [hnx] at hk
              simp only [Option.toList_some, Option.toList_none, List.append_nil] at hk
              rw [show (r : Int) + 1 = ((r + 1 : Nat) : Int) by omega]
              refine ih σ4 Kp (o ++ [(e, s) :: y.2.1]) (r + 1) ah (b.1 + 2, b.2 + 48) _ _ (by omega) (by omega) hahl (eh_fr_tr c1 (eh_fr_tr (eh_fr_up hf3 (by decide) (by decide)) (eh_fr_up hf4 (by decide) (by decide)))) (xo_Q_tr c2 (xo_Q_tr (fun i hi => ?_) (xo_Q_fr hf4 (by decide) (by decide)))) (fun i w hw => xr_s_fr (xr_s_fr (hkp2 i w hw) hf3 (by decide)) hf4 (by decide)) (fun i w hw => xr_s_fr (xr_s_fr (htd2 i w hw) hf3 (by decide)) hf4 (by decide)) (fun w hw => ⟨(hwk w hw).1, hw4 w.1 (List.mem_append_left _ (List.mem_map.mpr ⟨w, List.mem_append_left _ hw, rfl⟩)) _ (xw_way_fr hf3 (by decide) (hwk2 w hw))⟩) (fun w hw => ⟨(hwt w (List.mem_cons_of_mem _ hw)).1, hw4 w.1 (List.mem_append_left _ (List.mem_map.mpr ⟨w, List.mem_append_right _ hw, rfl⟩)) _ (xw_way_fr hf3 (by decide) (hwt2 w hw))⟩) hI4 (fun r' hr row h => hw4 r' (List.mem_append_right _ hr) row (xw_way_fr hf3 (by decide) (c6 r' hr row h))) ?_ ?_ ?_ (by rw [List.length_append]; simp; omega) ⟨by dsimp only; omega, by dsimp only; omega⟩ hk
              · rw [hf3.2 413 (by decide), hf3.2 414 (by decide), hf3.1 415 (by decide), hf3.1 410 (by decide)]
                exact ⟨rfl, rfl, rfl, rfl, hv3 i hi⟩
              · refine xm_M_fr ?_ hf4 (by decide) (by decide)
                rw [List.map_append, ← List.append_assoc]
                exact hm3
              · rw [hf4.1 412 (by decide), h3t, c8, List.length_append]
                simp only [List.length_cons, List.length_nil]
                omega
              · rw [hf4.1 410 (by decide), hf3.1 410 (by decide)]; exact c9
          · have hnx : pu_nx E P e y.2 = (some ((e, s) :: y.2.1, false), none) := by
              unfold pu_nx
              rw [if_pos hkey, hmv]
              exact if_neg hwh
            refine bX3_come_143 hX (T135 := Tp_tell) rfl hbb hq (fun hok => ⟨bz_r _, fun _ => ⟨by omega, by omega, ?_⟩, fun h => absurd (bz_n.mp h) hwh⟩)
            exact stay σ2 (n, ((e, s) :: y.2.1, false)) _ _ hnx c1 c2 hs2 hkp2 htd2 hwk2 hwt2 hgc hwn hI2 c6 c7 c8 c9
      · have hnx : pu_nx E P e y.2 = (some y.2, none) := by
          unfold pu_nx
          rw [if_neg hkey]
        refine bX3_come_50 hX (T158 := Tp_every) (T162 := Tp_next) rfl rfl hbb hq (fun hok => ⟨bz_r _, fun _ => ⟨fun _ => ⟨by omega, by omega, ?_⟩, fun h => absurd a9 h⟩, fun h => absurd (bz_n.mp h) hkey⟩)
        exact stay σ' y _ _ hnx a1 a2 ⟨s1, s2⟩ hkp htd' hwkK hwtT hgy1 hwy' hIy a6 a7 a8 a9
  refine bX3_come_0 hX (T149 := Tp_age) rfl hzb hq (fun hok => ⟨q, _, rfl, hq, e, E, P, G, O, rfl, hC, he, hG, hGl, fun y hy => ⟨hgd0 y hy, hwy y hy⟩, hI, hOl, fun σ1 hf1 hQ1 hG1 hw1 hI1 hO1 => ?_⟩)
  refine bX3_come_5 hX hzb hq (fun hok => ?_)
  have hL0 : (G.filter (fun y => pu_young E P e y.2)).map Prod.snd = (G.map Prod.snd).filter (pu_young E P e) := by
    rw [List.filter_map]
    rfl
  have hl0 : (G.filter (fun y => pu_young E P e y.2)).length ≤ 200 := Nat.le_trans (List.length_filter_le _ _) hGl
  have hgd1 : ∀ z ∈ G.filter (fun y => pu_young E P e y.2), pu_gd P e z.2.1 := fun z hz => hgd0 z (List.mem_filter.mp hz).1
  have b7 : xm_M σ1 (ms0 ++ ([] : List pu_Rw).map (fun c => (q, c))) := by
    rw [List.map_nil, List.append_nil]
    exact xm_M_fr hm hf1 (by decide) (by decide)
  have b8 : σ1.1 412 q = tl + (([] : List pu_Rw).length : Int) := by
    rw [hf1.1 412 (by decide), htl]
    simp
  have b9 : σ1.1 410 q = 0 := by rw [hf1.1 410 (by decide)]; exact hsp
  have b1 : eh_fr fx_V fx_A σ σ1 := eh_fr_up hf1 (by decide) (by decide)
  rw [hG1.1]
  unfold pu_come at hK
  rw [← hL0] at hK
  by_cases h81 : P 8 0 = 1
  · simp only [if_pos h81] at hK
    have := keyN h81 (G.filter (fun y => pu_young E P e y.2)) σ1 [] [] 0 _ (0, 0) none none (Nat.zero_add _).symm (Nat.le_refl _) hl0 b1 hQ1 (fun i y hy => by simp at hy) (fun i y hy => by rw [Nat.zero_add]; exact hG1.2 i y hy) (fun y hy => (by cases hy)) (fun y hy => ⟨hgd1 y hy, hw1 y hy⟩) hI1 hO1 b7 b8 b9 (Nat.le_refl _) ⟨Nat.zero_le _, Nat.zero_le _⟩ hK
    exact this
  · simp only [if_neg h81, List.length_map] at hK
    exact keyE (by omega) _ σ1 (G.filter (fun y => pu_young E P e y.2)) [] 0 _ (0, 0) none none (Nat.zero_add _).symm (Nat.le_refl _) ⟨b1, hQ1, hG1, hw1, hI1, hO1, b7, b8, b9⟩ hl0 (Nat.zero_le _) (fun z hz => pu_gd_up (hgd1 z hz) (by omega)) (fun i z _ _ hz => hgd1 z (List.mem_of_getElem? hz)) ⟨Nat.zero_le _, Nat.zero_le _⟩ hK
