/-! EventHunter: calls, second part -/
theorem pu_eok_lo {E : Nat → Int → Int} {n m : Int} (h : pu_eok E n) (hm : m ≤ n) : pu_eok E m := ⟨h.1, fun e h0 h1 => h.2 e h0 (by omega)⟩
theorem xz_ctxE {σ : eh_S} {z : pz_Z} {n : Int} (h : xz σ z) (ho : pz_ok z) (hn : n ≤ z.1.1 1 0) : xc_E σ (pz_E z) n := by
  have h1 := ho.1.1
  refine ⟨by omega, ⟨h.1, fun e h0 h2 => ?_, fun j h0 h2 => h.2.1.2.2 j h0 (by omega)⟩, pu_eok_lo ho.1.2.2.2.1 hn⟩
  have := h.2.1.2.1 e h0 (by omega)
  exact ⟨this.1, this.2.1⟩
theorem xz_ctx {σ : eh_S} {z : pz_Z} {p n : Int} (h : xz σ z) (ho : pz_ok z) (hp : 0 ≤ p ∧ p < 8) (hn : n ≤ z.1.1 1 0) : xc_C σ p (pz_E z) (pz_P z p) n := by
  obtain ⟨⟨b1, b2, b3, b4⟩, c1, d1⟩ := h.2.2.2.2.1 p hp.1 hp.2
  refine ⟨hp, xz_ctxE h ho hn, ⟨b4, b3, b1, b2, fun j h0 h1 => ?_⟩, (ho.2.1 p hp.1 hp.2).1⟩
  obtain ⟨e1, e2, e3, e4, e5⟩ := d1 j h0 h1
  exact ⟨e1, e2, e3, fun _ => ⟨e4, e5⟩⟩
def Tx_mayStand : eh_T := fun as σ _ K => ∃ (p s : Int) (z : pz_Z), as = [.inr (some (3, p)), .inl s] ∧ (0 ≤ p ∧ p < 8) ∧ eh_r s ∧ xz σ z ∧ pz_ok z ∧ K (some (.inl (bz (pz_stand z p s)))) σ
theorem cx_mayStand (l : Launch) (D : va_G) (tc : Nat → ClassId) (ad : Nat → Int → Nat) (h99 : ∀ a : Int, ad 99 a = a.toNat) : eh_M l D tc ad eh_LX yX0_mayStand cX0_mayStand 3 (some .boolean) 0 Tx_mayStand := by
  refine eh_mk (rb := 1) (nm := eh_nX) (fl := eh_fl0) (kn := eh_kn0) (cs := (fun _ => none)) (ss := (fun _ => none)) (by decide) (eh_worldX h99) eh_fl0_ok eh_kn0_ok (fun _ _ _ h => by cases h) (fun _ _ _ h => by cases h) ?_
  rintro as σ bd K ⟨p, s, z, rfl, hp, hs, hz, ho, hK⟩
  refine ⟨Nat.le_of_ble_eq_true rfl, fun X hX => ?_⟩
  have hC := xz_ctx hz ho hp (n := 0) (by have := ho.1.1; omega)
  have e5 : σ.1 403 p = z.1.2 15 p 0 := xc_steps hC
  have h5 : 0 ≤ z.1.2 15 p 0 ∧ z.1.2 15 p 0 ≤ 6 := hC.2.2.2.1
  unfold pz_stand at hK
  refine bX0_mayStand_0 hX hp (fun hok => ?_)
  rw [e5]
  refine ⟨fun h0 => ⟨hs, fun h => eh_b1 hK ⟨fun _ => Or.inl h, fun h2 => absurd h0 h2⟩, fun h => ⟨fun h2 => eh_b1 hK ⟨fun _ => Or.inr h2, fun h3 => absurd h0 h3⟩, fun h2 => eh_b0 hK (fun h3 => by have := h3.1 h0; omega)⟩⟩, fun h0 => ⟨by omega, hs, ?_⟩⟩
  have hv : σ.2 404 p (z.1.2 15 p 0 - 1) = z.1.2 10 p (z.1.2 15 p 0 - 1) := xc_sort (j := z.1.2 15 p 0 - 1) hC (by omega) (by show z.1.2 15 p 0 - 1 < z.1.2 15 p 0; omega)
  rw [hv]
  refine ⟨fun h3 => ⟨fun h => eh_b1 hK ⟨fun h2 => absurd h2 h0, fun _ => ⟨fun _ => Or.inl h, fun h2 => absurd h3 h2⟩⟩, fun h => ⟨fun h2 => eh_b1 hK ⟨fun h4 => absurd h4 h0, fun _ => ⟨fun _ => Or.inr h2, fun h4 => absurd h3 h4⟩⟩, fun h2 => eh_b0 hK (fun h4 => by have := (h4.2 h0).1 h3; omega)⟩⟩, fun h3 => ⟨fun h2 => ⟨fun h => eh_b0 hK (fun h4 => by have := (h4.2 h0).2 h3; omega), fun h => eh_b1 hK ⟨fun h4 => absurd h4 h0, fun _ => ⟨fun h4 => absurd h4 h3, fun _ => Or.inr h⟩⟩⟩, fun h2 => eh_b1 hK ⟨fun h4 => absurd h4 h0, fun _ => ⟨fun h4 => absurd h4 h3, fun _ => Or.inl h2⟩⟩⟩⟩
def Tx_step : eh_T := eh_R0 fun as σ _ K => ∃ (p s o t f c : Int) (z : pz_Z), as = [.inl p, .inl s, .inl o, .inl t, .inl f, .inl c] ∧ (eh_r p ∧ eh_r s ∧ eh_r o ∧ eh_r t ∧ eh_r f ∧ eh_r c) ∧ xz σ z ∧ pz_ok z ∧ xk (pz_step p s o t f c z) σ K
theorem cx_step (l : Launch) (D : va_G) (tc : Nat → ClassId) (ad : Nat → Int → Nat) (h99 : ∀ a : Int, ad 99 a = a.toNat) : eh_M l D tc ad eh_LX yX0_step cX0_step 8 (some .int) 2 Tx_step := by
  refine eh_mk (rb := 0) (nm := eh_nX) (fl := eh_fl0) (kn := eh_kn0) (cs := (fun kk => match kk with | 99 => some (2, Tx_isPattern) | _ => none)) (ss := (fun kk => match kk with | 77 => some (3, Tx_within) | 103 => some (2, Tx_mayStand) | _ => none)) (by decide) (eh_worldX h99) eh_fl0_ok eh_kn0_ok (fun kk n T h => by
    split at h
    · cases h; exact eh_callV (c0 := 0) (cx_isPattern l D tc ad h99) q294 q296 qs0 q45 q297 (by decide +kernel) (by decide) (by decide) (by decide) rfl (eh_worldX h99) (fun _ _ _ _ h => eh_R0_rec h)
    · cases h) (fun kk n T h => by
    split at h
    · cases h; exact eh_callS (cx_within l D tc ad h99) q283 q284 q45 q285 (by decide +kernel) (by decide) (by decide)
    · cases h; exact eh_callS (cx_mayStand l D tc ad h99) q298 q299 q45 q300 (by decide +kernel) (by decide) (by decide)
    · cases h) ?_
  rintro as σ bd K ⟨_, rfl, p, s, o, t, f, c, z, rfl, ⟨hp, hs, hoo, ht, hf, hc⟩, hz, ho, hK⟩
  refine ⟨Nat.le_of_ble_eq_true rfl, fun X hX => ?_⟩
  have hnp := pz_np ho
  have hz' := hz
  obtain ⟨a1, a2, a3, a4, a5, a6, a7⟩ := hz
  unfold pz_step at hK
  -- the step itself
  have fin : (0 ≤ p ∧ p < z.1.1 4 0) → (0 ≤ s ∧ s ≤ 3) → (0 ≤ o ∧ o < 16) → pz_test z p t f c → ∀ (o1 : Option eh_V), Tx_mayStand [.inr (some (3, p)), .inl s] σ (0, 0) (fun r σ1 => X 110 [some (.inr (some (0, 0))), o1, some (.inl s), some (.inl o), some (.inl t), some (.inl f), some (.inl c), some (.inr (some (3, p)))] (r.toList ++ []) σ1 (0, 0)) := by
    intro hpp hss hoo' htt o1
    obtain ⟨⟨f1, f2, f3, f4⟩, ⟨g1, g2, g3, g4⟩, d1⟩ := a5 p hpp.1 (by omega)
    have h5 : 0 ≤ z.1.2 15 p 0 ∧ z.1.2 15 p 0 ≤ 6 := (ho.2.1 p hpp.1 (by omega)).1.1
    refine ⟨p, s, z, rfl, by omega, hs, hz', ho, ?_⟩
    have ht6 := htt.1
    refine bX0_step_110 hX (by omega) (fun hok => ⟨bz_r _, fun h => ?_, fun h => ?_⟩)
    · rw [pz_if_t (fun h2 => bz_0.mp h h2.2.2.2.2)] at hK
      exact xk_s hK hz'
    · rw [pz_if_f (fun h2 => h2 ⟨hpp, hss, hoo', htt, bz_n.mp h⟩)] at hK
      rw [f4, g1, a4.1]
      -- the world behind it
      have hfin : ∀ (σ' : eh_S) (f' c' : Int), z.1.2 15 p 0 ≠ 6 → f' = (if t = 0 then 0 else f) → c' = (if t = 0 then 0 else c) → z.1.2 20 p 0 = 0 → (∃ σ1 : eh_S, (z.1.2 15 p 0 = 0 ∧ σ1 = eh_sV σ 411 p (z.1.1 0 0) ∨ z.1.2 15 p 0 ≠ 0 ∧ σ1 = σ) ∧ σ' = eh_sV (eh_sA (eh_sA (eh_sA (eh_sA (eh_sA σ1 404 p (z.1.2 15 p 0) s) 405 p (z.1.2 15 p 0) o) 406 p (z.1.2 15 p 0) t) 407 p (z.1.2 15 p 0) f') 408 p (z.1.2 15 p 0) c') 403 p (z.1.2 15 p 0 + 1)) → K (some (.inl (z.1.2 15 p 0))) σ' := by
        rintro σ' f' c' h6 hf' hc' hb0 ⟨σ1, hσ1, rfl⟩
        rw [pz_if_f (fun h2 => h2 hb0), pz_if_f h6] at hK
        have hfr1 : eh_fr [411] [] σ σ1 := by
          rcases hσ1 with ⟨-, rfl⟩ | ⟨-, rfl⟩
          · exact eh_fr_sV eh_fr_rf (by decide)
          · exact eh_fr_rf
        have hfr : eh_fr [403, 411] [404, 405, 406, 407, 408] σ (eh_sV (eh_sA (eh_sA (eh_sA (eh_sA (eh_sA σ1 404 p (z.1.2 15 p 0) s) 405 p (z.1.2 15 p 0) o) 406 p (z.1.2 15 p 0) t) 407 p (z.1.2 15 p 0) f') 408 p (z.1.2 15 p 0) c') 403 p (z.1.2 15 p 0 + 1)) := eh_fr_sV (eh_fr_sA (eh_fr_sA (eh_fr_sA (eh_fr_sA (eh_fr_sA (eh_fr_up hfr1 (by decide) (by decide)) (by decide)) (by decide)) (by decide)) (by decide)) (by decide)) (by decide)
        have e3 : ∀ id, id < 10 → (pz_stepS p s o t f c z).2 id = z.1.2 id := fun id hid => by
          funext i j
          simp only [pz_stepS]
          repeat rw [if_neg (by omega)]
        have e411 : σ1.1 411 p = (if z.1.2 15 p 0 = 0 then z.1.1 0 0 else z.1.2 19 p 0) := by
          rcases hσ1 with ⟨h1, rfl⟩ | ⟨h1, rfl⟩
          · rw [if_pos h1, eh_sV_p]
          · rw [if_neg h1]; exact g3
        have e411' : ∀ q, q ≠ p → σ1.1 411 q = σ.1 411 q := fun q hq => by
          rcases hσ1 with ⟨h1, rfl⟩ | ⟨h1, rfl⟩
          · rw [eh_sV_n hq]
          · rfl
        refine hK _ (eh_fr_up hfr (by decide) (by decide)) ⟨xz_A_t a1 (hfr.2 100 (by decide)) (e3 3 (by decide)), xz_B_t a2 (hfr.1 106 (by decide)) (fun c hc => hfr.2 c (by simp only [List.mem_cons, List.not_mem_nil, or_false] at hc ⊢; omega)) rfl (fun c hc => e3 c (by simp only [List.mem_cons, List.not_mem_nil, or_false] at hc; omega)), xz_C_t a3 (hfr.2 109 (by decide)) (e3 5 (by decide)), xz_D_t a4 (fun v hv => hfr.1 v (by simp only [List.mem_cons, List.not_mem_nil, or_false] at hv ⊢; omega)) (fun _ _ => rfl), fun q h0 h1 => ?_, xz_W_t a6 hfr (by decide) (by decide) rfl, xm_M_fr a7 hfr (by decide) (by decide)⟩
        by_cases hqp : q = p
        · subst hqp
          have es : (pz_stepS q s o t f c z).2 15 q 0 = z.1.2 15 q 0 + 1 := by simp [pz_stepS]
          refine ⟨⟨?_, ?_, ?_, ?_⟩, ⟨?_, ?_, ?_, ?_⟩, fun j hj0 hj1 => ?_⟩
          · rw [hfr.1 400 (by decide), f1]; simp [pz_stepS]
          · rw [hfr.1 401 (by decide), f2]; simp [pz_stepS]
          · rw [hfr.1 402 (by decide), f3]; simp [pz_stepS]
          · rw [eh_sV_p]; exact es.symm
          · rw [hfr.1 409 (by decide), g1]; simp [pz_stepS]
          · rw [hfr.1 410 (by decide), g2]; simp [pz_stepS]
          · rw [eh_sV_v (by decide)]
            show σ1.1 411 q = _
            rw [e411]
            by_cases h0s : z.1.2 15 q 0 = 0
            · simp [pz_stepS, h0s]
            · simp [pz_stepS, h0s]
          · rw [hfr.1 412 (by decide), g4]; simp [pz_stepS]
          · have hj1' : j < z.1.2 15 q 0 + 1 := by
              have h9 : j < (pz_stepS q s o t f c z).2 15 q 0 := hj1
              omega
            by_cases hj : j = z.1.2 15 q 0
            · subst hj
              refine ⟨?_, ?_, ?_, ?_, ?_⟩
              · rw [eh_sV_2, eh_sA_c (by decide), eh_sA_c (by decide), eh_sA_c (by decide), eh_sA_c (by decide), eh_sA_p]; simp [pz_stepS]
              · rw [eh_sV_2, eh_sA_c (by decide), eh_sA_c (by decide), eh_sA_c (by decide), eh_sA_p]; simp [pz_stepS]
              · rw [eh_sV_2, eh_sA_c (by decide), eh_sA_c (by decide), eh_sA_p]; simp [pz_stepS]
              · rw [eh_sV_2, eh_sA_c (by decide), eh_sA_p, hf']; simp [pz_stepS]
              · rw [eh_sV_2, eh_sA_p, hc']; simp [pz_stepS]
            · obtain ⟨d2, d3, d4, d5, d6⟩ := d1 j hj0 (by omega)
              have e1c : ∀ c, σ1.2 c = σ.2 c := fun c => hfr1.2 c (by simp)
              refine ⟨?_, ?_, ?_, ?_, ?_⟩
              · rw [eh_sV_2, eh_sA_c (by decide), eh_sA_c (by decide), eh_sA_c (by decide), eh_sA_c (by decide), eh_sA_n hj, e1c, d2]; simp [pz_stepS, hj]
              · rw [eh_sV_2, eh_sA_c (by decide), eh_sA_c (by decide), eh_sA_c (by decide), eh_sA_n hj, eh_sA_c (by decide), e1c, d3]; simp [pz_stepS, hj]
              · rw [eh_sV_2, eh_sA_c (by decide), eh_sA_c (by decide), eh_sA_n hj, eh_sA_c (by decide), eh_sA_c (by decide), e1c, d4]; simp [pz_stepS, hj]
              · rw [eh_sV_2, eh_sA_c (by decide), eh_sA_n hj, eh_sA_c (by decide), eh_sA_c (by decide), eh_sA_c (by decide), e1c, d5]; simp [pz_stepS, hj]
              · rw [eh_sV_2, eh_sA_n hj, eh_sA_c (by decide), eh_sA_c (by decide), eh_sA_c (by decide), eh_sA_c (by decide), e1c, d6]; simp [pz_stepS, hj]
        · refine xz_F1_t (a5 q h0 h1) (fun v hv => ?_) (fun c'' hc'' => ?_) (fun id _ _ => ?_)
          · by_cases h403 : v = 403
            · rw [h403, eh_sV_n hqp]
              show σ1.1 403 q = σ.1 403 q
              rw [hfr1.1 403 (by decide)]
            · rw [eh_sV_v h403]
              show σ1.1 v q = σ.1 v q
              by_cases h411 : v = 411
              · rw [h411]; exact e411' q hqp
              · rw [hfr1.1 v (by simpa using h411)]
          · have e : ∀ (st : eh_S) (cc : Nat) (jj x : Int), (eh_sA st cc p jj x).2 c'' q = st.2 c'' q := fun st cc jj x => eh_sA_r (fun h => hqp h.2)
            rw [eh_sV_2, e, e, e, e, e, hfr1.2 c'' (by simp)]
          · funext j
            show (pz_stepS p s o t f c z).2 id q j = z.1.2 id q j
            simp only [pz_stepS]
            repeat rw [if_neg (by omega)]
      refine ⟨fun hb0 => ⟨fun h6 => ?_, fun h6 => ⟨fun h0 => ⟨by omega, hs, hoo, ht, fun ht0 => ⟨by omega, hfin _ 0 0 h6 (by rw [if_pos (by omega)]) (by rw [if_pos (by omega)]) hb0 ⟨_, Or.inl ⟨h0, rfl⟩, rfl⟩⟩, fun ht0 => ⟨hf, hc, by omega, hfin _ f c h6 (by rw [if_neg (by omega)]) (by rw [if_neg (by omega)]) hb0 ⟨_, Or.inl ⟨h0, rfl⟩, rfl⟩⟩⟩, fun h0 => ⟨by omega, hs, hoo, ht, fun ht0 => ⟨by omega, hfin _ 0 0 h6 (by rw [if_pos (by omega)]) (by rw [if_pos (by omega)]) hb0 ⟨_, Or.inr ⟨h0, rfl⟩, rfl⟩⟩, fun ht0 => ⟨hf, hc, by omega, hfin _ f c h6 (by rw [if_neg (by omega)]) (by rw [if_neg (by omega)]) hb0 ⟨_, Or.inr ⟨h0, rfl⟩, rfl⟩⟩⟩⟩⟩, fun hb0 => ?_⟩
      · rw [pz_if_f (fun h2 => h2 hb0), pz_if_t h6] at hK
        exact xk_s hK hz'
      · rw [pz_if_t hb0] at hK
        exact xk_s hK hz'
  refine bX0_step_0 hX (T99 := Tx_isPattern) rfl (fun hok => isP hz' ho hp ?_)
  refine bX0_step_5 hX (T77 := Tx_within) rfl (fun hok => ⟨bz_r _, fun h => ?_, fun h1 => wi hs (eh_rc (by omega)) (eh_rc (by omega)) ?_⟩)
  · rw [pz_if_t (fun h2 => bz_0.mp h h2.1)] at hK
    exact xk_s hK hz'
  have b1 := bz_n.mp h1
  refine bX0_step_14 hX (T77 := Tx_within) rfl (fun hok => ⟨bz_r _, fun h => ?_, fun h2 => wi hoo (eh_rc (by omega)) (eh_rc (by omega)) ?_⟩)
  · rw [pz_if_t (fun h2 => bz_0.mp h (by have := h2.2.1; omega))] at hK
    exact xk_s hK hz'
  have b2 := bz_n.mp h2
  refine bX0_step_24 hX (T77 := Tx_within) rfl (fun hok => ⟨bz_r _, fun h => ?_, fun h3 => wi ht (eh_rc (by omega)) (eh_rc (by omega)) ?_⟩)
  · rw [pz_if_t (fun h2 => bz_0.mp h (by have := h2.2.2.1; omega))] at hK
    exact xk_s hK hz'
  have b3 := bz_n.mp h3
  refine bX0_step_35 hX (T77 := Tx_within) (T103 := Tx_mayStand) rfl rfl (fun hok => ⟨bz_r _, fun h => ?_, fun h4 => ⟨by omega, ht, fun ht0 => ?_, fun ht0 => wi hf (eh_rc (by omega)) (eh_rc (by omega)) ?_⟩⟩)
  · rw [pz_if_t (fun h2 => bz_0.mp h (by have := h2.2.2.2.1.1; omega))] at hK
    exact xk_s hK hz'
  · have b4 := bz_n.mp h4
    exact fin b1 (by omega) (by omega) ⟨b4, fun h => by omega⟩ _
  have b4 := bz_n.mp h4
  obtain ⟨⟨f1, f2, f3, f4⟩, g1, d1⟩ := a5 p b1.1 (by omega)
  have h5 : 0 ≤ z.1.2 15 p 0 ∧ z.1.2 15 p 0 ≤ 6 := (ho.2.1 p b1.1 (by omega)).1.1
  refine bX0_step_60 hX (T77 := Tx_within) rfl (by omega) (fun hok => ⟨bz_r _, fun h => ?_, fun h6 => ⟨ht, fun ht4 => wi hc (eh_rc (by omega)) (eh_rc (by omega)) ?_, fun ht4 => wi hc (eh_rc (by omega)) (eh_rc (by omega)) ?_⟩⟩)
  · rw [pz_if_t (fun h2 => bz_0.mp h (by have := (h2.2.2.2.1.2 (by omega)).1; omega))] at hK
    exact xk_s hK hz'
  · have b6 := bz_n.mp h6
    rw [f4]
    refine bX0_step_99 hX (T103 := Tx_mayStand) rfl (by omega) (fun hok => ⟨bz_r _, fun h => ?_, fun h7 => ?_⟩)
    · rw [pz_if_t (fun h2 => bz_0.mp h (by have := (h2.2.2.2.1.2 (by omega)).2.2 (by omega); omega))] at hK
      exact xk_s hK hz'
    · have b7 := bz_n.mp h7
      exact fin b1 (by omega) (by omega) ⟨b4, fun _ => ⟨by omega, fun h => by omega, fun _ => by omega⟩⟩ _
  · have b6 := bz_n.mp h6
    refine bX0_step_80 hX (T103 := Tx_mayStand) rfl (by omega) (fun hok => ⟨bz_r _, fun h => ?_, fun h7 => ?_⟩)
    · rw [pz_if_t (fun h2 => bz_0.mp h (by have := (h2.2.2.2.1.2 (by omega)).2.1 (by omega); omega))] at hK
      exact xk_s hK hz'
    · have b7 := bz_n.mp h7
      exact fin b1 (by omega) (by omega) ⟨b4, fun _ => ⟨by omega, fun _ => by omega, fun h => by omega⟩⟩ _
