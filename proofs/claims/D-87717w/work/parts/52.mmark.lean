/-! EventHunterModel: mark -/
theorem mz_F1_t {σ σ' : eh_S} {z z' : pz_Z} {q : Int} (h : mz_F1 σ z q) (e1 : ∀ c ∈ [516, 517, 518, 519, 520, 521, 522, 523], σ'.2 c 0 q = σ.2 c 0 q) (e2 : ∀ c ∈ [524, 525, 526, 527, 528], σ'.2 c = σ.2 c) (e3 : ∀ c, 10 ≤ c → c ≤ 22 → z'.1.2 c q = z.1.2 c q) : mz_F1 σ' z' q := by
  unfold mz_F1
  rw [e1 516 (by decide), e1 517 (by decide), e1 518 (by decide), e1 519 (by decide), e1 520 (by decide), e1 521 (by decide), e1 522 (by decide), e1 523 (by decide), e2 524 (by decide), e2 525 (by decide), e2 526 (by decide), e2 527 (by decide), e2 528 (by decide), e3 10 (by decide) (by decide), e3 11 (by decide) (by decide), e3 12 (by decide) (by decide), e3 13 (by decide) (by decide), e3 14 (by decide) (by decide), e3 15 (by decide) (by decide), e3 16 (by decide) (by decide), e3 17 (by decide) (by decide), e3 18 (by decide) (by decide), e3 19 (by decide) (by decide), e3 20 (by decide) (by decide), e3 21 (by decide) (by decide), e3 22 (by decide) (by decide)]
  exact h
/-- z, the first n places of the waiting row done -/
def mzW (σ : eh_S) (z : pz_Z) (n : Int) : Prop := mz_A σ z ∧ mz_B σ z ∧ mz_W σ z n ∧ mz_C σ z ∧ mz_D σ z ∧ mz_F σ z ∧ mz_R σ z ∧ mm_M σ z.2.2
def mu_dn (σ σ' : eh_S) (c i : Int) : Prop := (∀ k, 0 ≤ k → σ'.2 504 0 k = (if k < i - c then σ.2 504 0 (k + c) else σ.2 504 0 k) ∧ σ'.2 505 0 k = (if k < i - c then σ.2 505 0 (k + c) else σ.2 505 0 k) ∧ σ'.2 506 0 k = (if k < i - c then σ.2 506 0 (k + c) else σ.2 506 0 k)) ∧ ∀ j, 0 ≤ j → σ'.2 507 0 j = (if j < 4 * (i - c) then σ.2 507 0 (j + 4 * c) else σ.2 507 0 j)
theorem mu_dn_step {σ σ' σ'' : eh_S} {c i : Int} (h : mu_dn σ σ' c i) (hc : 0 ≤ c) (hi : c ≤ i) (h2 : mu_mv σ' σ'' i (i - c)) : mu_dn σ σ'' c (i + 1) := by
  obtain ⟨h1, h4⟩ := h
  obtain ⟨k1, k4⟩ := h2
  refine ⟨fun k h0 => ?_, fun j h0 => ?_⟩
  · obtain ⟨a1, a2, a3⟩ := k1 k
    obtain ⟨b1, b2, b3⟩ := h1 k h0
    obtain ⟨c1, c2, c3⟩ := h1 i (by omega)
    rw [if_neg (by omega)] at c1 c2 c3
    by_cases hk : k = i - c
    · rw [if_pos hk] at a1 a2 a3
      rw [a1, a2, a3, c1, c2, c3, if_pos (by omega), if_pos (by omega), if_pos (by omega), show k + c = i by omega]
      exact ⟨rfl, rfl, rfl⟩
    · rw [if_neg hk] at a1 a2 a3
      rw [a1, a2, a3, b1, b2, b3]
      by_cases hl : k < i - c
      · rw [if_pos hl, if_pos hl, if_pos hl, if_pos (by omega), if_pos (by omega), if_pos (by omega)]
        exact ⟨rfl, rfl, rfl⟩
      · rw [if_neg hl, if_neg hl, if_neg hl, if_neg (by omega), if_neg (by omega), if_neg (by omega)]
        exact ⟨rfl, rfl, rfl⟩
  · rw [k4 j]
    by_cases hj : 4 * (i - c) ≤ j ∧ j < 4 * (i - c) + 4
    · rw [if_pos hj, h4 _ (by omega), if_neg (by omega), if_pos (by omega), show 4 * i + (j - 4 * (i - c)) = j + 4 * c by omega]
    · rw [if_neg hj, h4 j h0]
      by_cases hl : j < 4 * (i - c)
      · rw [if_pos hl, if_pos (by omega)]
      · rw [if_neg hl, if_neg (by omega)]
def Tm_mark : eh_T := eh_RM fun as σ _ K => ∃ (m : Int) (z : pz_Z), as = [.inl m] ∧ eh_r m ∧ mz σ z ∧ pz_ok z ∧ mk (pz_mark m z) σ K
theorem cm_mark (l : Launch) (D : va_G) (tc : Nat → ClassId) (ad : Nat → Int → Nat) (h99 : ∀ a : Int, ad 99 a = a.toNat) : eh_M l D tc ad eh_LX yX4_mark cX4_mark 5 (some .int) 5 Tm_mark := by
  refine eh_mk (rb := 0) (nm := eh_nX) (fl := eh_fl4) (kn := eh_kn4) (cs := (fun kk => match kk with | 217 => some (3, Tm_moveWaiting) | 221 => some (3, Tm_comes) | _ => none)) (ss := (fun _ => none)) (by decide) (eh_worldX h99) eh_fl4_ok eh_kn4_ok (fun kk n T h => by
    split at h
    · cases h; exact eh_callV (c0 := 4) (cm_moveWaiting l D tc ad h99) q689 q691 qs22 q49 q692 (by decide +kernel) (by decide) (by decide) (by decide) rfl (eh_worldX h99) (fun _ _ _ _ h => eh_RM_rec h)
    · cases h; exact eh_callV (c0 := 4) (cm_comes l D tc ad h99) q698 q700 qs23 q49 q701 (by decide +kernel) (by decide) (by decide) (by decide) rfl (eh_worldX h99) (fun _ _ _ _ h => eh_RM_rec h)
    · cases h) (fun _ _ _ h => by cases h) ?_
  rintro as σ bd K ⟨_, rfl, m, z, rfl, hm, hz, ho, hK⟩
  refine ⟨Nat.le_of_ble_eq_true rfl, fun X hX => ?_⟩
  -- the patterns, one by one
  have key142 : ∀ (j : Nat) (p e c : Int) (z' : pz_Z) (σ' : eh_S), 0 ≤ p → p + j = z'.1.1 4 0 → pz_okm z' p → mzW σ' z' c → eh_fr pM_V pM_A σ σ' → e = z'.1.1 0 0 - 1 → (∀ (σ'' : eh_S) (o3 o4 : Option eh_V), eh_fr pM_V pM_A σ σ'' → mzW σ'' (pz_pats e j p z') c → X 30 [some (.inr (some (4, 0))), some (.inl m), some (.inl c), o3, o4] [] σ'' (0, 0)) → X 142 [some (.inr (some (4, 0))), some (.inl m), some (.inl c), some (.inl e), some (.inl p)] [] σ' (0, 0) := by
    intro j
    induction j with
    | zero =>
      intro p e c z' σ' hp hj hok hx hf he hcont
      have hnp := hok.2.1.2.1
      have h515 : σ'.1 515 0 = z'.1.1 4 0 := hx.2.2.2.2.1.2.2
      refine bX4_mark_142 hX (T221 := Tm_comes) rfl (fun _ => ?_)
      rw [h515]
      exact ⟨by omega, fun _ => hcont σ' _ _ hf hx, fun h => by omega⟩
    | succ j ih =>
      intro p e c z' σ' hp hj hok hx hf he hcont
      have h515 : σ'.1 515 0 = z'.1.1 4 0 := hx.2.2.2.2.1.2.2
      have hE0 := hok.2.1
      have hnp := hE0.2.1
      have hp8 : 0 ≤ p ∧ p < 8 := by omega
      obtain ⟨c1, c2, c3, c4, c5, c6, c7, c8, c9, c10⟩ := hok.2.2.1 p hp8.1 hp8.2
      rw [if_neg (by omega)] at c6 c7
      have hx' := hx
      obtain ⟨a1, a2, a3, a4, a5, a6, a7, a8⟩ := hx
      have hF := a6 p hp8.1 hp8.2
      obtain ⟨⟨f1, f2, f3, f4⟩, ⟨g1, g2, g3, g4⟩, d1⟩ := a6 p hp8.1 hp8.2
      rw [pz_pats] at hcont
      have nxt : ∀ (σ2 : eh_S), eh_fr pM_V pM_A σ σ2 → mzW σ2 (pz_pat e p z') c → X 189 [some (.inr (some (4, 0))), some (.inl m), some (.inl c), some (.inl e), some (.inl p)] [] σ2 (0, 0) := by
        intro σ2 hf2 hx2
        refine bX4_mark_189 hX (fun _ => ?_)
        have hpat := pz_patA (z := z') (e := e) (p := p)
        have hok2 := pz_pat_ok hok hp8
        rw [← he] at hok2
        exact ih (p + 1) e c (pz_pat e p z') σ2 (by omega) (by rw [hpat.1]; omega) hok2 hx2 hf2 (by rw [hpat.1]; exact he) (fun σ3 o3 o4 hf3' hx3 => hcont σ3 o3 o4 hf3' hx3)
      refine bX4_mark_142 hX (T221 := Tm_comes) rfl (fun _ => ?_)
      rw [h515, f4, g2]
      refine ⟨by omega, fun h => by omega, fun _ => ⟨hp8, fun h0 => ?_, fun h0 => ⟨fun hs => ?_, fun hs => ?_⟩⟩⟩
      · refine nxt σ' hf ?_
        unfold pz_pat
        rw [pz_if_t h0]
        exact hx'
      · -- it comes
        have hpS : pz_pat e p z' = pz_patS e p z' := by unfold pz_pat; rw [pz_if_f h0, pz_if_f (fun h => h hs)]
        have pzc := (pz_patA (z := z') (e := e) (p := p)).2
        have pzv := (pz_patA (z := z') (e := e) (p := p)).1
        rw [hpS] at pzc pzv
        have hf1 : eh_fr [] [521] σ' (eh_sA σ' 521 0 p 1) := eh_fr_sA eh_fr_rf (by decide)
        have h521 : ∀ q, (eh_sA σ' 521 0 p 1).2 521 0 q = (if q = p then 1 else σ'.2 521 0 q) := fun q => by
          by_cases hq : q = p
          · rw [if_pos hq, hq, eh_sA_p]
          · rw [if_neg hq, eh_sA_n hq]
        generalize eh_sA σ' 521 0 p 1 = σ1 at hf1 h521
        have hb0 := hE0.1
        have h1t := hok.1
        have hM := hok.2.2.2.1
        have hC0 : mc_C σ' p (pz_E z') (pz_P z' p) (e + 1) := by
          rw [show e + 1 = z'.1.1 0 0 by omega]
          exact mz_ctx0 ⟨a1, a2, hF⟩ (pu_eok_lo hE0.2.2.2.1 (by omega)) (by omega) c1 hp8
        refine ⟨_, rfl, p, e, pz_E z', pz_P z' p, z'.2.1 p, z'.2.2, z'.1.2 22 p 0, rfl, mc_C_fr hC0 hf1 (by decide), by omega, ?_, mr_L_fr (a7 p hp8.1 hp8.2) hf1 (by decide), by rw [he]; exact c7, mm_M_fr a8 hf1 (by decide) (by decide), by rw [hf1.2 523 (by decide)]; exact g4, by omega, by omega, by rw [hf1.2 522 (by decide), g2]; exact hs, fun σ2 s1 s2 s3 s4 s5 s6 => ?_⟩
        · have : 0 ≤ z'.1.2 15 p 0 := c1.1.1
          show 0 < z'.1.2 15 p 0
          omega
        · refine nxt σ2 (eh_fr_tr hf (eh_fr_tr (eh_fr_up hf1 (by decide) (by decide)) (eh_fr_up s1 (by decide) (by decide)))) ?_
          have ev : ∀ v, v ∉ fm_V → σ2.1 v = σ'.1 v := fun v h2 => by rw [s1.1 v h2, hf1.1 v (by simp)]
          have ec : ∀ c, c ≠ 521 → c ∉ fm_A → σ2.2 c = σ'.2 c := fun c h1 h2 => by rw [s1.2 c h2, hf1.2 c (by simpa using h1)]
          rw [hpS]
          refine ⟨mz_A_t a1 (ec 501 (by decide) (by decide)) (pzc 3 (by decide) (by decide) (by decide)), mz_B_t a2 (ev 508 (by decide)) (fun c hc => ec c (by simp only [List.mem_cons, List.not_mem_nil, or_false] at hc; omega) (by simp only [List.mem_cons, List.not_mem_nil, or_false] at hc ⊢; omega)) (by rw [pzv]) (fun c hc => pzc c (by simp only [List.mem_cons, List.not_mem_nil, or_false] at hc; omega) (by simp only [List.mem_cons, List.not_mem_nil, or_false] at hc; omega) (by simp only [List.mem_cons, List.not_mem_nil, or_false] at hc; omega)), mz_W_t a3 (ev 503 (by decide)) (fun c hc => ec c (by simp only [List.mem_cons, List.not_mem_nil, or_false] at hc; omega) (by simp only [List.mem_cons, List.not_mem_nil, or_false] at hc ⊢; omega)) (fun v _ => by rw [pzv]) (fun c hc => pzc c (by simp only [List.mem_cons, List.not_mem_nil, or_false] at hc; omega) (by simp only [List.mem_cons, List.not_mem_nil, or_false] at hc; omega) (by simp only [List.mem_cons, List.not_mem_nil, or_false] at hc; omega)), mz_C_t a4 (ec 502 (by decide) (by decide)) (pzc 5 (by decide) (by decide) (by decide)), mz_D_t a5 (fun v hv => ev v (by simp only [List.mem_cons, List.not_mem_nil, or_false] at hv ⊢; omega)) (fun v _ => by rw [pzv]), fun q h0' h1' => ?_, fun q h0' h1' => ?_, s4⟩
          · by_cases hqp : q = p
            · subst hqp
              have p20 : (pz_patS e q z').1.2 20 q 0 = 1 := by unfold pz_patS; dsimp only; rw [eh_sA_c (by decide), eh_sA_c (by decide), eh_sA_p]
              have p21 : (pz_patS e q z').1.2 21 q 0 = bz ((pu_come (pz_E z') (pz_P z' q) e (z'.2.1 q)).2.2 = true) := by unfold pz_patS; dsimp only; rw [eh_sA_c (by decide), eh_sA_p]
              have p22 : (pz_patS e q z').1.2 22 q 0 = z'.1.2 22 q 0 + ((pu_come (pz_E z') (pz_P z' q) e (z'.2.1 q)).2.1.length : Int) := by unfold pz_patS; dsimp only; rw [eh_sA_p]
              refine ⟨⟨?_, ?_, ?_, ?_⟩, ⟨?_, ?_, ?_, ?_⟩, ?_⟩
              · rw [ec 516 (by decide) (by decide), pzc 17 (by decide) (by decide) (by decide)]; exact f1
              · rw [ec 517 (by decide) (by decide), pzc 18 (by decide) (by decide) (by decide)]; exact f2
              · rw [ec 518 (by decide) (by decide), pzc 16 (by decide) (by decide) (by decide)]; exact f3
              · rw [ec 519 (by decide) (by decide), pzc 15 (by decide) (by decide) (by decide)]; exact f4
              · rw [s1.2 521 (by decide), h521, if_pos rfl, p20]
              · rw [s6, p21]
              · rw [ec 520 (by decide) (by decide), pzc 19 (by decide) (by decide) (by decide)]; exact g3
              · rw [s5, p22]
              · rw [ec 524 (by decide) (by decide), ec 525 (by decide) (by decide), ec 526 (by decide) (by decide), ec 527 (by decide) (by decide), ec 528 (by decide) (by decide), pzc 15 (by decide) (by decide) (by decide), pzc 10 (by decide) (by decide) (by decide), pzc 11 (by decide) (by decide) (by decide), pzc 12 (by decide) (by decide) (by decide), pzc 13 (by decide) (by decide) (by decide), pzc 14 (by decide) (by decide) (by decide)]
                exact d1
            · obtain ⟨o1, o2, o3⟩ := s2
              have pq := (pz_patQ (z := z') (e := e) (p := p) hqp).1
              rw [hpS] at pq
              refine mz_F1_t (a6 q h0' h1') (fun v hv => ?_) (fun c hc => ec c (by simp only [List.mem_cons, List.not_mem_nil, or_false] at hc; omega) (by simp only [List.mem_cons, List.not_mem_nil, or_false] at hc ⊢; omega)) (fun c _ _ => pq c)
              by_cases v1 : v = 522
              · rw [v1, o2 q hqp, hf1.2 522 (by decide)]
              · by_cases v2 : v = 523
                · rw [v2, o3 q hqp, hf1.2 523 (by decide)]
                · by_cases v3 : v = 521
                  · rw [v3, s1.2 521 (by decide), h521, if_neg hqp]
                  · rw [ec v v3 (by simp only [List.mem_cons, List.not_mem_nil, or_false] at hv ⊢; omega)]
          · by_cases hqp : q = p
            · subst hqp
              have : (pz_patS e q z').2.1 q = (pu_come (pz_E z') (pz_P z' q) e (z'.2.1 q)).1 := by
                unfold pz_patS
                dsimp only
                rw [if_pos rfl]
              rw [this]
              exact s3
            · have pq := (pz_patQ (z := z') (e := e) (p := p) hqp).2
              rw [hpS] at pq
              rw [pq]
              have hl := (hok.2.2.1 q h0' h1').2.2.2.2.2.2.1.1
              exact mo_R_L (mr_L_fr (a7 q h0' h1') hf1 (by decide)) s2.1 hqp (by omega)
      · -- it is spent
        have hpS : pz_pat e p z' = (eh_sA z'.1 20 p 0 1, z'.2) := by unfold pz_pat; rw [pz_if_f h0, pz_if_t hs]
        have hf1 : eh_fr [] [521] σ' (eh_sA σ' 521 0 p 1) := eh_fr_sA eh_fr_rf (by decide)
        refine nxt _ (eh_fr_tr hf (eh_fr_up hf1 (by decide) (by decide))) ?_
        rw [hpS]
        have e3 : ∀ c, c ≠ 20 → (eh_sA z'.1 20 p 0 1).2 c = z'.1.2 c := fun c hc => eh_sA_c hc
        refine ⟨mz_A_t a1 (hf1.2 501 (by decide)) (e3 3 (by decide)), mz_B_t a2 rfl (fun c hc => hf1.2 c (by simp only [List.mem_cons, List.not_mem_nil, or_false] at hc ⊢; omega)) rfl (fun c hc => e3 c (by simp only [List.mem_cons, List.not_mem_nil, or_false] at hc; omega)), mz_W_t a3 rfl (fun c hc => hf1.2 c (by simp only [List.mem_cons, List.not_mem_nil, or_false] at hc ⊢; omega)) (fun _ _ => rfl) (fun c hc => e3 c (by simp only [List.mem_cons, List.not_mem_nil, or_false] at hc; omega)), mz_C_t a4 (hf1.2 502 (by decide)) (e3 5 (by decide)), mz_D_t a5 (fun _ _ => rfl) (fun _ _ => rfl), fun q h0 h1 => ?_, mz_R_t a7 hf1 (by decide) rfl, mm_M_fr a8 hf1 (by decide) (by decide)⟩
        by_cases hqp : q = p
        · subst hqp
          refine ⟨⟨?_, ?_, ?_, ?_⟩, ⟨?_, ?_, ?_, ?_⟩, ?_⟩
          · rw [hf1.2 516 (by decide), e3 17 (by decide)]; exact f1
          · rw [hf1.2 517 (by decide), e3 18 (by decide)]; exact f2
          · rw [hf1.2 518 (by decide), e3 16 (by decide)]; exact f3
          · rw [hf1.2 519 (by decide), e3 15 (by decide)]; exact f4
          · show (eh_sA σ' 521 0 q 1).2 521 0 q = (eh_sA z'.1 20 q 0 1).2 20 q 0
            rw [eh_sA_p, eh_sA_p]
          · rw [hf1.2 522 (by decide), e3 21 (by decide)]; exact g2
          · rw [hf1.2 520 (by decide), e3 19 (by decide)]; exact g3
          · rw [hf1.2 523 (by decide), e3 22 (by decide)]; exact g4
          · rw [hf1.2 524 (by decide), hf1.2 525 (by decide), hf1.2 526 (by decide), hf1.2 527 (by decide), hf1.2 528 (by decide), e3 15 (by decide), e3 10 (by decide), e3 11 (by decide), e3 12 (by decide), e3 13 (by decide), e3 14 (by decide)]; exact d1
        · refine mz_F1_t (a6 q h0 h1) (fun v hv => ?_) (fun c hc => hf1.2 c (by simp only [List.mem_cons, List.not_mem_nil, or_false] at hc ⊢; omega)) (fun c' _ _ => eh_sA_r (fun h => hqp h.2))
          by_cases v3 : v = 521
          · rw [v3, eh_sA_n hqp]
          · rw [hf1.2 v (by simpa using v3)]
  -- those that still wait move down
  have key200 : ∀ (z' : pz_Z) (σ' : eh_S) (c : Int), pz_ok0 z' → mzW σ' z' c → eh_fr pM_V pM_A σ σ' → (0 ≤ c ∧ c + (z'.1.1 1 0 - z'.1.1 0 0) ≤ 100) → (∀ σ'', eh_fr pM_V pM_A σ σ'' → mz σ'' z' → K (some (.inl c)) σ'') → ∀ (d : Nat) (s : eh_S) (i : Int) (o1 o4 : Option eh_V), (c ≤ i ∧ i ≤ c + (z'.1.1 1 0 - z'.1.1 0 0)) → c + (z'.1.1 1 0 - z'.1.1 0 0) - i < d → eh_fr [] [504, 505, 506, 507] σ' s → mu_dn σ' s c i → X 200 [some (.inr (some (4, 0))), o1, some (.inl c), some (.inl i), o4] [] s (0, 0) := by
    intro z' σ' c hok hx hf hc hcont d
    obtain ⟨a1, a2, a3, a4, a5, a6, a7, a8⟩ := hx
    have hE := hok.1.1
    have h503 := a3.1
    induction d with
    | zero => intro s i o1 o4 h1 h2; omega
    | succ d ih =>
      intro s i o1 o4 hi hd hfs hdn
      have e503 : s.1 503 0 = c + (z'.1.1 1 0 - z'.1.1 0 0) := by rw [hfs.1 503 (by decide)]; exact h503
      refine bX4_mark_200 hX (T217 := Tm_moveWaiting) rfl (fun _ => ?_)
      rw [e503]
      refine ⟨by omega, fun h => ⟨by omega, ?_⟩, fun h => ⟨_, rfl, i, i - c, rfl, by omega, by omega, fun s2 hf2 hmv => ?_⟩⟩
      · have hi' : i = c + (z'.1.1 1 0 - z'.1.1 0 0) := by omega
        have hf3 : eh_fr [503] [504, 505, 506, 507] σ' (eh_sV s 503 0 (c + (z'.1.1 1 0 - z'.1.1 0 0) - c)) := eh_fr_sV (eh_fr_up hfs (by decide) (by decide)) (by decide)
        refine hcont _ (eh_fr_tr hf (eh_fr_up hf3 (by decide) (by decide))) ⟨mz_A_t a1 (hf3.2 501 (by decide)) rfl, mz_B_t a2 (hf3.1 508 (by decide)) (fun c hc => hf3.2 c (by simp only [List.mem_cons, List.not_mem_nil, or_false] at hc ⊢; omega)) rfl (fun _ _ => rfl), ⟨?_, fun k x y => ?_, fun j x y => ?_⟩, mz_C_t a4 (hf3.2 502 (by decide)) rfl, mz_D_t a5 (fun v hv => hf3.1 v (by simp only [List.mem_cons, List.not_mem_nil, or_false] at hv ⊢; omega)) (fun _ _ => rfl), mz_F_t a6 (fun c hc => hf3.2 c (by simp only [List.mem_cons, List.not_mem_nil, or_false] at hc ⊢; omega)) (fun _ _ _ => rfl), mz_R_t a7 hf3 (by decide) rfl, mm_M_fr a8 hf3 (by decide) (by decide)⟩
        · rw [eh_sV_p]; omega
        · rw [eh_sV_p] at y
          obtain ⟨t1, t2, t3⟩ := hdn.1 k x
          rw [if_pos (by omega)] at t1 t2 t3
          show s.2 504 0 k = _ ∧ s.2 505 0 k = _ ∧ s.2 506 0 k = _
          rw [t1, t2, t3]
          have := a3.2.1 (k + c) (by omega) (by omega)
          rwa [show z'.1.1 0 0 + (k + c) - c = z'.1.1 0 0 + k - 0 by omega] at this
        · rw [eh_sV_p] at y
          have t1 := hdn.2 j (by omega)
          rw [if_pos (by omega)] at t1
          show s.2 507 0 j = _
          rw [t1]
          have := a3.2.2 (j + 4 * c) (by omega) (by omega)
          rwa [show 4 * z'.1.1 0 0 + (j + 4 * c) - 4 * c = 4 * z'.1.1 0 0 + j - 4 * 0 by omega] at this
      · exact bX4_mark_216 hX (fun _ => ih s2 (i + 1) _ _ (by omega) (by omega) (eh_fr_tr hfs hf2) (mu_dn_step hdn hc.1 hi.1 hmv))
  have dn0 : ∀ (s : eh_S) (c : Int), mu_dn s s c c := fun s c => ⟨fun k h0 => by
    rw [if_neg (by omega), if_neg (by omega), if_neg (by omega)]; exact ⟨rfl, rfl, rfl⟩, fun j h0 => by rw [if_neg (by omega)]⟩
  -- the events, one by one
  have key30 : ∀ (k : Nat) (z' : pz_Z) (σ' : eh_S) (c : Int) (o3 o4 : Option eh_V), k = (z'.1.1 1 0 - z'.1.1 0 0).toNat → pz_ok0 z' → mzW σ' z' c → eh_fr pM_V pM_A σ σ' → (0 ≤ c ∧ c + (z'.1.1 1 0 - z'.1.1 0 0) ≤ 100) → (∀ σ'', eh_fr pM_V pM_A σ σ'' → mz σ'' (pz_evs m k z').2 → K (some (.inl (c + (pz_evs m k z').1))) σ'') → X 30 [some (.inr (some (4, 0))), some (.inl m), some (.inl c), o3, o4] [] σ' (0, 0) := by
    intro k
    induction k with
    | zero =>
      intro z' σ' c o3 o4 hk hok hx hf hc hcont
      have hE := hok.1.1
      rw [pz_evs] at hcont
      have h503 := hx.2.2.1.1
      refine bX4_mark_30 hX (fun _ => ?_)
      rw [h503]
      exact ⟨by omega, fun _ => key200 z' σ' c hok hx hf hc (fun σ2 h1 h2 => eh_ki (hcont σ2 h1 h2) (by dsimp only; omega)) 101 σ' c _ _ (by omega) (by omega) eh_fr_rf (dn0 σ' c), fun h => by omega⟩
    | succ k ih =>
      intro z' σ' c o3 o4 hk hok hx hf hc hcont
      have hE := hok.1.1
      have h503 := hx.2.2.1.1
      have h508 := hx.2.1.1
      have hw := hx.2.2.1.2.1 c (Int.le_refl _) (by omega)
      rw [show z'.1.1 0 0 + c - c = z'.1.1 0 0 by omega] at hw
      obtain ⟨w1, w2, w3⟩ := hw
      refine bX4_mark_30 hX (fun _ => ?_)
      rw [h503, h508, w1, w2, w3]
      rw [pz_evs] at hcont
      refine ⟨by omega, fun h => by omega, fun _ => ⟨by omega, hm, fun h => ?_, fun h => ⟨by omega, ?_⟩⟩⟩
      · rw [pz_if_f (by omega)] at hcont
        exact key200 z' σ' c hok hx hf hc (fun σ2 h1 h2 => eh_ki (hcont σ2 h1 h2) (by dsimp only; omega)) 101 σ' c _ _ (by omega) (by omega) eh_fr_rf (dn0 σ' c)
      · rw [pz_if_t (by omega)] at hcont
        dsimp only at hcont
        obtain ⟨e1, e2, e3, e4⟩ := pz_ev_ok hok (by omega)
        have e31 : (pz_ev z').1.1 1 0 = z'.1.1 1 0 := by rw [e3 1 (by decide)]
        have hnp := hok.1.2.1
        have ev : ∀ v, v ≠ 0 → ((eh_sV z'.1 0 0 (z'.1.1 0 0 + 1), z'.2) : pz_Z).1.1 v = z'.1.1 v := fun v hv => eh_sV_v hv
        have e0 : ((eh_sV z'.1 0 0 (z'.1.1 0 0 + 1), z'.2) : pz_Z).1.1 0 0 = z'.1.1 0 0 + 1 := eh_sV_p
        obtain ⟨a1, a2, a3, a4, a5, a6, a7, a8⟩ := hx
        have hm0 : pz_okm (eh_sV z'.1 0 0 (z'.1.1 0 0 + 1), z'.2) 0 := by
          obtain ⟨hE', hP', hM'⟩ := hok
          refine ⟨by rw [e0]; omega, ?_, fun q h0 h8 => ?_, ?_⟩
          · unfold pz_okE0
            rw [e0, ev 1 (by decide), ev 3 (by decide), ev 4 (by decide)]
            exact ⟨by omega, hE'.2.1, hE'.2.2.1, hE'.2.2.2.1, fun i j a b c => hE'.2.2.2.2 i j (by omega) b c⟩
          · obtain ⟨c1, c2, c3, c4, c5, c6, c7, c8, c9, c10⟩ := hP' q h0 h8
            rw [e0, ev 4 (by decide), if_neg (by omega), show z'.1.1 0 0 + 1 - 1 = z'.1.1 0 0 by omega]
            exact ⟨c1, c2, ⟨c3.1, by have := c3.2; show z'.1.2 19 q 0 ≤ z'.1.1 0 0 + 1; omega⟩, c4, c5, c6, c7, c8, c9, c10⟩
          · refine ⟨by rw [e0]; have := hM'.1; dsimp only; omega, fun x hx => ?_⟩
            obtain ⟨b1, b2, b3, b4⟩ := hM'.2 x hx
            refine ⟨b1, b2, b3, fun y hy => ?_⟩
            rw [e0]
            have := b4 y hy
            exact ⟨by omega, this.2⟩
        have key92 : ∀ (d : Nat) (s : eh_S) (q : Int), (0 ≤ q ∧ q ≤ 4) → 4 - q < d → eh_fr [] [509, 510, 511, 512] σ' s → (∀ i, s.2 509 0 i = (if i = z'.1.1 0 0 then z'.1.2 0 0 (z'.1.1 0 0) else σ'.2 509 0 i) ∧ s.2 510 0 i = (if i = z'.1.1 0 0 then z'.1.2 1 0 (z'.1.1 0 0) else σ'.2 510 0 i) ∧ s.2 511 0 i = (if i = z'.1.1 0 0 then z'.1.2 4 0 (z'.1.1 0 0) else σ'.2 511 0 i)) → (∀ i, s.2 512 0 i = (if 4 * z'.1.1 0 0 ≤ i ∧ i < 4 * z'.1.1 0 0 + q then σ'.2 507 0 (4 * c + (i - 4 * z'.1.1 0 0)) else σ'.2 512 0 i)) → X 92 [some (.inr (some (4, 0))), some (.inl m), some (.inl c), some (.inl (z'.1.1 0 0)), some (.inl q)] [] s (0, 0) := by
          intro d
          induction d with
          | zero => intro s q h1 h2; omega
          | succ d ihd =>
            intro s q hq hd hfs hs hs4
            have es08 : s.1 508 0 = z'.1.1 0 0 := by rw [hfs.1 508 (by decide)]; exact h508
            refine bX4_mark_92 hX (fun _ => ?_)
            rw [es08]
            refine ⟨by omega, fun h4 => ⟨by omega, ?_⟩, fun h4 => ⟨by omega, by omega, ihd _ (q + 1) (by omega) (by omega) (eh_fr_sA hfs (by decide)) (fun i => ?_) (fun i => ?_)⟩⟩
            · have hf3 : eh_fr [508] [509, 510, 511, 512] σ' (eh_sV s 508 0 (z'.1.1 0 0 + 1)) := eh_fr_sV (eh_fr_up hfs (by decide) (by decide)) (by decide)
              have hx1 : mzW (eh_sV s 508 0 (z'.1.1 0 0 + 1)) (eh_sV z'.1 0 0 (z'.1.1 0 0 + 1), z'.2) (c + 1) := by
                refine ⟨mz_A_t a1 (hf3.2 501 (by decide)) rfl, ⟨?_, fun e x y => ?_, fun j x y => ?_⟩, ⟨?_, fun k x y => ?_, fun j x y => ?_⟩, mz_C_t a4 (hf3.2 502 (by decide)) rfl, mz_D_t a5 (fun v hv => hf3.1 v (by simp only [List.mem_cons, List.not_mem_nil, or_false] at hv ⊢; omega)) (fun v hv => ev v (by simp only [List.mem_cons, List.not_mem_nil, or_false] at hv; omega)), mz_F_t a6 (fun c hc => hf3.2 c (by simp only [List.mem_cons, List.not_mem_nil, or_false] at hc ⊢; omega)) (fun _ _ _ => rfl), mz_R_t a7 hf3 (by decide) rfl, mm_M_fr a8 hf3 (by decide) (by decide)⟩
                · rw [eh_sV_p, e0]
                · rw [e0] at y
                  show s.2 509 0 e = z'.1.2 0 0 e ∧ s.2 510 0 e = z'.1.2 1 0 e ∧ s.2 511 0 e = z'.1.2 4 0 e
                  obtain ⟨t1, t2, t3⟩ := hs e
                  rw [t1, t2, t3]
                  by_cases het : e = z'.1.1 0 0
                  · rw [if_pos het, if_pos het, if_pos het, het]; exact ⟨rfl, rfl, rfl⟩
                  · rw [if_neg het, if_neg het, if_neg het]; exact a2.2.1 e x (by omega)
                · rw [e0] at y
                  show s.2 512 0 j = z'.1.2 2 0 j
                  rw [hs4 j]
                  by_cases hj : 4 * z'.1.1 0 0 ≤ j ∧ j < 4 * z'.1.1 0 0 + q
                  · rw [if_pos hj]
                    have := a3.2.2 (4 * c + (j - 4 * z'.1.1 0 0)) (by omega) (by omega)
                    rwa [show 4 * z'.1.1 0 0 + (4 * c + (j - 4 * z'.1.1 0 0)) - 4 * c = j by omega] at this
                  · rw [if_neg hj]; exact a2.2.2 j x (by omega)
                · rw [hf3.1 503 (by decide), e0, ev 1 (by decide), h503]; omega
                · rw [hf3.1 503 (by decide)] at y
                  rw [e0, hf3.2 504 (by decide), hf3.2 505 (by decide), hf3.2 506 (by decide), show z'.1.1 0 0 + 1 + k - (c + 1) = z'.1.1 0 0 + k - c by omega]
                  exact a3.2.1 k (by omega) y
                · rw [hf3.1 503 (by decide)] at y
                  rw [e0, hf3.2 507 (by decide), show 4 * (z'.1.1 0 0 + 1) + j - 4 * (c + 1) = 4 * z'.1.1 0 0 + j - 4 * c by omega]
                  exact a3.2.2 j (by omega) y
              refine key142 (z'.1.1 4 0).toNat 0 (z'.1.1 0 0) (c + 1) _ _ (Int.le_refl _) (by rw [ev 4 (by decide)]; omega) hm0 hx1 (eh_fr_tr hf (eh_fr_up hf3 (by decide) (by decide))) (by rw [e0]; omega) (fun σ2 o3 o4 hf2 hx2 => ?_)
              have hx2' : mzW σ2 (pz_ev z') (c + 1) := hx2
              refine ih (pz_ev z') σ2 (c + 1) o3 o4 (by rw [e31, e2]; omega) e1 hx2' hf2 (by rw [e31, e2]; omega) (fun σ3 hf3 hx3 => eh_ki (hcont σ3 hf3 hx3) (by omega))
            · rw [eh_sA_c (by decide), eh_sA_c (by decide), eh_sA_c (by decide)]
              exact hs i
            · rw [hfs.2 507 (by decide)]
              by_cases hi : i = 4 * z'.1.1 0 0 + q
              · rw [hi, eh_sA_p, if_pos (by omega), show 4 * z'.1.1 0 0 + q - 4 * z'.1.1 0 0 = q by omega]
              · rw [eh_sA_n hi, hs4 i]
                by_cases hcc : 4 * z'.1.1 0 0 ≤ i ∧ i < 4 * z'.1.1 0 0 + q
                · rw [if_pos hcc, if_pos (by omega)]
                · rw [if_neg hcc, if_neg (by omega)]
        refine key92 5 _ 0 (by omega) (by omega) (eh_fr_sA (eh_fr_sA (eh_fr_sA eh_fr_rf (by decide)) (by decide)) (by decide)) (fun i => ?_) (fun i => ?_)
        · by_cases hi : i = z'.1.1 0 0
          · rw [if_pos hi, if_pos hi, if_pos hi, hi, eh_sA_c (by decide), eh_sA_c (by decide), eh_sA_p, eh_sA_c (by decide), eh_sA_p, eh_sA_p]; exact ⟨rfl, rfl, rfl⟩
          · rw [if_neg hi, if_neg hi, if_neg hi, eh_sA_c (by decide), eh_sA_c (by decide), eh_sA_n hi, eh_sA_c (by decide), eh_sA_n hi, eh_sA_n hi, eh_sA_c (by decide), eh_sA_c (by decide), eh_sA_c (by decide)]; exact ⟨rfl, rfl, rfl⟩
        · rw [if_neg (by omega), eh_sA_c (by decide), eh_sA_c (by decide), eh_sA_c (by decide)]
  unfold pz_mark at hK
  have h513 := hz.2.2.2.2.1.2.1
  refine bX4_mark_0 hX (fun hok => ?_)
  rw [h513]
  refine ⟨hm, fun h => ?_, fun h1 => ⟨fun h2 => ⟨fun h3 => ?_, fun h => ?_⟩, fun h => ?_⟩⟩
  · rw [pz_if_t (by omega)] at hK
    exact mk_s hK hz
  · have b1 : 0 ≤ m ∧ m ≤ 200000 := by omega
    rw [pz_if_f (fun h => h b1), pz_if_f (by omega)] at hK
    have hok0 := pz_mark0 ho b1
    have hE := ho.1.1
    have ev : ∀ v, v ≠ 3 → ((eh_sV z.1 3 0 m, z.2) : pz_Z).1.1 v = z.1.1 v := fun v hv => eh_sV_v hv
    have hf1 : eh_fr [513] [] σ (eh_sV σ 513 0 m) := eh_fr_sV eh_fr_rf (by decide)
    obtain ⟨a1, a2, a3, a4, a5, a6, a7, a8⟩ := hz
    refine key30 _ _ _ 0 _ _ (by rw [ev 0 (by decide), ev 1 (by decide)]) hok0 ⟨mz_A_t a1 rfl rfl, mz_B_t a2 (hf1.1 508 (by decide)) (fun _ _ => rfl) (ev 0 (by decide)) (fun _ _ => rfl), mz_W_t a3 (hf1.1 503 (by decide)) (fun _ _ => rfl) (fun v hv => ev v (by simp only [List.mem_cons, List.not_mem_nil, or_false] at hv; omega)) (fun _ _ => rfl), mz_C_t a4 rfl rfl, ⟨?_, ?_, ?_⟩, mz_F_t a6 (fun _ _ => rfl) (fun _ _ _ => rfl), mz_R_t a7 hf1 (by decide) rfl, mm_M_fr a8 hf1 (by decide) (by decide)⟩ (eh_fr_up hf1 (by decide) (by decide)) (by rw [ev 0 (by decide), ev 1 (by decide)]; omega) (fun σ2 hf2 hx2 => eh_ki (hK σ2 hf2 hx2) (by omega))
    · rw [hf1.1 514 (by decide), ev 2 (by decide)]; exact a5.1
    · show (eh_sV σ 513 0 m).1 513 0 = (eh_sV z.1 3 0 m).1 3 0
      rw [eh_sV_p, eh_sV_p]
    · rw [hf1.1 515 (by decide), ev 4 (by decide)]; exact a5.2.2
  · rw [pz_if_f (fun h => h (by omega)), pz_if_t (by omega)] at hK
    exact mk_s hK hz
  · rw [pz_if_t (by omega)] at hK
    exact mk_s hK hz
