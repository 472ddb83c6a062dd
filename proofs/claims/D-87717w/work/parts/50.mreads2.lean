/-! EventHunterModel: calls that only tell, second part -/
theorem mz_own {σ σ' : eh_S} {z : pz_Z} (h : mz σ z) (hf : eh_fr [542, 544] [534, 540, 541, 543, 545, 546, 547] σ σ') : mz σ' z := by
  obtain ⟨a1, a2, a3, a4, a5, a6, a7, a8⟩ := h
  exact ⟨mz_A_t a1 (hf.2 501 (by decide)) rfl, mz_B_t a2 (hf.1 508 (by decide)) (fun c hc => hf.2 c (by simp only [List.mem_cons, List.not_mem_nil, or_false] at hc ⊢; omega)) rfl (fun _ _ => rfl), mz_W_t a3 (hf.1 503 (by decide)) (fun c hc => hf.2 c (by simp only [List.mem_cons, List.not_mem_nil, or_false] at hc ⊢; omega)) (fun _ _ => rfl) (fun _ _ => rfl), mz_C_t a4 (hf.2 502 (by decide)) rfl, mz_D_t a5 (fun v hv => hf.1 v (by simp only [List.mem_cons, List.not_mem_nil, or_false] at hv ⊢; omega)) (fun _ _ => rfl), mz_F_t a6 (fun c hc => hf.2 c (by simp only [List.mem_cons, List.not_mem_nil, or_false] at hc ⊢; omega)) (fun _ _ _ => rfl), mz_R_t a7 hf (by decide) rfl, mm_M_fr a8 hf (by decide) (by decide)⟩
theorem mr_row {σ : eh_S} {p r : Int} {x : pu_Rn} (h : mr_s σ p r x) : pu_rowL (fun k => σ.2 532 0 (24 * (201 * p + r) + k)) (fun k => σ.2 533 0 (24 * (201 * p + r) + k)) x.1.length = x.1 := by
  have h3 := h.2.2.1
  unfold pm_run at h3
  rwa [h.1, Int.toNat_natCast] at h3
def mz_hl (σ : eh_S) (Q : Int → Prop) : Prop := ∀ e, 0 ≤ e → e < 1000 → σ.2 545 0 e = bz (Q e)
theorem mz_hl_c {σ : eh_S} {Q Q' : Int → Prop} (h : mz_hl σ Q) (hq : ∀ e, Q e ↔ Q' e) : mz_hl σ Q' := fun e h0 h1 => by rw [h e h0 h1]; exact bz_congr (hq e)
theorem mz_hl_s {σ : eh_S} {Q : Int → Prop} {v : Int} (h : mz_hl σ Q) : mz_hl (eh_sA σ 545 0 v 1) (fun e => Q e ∨ e = v) := fun e h0 h1 => by
  by_cases he : e = v
  · rw [he, eh_sA_p]; exact (bz_t (Or.inr rfl)).symm
  · rw [eh_sA_n he, h e h0 h1]; exact bz_congr ⟨Or.inl, fun q => q.resolve_right he⟩
def Tm_holdNone : eh_T := eh_RM fun as σ _ K => as = [] ∧ ∀ σ', eh_fr [] [545] σ σ' → mz_hl σ' (fun _ => False) → K none σ'
theorem cm_holdNone (l : Launch) (D : va_G) (tc : Nat → ClassId) (ad : Nat → Int → Nat) (h99 : ∀ a : Int, ad 99 a = a.toNat) : eh_M l D tc ad eh_LX yX4_holdNone cX4_holdNone 2 none 0 Tm_holdNone := by
  refine eh_mk (rb := 2) (nm := eh_nX) (fl := eh_fl4) (kn := eh_kn4) (cs := (fun _ => none)) (ss := (fun _ => none)) (by decide) (eh_worldX h99) eh_fl4_ok eh_kn4_ok (fun _ _ _ h => by cases h) (fun _ _ _ h => by cases h) ?_
  rintro as σ bd K ⟨_, rfl, rfl, hK⟩
  refine ⟨Nat.le_of_ble_eq_true rfl, fun X hX => ?_⟩
  have key : ∀ (m : Nat) (σ' : eh_S) (i : Int), (0 ≤ i ∧ i ≤ 1000) → 1000 - i < m → eh_fr [] [545] σ σ' → (∀ j, 0 ≤ j → j < i → σ'.2 545 0 j = 0) → X 2 [some (.inr (some (4, 0))), some (.inl i)] [] σ' (0, 0) := by
    intro m
    induction m with
    | zero => intro σ' i h1 h2; omega
    | succ m ih =>
      intro σ' i hi hm hf hq
      refine bX4_holdNone_2 hX (fun hok => ⟨by omega, fun h => hK σ' hf (fun e h0 h1 => ?_), fun h => ⟨by omega, ih _ (i + 1) (by omega) (by omega) (eh_fr_sA hf (by decide)) (fun j h0 h1 => ?_)⟩⟩)
      · rw [hq e h0 (by omega)]
        exact (bz_f (fun h => h)).symm
      · by_cases hj : j = i
        · rw [hj, eh_sA_p]
        · rw [eh_sA_n hj]; exact hq j h0 (by omega)
  exact bX4_holdNone_0 hX (fun hok => key 1001 σ 0 (by omega) (by omega) eh_fr_rf (fun j h0 h1 => by omega))
def mz_fk (σ : eh_S) (b k e : Int) : Prop := ∃ j : Int, (0 ≤ j ∧ j < k) ∧ σ.2 532 0 (24 * b + j) = e
def Tm_hold : eh_T := eh_RM fun as σ _ K => ∃ (p : Int) (L : List pu_Rn) (Q : Int → Prop), as = [.inl p] ∧ (0 ≤ p ∧ p < 8) ∧ mr_L σ p L ∧ L.length ≤ 200 ∧ (∀ x ∈ L, ∀ y ∈ x.1, 0 ≤ y.1 ∧ y.1 < 1000) ∧ mz_hl σ Q ∧ ∀ σ', eh_fr [] [545] σ σ' → mz_hl σ' (fun e => Q e ∨ ∃ x ∈ L, pz_has x.1 e) → K none σ'
theorem cm_hold (l : Launch) (D : va_G) (tc : Nat → ClassId) (ad : Nat → Int → Nat) (h99 : ∀ a : Int, ad 99 a = a.toNat) : eh_M l D tc ad eh_LX yX4_hold cX4_hold 4 none 0 Tm_hold := by
  refine eh_mk (rb := 2) (nm := eh_nX) (fl := eh_fl4) (kn := eh_kn4) (cs := (fun _ => none)) (ss := (fun _ => none)) (by decide) (eh_worldX h99) eh_fl4_ok eh_kn4_ok (fun _ _ _ h => by cases h) (fun _ _ _ h => by cases h) ?_
  rintro as σ bd K ⟨_, rfl, p, L, Q, rfl, hp, hL, hl, hy, hQ, hK⟩
  refine ⟨Nat.le_of_ble_eq_true rfl, fun X hX => ?_⟩
  have keyK : ∀ (m : Nat) (σ' : eh_S) (r : Nat) (x : pu_Rn) (k : Int) (Q : Int → Prop), L[r]? = some x → (0 ≤ k ∧ k ≤ x.1.length) → x.1.length - k < m → eh_fr [] [545] σ σ' → mz_hl σ' (fun e => Q e ∨ mz_fk σ (201 * p + r) k e) → (∀ (σ'' : eh_S) (o3 : Option eh_V), eh_fr [] [545] σ σ'' → mz_hl σ'' (fun e => Q e ∨ pz_has x.1 e) → X 2 [some (.inr (some (4, 0))), some (.inl p), some (.inl ((r : Int) + 1)), o3] [] σ'' (0, 0)) → X 14 [some (.inr (some (4, 0))), some (.inl p), some (.inl (r : Int)), some (.inl k)] [] σ' (0, 0) := by
    intro m
    induction m with
    | zero => intro σ' r x k Q _ h1 h2; omega
    | succ m ih =>
      intro σ' r x k Q hx hk hm hf hq hcont
      have hrl := ls_lt hx
      have hs := hL.2 r x hx
      have hrow := mr_row hs
      have h530 : σ'.2 530 0 (201 * p + r) = (x.1.length : Int) := by rw [hf.2 530 (by decide)]; exact hs.1
      have h24 := hs.2.1
      refine bX4_hold_14 hX (fun hok => ?_)
      rw [h530, hf.2 532 (by decide)]
      refine ⟨by omega, by omega, fun h => hcont σ' _ hf (mz_hl_c hq (fun e => ?_)), fun h => ?_⟩
      · have : mz_fk σ (201 * p + r) k e ↔ pz_has x.1 e := by
          have hh := (pz_has_rowL (f := fun k => σ.2 532 0 (24 * (201 * p + r) + k)) (g := fun k => σ.2 533 0 (24 * (201 * p + r) + k)) (n := x.1.length) (e := e)).symm
          rw [hrow] at hh
          rw [← hh]
          exact ⟨fun ⟨j, h1, h2⟩ => ⟨j, h1.1, by omega, h2⟩, fun ⟨j, h1, h2, h3⟩ => ⟨j, ⟨h1, by omega⟩, h3⟩⟩
        rw [this]
      · have hmem := pu_rowL_in (f := fun k => σ.2 532 0 (24 * (201 * p + r) + k)) (g := fun k => σ.2 533 0 (24 * (201 * p + r) + k)) (n := x.1.length) hk.1 (by omega)
        rw [hrow] at hmem
        have hv := hy x (List.mem_of_getElem? hx) _ hmem
        refine ⟨by omega, hv, ih _ r x (k + 1) Q hx (by omega) (by omega) (eh_fr_sA hf (by decide)) (mz_hl_c (mz_hl_s hq) (fun e => ?_)) hcont⟩
        constructor
        · rintro ((h1 | ⟨j, h1, h2⟩) | h1)
          · exact Or.inl h1
          · exact Or.inr ⟨j, by omega, h2⟩
          · exact Or.inr ⟨k, by omega, h1.symm⟩
        · rintro (h1 | ⟨j, h1, h2⟩)
          · exact Or.inl (Or.inl h1)
          · by_cases hj : j = k
            · rw [hj] at h2; exact Or.inr h2.symm
            · exact Or.inl (Or.inr ⟨j, by omega, h2⟩)
  have keyR : ∀ (T : List pu_Rn) (σ' : eh_S) (r : Nat) (Q : Int → Prop) (o3 : Option eh_V), L.drop r = T → r ≤ L.length → eh_fr [] [545] σ σ' → mz_hl σ' Q → (∀ σ'', eh_fr [] [545] σ σ'' → mz_hl σ'' (fun e => Q e ∨ ∃ x ∈ T, pz_has x.1 e) → K none σ'') → X 2 [some (.inr (some (4, 0))), some (.inl p), some (.inl (r : Int)), o3] [] σ' (0, 0) := by
    intro T
    induction T with
    | nil =>
      intro σ' r Q o3 hd hr hf hq hcont
      have hrl := List.drop_eq_nil_iff.mp hd
      have h529 : σ'.2 529 0 p = (L.length : Int) := by rw [hf.2 529 (by decide)]; exact hL.1
      exact bX4_hold_2 hX (fun hok => ⟨by omega, by omega, fun h => hcont σ' hf (mz_hl_c hq (fun e => ⟨Or.inl, fun h => by
        rcases h with h | ⟨y, h, _⟩
        · exact h
        · cases h⟩)), fun h => by omega⟩)
    | cons x T ih =>
      intro σ' r Q o3 hd hr hf hq hcont
      have hx : L[r]? = some x := by
        have : (L.drop r)[0]? = some x := by rw [hd]; rfl
        rwa [List.getElem?_drop, Nat.add_zero] at this
      have hrl := ls_lt hx
      have h529 : σ'.2 529 0 p = (L.length : Int) := by rw [hf.2 529 (by decide)]; exact hL.1
      refine bX4_hold_2 hX (fun hok => ⟨by omega, by omega, fun h => by omega, fun h => ?_⟩)
      have h24 := (hL.2 r x hx).2.1
      refine keyK 30 σ' r x 0 Q hx (by omega) (by omega) hf (mz_hl_c hq (fun e => ⟨Or.inl, fun h => ?_⟩)) (fun σ2 o3 hf2 hq2 => ?_)
      · rcases h with h | ⟨j, h1, h2⟩
        · exact h
        · omega
      · have := ih σ2 (r + 1) _ o3 (by rw [← List.tail_drop, hd]; rfl) (by omega) hf2 hq2 (fun σ3 hf3 hq3 => hcont σ3 hf3 (mz_hl_c hq3 (fun e => ?_)))
        · simpa using this
        · constructor
          · rintro ((h | h) | ⟨y', h, h'⟩)
            · exact Or.inl h
            · exact Or.inr ⟨x, List.mem_cons_self, h⟩
            · exact Or.inr ⟨y', List.mem_cons_of_mem _ h, h'⟩
          · rintro (h | ⟨y', h, h'⟩)
            · exact Or.inl (Or.inl h)
            · rcases List.mem_cons.mp h with rfl | h
              · exact Or.inl (Or.inr h')
              · exact Or.inr ⟨y', h, h'⟩
  exact bX4_hold_0 hX (fun hok => keyR L σ 0 Q _ rfl (Nat.zero_le _) eh_fr_rf hQ hK)
def Tm_heldMany : eh_T := eh_RM fun as σ _ K => ∃ (n : Int) (Q : Int → Prop), as = [] ∧ (0 ≤ n ∧ n ≤ 1000) ∧ σ.1 508 0 = n ∧ mz_hl σ Q ∧ K (some (.inl (pp_sum (fun e => bz (Q e)) n.toNat 0))) σ
theorem cm_heldMany (l : Launch) (D : va_G) (tc : Nat → ClassId) (ad : Nat → Int → Nat) (h99 : ∀ a : Int, ad 99 a = a.toNat) : eh_M l D tc ad eh_LX yX4_heldMany cX4_heldMany 3 (some .int) 0 Tm_heldMany := by
  refine eh_mk (rb := 0) (nm := eh_nX) (fl := eh_fl4) (kn := eh_kn4) (cs := (fun _ => none)) (ss := (fun _ => none)) (by decide) (eh_worldX h99) eh_fl4_ok eh_kn4_ok (fun _ _ _ h => by cases h) (fun _ _ _ h => by cases h) ?_
  rintro as σ bd K ⟨_, rfl, n, Q, rfl, hn, h508, hQ, hK⟩
  refine ⟨Nat.le_of_ble_eq_true rfl, fun X hX => ?_⟩
  have key : ∀ (m : Nat) (c e : Int), (0 ≤ e ∧ e + m = n) → K (some (.inl (c + pp_sum (fun e => bz (Q e)) m e))) σ → X 4 [some (.inr (some (4, 0))), some (.inl c), some (.inl e)] [] σ (0, 0) := by
    intro m
    induction m with
    | zero =>
      intro c e he hK
      exact bX4_heldMany_4 hX (fun hok => ⟨by omega, fun h => eh_ki hK (by simp [pp_sum]), fun h => by omega⟩)
    | succ m ih =>
      intro c e he hK
      refine bX4_heldMany_4 hX (fun hok => ⟨by omega, fun h => by omega, fun h => ⟨by omega, ?_⟩⟩)
      rw [hQ e (by omega) (by omega)]
      rw [pp_sum] at hK
      exact ⟨fun h2 => ih _ _ (by omega) (eh_ki hK (by omega)), fun h2 => ih _ _ (by omega) (eh_ki hK (by rw [bz_t (bz_n.mp h2)]; omega))⟩
  exact bX4_heldMany_0 hX (fun hok => key n.toNat 0 0 (by omega) (eh_ki hK (by omega)))
theorem pz_run_ev {z : pz_Z} {p : Int} (ho : pz_ok z) (hp : 0 ≤ p ∧ p < 8) : ∀ x ∈ z.2.1 p, ∀ y ∈ x.1, 0 ≤ y.1 ∧ y.1 < 1000 := fun x hx y hy => by
  have h1 := pu_gd_mem ((ho.2.1 p hp.1 hp.2).2.2.2.2.2.2.1.2 x hx) y hy
  have h2 := ho.1.1
  omega
def Tm_count : eh_T := eh_RM fun as σ _ K => ∃ (w : Int) (z : pz_Z), as = [.inl w] ∧ eh_r w ∧ mz σ z ∧ pz_ok z ∧ mk (pz_count w z, z) σ K
theorem cm_count (l : Launch) (D : va_G) (tc : Nat → ClassId) (ad : Nat → Int → Nat) (h99 : ∀ a : Int, ad 99 a = a.toNat) : eh_M l D tc ad eh_LX yX4_count cX4_count 3 (some .int) 1 Tm_count := by
  refine eh_mk (rb := 0) (nm := eh_nX) (fl := eh_fl4) (kn := eh_kn4) (cs := (fun kk => match kk with | 230 => some (1, Tm_holdNone) | 233 => some (2, Tm_hold) | 236 => some (1, Tm_heldMany) | _ => none)) (ss := (fun _ => none)) (by decide) (eh_worldX h99) eh_fl4_ok eh_kn4_ok (fun kk n T h => by
    split at h
    · cases h; exact eh_callV (c0 := 4) (cm_holdNone l D tc ad h99) q778 q780 qs38 q49 q781 (by decide +kernel) (by decide) (by decide) (by decide) rfl (eh_worldX h99) (fun _ _ _ _ h => eh_RM_rec h)
    · cases h; exact eh_callV (c0 := 4) (cm_hold l D tc ad h99) q782 q784 qs39 q49 q785 (by decide +kernel) (by decide) (by decide) (by decide) rfl (eh_worldX h99) (fun _ _ _ _ h => eh_RM_rec h)
    · cases h; exact eh_callV (c0 := 4) (cm_heldMany l D tc ad h99) q786 q788 qs40 q49 q789 (by decide +kernel) (by decide) (by decide) (by decide) rfl (eh_worldX h99) (fun _ _ _ _ h => eh_RM_rec h)
    · cases h) (fun _ _ _ h => by cases h) ?_
  rintro as σ bd K ⟨_, rfl, w, z, rfl, hw, hz, ho, hK⟩
  refine ⟨Nat.le_of_ble_eq_true rfl, fun X hX => ?_⟩
  have hnp := pz_np ho
  have hE := ho.1.1
  obtain ⟨d1, d2, d3⟩ := hz.2.2.2.2.1
  have h508 := hz.2.1.1
  have h503 := hz.2.2.1.1
  have hK0 := mk_s hK hz
  have key : w = 5 → ∀ (m : Nat) (σ' : eh_S) (p : Int) (o1 : Option eh_V), (0 ≤ p ∧ p ≤ z.1.1 4 0) → z.1.1 4 0 - p < m → eh_fr [] [545] σ σ' → mz_hl σ' (fun e => ∃ q, (0 ≤ q ∧ q < p) ∧ ∃ x ∈ z.2.1 q, pz_has x.1 e) → X 71 [some (.inr (some (4, 0))), o1, some (.inl p)] [] σ' (0, 0) := by
    intro hw5 m
    induction m with
    | zero => intro σ' p o1 h1 h2; omega
    | succ m ih =>
      intro σ' p o1 hp hm hf hq
      have e515 : σ'.1 515 0 = z.1.1 4 0 := by rw [hf.1 515 (by decide)]; exact d3
      have e508 : σ'.1 508 0 = z.1.1 0 0 := by rw [hf.1 508 (by decide)]; exact h508
      refine bX4_count_71 hX (T233 := Tm_hold) rfl (T236 := Tm_heldMany) rfl (fun hok => ⟨by omega, fun h => ⟨_, rfl, z.1.1 0 0, _, rfl, by omega, e508, hq, ?_⟩, fun h => ⟨_, rfl, p, z.2.1 p, _, rfl, by omega, mr_L_fr (hz.2.2.2.2.2.2.1 p hp.1 (by omega)) hf (by decide), (ho.2.1 p hp.1 (by omega)).2.2.2.2.2.2.1.1, pz_run_ev ho (by omega), hq, fun σ2 hf2 hq2 => ?_⟩⟩)
      · refine bX4_count_94 hX (fun hok => eh_ki (hK σ' (eh_fr_up hf (by decide) (by decide)) (mz_own hz (eh_fr_up hf (by decide) (by decide)))) ?_)
        unfold pz_count pz_kept
        rw [hw5, show p = z.1.1 4 0 by omega]
        rfl
      · refine bX4_count_84 hX (fun hok => ih σ2 (p + 1) o1 (by omega) (by omega) (eh_fr_tr hf hf2) (mz_hl_c hq2 (fun e => ?_)))
        constructor
        · rintro (⟨q, h1, h2⟩ | h1)
          · exact ⟨q, by omega, h2⟩
          · exact ⟨p, by omega, h1⟩
        · rintro ⟨q, h1, h2⟩
          by_cases hqp : q = p
          · rw [hqp] at h2; exact Or.inr h2
          · exact Or.inl ⟨q, by omega, h2⟩
  refine bX4_count_0 hX (T230 := Tm_holdNone) rfl (fun hok => ?_)
  rw [d1, d2, d3, h508, h503]
  refine ⟨hw, fun h => eh_ki hK0 ?_, fun h => eh_ki hK0 ?_, fun h => eh_ki hK0 ?_, fun h => eh_ki hK0 ?_, fun h => eh_ki hK0 ?_, fun h => eh_ki hK0 ?_, fun h => ⟨_, rfl, rfl, fun σ' hf hq => bX4_count_69 hX (fun hok => key h 20 σ' 0 _ (by omega) (by omega) hf (mz_hl_c hq (fun e => ⟨fun h => h.elim, fun ⟨q, h1, h2⟩ => by omega⟩)))⟩⟩
  · unfold pz_count
    rw [if_neg (by omega), if_neg (by omega), if_neg (by omega), if_neg (by omega), if_neg (by omega), if_neg (by omega)]
  · unfold pz_count
    rw [h]
    rfl
  · unfold pz_count
    rw [h]
    rfl
  · unfold pz_count
    rw [h]
    show z.1.1 1 0 - z.1.1 0 0 = 0 + (z.1.1 1 0 - z.1.1 0 0)
    omega
  · unfold pz_count
    rw [h]
    rfl
  · unfold pz_count
    rw [h]
    rfl
def Tm_about : eh_T := eh_RM fun as σ _ K => ∃ (p w : Int) (z : pz_Z), as = [.inl p, .inl w] ∧ (eh_r p ∧ eh_r w) ∧ mz σ z ∧ pz_ok z ∧ mk (pz_about p w z, z) σ K
theorem cm_about (l : Launch) (D : va_G) (tc : Nat → ClassId) (ad : Nat → Int → Nat) (h99 : ∀ a : Int, ad 99 a = a.toNat) : eh_M l D tc ad eh_LX yX4_about cX4_about 5 (some .int) 1 Tm_about := by
  refine eh_mk (rb := 0) (nm := eh_nX) (fl := eh_fl4) (kn := eh_kn4) (cs := (fun kk => match kk with | 143 => some (2, Tm_isPattern) | 230 => some (1, Tm_holdNone) | 233 => some (2, Tm_hold) | 236 => some (1, Tm_heldMany) | _ => none)) (ss := (fun _ => none)) (by decide) (eh_worldX h99) eh_fl4_ok eh_kn4_ok (fun kk n T h => by
    split at h
    · cases h; exact eh_callV (c0 := 4) (cm_isPattern l D tc ad h99) q666 q668 qs20 q49 q669 (by decide +kernel) (by decide) (by decide) (by decide) rfl (eh_worldX h99) (fun _ _ _ _ h => eh_RM_rec h)
    · cases h; exact eh_callV (c0 := 4) (cm_holdNone l D tc ad h99) q778 q780 qs38 q49 q781 (by decide +kernel) (by decide) (by decide) (by decide) rfl (eh_worldX h99) (fun _ _ _ _ h => eh_RM_rec h)
    · cases h; exact eh_callV (c0 := 4) (cm_hold l D tc ad h99) q782 q784 qs39 q49 q785 (by decide +kernel) (by decide) (by decide) (by decide) rfl (eh_worldX h99) (fun _ _ _ _ h => eh_RM_rec h)
    · cases h; exact eh_callV (c0 := 4) (cm_heldMany l D tc ad h99) q786 q788 qs40 q49 q789 (by decide +kernel) (by decide) (by decide) (by decide) rfl (eh_worldX h99) (fun _ _ _ _ h => eh_RM_rec h)
    · cases h) (fun _ _ _ h => by cases h) ?_
  rintro as σ bd K ⟨_, rfl, p, w, z, rfl, ⟨hp, hw⟩, hz, ho, hK⟩
  refine ⟨Nat.le_of_ble_eq_true rfl, fun X hX => ?_⟩
  have hnp := pz_np ho
  have hK0 := mk_s hK hz
  refine bX4_about_0 hX (T143 := Tm_isPattern) rfl (fun hok => misP hz hp ?_)
  refine bX4_about_5 hX (T230 := Tm_holdNone) rfl (fun hok => ⟨bz_r _, fun h => eh_ki hK0 ?_, fun h1 => ⟨hw, fun h => eh_ki hK0 ?_, fun h2 => ⟨fun h3 => ?_, fun h => eh_ki hK0 ?_⟩⟩⟩)
  · unfold pz_about
    rw [pz_if_t (fun h2 => bz_0.mp h h2.1)]
  · unfold pz_about
    rw [pz_if_t (fun h2 => by have := h2.2; omega)]
  rotate_left
  · unfold pz_about
    rw [pz_if_t (fun h2 => by have := h2.2; omega)]
  have b1 := bz_n.mp h1
  have hab : pz_about p w z = (if w = 0 then z.1.2 15 p 0 else if w = 1 then ((z.2.1 p).length : Int) else if w = 2 then pz_hurt (z.2.1 p) else if w = 3 then z.1.2 21 p 0 else if w = 4 then z.1.2 20 p 0 else pz_kept z p (p + 1)) := by
    unfold pz_about
    rw [pz_if_f (fun h => h ⟨b1, by omega⟩)]
  rw [hab] at hK hK0
  obtain ⟨⟨f1, f2, f3, f4⟩, ⟨e1, e2, e3, e4⟩, d1⟩ := hz.2.2.2.2.2.1 p b1.1 (by omega)
  have hokp := ho.2.1 p b1.1 (by omega)
  have hl : (z.2.1 p).length ≤ 200 := hokp.2.2.2.2.2.2.1.1
  have hL := hz.2.2.2.2.2.2.1 p b1.1 (by omega)
  have h529 := hL.1
  have h508 := hz.2.1.1
  have hE := ho.1.1
  have key : w = 2 → ∀ (T : List pu_Rn) (r : Nat) (c : Int), (z.2.1 p).drop r = T → r ≤ (z.2.1 p).length → c + pz_hurt T = pz_hurt (z.2.1 p) → X 73 [some (.inr (some (4, 0))), some (.inl p), some (.inl w), some (.inl c), some (.inl (r : Int))] [] σ (0, 0) := by
    intro hw2 T
    induction T with
    | nil =>
      intro r c hd hr hc
      have hrl := List.drop_eq_nil_iff.mp hd
      have hc' : c = pz_hurt (z.2.1 p) := by rw [← hc]; simp [pz_hurt]
      refine bX4_about_73 hX (fun hok => ⟨by omega, by omega, fun _ => eh_ki hK0 ?_, fun h => by omega⟩)
      rw [if_neg (by omega), if_neg (by omega), if_pos hw2, hc']
    | cons y T ih =>
      intro r c hd hr hc
      have hy : (z.2.1 p)[r]? = some y := by
        have : ((z.2.1 p).drop r)[0]? = some y := by rw [hd]; rfl
        rwa [List.getElem?_drop, Nat.add_zero] at this
      have hrl := ls_lt hy
      have h531 := (hL.2 r y hy).2.2.2
      have hd' : (z.2.1 p).drop (r + 1) = T := by rw [← List.tail_drop, hd]; rfl
      refine bX4_about_73 hX (fun hok => ?_)
      rw [h531, h529]
      refine ⟨by omega, by omega, fun h => by omega, fun _ => ⟨by omega, fun h => ?_, fun h => ?_⟩⟩
      · have := ih (r + 1) (c + 0) hd' (by omega) (by rw [← hc]; unfold pz_hurt; rw [List.filter_cons_of_neg (p := fun x : pu_Rn => x.2) (bz_0.mp h)]; omega)
        simpa using this
      · have := ih (r + 1) (c + 1) hd' (by omega) (by rw [← hc]; unfold pz_hurt; rw [List.filter_cons_of_pos (p := fun x : pu_Rn => x.2) (bz_n.mp h), List.length_cons]; omega)
        simpa using this
  rw [f4, h529, e2, e1]
  refine ⟨fun h => ⟨_, rfl, rfl, fun σ' hf hq => ?_⟩, fun h => ⟨by omega, eh_ki hK0 (if_pos h)⟩, fun h => ⟨by omega, eh_ki hK0 ?_⟩, fun h => key h (z.2.1 p) 0 0 rfl (Nat.zero_le _) (by omega), fun h => ⟨by omega, fun h3 => eh_ki hK0 ?_, fun h3 => eh_ki hK0 ?_⟩, fun h => ⟨by omega, fun h3 => eh_ki hK0 ?_, fun h3 => eh_ki hK0 ?_⟩⟩
  · refine bX4_about_150 hX (T233 := Tm_hold) rfl (fun hok => ⟨_, rfl, p, z.2.1 p, _, rfl, by omega, mr_L_fr hL hf (by decide), hl, pz_run_ev ho (by omega), hq, fun σ2 hf2 hq2 => ?_⟩)
    have hf3 := eh_fr_tr hf hf2
    have e508 : σ2.1 508 0 = z.1.1 0 0 := by rw [hf3.1 508 (by decide)]; exact h508
    refine bX4_about_155 hX (T236 := Tm_heldMany) rfl (fun hok => ⟨_, rfl, z.1.1 0 0, _, rfl, by omega, e508, hq2, ?_⟩)
    refine bX4_about_159 hX (fun hok => eh_ki (hK σ2 (eh_fr_up hf3 (by decide) (by decide)) (mz_own hz (eh_fr_up hf3 (by decide) (by decide)))) ?_)
    dsimp only
    rw [if_neg (by omega), if_neg (by omega), if_neg (by omega), if_neg (by omega), if_neg (by omega)]
    unfold pz_kept
    refine pp_sum_congr _ _ (fun e _ _ => bz_congr ?_)
    constructor
    · rintro ⟨q, h1, h2⟩
      rw [show q = p by omega] at h2
      exact Or.inr h2
    · rintro (h1 | h1)
      · exact h1.elim
      · exact ⟨p, by omega, h1⟩
  · rw [if_neg (by omega), if_pos h]
  · rw [if_neg (by omega), if_neg (by omega), if_neg (by omega), if_pos h, h3]
  · rw [if_neg (by omega), if_neg (by omega), if_neg (by omega), if_pos h]
    have := hokp.2.2.2.2.1
    omega
  · rw [if_neg (by omega), if_neg (by omega), if_neg (by omega), if_neg (by omega), if_pos h, h3]
  · rw [if_neg (by omega), if_neg (by omega), if_neg (by omega), if_neg (by omega), if_pos h]
    have := hokp.2.2.2.1
    omega
def Tm_run : eh_T := eh_RM fun as σ _ K => ∃ (p r k h : Int) (z : pz_Z), as = [.inl p, .inl r, .inl k, .inl h] ∧ (eh_r p ∧ eh_r r ∧ eh_r k ∧ eh_r h) ∧ mz σ z ∧ pz_ok z ∧ mk (pz_run p r k h z, z) σ K
theorem cm_run (l : Launch) (D : va_G) (tc : Nat → ClassId) (ad : Nat → Int → Nat) (h99 : ∀ a : Int, ad 99 a = a.toNat) : eh_M l D tc ad eh_LX yX4_run cX4_run 6 (some .int) 1 Tm_run := by
  refine eh_mk (rb := 0) (nm := eh_nX) (fl := eh_fl4) (kn := eh_kn4) (cs := (fun kk => match kk with | 143 => some (2, Tm_isPattern) | _ => none)) (ss := (fun _ => none)) (by decide) (eh_worldX h99) eh_fl4_ok eh_kn4_ok (fun kk n T h => by
    split at h
    · cases h; exact eh_callV (c0 := 4) (cm_isPattern l D tc ad h99) q666 q668 qs20 q49 q669 (by decide +kernel) (by decide) (by decide) (by decide) rfl (eh_worldX h99) (fun _ _ _ _ h => eh_RM_rec h)
    · cases h) (fun _ _ _ h => by cases h) ?_
  rintro as σ bd K ⟨_, rfl, p, r, k, w, z, rfl, ⟨hp, hr, hk, hw⟩, hz, ho, hK⟩
  refine ⟨Nat.le_of_ble_eq_true rfl, fun X hX => ?_⟩
  have hnp := pz_np ho
  have hK := mk_s hK hz
  unfold pz_run at hK
  refine bX4_run_0 hX (T143 := Tm_isPattern) rfl (fun hok => misP hz hp ?_)
  have bad : ¬ ((0 ≤ p ∧ p < z.1.1 4 0) ∧ (0 ≤ r ∧ r < (z.2.1 p).length) ∧ (0 ≤ k ∧ k < (pz_rn z p r).length) ∧ (0 ≤ w ∧ w ≤ 1)) → K (some (.inl (-1))) σ := fun h => by
    rw [pz_if_t h] at hK
    exact hK
  refine bX4_run_5 hX (fun hok => ⟨bz_r _, fun h => bad (fun h2 => bz_0.mp h h2.1), fun h1 => ⟨hr, fun h => bad (by omega), fun h2 => ?_⟩⟩)
  have b1 := bz_n.mp h1
  have hL := hz.2.2.2.2.2.2.1 p b1.1 (by omega)
  have hokp := ho.2.1 p b1.1 (by omega)
  have hLo := hokp.2.2.2.2.2.2.1
  have hl := hLo.1
  rw [hL.1]
  refine ⟨by omega, fun h => bad (by omega), fun h3 => ⟨hk, fun h => bad (by omega), fun h4 => ⟨by omega, ?_⟩⟩⟩
  obtain ⟨y, hy⟩ : ∃ y, (z.2.1 p)[r.toNat]? = some y := ⟨_, List.getElem?_eq_getElem (by omega)⟩
  have hrn : pz_rn z p r = y.1 := by
    unfold pz_rn
    rw [hy]
    rfl
  have hs := hL.2 r.toNat y hy
  rw [Int.toNat_of_nonneg (by omega)] at hs
  have h24 := hs.2.1
  rw [hrn] at hK bad
  rw [hs.1]
  refine ⟨fun h => bad (by omega), fun h5 => ⟨hw, fun h => bad (by omega), fun h6 => ⟨fun h7 => ?_, fun h => bad (by omega)⟩⟩⟩
  rw [pz_if_f (by omega)] at hK
  have hn := pz_nth_rowL (f := fun k => σ.2 532 0 (24 * (201 * p + r) + k)) (g := fun k => σ.2 533 0 (24 * (201 * p + r) + k)) (n := y.1.length) (k := k) (by omega) (by omega)
  rw [mr_row hs] at hn
  rw [hn] at hK
  exact ⟨fun h => ⟨by omega, eh_ki hK (if_pos h)⟩, fun h => ⟨by omega, eh_ki hK (if_neg h)⟩⟩
def Tm_almost : eh_T := eh_RM fun as σ _ K => ∃ (p n : Int) (z : pz_Z), as = [.inl p, .inl n] ∧ (eh_r p ∧ eh_r n) ∧ mz σ z ∧ pz_ok z ∧ mk (pz_almost p n z, z) σ K
theorem cm_almost (l : Launch) (D : va_G) (tc : Nat → ClassId) (ad : Nat → Int → Nat) (h99 : ∀ a : Int, ad 99 a = a.toNat) : eh_M l D tc ad eh_LX yX4_almost cX4_almost 8 (some .int) 1 Tm_almost := by
  refine eh_mk (rb := 0) (nm := eh_nX) (fl := eh_fl4) (kn := eh_kn4) (cs := (fun kk => match kk with | 143 => some (2, Tm_isPattern) | _ => none)) (ss := (fun kk => match kk with | 140 => some (1, Tm_isSure) | _ => none)) (by decide) (eh_worldX h99) eh_fl4_ok eh_kn4_ok (fun kk n T h => by
    split at h
    · cases h; exact eh_callV (c0 := 4) (cm_isPattern l D tc ad h99) q666 q668 qs20 q49 q669 (by decide +kernel) (by decide) (by decide) (by decide) rfl (eh_worldX h99) (fun _ _ _ _ h => eh_RM_rec h)
    · cases h) (fun kk n T h => by
    split at h
    · cases h; exact eh_callS (cm_isSure l D tc ad h99) q677 q678 q49 q679 (by decide +kernel) (by decide) (by decide)
    · cases h) ?_
  rintro as σ bd K ⟨_, rfl, p, n, z, rfl, ⟨hp, hn⟩, hz, ho, hK⟩
  refine ⟨Nat.le_of_ble_eq_true rfl, fun X hX => ?_⟩
  have hnp := pz_np ho
  have hK := mk_s hK hz
  unfold pz_almost at hK
  refine bX4_almost_0 hX (T143 := Tm_isPattern) rfl (fun hok => misP hz hp ?_)
  have bad : ¬ ((0 ≤ p ∧ p < z.1.1 4 0) ∧ (0 ≤ n ∧ n ≤ 5)) → K (some (.inl (-1))) σ := fun h => by
    rw [pz_if_t h] at hK
    exact hK
  refine bX4_almost_5 hX (fun hok => ⟨bz_r _, fun h => bad (fun h2 => bz_0.mp h h2.1), fun h1 => ⟨hn, fun h => bad (by omega), fun h2 => ⟨fun h3 => ?_, fun h => bad (by omega)⟩⟩⟩)
  have b1 := bz_n.mp h1
  rw [pz_if_f (by omega)] at hK
  have hokp := ho.2.1 p b1.1 (by omega)
  have hLo := hokp.2.2.2.2.2.2.1
  have hl := hLo.1
  have hL := hz.2.2.2.2.2.2.1 p b1.1 (by omega)
  obtain ⟨⟨f1, f2, f3, f4⟩, ⟨e1, e2, e3, e4⟩, d1⟩ := hz.2.2.2.2.2.1 p b1.1 (by omega)
  have h529 := hL.1
  have hst : 0 ≤ z.1.2 15 p 0 ∧ z.1.2 15 p 0 ≤ 6 := hokp.1.1
  have keyS : ∀ (m : Nat) (s c : Int) (r : Int) (t : Int) (o5 : Option eh_V), (0 ≤ s ∧ s ≤ 6) → 6 - s < m → (0 ≤ t ∧ t ≤ s) → (∀ (o5 o6 o7 : Option eh_V), n < t + pu_lk (pz_P z p) m s → X 24 [some (.inr (some (4, 0))), some (.inl p), some (.inl n), some (.inl (c + 0)), some (.inl (r + 1)), o5, o6, o7] [] σ (0, 0)) → (∀ (o5 o6 o7 : Option eh_V), ¬ n < t + pu_lk (pz_P z p) m s → X 24 [some (.inr (some (4, 0))), some (.inl p), some (.inl n), some (.inl (c + 1)), some (.inl (r + 1)), o5, o6, o7] [] σ (0, 0)) → X 78 [some (.inr (some (4, 0))), some (.inl p), some (.inl n), some (.inl c), some (.inl r), o5, some (.inl t), some (.inl s)] [] σ (0, 0) := by
    intro m
    induction m with
    | zero => intro s c r t o5 h1 h2; omega
    | succ m ih =>
      intro s c r t o5 hs hm ht hc1 hc2
      have h0n : z.1.2 15 p 0 ≤ s → ¬ s < z.1.2 15 p 0 := fun h => by omega
      refine bX4_almost_78 hX (T140 := Tm_isSure) rfl (fun hok => ?_)
      rw [f4]
      refine ⟨by omega, by omega, fun h => ⟨by omega, hn, fun h2 => hc1 _ _ _ ?_, fun h2 => hc2 _ _ _ ?_⟩, fun h => ⟨by omega, ?_⟩⟩
      · rw [pu_lk, if_neg (show ¬ s < pz_P z p 5 0 from h0n h)]; omega
      · rw [pu_lk, if_neg (show ¬ s < pz_P z p 5 0 from h0n h)]; omega
      · rw [(d1 s hs.1 (by omega)).1]
        have hsr : eh_r (z.1.2 10 p s) := by
          have := (hokp.1.2.1 s hs.1 (Int.not_le.mp h)).1
          have h' : 0 ≤ z.1.2 10 p s ∧ z.1.2 10 p s ≤ 3 := this
          exact eh_rc (by omega)
        refine ⟨_, rfl, hsr, ?_⟩
        have hlk : pu_lk (pz_P z p) (m + 1) s = bz (z.1.2 10 p s = 0 ∨ z.1.2 10 p s = 1) + pu_lk (pz_P z p) m (s + 1) := by
          have hlt : s < pz_P z p 5 0 := Int.not_le.mp h
          rw [pu_lk, if_pos hlt]
          by_cases hq : pz_P z p 0 s = 0 ∨ pz_P z p 0 s = 1
          · rw [if_pos hq, bz_t (P := z.1.2 10 p s = 0 ∨ z.1.2 10 p s = 1) hq]
          · rw [if_neg hq, bz_f (P := z.1.2 10 p s = 0 ∨ z.1.2 10 p s = 1) hq]
        rw [hlk] at hc1 hc2
        refine bX4_almost_106 hX (fun hok => ⟨bz_r _, fun h2 => ih (s + 1) c r (t + 0) o5 (by omega) (by omega) (by omega) (fun a b c h3 => hc1 a b c (by omega)) (fun a b c h3 => hc2 a b c (by omega)), fun h2 => ih (s + 1) c r (t + 1) o5 (by omega) (by omega) (by omega) (fun a b c h3 => hc1 a b c (by rw [bz_t (bz_n.mp h2)]; omega)) (fun a b c h3 => hc2 a b c (by rw [bz_t (bz_n.mp h2)]; omega))⟩)
  have key : ∀ (T : List pu_Rn) (r : Nat) (c : Int) (o5 o6 o7 : Option eh_V), (z.2.1 p).drop r = T → r ≤ (z.2.1 p).length → K (some (.inl (c + ((T.filter (fun x => decide (pu_lk (pz_P z p) 7 (pu_tip x.1 + 1) ≤ n))).length : Int)))) σ → X 24 [some (.inr (some (4, 0))), some (.inl p), some (.inl n), some (.inl c), some (.inl (r : Int)), o5, o6, o7] [] σ (0, 0) := by
    intro T
    induction T with
    | nil =>
      intro r c o5 o6 o7 hd hr hK
      have hrl := List.drop_eq_nil_iff.mp hd
      exact bX4_almost_24 hX (fun hok => ⟨by omega, by omega, fun _ => eh_ki hK (by simp), fun h => by omega⟩)
    | cons y T ih =>
      intro r c o5 o6 o7 hd hr hK
      have hy : (z.2.1 p)[r]? = some y := by
        have : ((z.2.1 p).drop r)[0]? = some y := by rw [hd]; rfl
        rwa [List.getElem?_drop, Nat.add_zero] at this
      have hrl := ls_lt hy
      have hgy : pu_gd (pz_P z p) (z.1.1 0 0) y.1 := hLo.2 y (List.mem_of_getElem? hy)
      have hlen := pu_gd_len hgy hokp.1
      have htip : 0 ≤ pu_tip y.1 ∧ pu_tip y.1 < z.1.2 15 p 0 := (pu_gd_tip hgy).1
      have hs := hL.2 r y hy
      have hd' : (z.2.1 p).drop (r + 1) = T := by rw [← List.tail_drop, hd]; rfl
      have ht := pu_tip_rowL (f := fun k => σ.2 532 0 (24 * (201 * p + r) + k)) (g := fun k => σ.2 533 0 (24 * (201 * p + r) + k)) (n := y.1.length) (by omega)
      rw [mr_row hs] at ht
      refine bX4_almost_24 hX (fun hok => ?_)
      rw [hs.1, h529, show 24 * (201 * p + (r : Int)) + (y.1.length : Int) - 1 = 24 * (201 * p + r) + ((y.1.length : Int) - 1) by omega, ← ht]
      refine ⟨by omega, by omega, fun h => by omega, fun _ => ⟨by omega, by omega, keyS 7 _ _ _ _ _ (by omega) (by omega) (by omega) (fun o5 o6 o7 h => ?_) (fun o5 o6 o7 h => ?_)⟩⟩
      · rw [List.filter_cons_of_neg (by simp; omega)] at hK
        have := ih (r + 1) (c + 0) o5 o6 o7 hd' (by omega) (eh_ki hK (by omega))
        simpa using this
      · rw [List.filter_cons_of_pos (by simp; omega), List.length_cons] at hK
        have := ih (r + 1) (c + 1) o5 o6 o7 hd' (by omega) (eh_ki hK (by omega))
        simpa using this
  exact key (z.2.1 p) 0 0 _ _ _ rfl (Nat.zero_le _) (eh_ki hK (by omega))
/-- plain, as the law asks it -/
theorem mz_plainT {σ : eh_S} {z : pz_Z} {p : Int} {bd : Nat × Nat} {K : Option eh_V → eh_S → Prop} (hp : eh_r p) (hz : mz σ z) (ho : pz_ok z) (hK : mk (pz_plain p z, z) σ K) : Tm_plain [.inr (some (4, 0)), .inl p] σ bd K := by
  have hnp := pz_np ho
  have h515 := mz_np hz
  have hK0 := mk_s hK hz
  unfold pz_plain at hK hK0
  refine ⟨_, rfl, p, rfl, hp, by omega, fun h => ?_, fun h1 h2 => ?_, fun h1 h2 => ?_⟩
  · rw [pz_if_t (fun h2 => h (by have := h2.1; omega))] at hK0
    exact hK0
  · rw [(hz.2.2.2.2.2.1 p h1.1 (by omega)).2.1.1] at h2
    rw [pz_if_t (fun h3 => h3.2 h2)] at hK0
    exact hK0
  · have hF := (hz.2.2.2.2.2.1 p h1.1 (by omega)).2.1
    rw [hF.1] at h2
    have hokp := ho.2.1 p h1.1 (by omega)
    have h3 : (0 ≤ p ∧ p < z.1.1 4 0) ∧ z.1.2 20 p 0 ≠ 0 := ⟨by omega, h2⟩
    rw [pz_if_f (fun h => h h3)] at hK hK0
    refine ⟨pz_E z, pz_P z p, z.1.1 0 0, z.1.2 19 p 0, mz_ctx hz ho (by omega), hz.2.1.1, hokp.2.2.2.2.2.2.2.2.1 h2, hF.2.2.1, hokp.2.2.1, fun h => ?_, fun h σ' hf => ?_⟩
    · rw [pz_if_t h] at hK0
      exact hK0
    · rw [pz_if_f (by omega)] at hK
      exact hK σ' (eh_fr_up hf (by decide) (by decide)) (mz_own hz (eh_fr_up hf (by decide) (by decide)))
