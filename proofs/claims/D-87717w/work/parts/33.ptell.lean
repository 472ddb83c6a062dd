/-! EventHunter.Pattern: tell -/
def eh_vt (σ σ' : eh_S) (v : Nat) (i : Int) : Prop := ∀ j, j ≠ i → σ'.1 v j = σ.1 v j
def xm_s (σ : eh_S) (i : Int) (x : Int × pu_Rw) : Prop := (σ.2 111 0 i = x.1 ∧ σ.2 112 0 i = (x.2.length : Int) ∧ x.2.length ≤ 24) ∧ (0 ≤ σ.2 113 0 i ∧ σ.2 12 0 i = σ.2 113 0 i ∧ σ.2 14 0 i = (x.2.length : Int)) ∧ (0 ≤ σ.2 114 0 i ∧ σ.2 13 0 i = σ.2 114 0 i ∧ σ.2 15 0 i = (x.2.length : Int)) ∧ pu_rowL (σ.2 10 i) (σ.2 11 i) x.2.length = x.2
def xm_M (σ : eh_S) (ms : List (Int × pu_Rw)) : Prop := σ.1 115 0 = (ms.length : Int) ∧ (ms.length < 1000 → σ.1 10 0 = (ms.length : Int) ∧ σ.1 11 0 = (ms.length : Int)) ∧ (1000 ≤ ms.length → σ.1 10 0 = 1000 ∧ σ.1 11 0 = 1000) ∧ ∀ (i : Nat) (x : Int × pu_Rw), i < 1000 → ms[i]? = some x → xm_s σ i x
theorem xm_s_fr {SV SA : List Nat} {σ σ' : eh_S} {i : Int} {x : Int × pu_Rw} (h : xm_s σ i x) (hf : eh_fr SV SA σ σ') (hd : ∀ c ∈ [10, 11, 12, 13, 14, 15, 111, 112, 113, 114], c ∉ SA) : xm_s σ' i x := by
  unfold xm_s
  rw [hf.2 10 (hd 10 (by decide)), hf.2 11 (hd 11 (by decide)), hf.2 12 (hd 12 (by decide)), hf.2 13 (hd 13 (by decide)), hf.2 14 (hd 14 (by decide)), hf.2 15 (hd 15 (by decide)), hf.2 111 (hd 111 (by decide)), hf.2 112 (hd 112 (by decide)), hf.2 113 (hd 113 (by decide)), hf.2 114 (hd 114 (by decide))]
  exact h
theorem xm_M_fr {SV SA : List Nat} {σ σ' : eh_S} {ms : List (Int × pu_Rw)} (h : xm_M σ ms) (hf : eh_fr SV SA σ σ') (hd : ∀ c ∈ [10, 11, 12, 13, 14, 15, 111, 112, 113, 114], c ∉ SA) (hv : ∀ v ∈ [10, 11, 115], v ∉ SV) : xm_M σ' ms := by
  obtain ⟨h1, h2, h3, h4⟩ := h
  refine ⟨?_, ?_, ?_, fun i x hi hx => xm_s_fr (h4 i x hi hx) hf hd⟩
  · rw [hf.1 115 (hv 115 (by decide))]; exact h1
  · rw [hf.1 10 (hv 10 (by decide)), hf.1 11 (hv 11 (by decide))]; exact h2
  · rw [hf.1 10 (hv 10 (by decide)), hf.1 11 (hv 11 (by decide))]; exact h3
theorem pu_rowL_eq {f g : Int → Int} : ∀ (row : pu_Rw), (∀ (i : Nat) (x : Int × Int), row[i]? = some x → f ((row.length : Int) - 1 - i) = x.1 ∧ g ((row.length : Int) - 1 - i) = x.2) → pu_rowL f g row.length = row := by
  intro row
  induction row with
  | nil => intro _; rfl
  | cons x r ih =>
    intro h
    rw [List.length_cons, pu_rowL]
    have h0 := h 0 x rfl
    rw [List.length_cons, show ((r.length + 1 : Nat) : Int) - 1 - ((0 : Nat) : Int) = (r.length : Int) by omega] at h0
    rw [h0.1, h0.2, ih (fun i y hy => ?_)]
    have := h (i + 1) y (by rw [List.getElem?_cons_succ]; exact hy)
    rw [List.length_cons, show ((r.length + 1 : Nat) : Int) - 1 - ((i + 1 : Nat) : Int) = (r.length : Int) - 1 - i by omega] at this
    exact this
def Tp_tell : eh_T := eh_R3 fun q as σ bd K => ∃ (w : Int) (row : pu_Rw) (ms : List (Int × pu_Rw)), as = [.inl w] ∧ xw_way σ row w ∧ row.length ≤ 24 ∧ (∀ x ∈ row, (0 ≤ x.1 ∧ x.1 < 1000) ∧ (0 ≤ x.2 ∧ x.2 < 100)) ∧ xm_M σ ms ∧ ms.length ≤ 2000000 ∧ (0 ≤ σ.1 412 q ∧ σ.1 412 q ≤ 2000000) ∧ (2 ≤ bd.1 ∧ 48 ≤ bd.2) ∧ ∀ σ', eh_fr [10, 11, 115, 412] [10, 11, 12, 13, 14, 15, 111, 112, 113, 114] σ σ' → xm_M σ' (ms ++ [(σ.1 116 0, row)]) → eh_vt σ σ' 412 q → σ'.1 412 q = σ.1 412 q + 1 → K none σ'
theorem cp_tell (l : Launch) (D : va_G) (tc : Nat → ClassId) (ad : Nat → Int → Nat) (h99 : ∀ a : Int, ad 99 a = a.toNat) : eh_M l D tc ad eh_LX yX3_tell cX3_tell 5 none 1 Tp_tell := by
  refine eh_mk (rb := 2) (nm := eh_nX) (fl := eh_fl3) (kn := eh_kn3) (cs := (fun kk => match kk with | 82 => some (2, Tw_length) | _ => none)) (ss := (fun _ => none)) (by decide) (eh_worldX h99) eh_fl3_ok eh_kn3_ok (fun kk n T h => by
    split at h
    · cases h; exact eh_callV (c0 := 1) (cw_length l D tc ad h99) q390 q391 q392 q46 q393 (by decide +kernel) (by decide) (by decide) (by decide) rfl (eh_worldX h99) (fun _ _ _ _ h => eh_R1_rec h)
    · cases h) (fun _ _ _ h => by cases h) ?_
  rintro as σ bd K ⟨q, _, rfl, hq, w, row, ms, rfl, hw, hl, hrow, hm, hml, ht, hbd, hK⟩
  refine ⟨Nat.le_of_ble_eq_true rfl, fun X hX => ?_⟩
  obtain ⟨m1, m2, m3, m4⟩ := hm
  refine bX3_tell_0 hX (T82 := Tw_length) rfl ⟨Nat.zero_le _, Nat.zero_le _⟩ hq (fun hok => ⟨by omega, fun h1 => ⟨by omega, ?_⟩, fun h1 => ?_⟩)
  · have hf1 : eh_fr [115, 412] [] σ (eh_sV (eh_sV σ 412 q (σ.1 412 q + 1)) 115 0 (σ.1 115 0 + 1)) := eh_fr_sV (eh_fr_sV eh_fr_rf (by decide)) (by decide)
    have hM := m3 (by omega)
    refine hK _ (eh_fr_up hf1 (by decide) (by decide)) ⟨?_, fun h => ?_, fun _ => ?_, fun i x hi hx => ?_⟩ (fun j hj => ?_) ?_
    · rw [eh_sV_p, m1]; simp
    · simp only [List.length_append, List.length_cons, List.length_nil] at h; omega
    · rw [hf1.1 10 (by decide), hf1.1 11 (by decide)]; exact hM
    · rw [List.getElem?_append_left (by omega)] at hx
      exact xm_s_fr (m4 i x hi hx) hf1 (by decide)
    · rw [eh_sV_v (by decide), eh_sV_n hj]
    · rw [eh_sV_v (by decide), eh_sV_p]
  · have hmt : ms.length < 1000 := by omega
    obtain ⟨g10, g11⟩ := m2 hmt
    have hf0 : eh_fr [412] [] σ (eh_sV σ 412 q (σ.1 412 q + 1)) := eh_fr_sV eh_fr_rf (by decide)
    refine ⟨_, rfl, w, row, rfl, xw_way_fr hf0 (by decide) hw, ?_⟩
    -- the loop over the way
    have key : ∀ (r : pu_Rw) (σ' : eh_S) (c : Int) (o1 o2 : Option eh_V) (b : Nat × Nat), (b.1 ≤ bd.1 ∧ b.2 ≤ bd.2) → eh_fr [10, 11, 412] [10, 11, 12, 13, 14, 15, 111, 112, 113, 114] σ σ' → eh_vt σ σ' 412 q → σ'.1 412 q = σ.1 412 q + 1 → (σ'.1 10 0 = (ms.length : Int) + 1 ∧ σ'.1 11 0 = (ms.length : Int) + 1) → (∀ (i : Nat) (x : Int × pu_Rw), i < 1000 → ms[i]? = some x → xm_s σ' i x) → (σ'.2 111 0 ms.length = σ.1 116 0 ∧ σ'.2 112 0 ms.length = (row.length : Int)) → (0 ≤ σ'.2 113 0 ms.length ∧ σ'.2 12 0 ms.length = σ'.2 113 0 ms.length ∧ σ'.2 14 0 ms.length = (row.length : Int)) → (0 ≤ σ'.2 114 0 ms.length ∧ σ'.2 13 0 ms.length = σ'.2 114 0 ms.length ∧ σ'.2 15 0 ms.length = (row.length : Int)) → r.length ≤ row.length → row.drop (row.length - r.length) = r → xw_way σ' r c → (∀ (i : Nat) (x : Int × Int), i < row.length - r.length → row[i]? = some x → σ'.2 10 ms.length ((row.length : Int) - 1 - i) = x.1 ∧ σ'.2 11 ms.length ((row.length : Int) - 1 - i) = x.2) → X 116 [some (.inr (some (3, q))), o1, o2, some (.inl ((r.length : Int) - 1)), some (.inl c)] [] σ' b := by
      intro r
      induction r with
      | nil =>
        intro σ' c o1 o2 b hb hf hvt h412 hg hold hn1 hn2 hn3 hrl hdr hw' hst
        have hw' : c = -1 := hw'
        have e115 : σ'.1 115 0 = (ms.length : Int) := by rw [hf.1 115 (by decide)]; exact m1
        refine bX3_tell_116 hX hb hq (fun hok => ⟨by omega, fun _ => ⟨by omega, ?_⟩, fun h => absurd hw' h⟩)
        have hf1 : eh_fr [115] [] σ' (eh_sV σ' 115 0 (σ'.1 115 0 + 1)) := eh_fr_sV eh_fr_rf (by decide)
        refine hK _ (eh_fr_tr (eh_fr_up hf (by decide) (by decide)) (eh_fr_up hf1 (by decide) (by decide))) ⟨?_, fun _ => ?_, fun h => ?_, fun i x hi hx => ?_⟩ (fun j hj => ?_) ?_
        · rw [eh_sV_p, e115]; simp
        · rw [hf1.1 10 (by decide), hf1.1 11 (by decide), List.length_append]
          simp only [List.length_cons, List.length_nil]
          exact ⟨by rw [hg.1]; omega, by rw [hg.2]; omega⟩
        · rw [hf1.1 10 (by decide), hf1.1 11 (by decide)]
          simp only [List.length_append, List.length_cons, List.length_nil] at h
          omega
        · refine xm_s_fr ?_ hf1 (by decide)
          rcases ls_snoc hx with ⟨h2, h3⟩ | ⟨h2, rfl⟩
          · exact hold i x hi h3
          · rw [h2]
            refine ⟨⟨hn1.1, hn1.2, hl⟩, hn2, hn3, pu_rowL_eq row (fun i x hx => ?_)⟩
            exact hst i x (by have := ls_lt hx; simp only [List.length_nil]; omega) hx
        · rw [eh_sV_v (by decide)]; exact hvt j hj
        · rw [eh_sV_v (by decide)]; exact h412
      | cons x r ih =>
        intro σ' c o1 o2 b hb hf hvt h412 hg hold hn1 hn2 hn3 hrl hdr hw' hst
        obtain ⟨u1, u2, u3, u4⟩ := hw'
        rw [List.length_cons] at hrl
        have e115 : σ'.1 115 0 = (ms.length : Int) := by rw [hf.1 115 (by decide)]; exact m1
        have hxi : row[row.length - (r.length + 1)]? = some x := by
          have : (row.drop (row.length - (x :: r).length))[0]? = some x := by rw [hdr]; rfl
          rwa [List.getElem?_drop, Nat.add_zero, List.length_cons] at this
        have hxr := hrow x (List.mem_of_getElem? hxi)
        refine bX3_tell_116 hX hb hq (fun hok => ?_)
        rw [e115, u2, u3, List.length_cons]
        refine ⟨by omega, fun h => by omega, fun _ => ⟨by omega, hn2.1, u1, by omega, (ms.length : Int), by omega, hn2.2.1, by rw [hn2.2.2]; omega, hn3.1, by omega, (ms.length : Int), by omega, hn3.2.1, by rw [hn3.2.2]; omega, ?_⟩⟩
        have hf1 : eh_fr [] [10, 11] σ' (eh_sA (eh_sA σ' 10 (ms.length : Int) (((r.length + 1 : Nat) : Int) - 1) x.1) 11 (ms.length : Int) (((r.length + 1 : Nat) : Int) - 1) x.2) := eh_fr_sA (eh_fr_sA eh_fr_rf (by decide)) (by decide)
        rw [show ((r.length + 1 : Nat) : Int) - 1 + -1 = (r.length : Int) - 1 by omega]
        refine ih _ _ _ _ b hb (eh_fr_tr hf (eh_fr_up hf1 (by decide) (by decide))) hvt h412 hg (fun i y hi hy => ?_) ?_ ?_ ?_ (by omega) ?_ (xw_way_fr hf1 (by decide) u4) (fun i y hi hy => ?_)
        · have hil := ls_lt hy
          obtain ⟨v1, v2, v3, v4⟩ := hold i y hi hy
          refine ⟨?_, ?_, ?_, ?_⟩
          · rw [hf1.2 111 (by decide), hf1.2 112 (by decide)]; exact v1
          · rw [hf1.2 113 (by decide), hf1.2 12 (by decide), hf1.2 14 (by decide)]; exact v2
          · rw [hf1.2 114 (by decide), hf1.2 13 (by decide), hf1.2 15 (by decide)]; exact v3
          · rw [eh_sA_c (by decide), eh_sA_r (by omega), eh_sA_r (by omega), eh_sA_c (by decide)]
            exact v4
        · rw [hf1.2 111 (by decide), hf1.2 112 (by decide)]; exact hn1
        · rw [hf1.2 113 (by decide), hf1.2 12 (by decide), hf1.2 14 (by decide)]; exact hn2
        · rw [hf1.2 114 (by decide), hf1.2 13 (by decide), hf1.2 15 (by decide)]; exact hn3
        · have : row.drop (row.length - r.length) = (row.drop (row.length - (x :: r).length)).drop 1 := by
            rw [List.drop_drop, List.length_cons, show row.length - (r.length + 1) + 1 = row.length - r.length by omega]
          rw [this, hdr]
          rfl
        · by_cases hix : i = row.length - (r.length + 1)
          · rw [hix, hxi] at hy
            cases hy
            have ei : (row.length : Int) - 1 - (i : Int) = ((r.length + 1 : Nat) : Int) - 1 := by omega
            rw [ei, eh_sA_c (by decide), eh_sA_p, eh_sA_p]
            exact ⟨rfl, rfl⟩
          · have := hst i y (by rw [List.length_cons]; omega) hy
            rw [eh_sA_c (by decide), eh_sA_n (by omega), eh_sA_n (by omega), eh_sA_c (by decide)]
            exact this
    have a10 : (eh_sV σ 412 q (σ.1 412 q + 1)).1 10 0 = (ms.length : Int) := by rw [eh_sV_v (by decide)]; exact g10
    have a11 : (eh_sV σ 412 q (σ.1 412 q + 1)).1 11 0 = (ms.length : Int) := by rw [eh_sV_v (by decide)]; exact g11
    have a115 : (eh_sV σ 412 q (σ.1 412 q + 1)).1 115 0 = (ms.length : Int) := by rw [eh_sV_v (by decide)]; exact m1
    have a116 : (eh_sV σ 412 q (σ.1 412 q + 1)).1 116 0 = σ.1 116 0 := by rw [eh_sV_v (by decide)]
    have avt : eh_vt σ (eh_sV σ 412 q (σ.1 412 q + 1)) 412 q := fun j hj => eh_sV_n hj
    have a412 : (eh_sV σ 412 q (σ.1 412 q + 1)).1 412 q = σ.1 412 q + 1 := eh_sV_p
    have hold0 : ∀ (i : Nat) (x : Int × pu_Rw), i < 1000 → ms[i]? = some x → xm_s (eh_sV σ 412 q (σ.1 412 q + 1)) i x := fun i x hi hx => xm_s_fr (m4 i x hi hx) hf0 (by decide)
    have hw0 := xw_way_fr hf0 (by decide) hw
    generalize eh_sV σ 412 q (σ.1 412 q + 1) = σ1 at hf0 a10 a11 a115 a116 avt a412 hold0 hw0
    refine bX3_tell_34 hX ⟨Nat.zero_le _, Nat.zero_le _⟩ hq (fun hok => ?_)
    rw [a115]
    refine ⟨by omega, by omega, by omega, by omega, ⟨by show 0 + 1 ≤ bd.1; omega, by show 0 + (row.length : Int).toNat ≤ bd.2; omega⟩, fun a ha => ⟨⟨(ms.length : Int), ?_, ?_⟩, ?_, ⟨by show 0 + 1 + 1 ≤ bd.1; omega, by show 0 + (row.length : Int).toNat + (row.length : Int).toNat ≤ bd.2; omega⟩, fun a' ha' => ⟨?_, ⟨(ms.length : Int), ?_, ?_⟩, ?_⟩⟩⟩
    · simp [eh_nS, eh_sA, a10]; omega
    · simp [eh_nS, eh_sA, a10]
    · simp [eh_nS, eh_sA, a11]; omega
    · simp [eh_nS, eh_sA, a115]; omega
    · simp [eh_nS, eh_nB, eh_sA, a11]; omega
    · simp [eh_nS, eh_nB, eh_sA, a11]
    · have e115 : (eh_nS (eh_sA (eh_sA σ1 111 0 (ms.length : Int) (σ1.1 116 0)) 112 0 (ms.length : Int) (row.length : Int)) (row.length : Int) a).1 115 0 = (ms.length : Int) := by simp [eh_nS, eh_sA, a115]
      rw [e115]
      generalize hσ2 : eh_sA (eh_nB (eh_sA (eh_nS (eh_sA (eh_sA σ1 111 0 (ms.length : Int) (σ1.1 116 0)) 112 0 (ms.length : Int) (row.length : Int)) (row.length : Int) a) 113 0 (ms.length : Int) a) (row.length : Int) a') 114 0 (ms.length : Int) a' = σ2
      have hv : ∀ v, v ≠ 10 → v ≠ 11 → σ2.1 v = σ1.1 v := by
        intro v h1 h2
        funext i
        rw [← hσ2]
        simp [eh_nS, eh_nB, eh_sA, h1, h2]
      have hf12 : eh_fr [10, 11] [10, 11, 12, 13, 14, 15, 111, 112, 113, 114] σ1 σ2 := by
        refine ⟨fun v hv' => hv v (fun h => hv' (by rw [h]; decide)) (fun h => hv' (by rw [h]; decide)), fun c hc => ?_⟩
        simp only [List.mem_cons, List.not_mem_nil, or_false, not_or] at hc
        funext i j
        rw [← hσ2]
        simp [eh_nS, eh_nB, eh_sA, hc]
      refine key row σ2 w _ _ _ ⟨by show 0 + 1 + 1 ≤ bd.1; omega, by show 0 + (row.length : Int).toNat + (row.length : Int).toNat ≤ bd.2; omega⟩ (eh_fr_tr (eh_fr_up hf0 (by decide) (by decide)) (eh_fr_up hf12 (by decide) (by decide))) (fun j hj => by rw [hv 412 (by decide) (by decide)]; exact avt j hj) (by rw [hv 412 (by decide) (by decide)]; exact a412) ⟨?_, ?_⟩ (fun i x hi hx => ?_) ⟨?_, ?_⟩ ⟨?_, ?_, ?_⟩ ⟨?_, ?_, ?_⟩ (Nat.le_refl _) (by rw [Nat.sub_self]; rfl) (xw_way_fr hf12 (by decide) hw0) (fun i x hi => by omega)
      · rw [← hσ2]; simp [eh_nS, eh_nB, eh_sA, a10]
      · rw [← hσ2]; simp [eh_nS, eh_nB, eh_sA, a11]
      · have hil := ls_lt hx
        have hne : (i : Int) ≠ (ms.length : Int) := by omega
        obtain ⟨v1, v2, v3, v4⟩ := hold0 i x hi hx
        refine ⟨?_, ?_, ?_, ?_⟩
        · rw [← hσ2]; simp [eh_nS, eh_nB, eh_sA, hne]; exact v1
        · rw [← hσ2]; simp [eh_nS, eh_nB, eh_sA, hne, a10]; exact v2
        · rw [← hσ2]; simp [eh_nS, eh_nB, eh_sA, hne, a11]; exact v3
        · have w1 : σ2.2 10 (i : Int) = σ1.2 10 (i : Int) := by
            funext j
            rw [← hσ2]; simp [eh_nS, eh_nB, eh_sA, hne, a10]
          have w2 : σ2.2 11 (i : Int) = σ1.2 11 (i : Int) := by
            funext j
            rw [← hσ2]; simp [eh_nS, eh_nB, eh_sA, hne, a11]
          rw [w1, w2]; exact v4
      · rw [← hσ2]; simp [eh_nS, eh_nB, eh_sA, a116]
      · rw [← hσ2]; simp [eh_nS, eh_nB, eh_sA]
      · rw [← hσ2]; simp [eh_nS, eh_nB, eh_sA]; exact ha
      · rw [← hσ2]; simp [eh_nS, eh_nB, eh_sA, a10]
      · rw [← hσ2]; simp [eh_nS, eh_nB, eh_sA, a10]
      · rw [← hσ2]; simp [eh_nS, eh_nB, eh_sA]; exact ha'
      · rw [← hσ2]; simp [eh_nS, eh_nB, eh_sA, a11]
      · rw [← hσ2]; simp [eh_nS, eh_nB, eh_sA, a11]
