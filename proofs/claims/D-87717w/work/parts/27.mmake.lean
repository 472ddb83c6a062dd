/-! EventHunterModel: make, sweep -/
theorem ls_snoc {α : Type} {l : List α} {a x : α} {i : Nat} (h : (l ++ [a])[i]? = some x) : (i < l.length ∧ l[i]? = some x) ∨ (i = l.length ∧ x = a) := by
  by_cases hi : i < l.length
  · rw [List.getElem?_append_left hi] at h
    exact Or.inl ⟨hi, h⟩
  · rw [List.getElem?_append_right (by omega)] at h
    cases hc2 : i - l.length with
    | zero =>
      rw [hc2] at h
      simp at h
      exact Or.inr ⟨by omega, h.symm⟩
    | succ m => rw [hc2] at h; simp at h
theorem ls_lt {α : Type} {l : List α} {x : α} {i : Nat} (h : l[i]? = some x) : i < l.length := (List.getElem?_eq_some_iff.mp h).1
theorem eh_at_rf {σ : eh_S} {c : Nat} {i : Int} : eh_at σ σ c i := fun _ _ => rfl
theorem eh_at_tr {σ σ' σ'' : eh_S} {c : Nat} {i : Int} (h : eh_at σ σ' c i) (h' : eh_at σ' σ'' c i) : eh_at σ σ'' c i := fun j hj => (h' j hj).trans (h j hj)
theorem eh_at_fr {SV SA : List Nat} {σ σ' : eh_S} {c : Nat} {i : Int} (hf : eh_fr SV SA σ σ') (hc : c ∉ SA) : eh_at σ σ' c i := fun j _ => by rw [hf.2 c hc]
/-- of the runs only those of pattern p have changed -/
def mo_R (σ σ' : eh_S) (p : Int) : Prop := eh_at σ σ' 529 p ∧ (∀ j, (j < 201 * p ∨ 201 * p + 201 ≤ j) → σ'.2 530 0 j = σ.2 530 0 j ∧ σ'.2 531 0 j = σ.2 531 0 j) ∧ ∀ j, (j < 4824 * p ∨ 4824 * p + 4824 ≤ j) → σ'.2 532 0 j = σ.2 532 0 j ∧ σ'.2 533 0 j = σ.2 533 0 j
theorem mo_R_tr {σ σ' σ'' : eh_S} {p : Int} (h : mo_R σ σ' p) (h' : mo_R σ' σ'' p) : mo_R σ σ'' p := ⟨eh_at_tr h.1 h'.1, fun j hj => ⟨(h'.2.1 j hj).1.trans (h.2.1 j hj).1, (h'.2.1 j hj).2.trans (h.2.1 j hj).2⟩, fun j hj => ⟨(h'.2.2 j hj).1.trans (h.2.2 j hj).1, (h'.2.2 j hj).2.trans (h.2.2 j hj).2⟩⟩
theorem mo_R_fr {SV SA : List Nat} {σ σ' : eh_S} {p : Int} (hf : eh_fr SV SA σ σ') (hd : ∀ c ∈ [529, 530, 531, 532, 533], c ∉ SA) : mo_R σ σ' p := by
  unfold mo_R eh_at
  rw [hf.2 529 (hd 529 (by decide)), hf.2 530 (hd 530 (by decide)), hf.2 531 (hd 531 (by decide)), hf.2 532 (hd 532 (by decide)), hf.2 533 (hd 533 (by decide))]
  exact ⟨fun _ _ => rfl, fun _ _ => ⟨rfl, rfl⟩, fun _ _ => ⟨rfl, rfl⟩⟩
theorem mo_R_slot {σ σ' : eh_S} {p r : Int} (h : eh_at σ σ' 529 p) (hs : pm_slot σ σ' (201 * p + r)) (hr : 0 ≤ r ∧ r < 201) : mo_R σ σ' p := ⟨h, fun j hj => hs.1 j (by omega), fun j hj => hs.2 j (by omega)⟩
theorem mo_R_L {σ σ' : eh_S} {p q : Int} {L : List pu_Rn} (h : mr_L σ q L) (hm : mo_R σ σ' p) (hq : q ≠ p) (hl : L.length ≤ 201) : mr_L σ' q L := by
  refine ⟨by rw [hm.1 q hq]; exact h.1, fun i x hx => ?_⟩
  have hi := ls_lt hx
  obtain ⟨a1, a2, a3, a4⟩ := h.2 i x hx
  have b1 := hm.2.1 (201 * q + i) (by omega)
  refine ⟨by rw [b1.1]; exact a1, a2, ?_, by rw [b1.2]; exact a4⟩
  rw [← a3]
  unfold pm_run
  rw [b1.1]
  exact pu_rowL_congr (fun k h0 h1 => hm.2.2 _ (by omega))
def mo_O (σ σ' : eh_S) (p : Int) : Prop := mo_R σ σ' p ∧ eh_at σ σ' 522 p ∧ eh_at σ σ' 523 p
theorem mo_O_tr {σ σ' σ'' : eh_S} {p : Int} (h : mo_O σ σ' p) (h' : mo_O σ' σ'' p) : mo_O σ σ'' p := ⟨mo_R_tr h.1 h'.1, eh_at_tr h.2.1 h'.2.1, eh_at_tr h.2.2 h'.2.2⟩
theorem mo_O_fr {SV SA : List Nat} {σ σ' : eh_S} {p : Int} (hf : eh_fr SV SA σ σ') (hd : ∀ c ∈ [529, 530, 531, 532, 533], c ∉ SA) (h2 : 522 ∉ SA) (h3 : 523 ∉ SA) : mo_O σ σ' p := ⟨mo_R_fr hf hd, eh_at_fr hf h2, eh_at_fr hf h3⟩
def Tm_make : eh_T := eh_RM fun as σ _ K => ∃ (p : Int) (row : pu_Rw) (L : List pu_Rn), as = [.inl p] ∧ (0 ≤ p ∧ p < 8) ∧ mr_L σ p L ∧ L.length ≤ 200 ∧ mc_row σ row ∧ row.length ≤ 24 ∧
  (L.length = 200 → ∀ σ', eh_fr [] [522, 529] σ σ' → eh_at σ σ' 522 p → eh_at σ σ' 529 p → σ'.2 522 0 p = 1 → mr_L σ' p [] → K (some (.inl 0)) σ') ∧
  (L.length ≠ 200 → ∀ σ', eh_fr [] [529, 530, 531, 532, 533, 534] σ σ' → mo_R σ σ' p → eh_at σ σ' 534 L.length → σ'.2 534 0 L.length = 0 → mr_L σ' p (L ++ [(row, false)]) → K (some (.inl 1)) σ')
theorem cm_make (l : Launch) (D : va_G) (tc : Nat → ClassId) (ad : Nat → Int → Nat) (h99 : ∀ a : Int, ad 99 a = a.toNat) : eh_M l D tc ad eh_LX yX4_make cX4_make 2 (some .boolean) 1 Tm_make := by
  refine eh_mk (rb := 1) (nm := eh_nX) (fl := eh_fl4) (kn := eh_kn4) (cs := (fun kk => match kk with | 177 => some (4, Tm_store) | _ => none)) (ss := (fun _ => none)) (by decide) (eh_worldX h99) eh_fl4_ok eh_kn4_ok (fun kk n T h => by
    split at h
    · cases h; exact eh_callV (c0 := 4) (cm_store l D tc ad h99) q710 q712 qs26 q49 q713 (by decide +kernel) (by decide) (by decide) (by decide) rfl (eh_worldX h99) (fun _ _ _ _ h => eh_RM_rec h)
    · cases h) (fun _ _ _ h => by cases h) ?_
  rintro as σ bd K ⟨_, rfl, p, row, L, rfl, hp, hL, hl, hr, hrl, hK1, hK2⟩
  refine ⟨Nat.le_of_ble_eq_true rfl, fun X hX => ?_⟩
  have hL1 := hL.1
  refine bX4_make_0 hX (T177 := Tm_store) rfl (fun hok => ⟨hp, fun h1 => ?_, fun h1 => ?_⟩)
  · refine hK1 (by omega) _ (eh_fr_sA (eh_fr_sA eh_fr_rf (by decide)) (by decide)) (fun j hj => ?_) (fun j hj => ?_) ?_ ⟨?_, fun i x hx => ?_⟩
    · rw [eh_sA_c (by decide), eh_sA_n hj]
    · rw [eh_sA_n hj, eh_sA_c (by decide)]
    · rw [eh_sA_c (by decide), eh_sA_p]
    · rw [eh_sA_p]; rfl
    · simp at hx
  · rw [hL1]
    refine ⟨_, rfl, p, _, 0, rfl, hp, by omega, Or.inl rfl, by rw [hr.1]; omega, fun σ1 hf hs s1 s2 s3 => ?_⟩
    have e9 := hf.2 529 (by decide)
    have e9' : σ1.2 529 0 p = (L.length : Int) := by rw [e9]; exact hL1
    refine bX4_make_40 hX (fun hok => ⟨hp, by omega, by omega, ?_⟩)
    rw [e9']
    have hfin : eh_fr [] [529, 534] σ1 (eh_sA (eh_sA σ1 534 0 (L.length : Int) 0) 529 0 p ((L.length : Int) + 1)) := eh_fr_sA (eh_fr_sA eh_fr_rf (by decide)) (by decide)
    have hs2 := pm_slot_tr hs (pm_slot_fr (a := 201 * p + (L.length : Int)) hfin (by decide))
    have h529 : eh_at σ (eh_sA (eh_sA σ1 534 0 (L.length : Int) 0) 529 0 p ((L.length : Int) + 1)) 529 p := fun j hj => by rw [eh_sA_n hj, eh_sA_c (by decide), e9]
    refine hK2 (by omega) _ (eh_fr_sA (eh_fr_sA (eh_fr_up hf (by decide) (by decide)) (by decide)) (by decide)) (mo_R_slot h529 hs2 (by omega)) (fun j hj => ?_) ?_ ⟨?_, fun i x hx => ?_⟩
    · rw [eh_sA_c (by decide), eh_sA_n hj, hf.2 534 (by decide)]
    · rw [eh_sA_c (by decide), eh_sA_p]
    · rw [eh_sA_p]; simp
    · rcases ls_snoc hx with ⟨h1, h2⟩ | ⟨rfl, rfl⟩
      · exact mr_s_slot (hL.2 i x h2) hs2 (by omega)
      · refine mr_s_fr (SV := []) (SA := [529, 534]) ⟨?_, hrl, ?_, ?_⟩ hfin (by decide)
        · rw [s1]; exact hr.1
        · rw [s3]; exact hr.2
        · rw [s2]; exact (bz_f Bool.false_ne_true).symm
def pm_kept (LG : List (pu_Rn × Bool)) : List pu_Rn := (LG.filter (fun y => !y.2)).map Prod.fst
def Tm_sweep : eh_T := eh_RM fun as σ _ K => ∃ (p : Int) (LG : List (pu_Rn × Bool)), as = [.inl p] ∧ (0 ≤ p ∧ p < 8) ∧ σ.2 529 0 p = (LG.length : Int) ∧ LG.length ≤ 200 ∧ (∀ (i : Nat) (y : pu_Rn × Bool), LG[i]? = some y → σ.2 534 0 i = bz (y.2 = true) ∧ (y.2 = false → mr_s σ p i y.1)) ∧
  ∀ σ', eh_fr [542] [529, 530, 531, 532, 533, 540, 541] σ σ' → mo_R σ σ' p → mr_L σ' p (pm_kept LG) → K none σ'
theorem cm_sweep (l : Launch) (D : va_G) (tc : Nat → ClassId) (ad : Nat → Int → Nat) (h99 : ∀ a : Int, ad 99 a = a.toNat) : eh_M l D tc ad eh_LX yX4_sweep cX4_sweep 4 none 1 Tm_sweep := by
  refine eh_mk (rb := 2) (nm := eh_nX) (fl := eh_fl4) (kn := eh_kn4) (cs := (fun kk => match kk with | 177 => some (4, Tm_store) | 181 => some (3, Tm_load) | _ => none)) (ss := (fun _ => none)) (by decide) (eh_worldX h99) eh_fl4_ok eh_kn4_ok (fun kk n T h => by
    split at h
    · cases h; exact eh_callV (c0 := 4) (cm_store l D tc ad h99) q710 q712 qs26 q49 q713 (by decide +kernel) (by decide) (by decide) (by decide) rfl (eh_worldX h99) (fun _ _ _ _ h => eh_RM_rec h)
    · cases h; exact eh_callV (c0 := 4) (cm_load l D tc ad h99) q706 q708 qs25 q49 q709 (by decide +kernel) (by decide) (by decide) (by decide) rfl (eh_worldX h99) (fun _ _ _ _ h => eh_RM_rec h)
    · cases h) (fun _ _ _ h => by cases h) ?_
  rintro as σ bd K ⟨_, rfl, p, LG, rfl, hp, h9, hl, hG, hK⟩
  refine ⟨Nat.le_of_ble_eq_true rfl, fun X hX => ?_⟩
  have key : ∀ (todo : List (pu_Rn × Bool)) (σ' : eh_S) (kept : List pu_Rn) (r : Nat), LG.length = r + todo.length → kept.length ≤ r → eh_fr [542] [530, 531, 532, 533, 540, 541] σ σ' → mo_R σ σ' p → (∀ (i : Nat) (x : pu_Rn), kept[i]? = some x → mr_s σ' p i x) → (∀ (i : Nat) (y : pu_Rn × Bool), todo[i]? = some y → σ'.2 534 0 ((r + i : Nat) : Int) = bz (y.2 = true) ∧ (y.2 = false → mr_s σ' p ((r + i : Nat) : Int) y.1)) → (∀ σ', eh_fr [542] [529, 530, 531, 532, 533, 540, 541] σ σ' → mo_R σ σ' p → mr_L σ' p (kept ++ pm_kept todo) → K none σ') → X 4 [some (.inr (some (4, 0))), some (.inl p), some (.inl (kept.length : Int)), some (.inl (r : Int))] [] σ' (0, 0) := by
    intro todo
    induction todo with
    | nil =>
      intro σ' kept r hlen hkr hf hmo hkp htd hK
      have e9 : σ'.2 529 0 p = (LG.length : Int) := by rw [hf.2 529 (by decide)]; exact h9
      simp only [List.length_nil, Nat.add_zero] at hlen
      refine bX4_sweep_4 hX (T181 := Tm_load) rfl (fun hok => ⟨hp, by omega, fun h1 => ⟨by omega, ?_⟩, fun h1 => absurd (show σ'.2 529 0 p ≤ (r : Int) by omega) h1⟩)
      have hfin : eh_fr [] [529] σ' (eh_sA σ' 529 0 p (kept.length : Int)) := eh_fr_sA eh_fr_rf (by decide)
      refine hK _ (eh_fr_sA (eh_fr_up hf (by decide) (by decide)) (by decide)) (mo_R_tr hmo ⟨fun j hj => by rw [eh_sA_n hj], fun j _ => ?_, fun j _ => ?_⟩) ⟨?_, fun i x hx => ?_⟩
      · rw [eh_sA_c (by decide), eh_sA_c (by decide)]; exact ⟨rfl, rfl⟩
      · rw [eh_sA_c (by decide), eh_sA_c (by decide)]; exact ⟨rfl, rfl⟩
      · rw [eh_sA_p]; simp [pm_kept]
      · refine mr_s_fr (hkp i x ?_) hfin (by decide)
        simpa [pm_kept] using hx
    | cons y t ih =>
      intro σ' kept r hlen hkr hf hmo hkp htd hK
      rw [List.length_cons] at hlen
      have e9 : σ'.2 529 0 p = (LG.length : Int) := by rw [hf.2 529 (by decide)]; exact h9
      obtain ⟨g1, g2⟩ := htd 0 y rfl
      rw [Nat.add_zero] at g1 g2
      have htd' : ∀ σ2 : eh_S, σ2.2 534 = σ'.2 534 → (∀ (i : Nat) (z : pu_Rn × Bool), t[i]? = some z → z.2 = false → mr_s σ' p ((r + 1 + i : Nat) : Int) z.1 → mr_s σ2 p ((r + 1 + i : Nat) : Int) z.1) → (∀ (i : Nat) (z : pu_Rn × Bool), t[i]? = some z → σ2.2 534 0 ((r + 1 + i : Nat) : Int) = bz (z.2 = true) ∧ (z.2 = false → mr_s σ2 p ((r + 1 + i : Nat) : Int) z.1)) := by
        intro σ2 h534 hs i z hz
        have := htd (i + 1) z hz
        rw [show r + (i + 1) = r + 1 + i by omega] at this
        exact ⟨by rw [h534]; exact this.1, fun q => hs i z hz q (this.2 q)⟩
      have go : ∀ σ2 : eh_S, y.2 = false → eh_fr [542] [530, 531, 532, 533, 540, 541] σ σ2 → mo_R σ σ2 p → (∀ (i : Nat) (x : pu_Rn), (kept ++ [y.1])[i]? = some x → mr_s σ2 p i x) → (∀ (i : Nat) (z : pu_Rn × Bool), t[i]? = some z → z.2 = false → mr_s σ' p ((r + 1 + i : Nat) : Int) z.1 → mr_s σ2 p ((r + 1 + i : Nat) : Int) z.1) → X 55 [some (.inr (some (4, 0))), some (.inl p), some (.inl (kept.length : Int)), some (.inl (r : Int))] [] σ2 (0, 0) := by
        intro σ2 hy hf2 hmo2 hkp2 hs2
        refine bX4_sweep_55 hX (fun hok => ?_)
        have e5 : σ2.2 534 = σ'.2 534 := by rw [hf2.2 534 (by decide), hf.2 534 (by decide)]
        have := ih σ2 (kept ++ [y.1]) (r + 1) (by omega) (by rw [List.length_append]; simp; omega) hf2 hmo2 hkp2 (htd' σ2 e5 hs2) (fun σ3 a b c => hK σ3 a b ?_)
        · rw [List.length_append] at this
          simpa using this
        · have ek : pm_kept (y :: t) = y.1 :: pm_kept t := by
            unfold pm_kept
            rw [List.filter_cons_of_pos (by rw [hy]; rfl), List.map_cons]
          rw [ek, ← List.singleton_append, ← List.append_assoc]
          exact c
      refine bX4_sweep_4 hX (T181 := Tm_load) rfl (fun hok => ⟨hp, by omega, fun h1 => by omega, fun h1 => ⟨by omega, fun h2 => ⟨by omega, fun h3 => ?_, fun h3 => ?_⟩, fun h2 => ?_⟩⟩)
      · have hy : y.2 = false := by
          rw [g1] at h2
          have := bz_0.mp h2
          simpa using this
        refine go σ' hy hf hmo (fun i x hx => ?_) (fun _ _ _ _ h => h)
        rcases ls_snoc hx with ⟨h4, h5⟩ | ⟨h4, rfl⟩
        · exact hkp i x h5
        · rw [h4, h3]
          exact g2 hy
      · have hy : y.2 = false := by
          rw [g1] at h2
          have := bz_0.mp h2
          simpa using this
        obtain ⟨s1, s2, s3, s4⟩ := g2 hy
        refine ⟨_, rfl, p, _, rfl, hp, by omega, by omega, fun σ1 hf1 h1m h1r => ?_⟩
        have hrw : pm_row σ1 = y.1.1 := by rw [h1r]; exact s3
        have e31 : σ1.2 531 0 (201 * p + (r : Int)) = bz (y.1.2 = true) := by rw [hf1.2 531 (by decide)]; exact s4
        refine bX4_sweep_37 hX (T177 := Tm_store) rfl (fun hok => ⟨by omega, ?_⟩)
        rw [e31]
        refine ⟨_, rfl, p, _, _, rfl, hp, by omega, bz_01 _, by omega, fun σ2 hf2 hs2 t1 t2 t3 => ?_⟩
        have hf12 : eh_fr [542] [530, 531, 532, 533, 540, 541] σ' σ2 := eh_fr_tr (eh_fr_up hf1 (by decide) (by decide)) (eh_fr_up hf2 (by decide) (by decide))
        have hmo12 : mo_R σ' σ2 p := mo_R_tr (mo_R_fr hf1 (by decide)) (mo_R_slot (eh_at_fr hf2 (by decide)) hs2 (by omega))
        refine go σ2 hy (eh_fr_tr hf hf12) (mo_R_tr hmo hmo12) (fun i x hx => ?_) (fun i z hz hzf h => ?_)
        · rcases ls_snoc hx with ⟨h4, h5⟩ | ⟨h4, rfl⟩
          · exact mr_s_slot (mr_s_fr (hkp i x h5) hf1 (by decide)) hs2 (by omega)
          · rw [h4]
            refine ⟨?_, s2, ?_, t2⟩
            · rw [t1, h1m]; exact s1
            · rw [t3]; exact hrw
        · exact mr_s_slot (mr_s_fr h hf1 (by decide)) hs2 (by omega)
      · have hy : y.2 = true := by
          rw [g1] at h2
          exact bz_n.mp h2
        have := ih σ' kept (r + 1) (by omega) (by omega) hf hmo hkp (htd' σ' rfl (fun _ _ _ _ h => h)) (fun σ3 a b c => hK σ3 a b ?_)
        · simpa using this
        · have ek : pm_kept (y :: t) = pm_kept t := by
            unfold pm_kept
            rw [List.filter_cons_of_neg (by rw [hy]; decide)]
          rw [ek]
          exact c
  refine bX4_sweep_0 hX (fun hok => ?_)
  exact key LG σ [] 0 (by omega) (Nat.le_refl _) eh_fr_rf (mo_R_fr (SV := []) (SA := []) eh_fr_rf (by decide)) (fun i x hx => by simp at hx) (fun i y hy => by rw [Nat.zero_add]; exact hG i y hy) (fun σ' a b c => hK σ' a b c)
