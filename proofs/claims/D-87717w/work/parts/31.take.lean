/-! EventHunter.Web: room for one more; take -/
theorem ls_nodup_le {l1 : List Int} : ∀ {l2 : List Int}, l1.Nodup → (∀ a ∈ l1, a ∈ l2) → l1.length ≤ l2.length := by
  induction l1 with
  | nil => intro l2 _ _; exact Nat.zero_le _
  | cons a t ih =>
    intro l2 hn hs
    obtain ⟨h1, h2⟩ := List.nodup_cons.mp hn
    have ha := hs a List.mem_cons_self
    have hp := List.length_pos_of_mem ha
    have := ih (l2 := l2.erase a) h2 (fun b hb => (List.mem_erase_of_ne (show b ≠ a from fun q => h1 (q ▸ hb))).mpr (hs b (List.mem_cons_of_mem _ hb)))
    rw [List.length_erase_of_mem ha] at this
    rw [List.length_cons]
    omega
def xw_nk (σ : eh_S) : Nat → Int → List Int
  | 0, _ => []
  | k + 1, n => if n < 0 then [] else n :: xw_nk σ k (σ.2 202 0 n)
theorem xw_nk_len (σ : eh_S) : ∀ (k : Nat) (n : Int), (xw_nk σ k n).length ≤ k := by
  intro k
  induction k with
  | zero => intro n; exact Nat.le_refl _
  | succ k ih =>
    intro n
    rw [xw_nk]
    split
    · exact Nat.zero_le _
    · rw [List.length_cons]
      have := ih (σ.2 202 0 n)
      omega
theorem xw_nk_cl {σ : eh_S} : ∀ (row : pu_Rw) (k : Nat) (n m : Int), xw_way σ row n → row.length ≤ k → m ∈ xw_nk σ k n → σ.2 202 0 m = -1 ∨ σ.2 202 0 m ∈ xw_nk σ k n := by
  intro row
  induction row with
  | nil =>
    intro k n m hw _ hm
    have hw : n = -1 := hw
    cases k with
    | zero => cases hm
    | succ k =>
      rw [xw_nk, if_pos (by omega)] at hm
      cases hm
  | cons x r ih =>
    intro k n m hw hk hm
    obtain ⟨h1, h2, h3, h4⟩ := hw
    cases k with
    | zero => rw [List.length_cons] at hk; omega
    | succ k =>
      rw [List.length_cons] at hk
      rw [xw_nk, if_neg (by omega)] at hm ⊢
      rcases List.mem_cons.mp hm with rfl | hm
      · rcases xw_way_r h4 with ⟨h5, _⟩ | ⟨h5, h6⟩
        · exact Or.inl h5
        · right
          refine List.mem_cons_of_mem _ ?_
          cases k with
          | zero =>
            cases r with
            | nil => exact absurd rfl h6
            | cons y r => rw [List.length_cons] at hk; omega
          | succ k =>
            rw [xw_nk, if_neg (by omega)]
            exact List.mem_cons_self
      · rcases ih k _ m h4 (by omega) hm with h | h
        · exact Or.inl h
        · exact Or.inr (List.mem_cons_of_mem _ h)
theorem xw_flat (σ : eh_S) : ∀ R : List Int, (R.flatMap (xw_nk σ 24)).length ≤ 24 * R.length := by
  intro R
  induction R with
  | nil => exact Nat.le_refl _
  | cons r R ih =>
    rw [List.flatMap_cons, List.length_append, List.length_cons]
    have := xw_nk_len σ 24 r
    omega
/-- every root has a way of at most 24 -/
def xw_C (σ : eh_S) (R : List Int) : Prop := ∀ r ∈ R, ∃ row, xw_way σ row r ∧ row.length ≤ 24
theorem xw_cap {σ : eh_S} {R Lv F : List Int} (h : xw_J σ R Lv F) (hc : xw_C σ R) : Lv.length ≤ 24 * R.length := by
  obtain ⟨a1, a2, a3, a4, a5, a6, a7, a8, a9, a10⟩ := h
  refine Nat.le_trans (ls_nodup_le (l2 := R.flatMap (xw_nk σ 24)) a1 ?_) (xw_flat σ R)
  have key : ∀ (b : Nat) (m : Int), m ∈ Lv → 1000 - σ.2 200 0 m < b → m ∈ R.flatMap (xw_nk σ 24) := by
    intro b
    induction b with
    | zero => intro m hm hb; have := (a9 m hm).2.2.2; omega
    | succ b ih =>
      intro m hm hb
      obtain ⟨c1, c2, c3, c4⟩ := a9 m hm
      have h5 := a5 m hm
      have hmem := List.count_pos_iff.mp (show 0 < (R ++ Lv.map (σ.2 202 0)).count m by omega)
      rcases List.mem_append.mp hmem with hmR | hmB
      · refine List.mem_flatMap.mpr ⟨m, hmR, ?_⟩
        rw [xw_nk, if_neg (by omega)]
        exact List.mem_cons_self
      · obtain ⟨m', hm', he⟩ := List.mem_map.mp hmB
        rcases (a9 m' hm').2.2.1 with q | q
        · omega
        · have h6 := ih m' hm' (by rw [he] at q; omega)
          obtain ⟨r, hr, hn⟩ := List.mem_flatMap.mp h6
          obtain ⟨row, hw, hl⟩ := hc r hr
          rcases xw_nk_cl row 24 r m' hw hl hn with h7 | h7
          · omega
          · rw [he] at h7
            exact List.mem_flatMap.mpr ⟨r, hr, h7⟩
  exact fun m hm => key 1002 m hm (by have := (a9 m hm).2.2.2; omega)
/-- a node taken, as the arrays show it -/
theorem xw_took {σ σ' : eh_S} {R Lv F F' : List Int} {n e b : Int} (h : xw_J σ R Lv F) (hb : b = -1 ∨ b ∈ Lv) (he : 0 ≤ e ∧ e < 1000) (heb : b ≠ -1 → σ.2 200 0 b < e)
    (hnl : n ∉ Lv) (hnF : n ∉ F') (hF2 : F'.Nodup) (hFs : ∀ m ∈ F', m ∈ F) (hn : 0 ≤ n ∧ n < σ'.1 205 0) (h5 : σ.1 205 0 ≤ σ'.1 205 0) (h6 : σ'.1 205 0 = ((F'.length + Lv.length + 1 : Nat) : Int)) (h7 : σ'.1 205 0 ≤ 38424) (h8 : xw_fc σ F' (σ'.1 204 0))
    (e200 : ∀ j, j ≠ n → σ'.2 200 0 j = σ.2 200 0 j) (e200n : σ'.2 200 0 n = e) (e202 : ∀ j, j ≠ n → σ'.2 202 0 j = σ.2 202 0 j) (e202n : σ'.2 202 0 n = b) (e203 : ∀ j, j ≠ n → j ≠ b → σ'.2 203 0 j = σ.2 203 0 j) (e203n : σ'.2 203 0 n = 1) (e203b : b ≠ -1 → σ'.2 203 0 b = σ.2 203 0 b + 1) : xw_J σ' (n :: R) (n :: Lv) F' := by
  obtain ⟨a1, a2, a3, a4, a5, a6, a7, a8, a9, a10⟩ := h
  have hne : ∀ m ∈ Lv, m ≠ n := fun m hm q => hnl (q ▸ hm)
  have hmap : Lv.map (σ'.2 202 0) = Lv.map (σ.2 202 0) := List.map_congr_left (fun m hm => e202 m (hne m hm))
  have hbn : b ≠ n := by
    rcases hb with hb | hb
    · omega
    · exact hne b hb
  have hnR : n ∉ R := fun q => by
    rcases a10 n q with h | h
    · omega
    · exact hnl h
  have hnB : n ∉ Lv.map (σ.2 202 0) := fun q => by
    obtain ⟨m, hm, he⟩ := List.mem_map.mp q
    rcases (a9 m hm).2.2.1 with h | h
    · omega
    · rw [he] at h
      exact hnl h.1
  refine ⟨List.nodup_cons.mpr ⟨hnl, a1⟩, hF2, fun m hm q => ?_, fun m hm => ?_, fun m hm => ?_, ?_, h7, ?_, fun m hm => ?_, fun r hr => ?_⟩
  · rcases List.mem_cons.mp q with rfl | q
    · exact hnF hm
    · exact a3 m (hFs m hm) q
  · have := a4 m (hFs m hm)
    omega
  · rcases List.mem_cons.mp hm with rfl | hm
    · exact hn
    · have := a5 m hm
      omega
  · rw [h6, List.length_cons]
    omega
  · exact xw_fc_same (fun m hm => e202 m (fun q => hnF (q ▸ hm))) h8
  · rw [List.map_cons, e202n, hmap]
    rcases List.mem_cons.mp hm with rfl | hm
    · have ec : (m :: R ++ b :: Lv.map (σ.2 202 0)).count m = 1 := by
        rw [List.cons_append, List.count_cons_self, List.count_append, List.count_cons, List.count_eq_zero.mpr hnR, List.count_eq_zero.mpr hnB, if_neg (by simp; exact hbn)]
      rw [ec, e202n, e200n, e203n]
      refine ⟨rfl, Nat.le_refl _, ?_, he⟩
      rcases hb with hb | hb
      · exact Or.inl hb
      · refine Or.inr ⟨List.mem_cons_of_mem _ hb, ?_⟩
        rw [e200 b hbn]
        exact heb (by have := a5 b hb; omega)
    · obtain ⟨c1, c2, c3, c4⟩ := a9 m hm
      have hmn := hne m hm
      have h5m := a5 m hm
      have ec : (n :: R ++ b :: Lv.map (σ.2 202 0)).count m = (R ++ Lv.map (σ.2 202 0)).count m + (if b = m then 1 else 0) := by
        rw [List.cons_append, List.count_cons_of_ne (show n ≠ m from fun q => hmn q.symm), List.count_append, List.count_append]
        by_cases hbm : b = m
        · rw [if_pos hbm, hbm, List.count_cons_self]
          omega
        · rw [if_neg hbm, List.count_cons_of_ne hbm]
          omega
      rw [ec, e202 m hmn, e200 m hmn]
      refine ⟨?_, by omega, ?_, c4⟩
      · by_cases hbm : b = m
        · rw [if_pos hbm, ← hbm, e203b (by omega)]
          rw [← hbm] at c1
          rw [c1]
          omega
        · rw [if_neg hbm, e203 m hmn (fun q => hbm q.symm), Nat.add_zero]
          exact c1
      · rcases c3 with c3 | c3
        · exact Or.inl c3
        · refine Or.inr ⟨List.mem_cons_of_mem _ c3.1, ?_⟩
          rw [e200 _ (hne _ c3.1)]
          exact c3.2
  · rcases List.mem_cons.mp hr with rfl | hr
    · exact Or.inr List.mem_cons_self
    · rcases a10 r hr with h | h
      · exact Or.inl h
      · exact Or.inr (List.mem_cons_of_mem _ h)
def Tw_take : eh_T := eh_R1 fun as σ _ K => ∃ (e s b : Int) (R : List Int), as = [.inl e, .inl s, .inl b] ∧ (0 ≤ e ∧ e < 1000) ∧ (0 ≤ s ∧ s < 100) ∧ xw_I σ R ∧ R.length ≤ 1600 ∧ xw_C σ R ∧ (b = -1 ∨ b ∈ R) ∧ (b ≠ -1 → σ.2 200 0 b < e) ∧ ∀ (σ' : eh_S) (n : Int), eh_fr [204, 205] [200, 201, 202, 203] σ σ' → (0 ≤ n ∧ n < 38424) → xw_I σ' (n :: R) → (∀ r ∈ R, ∀ row, xw_way σ row r → xw_way σ' row r) → (∀ row, xw_way σ row b → xw_way σ' ((e, s) :: row) n) → K (some (.inl n)) σ'
theorem cw_take (l : Launch) (D : va_G) (tc : Nat → ClassId) (ad : Nat → Int → Nat) (h99 : ∀ a : Int, ad 99 a = a.toNat) : eh_M l D tc ad eh_LX yX1_take cX1_take 5 (some .int) 0 Tw_take := by
  refine eh_mk (rb := 0) (nm := eh_nX) (fl := eh_fl1) (kn := eh_kn1) (cs := (fun _ => none)) (ss := (fun _ => none)) (by decide) (eh_worldX h99) eh_fl1_ok eh_kn1_ok (fun _ _ _ h => by cases h) (fun _ _ _ h => by cases h) ?_
  rintro as σ bd K ⟨_, rfl, e, s, b, R, rfl, he, hs, ⟨Lv, F, hJ⟩, hRl, hC, hb, heb, hK⟩
  refine ⟨Nat.le_of_ble_eq_true rfl, fun X hX => ?_⟩
  have hcap := xw_cap hJ hC
  have hJ' := hJ
  obtain ⟨a1, a2, a3, a4, a5, a6, a7, a8, a9, a10⟩ := hJ
  have hbL : b = -1 ∨ b ∈ Lv := by
    rcases hb with hb | hb
    · exact Or.inl hb
    · exact a10 b hb
  have hbr : b = -1 ∨ 0 ≤ b ∧ b < 38424 := by
    rcases hbL with hb | hb
    · exact Or.inl hb
    · have := a5 b hb
      exact Or.inr (by omega)
  have hub : b ≠ -1 → 0 ≤ σ.2 203 0 b ∧ σ.2 203 0 b ≤ 100000 := by
    intro hb1
    rcases hbL with hb | hb
    · exact absurd hb hb1
    · have h1 := (a9 b hb).1
      have hcl := List.count_le_length (a := b) (l := R ++ Lv.map (σ.2 202 0))
      rw [List.length_append, List.length_map] at hcl
      omega
  -- what is known of the state behind it
  have fin : ∀ (n : Int) (F' : List Int) (σ' : eh_S), eh_fr [204, 205] [200, 201, 202, 203] σ σ' → n ∉ Lv → n ∉ F' → F'.Nodup → (∀ m ∈ F', m ∈ F) → (0 ≤ n ∧ n < σ'.1 205 0) → σ.1 205 0 ≤ σ'.1 205 0 → σ'.1 205 0 = ((F'.length + Lv.length + 1 : Nat) : Int) → σ'.1 205 0 ≤ 38424 → xw_fc σ F' (σ'.1 204 0) → (∀ j, j ≠ n → σ'.2 200 0 j = σ.2 200 0 j) → σ'.2 200 0 n = e → (∀ j, j ≠ n → σ'.2 201 0 j = σ.2 201 0 j) → σ'.2 201 0 n = s → (∀ j, j ≠ n → σ'.2 202 0 j = σ.2 202 0 j) → σ'.2 202 0 n = b → (∀ j, j ≠ n → j ≠ b → σ'.2 203 0 j = σ.2 203 0 j) → σ'.2 203 0 n = 1 → (b ≠ -1 → σ'.2 203 0 b = σ.2 203 0 b + 1) → K (some (.inl n)) σ' := by
    intro n F' σ' hf hnl hnF hF2 hFs hn h5 h6 h7 h8 e200 e200n e201 e201n e202 e202n e203 e203n e203b
    have hkeep : ∀ r, (r = -1 ∨ r ∈ Lv) → ∀ row, xw_way σ row r → xw_way σ' row r := by
      intro r hr row h
      refine xw_way_keep (Lv := Lv) (fun m hm => ?_) (fun m hm => ?_) hr h
      · rcases (a9 m hm).2.2.1 with q | q
        · exact Or.inl q
        · exact Or.inr q.1
      · have : m ≠ n := fun q => hnl (q ▸ hm)
        exact ⟨e200 m this, e201 m this, e202 m this⟩
    refine hK σ' n hf (by omega) ⟨n :: Lv, F', xw_took hJ' hbL he heb hnl hnF hF2 hFs hn h5 h6 h7 h8 e200 e200n e202 e202n e203 e203n e203b⟩ (fun r hr row h => hkeep r (a10 r hr) row h) (fun row h => ?_)
    refine ⟨by omega, e200n, e201n, ?_⟩
    rw [e202n]
    exact hkeep b hbL row h
  have hr205 : σ.1 205 0 ≤ 38424 := a7
  refine bX1_take_0 hX (fun hok => ⟨fun h4 => ?_, fun h4 => ?_⟩)
  · have hF : F = [] := by
      cases F with
      | nil => rfl
      | cons f t => have := a4 f List.mem_cons_self; have := a8.1; omega
    subst hF
    simp only [List.length_nil, Nat.zero_add] at a6
    have hnl : σ.1 205 0 ∉ Lv := fun q => by have := a5 _ q; omega
    refine ⟨by omega, by omega, by omega, by omega, by omega, fun hb1 => ?_, fun hb1 => ?_⟩
    · refine fin (σ.1 205 0) [] _ (eh_fr_sA (eh_fr_sA (eh_fr_sA (eh_fr_sA (eh_fr_sV eh_fr_rf (by decide)) (by decide)) (by decide)) (by decide)) (by decide)) hnl (fun q => by cases q) List.nodup_nil (fun m hm => by cases hm) ?_ ?_ ?_ ?_ ?_ (fun j hj => ?_) ?_ (fun j hj => ?_) ?_ (fun j hj => ?_) ?_ (fun j hj hjb => ?_) ?_ (fun q => absurd hb1 q)
      all_goals try simp only [eh_sA_1, eh_sV_p, eh_sV_2, List.length_nil]
      · omega
      · omega
      · omega
      · omega
      · rw [eh_sV_v (by decide)]; exact h4
      · rw [eh_sA_c (by decide), eh_sA_c (by decide), eh_sA_c (by decide), eh_sA_n hj]; rfl
      · rw [eh_sA_c (by decide), eh_sA_c (by decide), eh_sA_c (by decide), eh_sA_p]
      · rw [eh_sA_c (by decide), eh_sA_c (by decide), eh_sA_n hj, eh_sA_c (by decide)]; rfl
      · rw [eh_sA_c (by decide), eh_sA_c (by decide), eh_sA_p]
      · rw [eh_sA_c (by decide), eh_sA_n hj, eh_sA_c (by decide), eh_sA_c (by decide)]; rfl
      · rw [eh_sA_c (by decide), eh_sA_p]
      · rw [eh_sA_n hj, eh_sA_c (by decide), eh_sA_c (by decide), eh_sA_c (by decide)]; rfl
      · rw [eh_sA_p]
    · have hbb : b ≠ σ.1 205 0 := by
        rcases hbL with q | q
        · exact absurd q hb1
        · have := a5 b q; omega
      have hu := hub hb1
      have e3 : (eh_sA (eh_sA (eh_sA (eh_sA (eh_sV σ 205 0 ((σ.1 205 0) + 1)) 200 0 (σ.1 205 0) e) 201 0 (σ.1 205 0) s) 202 0 (σ.1 205 0) b) 203 0 (σ.1 205 0) 1).2 203 0 b = σ.2 203 0 b := by
        rw [eh_sA_n hbb, eh_sA_c (by decide), eh_sA_c (by decide), eh_sA_c (by decide)]; rfl
      rw [e3]
      refine ⟨by omega, by omega, ?_⟩
      refine fin (σ.1 205 0) [] _ (eh_fr_sA (eh_fr_sA (eh_fr_sA (eh_fr_sA (eh_fr_sA (eh_fr_sV eh_fr_rf (by decide)) (by decide)) (by decide)) (by decide)) (by decide)) (by decide)) hnl (fun q => by cases q) List.nodup_nil (fun m hm => by cases hm) ?_ ?_ ?_ ?_ ?_ (fun j hj => ?_) ?_ (fun j hj => ?_) ?_ (fun j hj => ?_) ?_ (fun j hj hjb => ?_) ?_ (fun q => ?_)
      all_goals try simp only [eh_sA_1, eh_sV_p, eh_sV_2, List.length_nil]
      · omega
      · omega
      · omega
      · omega
      · rw [eh_sV_v (by decide)]; exact h4
      · rw [eh_sA_c (by decide), eh_sA_c (by decide), eh_sA_c (by decide), eh_sA_c (by decide), eh_sA_n hj]; rfl
      · rw [eh_sA_c (by decide), eh_sA_c (by decide), eh_sA_c (by decide), eh_sA_c (by decide), eh_sA_p]
      · rw [eh_sA_c (by decide), eh_sA_c (by decide), eh_sA_c (by decide), eh_sA_n hj, eh_sA_c (by decide)]; rfl
      · rw [eh_sA_c (by decide), eh_sA_c (by decide), eh_sA_c (by decide), eh_sA_p]
      · rw [eh_sA_c (by decide), eh_sA_c (by decide), eh_sA_n hj, eh_sA_c (by decide), eh_sA_c (by decide)]; rfl
      · rw [eh_sA_c (by decide), eh_sA_c (by decide), eh_sA_p]
      · rw [eh_sA_n hjb, eh_sA_n hj, eh_sA_c (by decide), eh_sA_c (by decide), eh_sA_c (by decide)]; rfl
      · rw [eh_sA_n (fun q => hbb q.symm), eh_sA_p]
      · rw [eh_sA_p]
  · cases F with
    | nil => exact absurd a8 h4
    | cons f t =>
      obtain ⟨a81, a82⟩ := a8
      rw [a81]
      obtain ⟨hft, ht⟩ := List.nodup_cons.mp a2
      have hf4 := a4 f List.mem_cons_self
      have hnl : f ∉ Lv := a3 f List.mem_cons_self
      rw [List.length_cons] at a6
      have hlt : (t.length : Int) + Lv.length + 1 = σ.1 205 0 := by omega
      refine ⟨by omega, by omega, by omega, by omega, fun hb1 => ?_, fun hb1 => ?_⟩
      · refine fin f t _ (eh_fr_sA (eh_fr_sA (eh_fr_sA (eh_fr_sA (eh_fr_sV eh_fr_rf (by decide)) (by decide)) (by decide)) (by decide)) (by decide)) hnl hft ht (fun m hm => List.mem_cons_of_mem _ hm) ?_ ?_ ?_ ?_ ?_ (fun j hj => ?_) ?_ (fun j hj => ?_) ?_ (fun j hj => ?_) ?_ (fun j hj hjb => ?_) ?_ (fun q => absurd hb1 q)
        all_goals try simp only [eh_sA_1, eh_sV_p, eh_sV_2]
        · rw [eh_sV_v (by decide)]; omega
        · rw [eh_sV_v (by decide)]; omega
        · rw [eh_sV_v (by decide)]; omega
        · rw [eh_sV_v (by decide)]; omega
        · exact a82
        · rw [eh_sA_c (by decide), eh_sA_c (by decide), eh_sA_c (by decide), eh_sA_n hj]; rfl
        · rw [eh_sA_c (by decide), eh_sA_c (by decide), eh_sA_c (by decide), eh_sA_p]
        · rw [eh_sA_c (by decide), eh_sA_c (by decide), eh_sA_n hj, eh_sA_c (by decide)]; rfl
        · rw [eh_sA_c (by decide), eh_sA_c (by decide), eh_sA_p]
        · rw [eh_sA_c (by decide), eh_sA_n hj, eh_sA_c (by decide), eh_sA_c (by decide)]; rfl
        · rw [eh_sA_c (by decide), eh_sA_p]
        · rw [eh_sA_n hj, eh_sA_c (by decide), eh_sA_c (by decide), eh_sA_c (by decide)]; rfl
        · rw [eh_sA_p]
      · have hbb : b ≠ f := by
          rcases hbL with q | q
          · exact absurd q hb1
          · exact fun q2 => hnl (q2 ▸ q)
        have hu := hub hb1
        have e3 : (eh_sA (eh_sA (eh_sA (eh_sA (eh_sV σ 204 0 (σ.2 202 0 f)) 200 0 f e) 201 0 f s) 202 0 f b) 203 0 f 1).2 203 0 b = σ.2 203 0 b := by
          rw [eh_sA_n hbb, eh_sA_c (by decide), eh_sA_c (by decide), eh_sA_c (by decide)]; rfl
        rw [e3]
        refine ⟨by omega, by omega, ?_⟩
        refine fin f t _ (eh_fr_sA (eh_fr_sA (eh_fr_sA (eh_fr_sA (eh_fr_sA (eh_fr_sV eh_fr_rf (by decide)) (by decide)) (by decide)) (by decide)) (by decide)) (by decide)) hnl hft ht (fun m hm => List.mem_cons_of_mem _ hm) ?_ ?_ ?_ ?_ ?_ (fun j hj => ?_) ?_ (fun j hj => ?_) ?_ (fun j hj => ?_) ?_ (fun j hj hjb => ?_) ?_ (fun q => ?_)
        all_goals try simp only [eh_sA_1, eh_sV_p, eh_sV_2]
        · rw [eh_sV_v (by decide)]; omega
        · rw [eh_sV_v (by decide)]; omega
        · rw [eh_sV_v (by decide)]; omega
        · rw [eh_sV_v (by decide)]; omega
        · exact a82
        · rw [eh_sA_c (by decide), eh_sA_c (by decide), eh_sA_c (by decide), eh_sA_c (by decide), eh_sA_n hj]; rfl
        · rw [eh_sA_c (by decide), eh_sA_c (by decide), eh_sA_c (by decide), eh_sA_c (by decide), eh_sA_p]
        · rw [eh_sA_c (by decide), eh_sA_c (by decide), eh_sA_c (by decide), eh_sA_n hj, eh_sA_c (by decide)]; rfl
        · rw [eh_sA_c (by decide), eh_sA_c (by decide), eh_sA_c (by decide), eh_sA_p]
        · rw [eh_sA_c (by decide), eh_sA_c (by decide), eh_sA_n hj, eh_sA_c (by decide), eh_sA_c (by decide)]; rfl
        · rw [eh_sA_c (by decide), eh_sA_c (by decide), eh_sA_p]
        · rw [eh_sA_n hjb, eh_sA_n hj, eh_sA_c (by decide), eh_sA_c (by decide), eh_sA_c (by decide)]; rfl
        · rw [eh_sA_n (fun q => hbb q.symm), eh_sA_p]
        · rw [eh_sA_p]
