/-! EventHunter.Pattern: every, next -/
abbrev fx_V : List Nat := [10, 11, 115, 204, 205, 410, 412, 415]
abbrev fx_A : List Nat := [10, 11, 12, 13, 14, 15, 111, 112, 113, 114, 200, 201, 202, 203, 413, 414]
/-- the state while the runs of q are asked -/
def xa_S (σ0 σ : eh_S) (q : Int) (G : List (Int × pu_Rn)) (O : List Int) (ms0 : List (Int × pu_Rw)) (o : List pu_Rw) (tl sp : Int) : Prop :=
  eh_fr fx_V fx_A σ0 σ ∧ xo_Q σ0 σ q ∧ xr_G σ q G ∧ (∀ y ∈ G, xw_way σ y.2.1 y.1) ∧ xw_I σ (G.map Prod.fst ++ O) ∧ (∀ r ∈ O, ∀ row, xw_way σ0 row r → xw_way σ row r) ∧ xm_M σ (ms0 ++ o.map (fun c => (q, c))) ∧ σ.1 412 q = tl + (o.length : Int) ∧ σ.1 410 q = sp
def xv_I (σ σ' : eh_S) (q e : Int) (P : Nat → Int → Int) (G0 G' : List (Int × pu_Rn)) (O : List Int) (ms0 : List (Int × pu_Rw)) (o : List pu_Rw) (tl : Int) : Prop :=
  xa_S σ σ' q G' O ms0 o tl 0 ∧ G'.length ≤ 200 ∧ G0.length ≤ G'.length ∧ (∀ i : Nat, i < G0.length → G'[i]? = G0[i]?) ∧ (∀ z ∈ G', pu_gd P (e + 1) z.2.1) ∧ o.length ≤ G'.length
def xv_F (σ : eh_S) (q : Int) (P : Nat → Int → Int) (G0 : List (Int × pu_Rn)) (O : List Int) (ms0 : List (Int × pu_Rw)) (tl : Int) (cs : List pu_Rw) (L : List pu_Rn) (o : List pu_Rw) (K : Option eh_V → eh_S → Prop) : Prop :=
  ∀ (σ' : eh_S) (G' : List (Int × pu_Rn)), G'.map Prod.snd = (pu_adds P cs (L, o)).1 → ((pu_adds P cs (L, o)).2.2 = false → ∀ i : Nat, i < G0.length → G'[i]? = G0[i]?) → xa_S σ σ' q G' O ms0 (pu_adds P cs (L, o)).2.1 tl (bz ((pu_adds P cs (L, o)).2.2 = true)) → K none σ'
theorem xw_ev {σ : eh_S} {row : pu_Rw} {w e k : Int} (hne : row ≠ []) (hw : xw_way σ row w) (h : pu_rok e k row) : σ.2 200 0 w < e := by
  cases row with
  | nil => exact absurd rfl hne
  | cons x r =>
    rw [hw.2.1]
    exact h.1.2
theorem xw_C_G {σ : eh_S} {P : Nat → Int → Int} {n : Int} {G : List (Int × pu_Rn)} {O : List Int} (hpo : pu_pok P) (hw : ∀ y ∈ G, xw_way σ y.2.1 y.1) (hg : ∀ z ∈ G, pu_gd P n z.2.1) (hO : xw_C σ O) : xw_C σ (G.map Prod.fst ++ O) := by
  intro r hr
  rcases List.mem_append.mp hr with h | h
  · obtain ⟨y, hy, rfl⟩ := List.mem_map.mp h
    exact ⟨y.2.1, hw y hy, (pu_gd_len (hg y hy) hpo).2⟩
  · exact hO r h
theorem xw_C_k {σ σ' : eh_S} {O : List Int} (h : xw_C σ O) (hk : ∀ r ∈ O, ∀ row, xw_way σ row r → xw_way σ' row r) : xw_C σ' O := fun r hr => by
  obtain ⟨row, h1, h2⟩ := h r hr
  exact ⟨row, hk r hr row h1, h2⟩
theorem pu_mv_asc {E P : Nat → Int → Int} {row : pu_Rw} {hurt : Bool} {e : Int} : ∀ (n : Nat) (j : Int) (over : Bool), (pu_mv E P row hurt e n j over).Pairwise (fun a b => a < b) := by
  intro n
  induction n with
  | zero => intro j over; exact List.Pairwise.nil
  | succ n ih =>
    intro j over
    rw [pu_mv]
    split
    · have h2 : (if P 0 j = 2 ∨ P 0 j = 3 then pu_mv E P row hurt e n (j + 1) (over || decide (P 0 j = 3)) else []).Pairwise (fun a b => a < b) := by
        split
        · exact ih _ _
        · exact List.Pairwise.nil
      split
      · rw [List.singleton_append]
        refine List.Pairwise.cons (fun b hb => ?_) h2
        split at hb
        · have := (pu_mv_mem _ _ _ _ hb).1.1
          omega
        · cases hb
      · exact h2
    · exact List.Pairwise.nil
theorem ls_find {f : Int} : ∀ {a : List Int}, (∀ x ∈ a, x < f) → ∀ b : List Int, (a ++ b).find? (fun s => decide (f ≤ s)) = b.find? (fun s => decide (f ≤ s)) := by
  intro a
  induction a with
  | nil => intro _ b; rfl
  | cons x a ih =>
    intro h b
    rw [List.cons_append, List.find?_cons_of_neg (by have := h x List.mem_cons_self; simp; omega)]
    exact ih (fun y hy => h y (List.mem_cons_of_mem _ hy)) b
def Tp_every : eh_T := eh_R3 fun q as σ bd K => ∃ (r : Nat) (e : Int) (E P : Nat → Int → Int) (G : List (Int × pu_Rn)) (O : List Int) (y : Int × pu_Rn) (ms0 : List (Int × pu_Rw)) (o : List pu_Rw) (tl : Int), as = [.inl (r : Int), .inl e] ∧ xc_C σ q E P (e + 1) ∧ 0 ≤ e ∧ σ.1 116 0 = q ∧ xa_S σ σ q G O ms0 o tl 0 ∧ G.length ≤ 200 ∧ G[r]? = some y ∧ (∀ z ∈ G, pu_gd P (e + 1) z.2.1) ∧ pu_gd P e y.2.1 ∧ O.length ≤ 1400 ∧ xw_C σ O ∧ o.length ≤ G.length ∧ (0 ≤ tl ∧ tl ≤ 1990000) ∧ ms0.length ≤ 1990000 ∧ (2 * (pu_moves E P y.2.1 y.2.2 e).length ≤ bd.1 ∧ 48 * (pu_moves E P y.2.1 y.2.2 e).length ≤ bd.2) ∧ xv_F σ q P G O ms0 tl (pu_cand E P e y.2) (G.map Prod.snd) o K
theorem cp_every (l : Launch) (D : va_G) (tc : Nat → ClassId) (ad : Nat → Int → Nat) (h99 : ∀ a : Int, ad 99 a = a.toNat) : eh_M l D tc ad eh_LX yX3_every cX3_every 5 none 3 Tp_every := by
  refine eh_mk (rb := 2) (nm := eh_nX) (fl := eh_fl3) (kn := eh_kn3) (cs := (fun kk => match kk with | 138 => some (5, Tp_move) | 142 => some (4, Tw_take) | 146 => some (2, Tp_add) | _ => none)) (ss := (fun _ => none)) (by decide) (eh_worldX h99) eh_fl3_ok eh_kn3_ok (fun kk n T h => by
    split at h
    · cases h; exact eh_callV (c0 := 3) (cp_move l D tc ad h99) q350 q351 q352 q48 q353 (by decide +kernel) (by decide) (by decide) (by decide) rfl (eh_worldX h99) (fun _ _ _ _ h => eh_R3_rec h)
    · cases h; exact eh_callV (c0 := 1) (cw_take l D tc ad h99) q370 q371 q372 q46 q373 (by decide +kernel) (by decide) (by decide) (by decide) rfl (eh_worldX h99) (fun _ _ _ _ h => eh_R1_rec h)
    · cases h; exact eh_callV (c0 := 3) (cp_add l D tc ad h99) q374 q376 qs6 q48 q377 (by decide +kernel) (by decide) (by decide) (by decide) rfl (eh_worldX h99) (fun _ _ _ _ h => eh_R3_rec h)
    · cases h) (fun _ _ _ h => by cases h) ?_
  rintro as σ bd K ⟨q, _, rfl, hq, r, e, E, P, G, O, y, ms0, o, tl, rfl, hC, he, h116, hS, hGl, hy, hgd, hg, hOl, hOC, hol, htl, hms, hbd, hK⟩
  refine ⟨Nat.le_of_ble_eq_true rfl, fun X hX => ?_⟩
  have hn := hC.2.1.1
  have hpo := hC.2.2.2
  have h5 := hpo.1
  have hrl := ls_lt hy
  have htip := pu_gd_tip hg
  have hzb : (0, 0).1 ≤ bd.1 ∧ (0, 0).2 ≤ bd.2 := ⟨Nat.zero_le _, Nat.zero_le _⟩
  have one : ∀ (s : Int) (rest : List Int) (σ' : eh_S) (G' : List (Int × pu_Rn)) (o' : List pu_Rw) (b : Nat × Nat) (f' : Int) (o4 : Option eh_V), s ∈ pu_moves E P y.2.1 y.2.2 e → xv_I σ σ' q e P G G' O ms0 o' tl → (b.1 + 2 * (rest.length + 1) ≤ bd.1 ∧ b.2 + 48 * (rest.length + 1) ≤ bd.2) → xv_F σ q P G O ms0 tl ((s :: rest).map (fun s => (e, s) :: y.2.1)) (G'.map Prod.snd) o' K → (-1 ≤ f' ∧ f' ≤ 6) → (∀ (σ'' : eh_S) (G'' : List (Int × pu_Rn)) (o'' : List pu_Rw) (b' : Nat × Nat) (o4 : Option eh_V), xv_I σ σ'' q e P G G'' O ms0 o'' tl → (b'.1 + 2 * rest.length ≤ bd.1 ∧ b'.2 + 48 * rest.length ≤ bd.2) → xv_F σ q P G O ms0 tl (rest.map (fun s => (e, s) :: y.2.1)) (G''.map Prod.snd) o'' K → X 2 [some (.inr (some (3, q))), some (.inl (r : Int)), some (.inl e), some (.inl f'), o4] [] σ'' b') → Tw_take [.inr (some (1, 0)), .inl e, .inl s, .inl y.1] σ' (0, 0) (fun r_1 σ1 => X 92 [some (.inr (some (3, q))), some (.inl (r : Int)), some (.inl e), some (.inl f'), o4] (r_1.toList ++ [.inr (some (3, q))]) σ1 b) := by
    intro s rest σ' G' o' b f' o4 hsm hI' hroom hF hf' hcont
    obtain ⟨⟨a1, a2, a3, a4, a5, a6, a7, a8, a9⟩, i2, i3, i4, i5, i6⟩ := hI'
    have hgc := pu_gd_cons hg he hsm
    have hsr := pu_moves_s hsm
    have hyG : y ∈ G' := List.mem_of_getElem? (by rw [i4 r hrl]; exact hy)
    have hyr : y.1 ∈ G'.map Prod.fst ++ O := List.mem_append_left _ (List.mem_map.mpr ⟨y, hyG, rfl⟩)
    have hO' := xw_C_k hOC a6
    refine ⟨_, rfl, e, s, y.1, G'.map Prod.fst ++ O, rfl, by omega, by omega, a5, by simp only [List.length_append, List.length_map]; omega, xw_C_G hpo a4 i5 hO', Or.inr hyr, fun _ => xw_ev hg.1 (a4 y hyG) hg.2.1, fun σ1 n hf1 hnr hI1 hw1 hwn => ?_⟩
    have hwn := hwn y.2.1 (a4 y hyG)
    have e116 : σ1.1 116 0 = q := by rw [hf1.1 116 (by decide), a1.1 116 (by decide)]; exact h116
    have e412 : σ1.1 412 q = tl + (o'.length : Int) := by rw [hf1.1 412 (by decide)]; exact a8
    have hfa1 : eh_fr fx_V fx_A σ σ1 := eh_fr_tr a1 (eh_fr_up hf1 (by decide) (by decide))
    have hG1 := xr_G_fr a3 hf1 (by decide) (by decide)
    have hQ1 : xo_Q σ σ1 q := xo_Q_tr a2 (xo_Q_fr hf1 (by decide) (by decide))
    have hm1 := xm_M_fr a7 hf1 (by decide) (by decide)
    refine bX3_every_92 hX (T146 := Tp_add) rfl ⟨by omega, by omega⟩ hq hq (fun hok => ⟨(2, 48), ⟨by omega, by omega⟩, q, _, rfl, hq, n, e + 1, E, P, G', O, (e, s) :: y.2.1, _, rfl, xc_C_fr hC hfa1 (by decide) (by decide), hG1, i2, hwn, hgc, hI1, hOl, hm1, by rw [List.length_append, List.length_map]; omega, by omega, ⟨Nat.le_refl _, Nat.le_refl _⟩, fun h200 σ2 hf2 hQ2 h4 h5' hI2 hw2 => ?_, fun h200 σ2 hf2 hQ2 hG2 hm2 ht2 => ?_⟩)
    · -- spent
      have hmap : (G'.map Prod.snd).length = 200 := by rw [List.length_map]; exact h200
      unfold xv_F at hF
      rw [List.map_cons, pu_adds, if_pos hmap] at hF
      have hfin : K none σ2 := by
        refine hF σ2 [] rfl (fun q => by cases q) ⟨eh_fr_tr hfa1 (eh_fr_up hf2 (by decide) (by decide)), xo_Q_tr hQ1 hQ2, ⟨h4, fun i z hz => by simp at hz⟩, fun z hz => (by cases hz), hI2, fun r' hr row h => hw2 r' hr row (hw1 r' (List.mem_append_right _ hr) row (a6 r' hr row h)), xm_M_fr hm1 hf2 (by decide) (by decide), by rw [hf2.1 412 (by decide)]; exact e412, by rw [h5']; exact (bz_t rfl).symm⟩
      refine bX3_every_95 hX ⟨by dsimp only; omega, by dsimp only; omega⟩ hq (fun hok => ?_)
      exact bX3_every_2 hX (T138 := Tp_move) rfl ⟨by dsimp only; omega, by dsimp only; omega⟩ hq (fun hok => ⟨by omega, fun _ => hfin, fun _ => ⟨fun h => by omega, fun _ => hfin⟩⟩)
    · have hmap : ¬ (G'.map Prod.snd).length = 200 := by rw [List.length_map]; exact h200
      unfold xv_F at hF
      rw [List.map_cons, pu_adds, if_neg hmap] at hF
      rw [e116] at hm2
      have hms2 : xm_M σ2 (ms0 ++ (o' ++ (if pu_wh P (pu_tip ((e, s) :: y.2.1)) = true then [(e, s) :: y.2.1] else [])).map (fun c => (q, c))) := by
        rw [List.map_append, ← List.append_assoc]
        split
        · rename_i hwh
          rw [if_pos hwh] at hm2
          exact hm2
        · rename_i hwh
          rw [if_neg hwh] at hm2
          exact hm2
      have ht2' : σ2.1 412 q = tl + ((o' ++ (if pu_wh P (pu_tip ((e, s) :: y.2.1)) = true then [(e, s) :: y.2.1] else [])).length : Int) := by
        rw [ht2, e412, List.length_append]
        split <;> simp <;> omega
      have hol2 : (o' ++ (if pu_wh P (pu_tip ((e, s) :: y.2.1)) = true then [(e, s) :: y.2.1] else [])).length ≤ o'.length + 1 := by
        rw [List.length_append]
        split <;> simp
      have hl2 : (G' ++ [(n, ((e, s) :: y.2.1, false))]).length = G'.length + 1 := by simp
      refine bX3_every_95 hX ⟨by dsimp only; omega, by dsimp only; omega⟩ hq (fun hok => ?_)
      refine hcont σ2 (G' ++ [(n, ((e, s) :: y.2.1, false))]) _ _ _ ⟨⟨eh_fr_tr hfa1 (eh_fr_up hf2 (by decide) (by decide)), xo_Q_tr hQ1 hQ2, hG2, fun z hz => ?_, ?_, fun r' hr row h => xw_way_fr hf2 (by decide) (hw1 r' (List.mem_append_right _ hr) row (a6 r' hr row h)), hms2, ht2', ?_⟩, by omega, by omega, fun i hi => ?_, fun z hz => ?_, by omega⟩ ⟨by dsimp only; omega, by dsimp only; omega⟩ ?_
      · rcases List.mem_append.mp hz with h | h
        · exact xw_way_fr hf2 (by decide) (hw1 z.1 (List.mem_append_left _ (List.mem_map.mpr ⟨z, h, rfl⟩)) _ (a4 z h))
        · rcases List.mem_cons.mp h with rfl | h
          · exact xw_way_fr hf2 (by decide) hwn
          · cases h
      · refine xw_I_perm (xw_I_fr hI1 hf2 (by decide) (by decide) (by decide)) ?_
        have := xr_perm (A := G') (B := []) (y := (n, ((e, s) :: y.2.1, false))) (O := O)
        rw [List.append_nil] at this
        exact this.symm
      · rw [hf2.1 410 (by decide), hf1.1 410 (by decide)]; exact a9
      · rw [List.getElem?_append_left (by omega)]; exact i4 i hi
      · rcases List.mem_append.mp hz with h | h
        · exact i5 z h
        · rcases List.mem_cons.mp h with rfl | h
          · exact hgc
          · cases h
      · unfold xv_F
        rw [List.map_append]
        exact hF
  have key : ∀ (bl al : List Int) (σ' : eh_S) (G' : List (Int × pu_Rn)) (o' : List pu_Rw) (f : Int) (b : Nat × Nat) (o4 : Option eh_V), pu_mv E P y.2.1 y.2.2 e 6 (pu_tip y.2.1 + 1) false = al ++ bl → (∀ x ∈ al, x < f) → (∀ x ∈ bl, f ≤ x) → (0 ≤ f ∧ f ≤ 6) → xv_I σ σ' q e P G G' O ms0 o' tl → (b.1 + 2 * (bl ++ pu_again E P y.2.1 e).length ≤ bd.1 ∧ b.2 + 48 * (bl ++ pu_again E P y.2.1 e).length ≤ bd.2) → xv_F σ q P G O ms0 tl ((bl ++ pu_again E P y.2.1 e).map (fun s => (e, s) :: y.2.1)) (G'.map Prod.snd) o' K → X 2 [some (.inr (some (3, q))), some (.inl (r : Int)), some (.inl e), some (.inl f), o4] [] σ' b := by
    intro bl
    induction bl with
    | nil =>
      intro al σ' G' o' f b o4 hsp hal hbl hf hI' hroom hF
      have hI2 := hI'
      obtain ⟨⟨a1, a2, a3, a4, a5, a6, a7, a8, a9⟩, i2, i3, i4, i5, i6⟩ := hI'
      have hyG' : G'[r]? = some y := by rw [i4 r hrl]; exact hy
      have hyG : y ∈ G' := List.mem_of_getElem? hyG'
      obtain ⟨s1, s2⟩ := a3.2 r y hyG'
      have hwy := a4 y hyG
      obtain ⟨hwr, hwt⟩ := xw_tip hg.1 hwy
      refine bX3_every_2 hX (T138 := Tp_move) rfl ⟨by omega, by omega⟩ hq (fun hok => ⟨by omega, fun h => by omega, fun _ => ⟨fun _ => ⟨by omega, ?_⟩, fun h => absurd a9 h⟩⟩)
      rw [s1, s2]
      refine ⟨q, _, rfl, hq, y.1, _, e, f, e + 1, y.2.2, E, P, y.2.1, rfl, xc_C_fr hC a1 (by decide) (by decide), eh_fl01_bz _, by omega, hf, pu_gd_up hg (by omega), hwy, ?_⟩
      have hmx : pu_mx E P y.2.1 e f (pu_mv E P y.2.1 y.2.2 e 6 (pu_tip y.2.1 + 1) false) = (if pu_again E P y.2.1 e = [] then -1 else pu_tip y.2.1) := by
        unfold pu_mx
        rw [hsp, ls_find hal]
        rfl
      rw [hmx]
      rw [List.nil_append] at hF hroom
      by_cases hag : pu_again E P y.2.1 e = []
      · rw [if_pos hag]
        rw [hag] at hF
        refine bX3_every_32 hX (T142 := Tw_take) rfl ⟨by omega, by omega⟩ hq (fun hok => ⟨by omega, fun _ => ?_, fun h => absurd rfl h⟩)
        exact hF σ' G' rfl (fun _ => i4) (by
          have := hI2.1
          show xa_S σ σ' q G' O ms0 o' tl (bz (false = true))
          rw [bz_f Bool.false_ne_true]
          exact this)
      · rw [if_neg hag]
        have hage : pu_again E P y.2.1 e = [pu_tip y.2.1] := by
          unfold pu_again at hag ⊢
          split
          · rfl
          · rename_i h; rw [if_neg h] at hag; exact absurd rfl hag
        have hsm : pu_tip y.2.1 ∈ pu_moves E P y.2.1 y.2.2 e := List.mem_append_right _ (by rw [hage]; exact List.mem_cons_self)
        rw [hage] at hF hroom
        refine bX3_every_32 hX (T142 := Tw_take) rfl ⟨by omega, by omega⟩ hq (fun hok => ?_)
        rw [s1, hwt]
        refine ⟨by omega, fun h => by omega, fun _ => ⟨by omega, hwr, fun _ => ?_, fun h => absurd rfl h⟩⟩
        refine one _ [] σ' G' o' b (-1) _ hsm hI2 hroom hF (by omega) (fun σ'' G'' o'' b' o4 hI3 hr3 hF3 => ?_)
        refine bX3_every_2 hX (T138 := Tp_move) rfl ⟨by omega, by omega⟩ hq (fun hok => ⟨by omega, fun _ => ?_, fun h => absurd rfl h⟩)
        exact hF3 σ'' G'' rfl (fun _ => hI3.2.2.2.1) (by
          have := hI3.1
          show xa_S σ σ'' q G'' O ms0 o'' tl (bz (false = true))
          rw [bz_f Bool.false_ne_true]
          exact this)
    | cons s bl ih =>
      intro al σ' G' o' f b o4 hsp hal hbl hf hI' hroom hF
      have hI2 := hI'
      obtain ⟨⟨a1, a2, a3, a4, a5, a6, a7, a8, a9⟩, i2, i3, i4, i5, i6⟩ := hI'
      have hyG' : G'[r]? = some y := by rw [i4 r hrl]; exact hy
      have hyG : y ∈ G' := List.mem_of_getElem? hyG'
      obtain ⟨s1, s2⟩ := a3.2 r y hyG'
      have hwy := a4 y hyG
      obtain ⟨hwr, hwt⟩ := xw_tip hg.1 hwy
      have hsmv : s ∈ pu_mv E P y.2.1 y.2.2 e 6 (pu_tip y.2.1 + 1) false := by rw [hsp]; exact List.mem_append_right _ List.mem_cons_self
      have hsr := pu_mv_mem _ _ _ _ hsmv
      have hrl' := pu_real_le P
      have hasc := pu_mv_asc (E := E) (P := P) (row := y.2.1) (hurt := y.2.2) (e := e) 6 (pu_tip y.2.1 + 1) false
      rw [hsp] at hasc
      have hasc2 := (List.pairwise_append.mp hasc).2.1
      have hgt := (List.pairwise_cons.mp hasc2).1
      refine bX3_every_2 hX (T138 := Tp_move) rfl ⟨by omega, by omega⟩ hq (fun hok => ⟨by omega, fun h => by omega, fun _ => ⟨fun _ => ⟨by omega, ?_⟩, fun h => absurd a9 h⟩⟩)
      rw [s1, s2]
      refine ⟨q, _, rfl, hq, y.1, _, e, f, e + 1, y.2.2, E, P, y.2.1, rfl, xc_C_fr hC a1 (by decide) (by decide), eh_fl01_bz _, by omega, hf, pu_gd_up hg (by omega), hwy, ?_⟩
      have hmx : pu_mx E P y.2.1 e f (pu_mv E P y.2.1 y.2.2 e 6 (pu_tip y.2.1 + 1) false) = s := by
        unfold pu_mx
        rw [hsp, ls_find hal, List.find?_cons_of_pos (by simp; exact hbl s List.mem_cons_self)]
      rw [hmx]
      have hsm : s ∈ pu_moves E P y.2.1 y.2.2 e := List.mem_append_left _ hsmv
      refine bX3_every_32 hX (T142 := Tw_take) rfl ⟨by omega, by omega⟩ hq (fun hok => ?_)
      rw [s1, hwt]
      refine ⟨by omega, fun h => by omega, fun _ => ⟨by omega, hwr, fun h => by omega, fun _ => ?_⟩⟩
      rw [List.cons_append] at hF hroom
      rw [List.length_cons] at hroom
      refine one s (bl ++ pu_again E P y.2.1 e) σ' G' o' b (s + 1) _ hsm hI2 hroom hF (by omega) (fun σ'' G'' o'' b' o4 hI3 hr3 hF3 => ?_)
      refine ih (al ++ [s]) σ'' G'' o'' (s + 1) b' o4 (by rw [hsp]; simp) (fun x hx => ?_) (fun x hx => ?_) (by omega) hI3 hr3 hF3
      · rcases List.mem_append.mp hx with h | h
        · have := hal x h
          have := hbl s List.mem_cons_self
          omega
        · rcases List.mem_cons.mp h with rfl | h
          · omega
          · cases h
      · have := hgt x hx
        omega
  refine bX3_every_0 hX hzb hq (fun hok => ?_)
  refine key (pu_mv E P y.2.1 y.2.2 e 6 (pu_tip y.2.1 + 1) false) [] σ G o 0 (0, 0) _ rfl (fun x hx => by cases hx) (fun x hx => ?_) (by omega) ⟨hS, hGl, Nat.le_refl _, fun _ _ => rfl, hgd, hol⟩ ?_ hK
  · have := (pu_mv_mem _ _ _ _ hx).1.1
    omega
  · have : pu_moves E P y.2.1 y.2.2 e = pu_mv E P y.2.1 y.2.2 e 6 (pu_tip y.2.1 + 1) false ++ pu_again E P y.2.1 e := rfl
    rw [← this]
    dsimp only
    omega
def Tp_next : eh_T := eh_R3 fun q as σ _ K => ∃ (r e : Int) (E P : Nat → Int → Int) (y : Int × pu_Rn) (R : List Int), as = [.inl r, .inl e] ∧ (0 ≤ r ∧ r < 200) ∧ xc_C σ q E P (e + 1) ∧ 0 ≤ e ∧ xr_s σ q r y ∧ pu_gd P e y.2.1 ∧ xw_way σ y.2.1 y.1 ∧ xw_I σ (y.1 :: R) ∧ R.length < 1600 ∧ xw_C σ (y.1 :: R) ∧ (pu_moves E P y.2.1 y.2.2 e = [] → K (some (.inl 0)) σ) ∧ ∀ (s : Int) (t : List Int), pu_moves E P y.2.1 y.2.2 e = s :: t → ∀ (σ' : eh_S) (n : Int), eh_fr [204, 205] [200, 201, 202, 203, 413, 414] σ σ' → (∀ i j, ¬ (i = q ∧ j = r) → σ'.2 413 i j = σ.2 413 i j ∧ σ'.2 414 i j = σ.2 414 i j) → xr_s σ' q r (n, ((e, s) :: y.2.1, false)) → xw_I σ' (n :: R) → (∀ r ∈ R, ∀ row, xw_way σ row r → xw_way σ' row r) → xw_way σ' ((e, s) :: y.2.1) n → K (some (.inl 1)) σ'
theorem cp_next (l : Launch) (D : va_G) (tc : Nat → ClassId) (ad : Nat → Int → Nat) (h99 : ∀ a : Int, ad 99 a = a.toNat) : eh_M l D tc ad eh_LX yX3_next cX3_next 5 (some .boolean) 3 Tp_next := by
  refine eh_mk (rb := 1) (nm := eh_nX) (fl := eh_fl3) (kn := eh_kn3) (cs := (fun kk => match kk with | 120 => some (2, Tw_leave) | 138 => some (5, Tp_move) | 142 => some (4, Tw_take) | _ => none)) (ss := (fun _ => none)) (by decide) (eh_worldX h99) eh_fl3_ok eh_kn3_ok (fun kk n T h => by
    split at h
    · cases h; exact eh_callV (c0 := 1) (cw_leave l D tc ad h99) q338 q339 q340 q46 q341 (by decide +kernel) (by decide) (by decide) (by decide) rfl (eh_worldX h99) (fun _ _ _ _ h => eh_R1_rec h)
    · cases h; exact eh_callV (c0 := 3) (cp_move l D tc ad h99) q350 q351 q352 q48 q353 (by decide +kernel) (by decide) (by decide) (by decide) rfl (eh_worldX h99) (fun _ _ _ _ h => eh_R3_rec h)
    · cases h; exact eh_callV (c0 := 1) (cw_take l D tc ad h99) q370 q371 q372 q46 q373 (by decide +kernel) (by decide) (by decide) (by decide) rfl (eh_worldX h99) (fun _ _ _ _ h => eh_R1_rec h)
    · cases h) (fun _ _ _ h => by cases h) ?_
  rintro as σ bd K ⟨q, _, rfl, hq, r, e, E, P, y, R, rfl, hr, hC, he, ⟨s1, s2⟩, hg, hw, hI, hRl, hRC, hK0, hK1⟩
  refine ⟨Nat.le_of_ble_eq_true rfl, fun X hX => ?_⟩
  have hn := hC.2.1.1
  have hpo := hC.2.2.2
  have h5 := hpo.1
  have htip := pu_gd_tip hg
  refine bX3_next_0 hX (T138 := Tp_move) rfl hq (fun hok => ⟨hr, ?_⟩)
  rw [s1, s2]
  refine ⟨q, _, rfl, hq, y.1, _, e, 0, e + 1, y.2.2, E, P, y.2.1, rfl, hC, eh_fl01_bz _, by omega, by omega, pu_gd_up hg (by omega), hw, ?_⟩
  have hmv : pu_moves E P y.2.1 y.2.2 e = pu_mv E P y.2.1 y.2.2 e 6 (pu_tip y.2.1 + 1) false ++ pu_again E P y.2.1 e := rfl
  have hmx : (pu_moves E P y.2.1 y.2.2 e = [] → pu_mx E P y.2.1 e 0 (pu_mv E P y.2.1 y.2.2 e 6 (pu_tip y.2.1 + 1) false) = -1) ∧ ∀ s t, pu_moves E P y.2.1 y.2.2 e = s :: t → pu_mx E P y.2.1 e 0 (pu_mv E P y.2.1 y.2.2 e 6 (pu_tip y.2.1 + 1) false) = s := by
    rw [hmv]
    cases hl : pu_mv E P y.2.1 y.2.2 e 6 (pu_tip y.2.1 + 1) false with
    | nil =>
      refine ⟨fun h => ?_, fun s t h => ?_⟩
      · rw [List.nil_append] at h
        show (if pu_again E P y.2.1 e = [] then (-1 : Int) else pu_tip y.2.1) = -1
        rw [if_pos h]
      · rw [List.nil_append] at h
        show (if pu_again E P y.2.1 e = [] then (-1 : Int) else pu_tip y.2.1) = s
        rw [if_neg (by rw [h]; simp)]
        unfold pu_again at h
        split at h
        · cases h; rfl
        · cases h
    | cons s l =>
      have hs := (pu_mv_mem (E := E) (P := P) (row := y.2.1) (hurt := y.2.2) (e := e) 6 (pu_tip y.2.1 + 1) false s (by rw [hl]; exact List.mem_cons_self)).1
      refine ⟨fun h => by simp at h, fun s' t h => ?_⟩
      rw [List.cons_append] at h
      cases h
      unfold pu_mx
      rw [List.find?_cons_of_pos (by simp; omega)]
  generalize pu_mx E P y.2.1 e 0 (pu_mv E P y.2.1 y.2.2 e 6 (pu_tip y.2.1 + 1) false) = s0 at hmx
  cases hms : pu_moves E P y.2.1 y.2.2 e with
  | nil =>
    have := hmx.1 hms
    exact bX3_next_18 hX (T142 := Tw_take) rfl hq (fun hok => ⟨by omega, fun _ => hK0 hms, fun h => absurd this h⟩)
  | cons s t =>
    have hs0 := hmx.2 s t hms
    subst hs0
    have hsm : s0 ∈ pu_moves E P y.2.1 y.2.2 e := by rw [hms]; exact List.mem_cons_self
    have hsr := pu_moves_s hsm
    refine bX3_next_18 hX (T142 := Tw_take) rfl hq (fun hok => ⟨by omega, fun h => by omega, fun _ => ⟨hr, ?_⟩⟩)
    rw [s1]
    refine ⟨_, rfl, e, s0, y.1, y.1 :: R, rfl, by omega, by omega, hI, by rw [List.length_cons]; omega, hRC, Or.inr List.mem_cons_self, fun _ => xw_ev hg.1 hw hg.2.1, fun σ1 n hf1 hnr hI1 hw1 hwn => ?_⟩
    have hwn := hwn y.2.1 hw
    refine bX3_next_53 hX (T120 := Tw_leave) rfl hq hq (fun hok => ⟨hr, by omega, ?_⟩)
    have hf2 : eh_fr [] [413] σ1 (eh_sA σ1 413 q r n) := eh_fr_sA eh_fr_rf (by decide)
    refine ⟨_, rfl, y.1, n :: R, rfl, xw_I_perm (xw_I_fr hI1 hf2 (by decide) (by decide) (by decide)) (List.Perm.swap _ _ _), by rw [List.length_cons]; omega, fun σ3 hf3 hI3 hw3 => ?_⟩
    refine bX3_next_66 hX hq (fun hok => ⟨hr, ?_⟩)
    have hf4 : eh_fr [] [414] σ3 (eh_sA σ3 414 q r 0) := eh_fr_sA eh_fr_rf (by decide)
    refine hK1 s0 t hms _ n (eh_fr_tr (eh_fr_up hf1 (by decide) (by decide)) (eh_fr_tr (eh_fr_up hf2 (by decide) (by decide)) (eh_fr_tr (eh_fr_up hf3 (by decide) (by decide)) (eh_fr_up hf4 (by decide) (by decide))))) (fun i j hij => ⟨?_, ?_⟩) ⟨?_, ?_⟩ (xw_I_fr hI3 hf4 (by decide) (by decide) (by decide)) (fun r' hr' row h => xw_way_fr hf4 (by decide) (hw3 r' (List.mem_cons_of_mem _ hr') row (xw_way_fr hf2 (by decide) (hw1 r' (List.mem_cons_of_mem _ hr') row h)))) (xw_way_fr hf4 (by decide) (hw3 n List.mem_cons_self _ (xw_way_fr hf2 (by decide) hwn)))
    · rw [eh_sA_c (by decide), hf3.2 413 (by decide)]
      show (if 413 = 413 ∧ i = q ∧ j = r then n else σ1.2 413 i j) = _
      rw [if_neg (fun h => hij h.2), hf1.2 413 (by decide)]
    · show (if 414 = 414 ∧ i = q ∧ j = r then 0 else σ3.2 414 i j) = _
      rw [if_neg (fun h => hij h.2), hf3.2 414 (by decide), hf2.2 414 (by decide), hf1.2 414 (by decide)]
    · rw [eh_sA_c (by decide), hf3.2 413 (by decide), eh_sA_p]
    · rw [eh_sA_p]
      exact (bz_f Bool.false_ne_true).symm
