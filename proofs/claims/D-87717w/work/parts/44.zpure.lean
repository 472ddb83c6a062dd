/-! what z may be, call by call -/
theorem pu_adds_ok {P : Nat → Int → Int} {n : Int} : ∀ (cs : List pu_Rw) (st : List pu_Rn × List pu_Rw), (∀ c ∈ cs, pu_gd P n c) → (∀ x ∈ st.1, pu_gd P n x.1) → (∀ c ∈ st.2, pu_gd P n c) → (∀ x ∈ (pu_adds P cs st).1, pu_gd P n x.1) ∧ ∀ c ∈ (pu_adds P cs st).2.1, pu_gd P n c := by
  intro cs
  induction cs with
  | nil => intro st _ h1 h2; exact ⟨h1, h2⟩
  | cons c cs ih =>
    intro st h0 h1 h2
    rw [pu_adds]
    split
    · exact ⟨fun x hx => (by cases hx), h2⟩
    · refine ih _ (fun c' hc' => h0 c' (List.mem_cons_of_mem _ hc')) (fun x hx => ?_) (fun c' hc' => ?_)
      · rcases List.mem_append.mp hx with h | h
        · exact h1 x h
        · rcases List.mem_cons.mp h with rfl | h
          · exact h0 c List.mem_cons_self
          · cases h
      · rcases List.mem_append.mp hc' with h | h
        · exact h2 c' h
        · split at h
          · rcases List.mem_cons.mp h with rfl | h
            · exact h0 _ List.mem_cons_self
            · cases h
          · cases h
theorem pu_cand_ok {E P : Nat → Int → Int} {e : Int} {x : pu_Rn} (he : 0 ≤ e) (hx : pu_gd P e x.1) : ∀ c ∈ pu_cand E P e x, pu_gd P (e + 1) c := by
  intro c hc
  obtain ⟨s, hs, rfl⟩ := List.mem_map.mp hc
  exact pu_gd_cons hx he hs
theorem pu_ask_ok {E P : Nat → Int → Int} {e : Int} {r : Nat} {x : pu_Rn} {st : List pu_Rn × List pu_Rw} (he : 0 ≤ e) (hx : pu_gd P e x.1) (h1 : ∀ x ∈ st.1, pu_gd P (e + 1) x.1) (h2 : ∀ c ∈ st.2, pu_gd P (e + 1) c) : (∀ y ∈ (pu_ask E P e r x st).1, pu_gd P (e + 1) y.1) ∧ ∀ c ∈ (pu_ask E P e r x st).2.1, pu_gd P (e + 1) c := by
  unfold pu_ask
  split
  · obtain ⟨a1, a2⟩ := pu_adds_ok (pu_cand E P e x) st (pu_cand_ok (E := E) he hx) h1 h2
    dsimp only
    split
    · exact ⟨a1, a2⟩
    · split
      · refine ⟨fun y hy => ?_, a2⟩
        rcases List.mem_or_eq_of_mem_set hy with h | h
        · exact a1 y h
        · rw [h]; exact pu_gd_up hx (by omega)
      · exact ⟨a1, a2⟩
  · exact ⟨h1, h2⟩
theorem pu_ev_ok {E P : Nat → Int → Int} {e : Int} (he : 0 ≤ e) : ∀ (k r : Nat) (st : List pu_Rn × List pu_Rw), st.1.length ≤ 200 → st.2.length ≤ st.1.length → (∀ x ∈ st.1, pu_gd P (e + 1) x.1) → (∀ c ∈ st.2, pu_gd P (e + 1) c) → r + k ≤ st.1.length → (∀ (i : Nat) (x : pu_Rn), r ≤ i → i < r + k → st.1[i]? = some x → pu_gd P e x.1) → (∀ x ∈ (pu_ev E P e k r st).1, pu_gd P (e + 1) x.1) ∧ (∀ c ∈ (pu_ev E P e k r st).2.1, pu_gd P (e + 1) c) ∧ (pu_ev E P e k r st).1.length ≤ 200 ∧ (pu_ev E P e k r st).2.1.length ≤ 200 := by
  intro k
  induction k with
  | zero => intro r st h1 h2 h3 h4 _ _; exact ⟨h3, h4, h1, by show st.2.length ≤ 200; omega⟩
  | succ k ih =>
    intro r st h1 h2 h3 h4 h5 h6
    rw [pu_ev]
    cases hx : st.1[r]? with
    | none => exact ⟨h3, h4, h1, by show st.2.length ≤ 200; omega⟩
    | some x =>
      dsimp only
      have hgx := h6 r x (Nat.le_refl _) (by omega) hx
      obtain ⟨a1, a2⟩ := pu_ask_ok (E := E) (r := r) (st := st) he hgx h3 h4
      obtain ⟨q1, q2, q3, q4⟩ := pu_ask_keep (E := E) (P := P) (e := e) (r := r) (x := x) (st := st) h1 h2
      split
      · exact ⟨a1, a2, q2, q1⟩
      · rename_i hs
        obtain ⟨w1, w2, w3⟩ := q4 (by simpa using hs)
        refine ih (r + 1) _ q2 w1 a1 a2 (by dsimp only; omega) (fun i y hi0 hi1 hy => ?_)
        dsimp only at hy
        rw [w3 i (by omega) (by omega)] at hy
        exact h6 i y (by omega) (by omega) hy
theorem pu_first1_ok {E P : Nat → Int → Int} {e : Int} {L : List pu_Rn} {o : List pu_Rw} (hp : pu_pok P) (h5 : 0 < P 5 0) (he : 0 ≤ e) (hl : L.length ≤ 200) (h1 : ∀ x ∈ L, pu_gd P (e + 1) x.1) (h2 : ∀ c ∈ o, pu_gd P (e + 1) c) (ho : o.length ≤ 200) : pu_Lok P (e + 1) (pu_first1 E P e L o).1 ∧ (∀ c ∈ (pu_first1 E P e L o).2.1, pu_gd P (e + 1) c) ∧ (pu_first1 E P e L o).2.1.length ≤ 201 := by
  have hn := pu_gd_new (P := P) hp h5 he
  have hadd : ∀ x ∈ L ++ [([(e, (0 : Int))], false)], pu_gd P (e + 1) x.1 := fun x hx => by
    rcases List.mem_append.mp hx with h | h
    · exact h1 x h
    · rcases List.mem_cons.mp h with rfl | h
      · exact hn
      · cases h
  unfold pu_first1
  split
  · split
    · exact ⟨⟨Nat.zero_le _, fun x hx => by cases hx⟩, h2, by dsimp only; omega⟩
    · split
      · refine ⟨⟨?_, ?_⟩, fun c hc => ?_, by dsimp only; rw [List.length_append]; simp; omega⟩
        · dsimp only
          split
          · exact hl
          · rw [List.length_append]; simp; omega
        · dsimp only
          split
          · exact h1
          · exact hadd
        · rcases List.mem_append.mp hc with h | h
          · exact h2 c h
          · rcases List.mem_cons.mp h with rfl | h
            · exact hn
            · cases h
      · exact ⟨⟨by dsimp only; rw [List.length_append]; simp; omega, hadd⟩, h2, by dsimp only; omega⟩
  · exact ⟨⟨hl, h1⟩, h2, by dsimp only; omega⟩
theorem pu_nx_ok {E P : Nat → Int → Int} {e : Int} {x : pu_Rn} (he : 0 ≤ e) (hx : pu_gd P e x.1) : (∀ y, (pu_nx E P e x).1 = some y → pu_gd P (e + 1) y.1) ∧ ∀ c, (pu_nx E P e x).2 = some c → pu_gd P (e + 1) c := by
  unfold pu_nx
  split
  · cases hm : pu_moves E P x.1 x.2 e with
    | nil =>
      dsimp only
      refine ⟨fun y hy => ?_, fun c hc => by cases hc⟩
      cases hy
      exact pu_gd_up hx (by omega)
    | cons s t =>
      dsimp only
      have hg := pu_gd_cons hx he (show s ∈ pu_moves E P x.1 x.2 e by rw [hm]; exact List.mem_cons_self)
      split
      · refine ⟨fun y hy => (by cases hy), fun c hc => ?_⟩
        cases hc
        exact hg
      · refine ⟨fun y hy => ?_, fun c hc => by cases hc⟩
        cases hy
        exact hg
  · refine ⟨fun y hy => ?_, fun c hc => by cases hc⟩
    cases hy
    exact pu_gd_up hx (by omega)
theorem pu_come_ok {E P : Nat → Int → Int} {e : Int} {L : List pu_Rn} (hp : pu_pok P) (h5 : 0 < P 5 0) (he : 0 ≤ e) (hL : pu_Lok P e L) : pu_Lok P (e + 1) (pu_come E P e L).1 ∧ (∀ c ∈ (pu_come E P e L).2.1, pu_gd P (e + 1) c) ∧ (pu_come E P e L).2.1.length ≤ 201 := by
  have h0 : (L.filter (pu_young E P e)).length ≤ 200 := Nat.le_trans (List.length_filter_le _ _) hL.1
  have hg : ∀ x ∈ L.filter (pu_young E P e), pu_gd P e x.1 := fun x hx => hL.2 x (List.mem_filter.mp hx).1
  unfold pu_come
  dsimp only
  split
  · refine pu_first1_ok hp h5 he ?_ (fun x hx => ?_) (fun c hc => ?_) ?_
    · exact Nat.le_trans (List.length_filterMap_le _ _) h0
    · obtain ⟨y, hy, hyx⟩ := List.mem_filterMap.mp hx
      exact (pu_nx_ok he (hg y hy)).1 x hyx
    · obtain ⟨y, hy, hyx⟩ := List.mem_filterMap.mp hc
      exact (pu_nx_ok he (hg y hy)).2 c hyx
    · exact Nat.le_trans (List.length_filterMap_le _ _) h0
  · obtain ⟨a1, a2, a3, a4⟩ := pu_ev_ok (E := E) (P := P) he (L.filter (pu_young E P e)).length 0 (L.filter (pu_young E P e), []) h0 (Nat.zero_le _) (fun x hx => pu_gd_up (hg x hx) (by omega)) (fun c hc => by cases hc) (by dsimp only; omega) (fun i x _ _ hx => hg x (List.mem_of_getElem? hx))
    split
    · exact ⟨⟨a3, a1⟩, a2, by omega⟩
    · exact pu_first1_ok hp h5 he a3 a1 a2 a4
/-- z while an event comes to the patterns: those below p have had it -/
def pz_okE0 (z : pz_Z) : Prop := (0 ≤ z.1.1 0 0 ∧ z.1.1 0 0 ≤ z.1.1 1 0 ∧ z.1.1 1 0 ≤ 1000 ∧ z.1.1 1 0 - z.1.1 0 0 ≤ 100) ∧ (0 ≤ z.1.1 4 0 ∧ z.1.1 4 0 ≤ 8) ∧ (0 ≤ z.1.1 3 0 ∧ z.1.1 3 0 ≤ 200000) ∧ pu_eok (pz_E z) (z.1.1 1 0) ∧
  (∀ i j, z.1.1 0 0 ≤ i → i < j → j < z.1.1 1 0 → z.1.2 1 0 i < z.1.2 1 0 j ∨ z.1.2 1 0 i = z.1.2 1 0 j ∧ z.1.2 4 0 i < z.1.2 4 0 j)
def pz_okPm (z : pz_Z) (p : Int) : Prop := ∀ q, 0 ≤ q → q < 8 → pu_pok (pz_P z q) ∧ (∀ j, 0 ≤ j → j < z.1.2 15 q 0 → 0 ≤ z.1.2 13 q j ∧ z.1.2 13 q j ≤ 3) ∧ (0 ≤ z.1.2 19 q 0 ∧ z.1.2 19 q 0 ≤ z.1.1 0 0) ∧ (z.1.2 20 q 0 = 0 ∨ z.1.2 20 q 0 = 1) ∧ (z.1.2 21 q 0 = 0 ∨ z.1.2 21 q 0 = 1) ∧ (0 ≤ z.1.2 22 q 0 ∧ z.1.2 22 q 0 ≤ 201 * (if q < p then z.1.1 0 0 else z.1.1 0 0 - 1)) ∧ pu_Lok (pz_P z q) (if q < p then z.1.1 0 0 else z.1.1 0 0 - 1) (z.2.1 q) ∧ (z.1.2 20 q 0 = 0 → z.2.1 q = []) ∧ (z.1.2 20 q 0 ≠ 0 → 0 < z.1.2 15 q 0) ∧ (z.1.1 4 0 ≤ q → z.1.2 15 q 0 = 0 ∧ z.1.2 20 q 0 = 0 ∧ z.1.2 21 q 0 = 0 ∧ z.1.2 22 q 0 = 0)
def pz_okMm (z : pz_Z) (p : Int) : Prop := (z.2.2.length : Int) ≤ 1608 * (z.1.1 0 0 - 1) + 201 * p ∧ ∀ x ∈ z.2.2, (0 ≤ x.1 ∧ x.1 < 8) ∧ x.2 ≠ [] ∧ x.2.length ≤ 24 ∧ ∀ q ∈ x.2, (0 ≤ q.1 ∧ q.1 < z.1.1 0 0) ∧ (0 ≤ q.2 ∧ q.2 < 6)
def pz_okm (z : pz_Z) (p : Int) : Prop := 1 ≤ z.1.1 0 0 ∧ pz_okE0 z ∧ pz_okPm z p ∧ pz_okMm z p
theorem pz_patA {z : pz_Z} {e p : Int} : (pz_pat e p z).1.1 = z.1.1 ∧ ∀ c, c ≠ 20 → c ≠ 21 → c ≠ 22 → (pz_pat e p z).1.2 c = z.1.2 c := by
  unfold pz_pat
  by_cases h1 : z.1.2 15 p 0 = 0
  · rw [pz_if_t h1]; exact ⟨rfl, fun _ _ _ _ => rfl⟩
  · rw [pz_if_f h1]
    by_cases h2 : z.1.2 21 p 0 ≠ 0
    · rw [pz_if_t h2]; exact ⟨rfl, fun c a _ _ => eh_sA_c a⟩
    · rw [pz_if_f h2]
      unfold pz_patS
      exact ⟨rfl, fun c a b d => by dsimp only; rw [eh_sA_c d, eh_sA_c b, eh_sA_c a]⟩
theorem pz_patQ {z : pz_Z} {e p q : Int} (h : q ≠ p) : (∀ c, (pz_pat e p z).1.2 c q = z.1.2 c q) ∧ (pz_pat e p z).2.1 q = z.2.1 q := by
  unfold pz_pat
  by_cases h1 : z.1.2 15 p 0 = 0
  · rw [pz_if_t h1]; exact ⟨fun _ => rfl, rfl⟩
  · rw [pz_if_f h1]
    by_cases h2 : z.1.2 21 p 0 ≠ 0
    · rw [pz_if_t h2]; exact ⟨fun c => eh_sA_r (fun a => h a.2), rfl⟩
    · rw [pz_if_f h2]
      unfold pz_patS
      refine ⟨fun c => by dsimp only; rw [eh_sA_r (fun a => h a.2), eh_sA_r (fun a => h a.2), eh_sA_r (fun a => h a.2)], ?_⟩
      dsimp only
      rw [if_neg h]
theorem pz_pat_ok {z : pz_Z} {p : Int} (h : pz_okm z p) (hp : 0 ≤ p ∧ p < 8) : pz_okm (pz_pat (z.1.1 0 0 - 1) p z) (p + 1) := by
  obtain ⟨h1, hE, hP, hM⟩ := h
  obtain ⟨v, w⟩ := pz_patA (z := z) (e := z.1.1 0 0 - 1) (p := p)
  have e1 : (pz_pat (z.1.1 0 0 - 1) p z).1.1 0 0 = z.1.1 0 0 := by rw [v]
  have hPz : ∀ q, pz_P (pz_pat (z.1.1 0 0 - 1) p z) q 0 = pz_P z q 0 ∧ True := fun q => ⟨by unfold pz_P; rw [w 10 (by decide) (by decide) (by decide)], trivial⟩
  have hPP : ∀ q id, id ≤ 9 → pz_P (pz_pat (z.1.1 0 0 - 1) p z) q id = pz_P z q id := fun q id hid => by unfold pz_P; rw [w (10 + id) (by omega) (by omega) (by omega)]
  have hpok : ∀ q, pu_pok (pz_P z q) → pu_pok (pz_P (pz_pat (z.1.1 0 0 - 1) p z) q) := fun q hq => by
    unfold pu_pok
    rw [hPP q 0 (by omega), hPP q 1 (by omega), hPP q 2 (by omega), hPP q 3 (by omega), hPP q 4 (by omega), hPP q 5 (by omega), hPP q 6 (by omega), hPP q 7 (by omega), hPP q 8 (by omega)]
    exact hq
  have hgdP : ∀ q n row, pu_gd (pz_P z q) n row → pu_gd (pz_P (pz_pat (z.1.1 0 0 - 1) p z) q) n row := fun q n row hq => by
    unfold pu_gd
    rw [hPP q 0 (by omega), hPP q 5 (by omega)]
    exact hq
  have hLokP : ∀ q n L, pu_Lok (pz_P z q) n L → pu_Lok (pz_P (pz_pat (z.1.1 0 0 - 1) p z) q) n L := fun q n L hq => ⟨hq.1, fun x hx => hgdP q n _ (hq.2 x hx)⟩
  have w15 := w 15 (by decide) (by decide) (by decide)
  refine ⟨by omega, ?_, fun q h0 h8 => ?_, ?_⟩
  · unfold pz_okE0
    have hEE : pu_eok (pz_E (pz_pat (z.1.1 0 0 - 1) p z)) (z.1.1 1 0) := by
      unfold pu_eok pz_E
      rw [w 0 (by decide) (by decide) (by decide), w 1 (by decide) (by decide) (by decide), w 3 (by decide) (by decide) (by decide)]
      exact hE.2.2.2.1
    rw [v, w 1 (by decide) (by decide) (by decide), w 4 (by decide) (by decide) (by decide)]
    exact ⟨hE.1, hE.2.1, hE.2.2.1, hEE, hE.2.2.2.2⟩
  · obtain ⟨c1, c2, c3, c4, c5, c6, c7, c8, c9, c10⟩ := hP q h0 h8
    rw [e1, v, w15, w 13 (by decide) (by decide) (by decide), w 19 (by decide) (by decide) (by decide)]
    by_cases hqp : q = p
    · subst hqp
      rw [if_neg (by omega)] at c6 c7
      rw [if_pos (by omega)]
      unfold pz_pat
      by_cases k1 : z.1.2 15 q 0 = 0
      · rw [pz_if_t k1]
        have := c9
        exact ⟨c1, c2, c3, c4, c5, by omega, pu_Lok_up c7 (by omega), c8, c9, c10⟩
      · rw [pz_if_f k1]
        by_cases k2 : z.1.2 21 q 0 ≠ 0
        · have k3 : (pz_pat (z.1.1 0 0 - 1) q z) = (eh_sA z.1 20 q 0 1, z.2) := by unfold pz_pat; rw [pz_if_f k1, pz_if_t k2]
          have d1 := hpok q c1
          have d7 := hLokP q _ _ c7
          rw [k3] at d1 d7
          rw [pz_if_t k2]
          refine ⟨d1, c2, c3, ?_, ?_, ?_, pu_Lok_up d7 (by omega), fun h => ?_, fun _ => by have : 0 ≤ z.1.2 15 q 0 := c1.1.1; omega, fun h => ?_⟩
          · rw [eh_sA_p]; exact Or.inr rfl
          · rw [eh_sA_c (by decide)]; exact c5
          · rw [eh_sA_c (by decide)]; omega
          · rw [eh_sA_p] at h; omega
          · have := c10 h; omega
        · have k3 : (pz_pat (z.1.1 0 0 - 1) q z) = pz_patS (z.1.1 0 0 - 1) q z := by unfold pz_pat; rw [pz_if_f k1, pz_if_f k2]
          have d1 := hpok q c1
          have hc := pu_come_ok (E := pz_E z) (P := pz_P z q) (e := z.1.1 0 0 - 1) (L := z.2.1 q) c1 (show 0 < z.1.2 15 q 0 by have : 0 ≤ z.1.2 15 q 0 := c1.1.1; omega) (by omega) c7
          rw [show z.1.1 0 0 - 1 + 1 = z.1.1 0 0 by omega] at hc
          have d7 := hLokP q _ _ hc.1
          rw [k3] at d1 d7
          rw [pz_if_f k2]
          refine ⟨d1, c2, c3, ?_, ?_, ?_, ?_, fun h => ?_, fun _ => ?_, fun h => ?_⟩
          · unfold pz_patS; dsimp only; rw [eh_sA_c (by decide), eh_sA_c (by decide), eh_sA_p]; exact Or.inr rfl
          · unfold pz_patS; dsimp only; rw [eh_sA_c (by decide), eh_sA_p]; exact bz_01 _
          · unfold pz_patS; dsimp only; rw [eh_sA_p]
            have := hc.2.2
            omega
          · have e7 : (pz_patS (z.1.1 0 0 - 1) q z).2.1 q = (pu_come (pz_E z) (pz_P z q) (z.1.1 0 0 - 1) (z.2.1 q)).1 := by unfold pz_patS; dsimp only; rw [if_pos rfl]
            rw [e7]; exact d7
          · unfold pz_patS at h; dsimp only at h; rw [eh_sA_c (by decide), eh_sA_c (by decide), eh_sA_p] at h; omega
          · have : 0 ≤ z.1.2 15 q 0 := c1.1.1
            omega
          · have := c10 h; omega
    · obtain ⟨x1, x2⟩ := pz_patQ (z := z) (e := z.1.1 0 0 - 1) (p := p) hqp
      rw [x1 20, x1 21, x1 22, x2]
      have hif : (if q < p + 1 then z.1.1 0 0 else z.1.1 0 0 - 1) = (if q < p then z.1.1 0 0 else z.1.1 0 0 - 1) := by
        by_cases h3 : q < p
        · rw [if_pos h3, if_pos (by omega)]
        · rw [if_neg h3, if_neg (by omega)]
      rw [hif]
      exact ⟨hpok q c1, c2, c3, c4, c5, c6, hLokP q _ _ c7, c8, c9, c10⟩
  · unfold pz_okMm
    rw [e1]
    obtain ⟨m1, m2⟩ := hM
    obtain ⟨c1, c2, c3, c4, c5, c6, c7, c8, c9, c10⟩ := hP p hp.1 hp.2
    unfold pz_pat
    by_cases k1 : z.1.2 15 p 0 = 0
    · rw [pz_if_t k1]; exact ⟨by omega, m2⟩
    · rw [pz_if_f k1]
      by_cases k2 : z.1.2 21 p 0 ≠ 0
      · rw [pz_if_t k2]; exact ⟨by dsimp only; omega, m2⟩
      · rw [pz_if_f k2]
        rw [if_neg (by omega)] at c7
        have hc := pu_come_ok (E := pz_E z) (P := pz_P z p) (e := z.1.1 0 0 - 1) (L := z.2.1 p) c1 (show 0 < z.1.2 15 p 0 by have : 0 ≤ z.1.2 15 p 0 := c1.1.1; omega) (by omega) c7
        rw [show z.1.1 0 0 - 1 + 1 = z.1.1 0 0 by omega] at hc
        unfold pz_patS
        dsimp only
        refine ⟨?_, fun x hx => ?_⟩
        · rw [List.length_append, List.length_map]
          have := hc.2.2
          omega
        · rcases List.mem_append.mp hx with h | h
          · exact m2 x h
          · obtain ⟨c, hcm, rfl⟩ := List.mem_map.mp h
            have hg := hc.2.1 c hcm
            refine ⟨hp, hg.1, (pu_gd_len hg c1).2, fun y hy => ?_⟩
            have := pu_rok_mem hg.2.1 hy
            have h6 := c1.1.2
            exact ⟨this.1, by omega⟩
theorem pz_pats_ok {z : pz_Z} : ∀ (k : Nat) (p : Int) (z : pz_Z), pz_okm z p → 0 ≤ p → p + k ≤ 8 → pz_okm (pz_pats (z.1.1 0 0 - 1) k p z) (p + k) ∧ (pz_pats (z.1.1 0 0 - 1) k p z).1.1 = z.1.1 ∧ ∀ c, c ≠ 20 → c ≠ 21 → c ≠ 22 → (pz_pats (z.1.1 0 0 - 1) k p z).1.2 c = z.1.2 c := by
  intro k
  induction k with
  | zero => intro p z h _ _; rw [pz_pats]; exact ⟨by simpa using h, rfl, fun _ _ _ _ => rfl⟩
  | succ k ih =>
    intro p z h h0 h8
    rw [pz_pats]
    obtain ⟨v, w⟩ := pz_patA (z := z) (e := z.1.1 0 0 - 1) (p := p)
    have hh := pz_pat_ok h ⟨h0, by omega⟩
    have := ih (p + 1) _ hh (by omega) (by omega)
    rw [v] at this
    obtain ⟨a, b, c⟩ := this
    refine ⟨?_, b, fun c' x1 x2 x3 => by rw [c c' x1 x2 x3, w c' x1 x2 x3]⟩
    rw [show p + ((k + 1 : Nat) : Int) = p + 1 + (k : Int) by omega]
    exact a
def pz_ok0 (z : pz_Z) : Prop := pz_okE0 z ∧ pz_okP z ∧ pz_okM z
theorem pz_ev_ok {z : pz_Z} (h : pz_ok0 z) (hw : z.1.1 0 0 < z.1.1 1 0) : pz_ok0 (pz_ev z) ∧ (pz_ev z).1.1 0 0 = z.1.1 0 0 + 1 ∧ (∀ v, v ≠ 0 → (pz_ev z).1.1 v = z.1.1 v) ∧ ∀ c, c ≠ 20 → c ≠ 21 → c ≠ 22 → (pz_ev z).1.2 c = z.1.2 c := by
  obtain ⟨hE, hP, hM⟩ := h
  have e0 : ((eh_sV z.1 0 0 (z.1.1 0 0 + 1), z.2) : pz_Z).1.1 0 0 = z.1.1 0 0 + 1 := eh_sV_p
  have ev : ∀ v, v ≠ 0 → ((eh_sV z.1 0 0 (z.1.1 0 0 + 1), z.2) : pz_Z).1.1 v = z.1.1 v := fun v hv => eh_sV_v hv
  have hnp := hE.2.1
  have hm : pz_okm (eh_sV z.1 0 0 (z.1.1 0 0 + 1), z.2) 0 := by
    refine ⟨by rw [e0]; have := hE.1; omega, ?_, fun q h0 h8 => ?_, ?_⟩
    · unfold pz_okE0
      rw [e0, ev 1 (by decide), ev 3 (by decide), ev 4 (by decide)]
      exact ⟨by have := hE.1; omega, hE.2.1, hE.2.2.1, hE.2.2.2.1, fun i j a b c => hE.2.2.2.2 i j (by omega) b c⟩
    · obtain ⟨c1, c2, c3, c4, c5, c6, c7, c8, c9, c10⟩ := hP q h0 h8
      rw [e0, ev 4 (by decide), if_neg (by omega), show z.1.1 0 0 + 1 - 1 = z.1.1 0 0 by omega]
      exact ⟨c1, c2, ⟨c3.1, by have := c3.2; show z.1.2 19 q 0 ≤ z.1.1 0 0 + 1; omega⟩, c4, c5, c6, c7, c8, c9, c10⟩
    · refine ⟨by rw [e0]; have := hM.1; dsimp only; omega, fun x hx => ?_⟩
      obtain ⟨b1, b2, b3, b4⟩ := hM.2 x hx
      refine ⟨b1, b2, b3, fun y hy => ?_⟩
      rw [e0]
      have := b4 y hy
      exact ⟨by omega, this.2⟩
  have hpp := pz_pats_ok (z := z) (z.1.1 4 0).toNat 0 _ hm (Int.le_refl _) (by omega)
  have e1 : pz_pats (((eh_sV z.1 0 0 (z.1.1 0 0 + 1), z.2) : pz_Z).1.1 0 0 - 1) (z.1.1 4 0).toNat 0 (eh_sV z.1 0 0 (z.1.1 0 0 + 1), z.2) = pz_ev z := by
    unfold pz_ev
    rw [e0, show z.1.1 0 0 + 1 - 1 = z.1.1 0 0 by omega]
  rw [e1] at hpp
  obtain ⟨⟨p0, pE, pP, pM⟩, pv, pc⟩ := hpp
  have f0 : (pz_ev z).1.1 0 0 = z.1.1 0 0 + 1 := by rw [pv]; exact e0
  have f4 : (pz_ev z).1.1 4 = z.1.1 4 := by rw [pv]; exact ev 4 (by decide)
  refine ⟨⟨pE, fun q h0 h8 => ?_, ?_⟩, f0, fun v hv => by rw [pv]; exact ev v hv, fun c a b d => by rw [pc c a b d]; rfl⟩
  · obtain ⟨c1, c2, c3, c4, c5, c6, c7, c8, c9, c10⟩ := pP q h0 h8
    by_cases hq : q < 0 + ((z.1.1 4 0).toNat : Int)
    · rw [if_pos hq] at c6 c7
      exact ⟨c1, c2, c3, c4, c5, c6, c7, c8, c9, c10⟩
    · rw [if_neg hq] at c6 c7
      exact ⟨c1, c2, c3, c4, c5, by omega, pu_Lok_up c7 (by omega), c8, c9, c10⟩
  · refine ⟨by have := pM.1; omega, pM.2⟩
theorem pz_evs_ok {m : Int} : ∀ (k : Nat) (z : pz_Z), pz_ok0 z → k = (z.1.1 1 0 - z.1.1 0 0).toNat → pz_ok0 (pz_evs m k z).2 ∧ (pz_evs m k z).2.1.1 0 0 = z.1.1 0 0 + (pz_evs m k z).1 ∧ 0 ≤ (pz_evs m k z).1 ∧ (∀ v, v ≠ 0 → (pz_evs m k z).2.1.1 v = z.1.1 v) ∧ (∀ c, c ≠ 20 → c ≠ 21 → c ≠ 22 → (pz_evs m k z).2.1.2 c = z.1.2 c) ∧ ((pz_evs m k z).2.1.1 0 0 = z.1.1 1 0 ∨ (pz_evs m k z).2.1.1 0 0 < z.1.1 1 0 ∧ m ≤ z.1.2 1 0 ((pz_evs m k z).2.1.1 0 0)) := by
  intro k
  induction k with
  | zero =>
    intro z h hk
    rw [pz_evs]
    have := h.1.1
    exact ⟨h, by dsimp only; omega, Int.le_refl _, fun _ _ => rfl, fun _ _ _ _ => rfl, Or.inl (by dsimp only; omega)⟩
  | succ k ih =>
    intro z h hk
    have hb := h.1.1
    rw [pz_evs]
    by_cases hc : z.1.1 0 0 < z.1.1 1 0 ∧ z.1.2 1 0 (z.1.1 0 0) < m
    · rw [pz_if_t hc]
      obtain ⟨e1, e2, e3, e4⟩ := pz_ev_ok h hc.1
      have e31 : (pz_ev z).1.1 1 0 = z.1.1 1 0 := by rw [e3 1 (by decide)]
      obtain ⟨i1, i2, i3, i4, i5, i6⟩ := ih (pz_ev z) e1 (by rw [e31, e2]; omega)
      dsimp only
      refine ⟨i1, by rw [i2, e2]; omega, by omega, fun v hv => by rw [i4 v hv, e3 v hv], fun c a b d => by rw [i5 c a b d, e4 c a b d], ?_⟩
      rw [e31, e4 1 (by decide) (by decide) (by decide)] at i6
      exact i6
    · rw [pz_if_f hc]
      refine ⟨h, by dsimp only; omega, Int.le_refl _, fun _ _ => rfl, fun _ _ _ _ => rfl, ?_⟩
      dsimp only
      by_cases h2 : z.1.1 0 0 < z.1.1 1 0
      · exact Or.inr ⟨h2, by omega⟩
      · exact Or.inl (by omega)
theorem pz_ok_0 {z : pz_Z} (h : pz_ok z) : pz_ok0 z := ⟨⟨h.1.1, h.1.2.1, h.1.2.2.1, h.1.2.2.2.1, h.1.2.2.2.2.1⟩, h.2.1, h.2.2⟩
theorem pz_mark0 {z : pz_Z} {m : Int} (h : pz_ok z) (hm : 0 ≤ m ∧ m ≤ 200000) : pz_ok0 (eh_sV z.1 3 0 m, z.2) := by
  have h0 := pz_ok_0 h
  have ev : ∀ v, v ≠ 3 → ((eh_sV z.1 3 0 m, z.2) : pz_Z).1.1 v = z.1.1 v := fun v hv => eh_sV_v hv
  refine ⟨?_, ?_, ?_⟩
  · unfold pz_okE0
    rw [ev 0 (by decide), ev 1 (by decide), ev 4 (by decide), show ((eh_sV z.1 3 0 m, z.2) : pz_Z).1.1 3 0 = m from eh_sV_p]
    exact ⟨h0.1.1, h0.1.2.1, hm, h0.1.2.2.2.1, h0.1.2.2.2.2⟩
  · unfold pz_okP
    rw [ev 0 (by decide), ev 4 (by decide)]
    exact h0.2.1
  · unfold pz_okM
    rw [ev 0 (by decide)]
    exact h0.2.2
theorem pz_mark_ok {z : pz_Z} {m : Int} (h : pz_ok z) : pz_ok (pz_mark m z).2 ∧ (pz_mark m z).2.1.1 1 0 = z.1.1 1 0 ∧ z.1.1 0 0 ≤ (pz_mark m z).2.1.1 0 0 := by
  unfold pz_mark
  by_cases h1 : ¬ (0 ≤ m ∧ m ≤ 200000)
  · rw [pz_if_t h1]; exact ⟨h, rfl, Int.le_refl _⟩
  · rw [pz_if_f h1]
    by_cases h2 : m < z.1.1 3 0
    · rw [pz_if_t h2]; exact ⟨h, rfl, Int.le_refl _⟩
    · rw [pz_if_f h2]
      have hm := Classical.not_not.mp h1
      have ev : ∀ v, v ≠ 3 → ((eh_sV z.1 3 0 m, z.2) : pz_Z).1.1 v = z.1.1 v := fun v hv => eh_sV_v hv
      obtain ⟨i1, i2, i3, i4, i5, i6⟩ := pz_evs_ok (m := m) (z.1.1 1 0 - z.1.1 0 0).toNat _ (pz_mark0 h hm) (by rw [ev 0 (by decide), ev 1 (by decide)])
      rw [ev 0 (by decide)] at i2
      rw [ev 1 (by decide)] at i6
      have j1 : (pz_evs m (z.1.1 1 0 - z.1.1 0 0).toNat (eh_sV z.1 3 0 m, z.2)).2.1.1 1 0 = z.1.1 1 0 := by rw [i4 1 (by decide), ev 1 (by decide)]
      have j3 : (pz_evs m (z.1.1 1 0 - z.1.1 0 0).toNat (eh_sV z.1 3 0 m, z.2)).2.1.1 3 0 = m := by rw [i4 3 (by decide)]; exact eh_sV_p
      have jm : (pz_evs m (z.1.1 1 0 - z.1.1 0 0).toNat (eh_sV z.1 3 0 m, z.2)).2.1.2 1 = z.1.2 1 := i5 1 (by decide) (by decide) (by decide)
      refine ⟨⟨⟨i1.1.1, i1.1.2.1, i1.1.2.2.1, i1.1.2.2.2.1, i1.1.2.2.2.2, fun i h3 h4 => ?_⟩, i1.2.1, i1.2.2⟩, j1, by omega⟩
      rw [j3, jm]
      rw [j1] at h4
      rcases i6 with i6 | ⟨i6, i7⟩
      · omega
      · by_cases hi : i = (pz_evs m (z.1.1 1 0 - z.1.1 0 0).toNat (eh_sV z.1 3 0 m, z.2)).2.1.1 0 0
        · rw [hi]; exact i7
        · have hs := h.1.2.2.2.2.1 _ i (show z.1.1 0 0 ≤ (pz_evs m (z.1.1 1 0 - z.1.1 0 0).toNat (eh_sV z.1 3 0 m, z.2)).2.1.1 0 0 by omega) (by omega) h4
          have i7' : m ≤ z.1.2 1 0 ((pz_evs m (z.1.1 1 0 - z.1.1 0 0).toNat (eh_sV z.1 3 0 m, z.2)).2.1.1 0 0) := i7
          omega
