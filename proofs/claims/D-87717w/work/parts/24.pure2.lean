/-! pure words, second part: rows that may stand, moves, what comes of an event -/
abbrev pu_Rw : Type := List (Int × Int)
abbrev pu_Rn : Type := List (Int × Int) × Bool
noncomputable def pu_wh (P : Nat → Int → Int) (s : Int) : Bool := @decide (pu_whole P s) (Classical.propDecidable _)
theorem pu_wh_t {P : Nat → Int → Int} {s : Int} : pu_wh P s = true ↔ pu_whole P s := by
  unfold pu_wh
  exact @decide_eq_true_iff _ (Classical.propDecidable _)
/-- a row that may stand: n events, pattern P -/
def pu_gd (P : Nat → Int → Int) (n : Int) (row : pu_Rw) : Prop := row ≠ [] ∧ pu_rok n (P 5 0) row ∧ (∀ q ∈ row, P 0 q.2 ≠ 3) ∧ ∀ s, pu_cnt row s ≤ 4
theorem pu_rok_up {n n' k : Int} {row : pu_Rw} (h : pu_rok n k row) (hn : n ≤ n') : pu_rok n' k row := by
  induction row with
  | nil => trivial
  | cons x r ih =>
    obtain ⟨e, s⟩ := x
    obtain ⟨h1, h2, h3, h4⟩ := h
    exact ⟨⟨h1.1, by omega⟩, h2, h3, ih h4⟩
theorem pu_gd_up {P : Nat → Int → Int} {n n' : Int} {row : pu_Rw} (h : pu_gd P n row) (hn : n ≤ n') : pu_gd P n' row := ⟨h.1, pu_rok_up h.2.1 hn, h.2.2⟩
theorem pu_cnt6 {n k : Int} {row : pu_Rw} (h : pu_rok n k row) (hk : k ≤ 6) : (row.length : Int) = pu_cnt row 0 + pu_cnt row 1 + pu_cnt row 2 + pu_cnt row 3 + pu_cnt row 4 + pu_cnt row 5 := by
  induction row with
  | nil => rfl
  | cons x r ih =>
    obtain ⟨e, s⟩ := x
    obtain ⟨h1, h2, h3, h4⟩ := h
    have := ih h4
    simp only [pu_cnt, List.length_cons, Int.natCast_add, Int.natCast_one]
    rcases (show s = 0 ∨ s = 1 ∨ s = 2 ∨ s = 3 ∨ s = 4 ∨ s = 5 by omega) with rfl | rfl | rfl | rfl | rfl | rfl <;> simp <;> omega
theorem pu_gd_len {P : Nat → Int → Int} {n : Int} {row : pu_Rw} (h : pu_gd P n row) (hp : pu_pok P) : 1 ≤ row.length ∧ row.length ≤ 24 := by
  have h6 := pu_cnt6 h.2.1 hp.1.2
  have h0 := h.2.2.2
  have a0 := h0 0
  have a1 := h0 1
  have a2 := h0 2
  have a3 := h0 3
  have a4 := h0 4
  have a5 := h0 5
  have hne : row.length ≠ 0 := fun q => h.1 (List.eq_nil_of_length_eq_zero q)
  omega
theorem pu_tip_mem {row : pu_Rw} (h : row ≠ []) : ∃ e, (e, pu_tip row) ∈ row := by
  cases row with
  | nil => exact absurd rfl h
  | cons x r => exact ⟨x.1, List.mem_cons_self⟩
theorem pu_gd_tip {P : Nat → Int → Int} {n : Int} {row : pu_Rw} (h : pu_gd P n row) : (0 ≤ pu_tip row ∧ pu_tip row < P 5 0) ∧ P 0 (pu_tip row) ≠ 3 := by
  obtain ⟨e, he⟩ := pu_tip_mem h.1
  exact ⟨(pu_rok_mem h.2.1 he).2, h.2.2.1 _ he⟩
theorem pu_gd_first {P : Nat → Int → Int} {n : Int} {row : pu_Rw} (h : pu_gd P n row) : 0 ≤ pu_first row ∧ pu_first row < n := by
  obtain ⟨s, hs⟩ := pu_first_mem h.1
  exact (pu_rok_mem h.2.1 hs).1
theorem pu_gd_mem {P : Nat → Int → Int} {n : Int} {row : pu_Rw} (h : pu_gd P n row) : ∀ q ∈ row, 0 ≤ q.1 ∧ q.1 < n := fun _ hq => (pu_rok_mem h.2.1 hq).1
/-- steps never fall along a row -/
theorem pu_rok_tip {n k : Int} {row : pu_Rw} (h : pu_rok n k row) : ∀ q ∈ row, q.2 ≤ pu_tip row := by
  cases row with
  | nil => intro q hq; cases hq
  | cons x r =>
    intro q hq
    rcases List.mem_cons.mp hq with rfl | hq
    · exact Int.le_refl _
    · exact (h.2.2.1 q hq).2
theorem pu_cnt_0 {row : pu_Rw} {s : Int} (h : ∀ q ∈ row, q.2 ≠ s) : pu_cnt row s = 0 := by
  induction row with
  | nil => rfl
  | cons x r ih =>
    obtain ⟨e, t⟩ := x
    have h1 := h (e, t) List.mem_cons_self
    rw [pu_cnt, if_neg h1, ih (fun q hq => h q (List.mem_cons_of_mem _ hq))]
    rfl
theorem pu_mv_mem {E P : Nat → Int → Int} {row : pu_Rw} {hurt : Bool} {e : Int} : ∀ (n : Nat) (j : Int) (over : Bool) (s : Int), s ∈ pu_mv E P row hurt e n j over → (j ≤ s ∧ s < pu_real P) ∧ P 0 s ≠ 3 := by
  intro n
  induction n with
  | zero => intro j over s h; cases h
  | succ n ih =>
    intro j over s h
    rw [pu_mv] at h
    split at h
    · rename_i hj
      rcases List.mem_append.mp h with h | h
      · split at h
        · rename_i hc
          rcases List.mem_cons.mp h with h | h
          · subst h
            exact ⟨⟨Int.le_refl _, hj⟩, hc.1⟩
          · cases h
        · cases h
      · split at h
        · obtain ⟨⟨a, b⟩, c⟩ := ih _ _ _ h
          exact ⟨⟨by omega, b⟩, c⟩
        · cases h
    · cases h
theorem pu_mv_len {E P : Nat → Int → Int} {row : pu_Rw} {hurt : Bool} {e : Int} : ∀ (n : Nat) (j : Int) (over : Bool), (pu_mv E P row hurt e n j over).length ≤ n := by
  intro n
  induction n with
  | zero => intro j over; exact Nat.le_refl _
  | succ n ih =>
    intro j over
    rw [pu_mv]
    split
    · rw [List.length_append]
      have h1 : (if P 0 j ≠ 3 ∧ ¬ (over && hurt) = true ∧ pu_fits E P row j e = true then [j] else []).length ≤ 1 := by split <;> simp
      have h2 : (if P 0 j = 2 ∨ P 0 j = 3 then pu_mv E P row hurt e n (j + 1) (over || decide (P 0 j = 3)) else []).length ≤ n := by
        split
        · exact ih _ _
        · exact Nat.zero_le _
      omega
    · exact Nat.zero_le _
theorem pu_again_len {E P : Nat → Int → Int} {row : pu_Rw} {e : Int} : (pu_again E P row e).length ≤ 1 := by
  unfold pu_again
  split <;> simp
theorem pu_moves_len {E P : Nat → Int → Int} {row : pu_Rw} {hurt : Bool} {e : Int} : (pu_moves E P row hurt e).length ≤ 7 := by
  unfold pu_moves
  rw [List.length_append]
  have h1 := pu_mv_len (E := E) (P := P) (row := row) (hurt := hurt) (e := e) 6 (pu_tip row + 1) false
  have h2 := pu_again_len (E := E) (P := P) (row := row) (e := e)
  omega
theorem pu_moves_s {E P : Nat → Int → Int} {row : pu_Rw} {hurt : Bool} {e s : Int} (h : s ∈ pu_moves E P row hurt e) : (pu_tip row < s ∧ s < P 5 0 ∧ P 0 s ≠ 3) ∨ (s = pu_tip row ∧ P 0 s = 1 ∧ pu_cnt row s < 4) := by
  unfold pu_moves at h
  rcases List.mem_append.mp h with h | h
  · obtain ⟨⟨a, b⟩, c⟩ := pu_mv_mem _ _ _ _ h
    have := (pu_real_le P).1
    exact Or.inl ⟨by omega, by omega, c⟩
  · unfold pu_again at h
    split at h
    · rename_i hc
      rcases List.mem_cons.mp h with h | h
      · subst h
        exact Or.inr ⟨rfl, hc.1, hc.2.1⟩
      · cases h
    · cases h
/-- a row goes on: it may stand -/
theorem pu_gd_cons {E P : Nat → Int → Int} {row : pu_Rw} {hurt : Bool} {e s : Int} (h : pu_gd P e row) (he : 0 ≤ e) (hs : s ∈ pu_moves E P row hurt e) : pu_gd P (e + 1) ((e, s) :: row) := by
  have ht := pu_gd_tip h
  have hr := pu_rok_tip h.2.1
  have hm := pu_gd_mem h
  have hs := pu_moves_s hs
  refine ⟨by simp, ⟨⟨he, by omega⟩, ⟨by omega, by omega⟩, fun q hq => ⟨(hm q hq).2, ?_⟩, pu_rok_up h.2.1 (by omega)⟩, fun q hq => ?_, fun t => ?_⟩
  · have := hr q hq
    omega
  · rcases List.mem_cons.mp hq with rfl | hq
    · dsimp only
      omega
    · exact h.2.2.1 q hq
  · rw [pu_cnt]
    split
    · rename_i hst
      subst hst
      rcases hs with hs | hs
      · rw [pu_cnt_0 (fun q hq => ?_)]
        · omega
        · have := hr q hq
          omega
      · omega
    · have := h.2.2.2 t
      omega
theorem pu_gd_new {P : Nat → Int → Int} {e : Int} (hp : pu_pok P) (h5 : 0 < P 5 0) (he : 0 ≤ e) : pu_gd P (e + 1) [(e, 0)] := by
  have h0 := hp.2.2.2.2.2.1 h5
  refine ⟨by simp, ⟨⟨he, by omega⟩, ⟨by omega, h5⟩, fun q hq => (by cases hq), trivial⟩, fun q hq => ?_, fun t => ?_⟩
  · rcases List.mem_cons.mp hq with rfl | hq
    · dsimp only
      omega
    · cases hq
  · simp only [pu_cnt]
    split <;> omega
/-- runs, those that are told, whether it is spent -/
noncomputable def pu_adds (P : Nat → Int → Int) : List pu_Rw → List pu_Rn × List pu_Rw → List pu_Rn × List pu_Rw × Bool
  | [], st => (st.1, st.2, false)
  | c :: cs, st => if st.1.length = 200 then ([], st.2, true) else pu_adds P cs (st.1 ++ [(c, false)], st.2 ++ (if pu_wh P (pu_tip c) = true then [c] else []))
def pu_cand (E P : Nat → Int → Int) (e : Int) (x : pu_Rn) : List pu_Rw := (pu_moves E P x.1 x.2 e).map (fun s => (e, s) :: x.1)
/-- a run of 'every' is asked -/
noncomputable def pu_ask (E P : Nat → Int → Int) (e : Int) (r : Nat) (x : pu_Rn) (st : List pu_Rn × List pu_Rw) : List pu_Rn × List pu_Rw × Bool :=
  if pu_key E P (pu_first x.1) e = true then
    (let y := pu_adds P (pu_cand E P e x) st
     if y.2.2 = true then y else (if pu_hurts E P x.1 e = true then (y.1.set r (x.1, true), y.2.1, false) else y))
  else (st.1, st.2, false)
noncomputable def pu_ev (E P : Nat → Int → Int) (e : Int) : Nat → Nat → List pu_Rn × List pu_Rw → List pu_Rn × List pu_Rw × Bool
  | 0, _, st => (st.1, st.2, false)
  | k + 1, r, st => match st.1[r]? with
    | none => (st.1, st.2, false)
    | some x => (let y := pu_ask E P e r x st
                 if y.2.2 = true then y else pu_ev E P e k (r + 1) (y.1, y.2.1))
/-- a run of 'next' is asked: the run behind it, and what is told -/
noncomputable def pu_nx (E P : Nat → Int → Int) (e : Int) (x : pu_Rn) : Option pu_Rn × Option pu_Rw :=
  if pu_key E P (pu_first x.1) e = true then
    (match pu_moves E P x.1 x.2 e with
      | s :: _ => if pu_wh P s = true then (none, some ((e, s) :: x.1)) else (some ((e, s) :: x.1, false), none)
      | [] => (some (x.1, x.2 || pu_hurts E P x.1 e), none))
  else (some x, none)
def pu_young (E P : Nat → Int → Int) (e : Int) (x : pu_Rn) : Bool := decide (E 1 e - E 1 (pu_first x.1) ≤ P 7 0)
noncomputable def pu_first1 (E P : Nat → Int → Int) (e : Int) (L : List pu_Rn) (o : List pu_Rw) : List pu_Rn × List pu_Rw × Bool :=
  if pu_fits E P [] 0 e = true then
    (if L.length = 200 then ([], o, true) else if pu_wh P 0 = true then (if P 8 0 = 1 then L else L ++ [([(e, 0)], false)], o ++ [[(e, 0)]], false) else (L ++ [([(e, 0)], false)], o, false))
  else (L, o, false)
noncomputable def pu_come (E P : Nat → Int → Int) (e : Int) (L : List pu_Rn) : List pu_Rn × List pu_Rw × Bool :=
  let L0 := L.filter (pu_young E P e)
  if P 8 0 = 1 then pu_first1 E P e (L0.filterMap (fun x => (pu_nx E P e x).1)) (L0.filterMap (fun x => (pu_nx E P e x).2))
  else (let y := pu_ev E P e L0.length 0 (L0, [])
        if y.2.2 = true then y else pu_first1 E P e y.1 y.2.1)
/-- all runs may stand -/
def pu_Lok (P : Nat → Int → Int) (n : Int) (L : List pu_Rn) : Prop := L.length ≤ 200 ∧ ∀ x ∈ L, pu_gd P n x.1
theorem pu_Lok_up {P : Nat → Int → Int} {n n' : Int} {L : List pu_Rn} (h : pu_Lok P n L) (hn : n ≤ n') : pu_Lok P n' L := ⟨h.1, fun x hx => pu_gd_up (h.2 x hx) hn⟩
/-! the steps of a pattern, seen from another picture of it -/
theorem pu_is_congr {par par' : Int → Int} {b : Int} (h : ∀ k, 0 ≤ k → k < 16 → par k = par' k) (hp : ∀ k, 0 ≤ k → k < 16 → -1 ≤ par' k ∧ par' k < k) : ∀ (n : Nat) (k : Int), k < 16 → pu_is par n k b = pu_is par' n k b := by
  intro n
  induction n with
  | zero => intro k _; rfl
  | succ n ih =>
    intro k hk
    rw [pu_is, pu_is]
    by_cases h0 : k < 0
    · rw [if_pos h0, if_pos h0]
    · rw [if_neg h0, if_neg h0, h k (by omega) hk, ih _ (by have := hp k (by omega) hk; omega)]
/-- two pictures of n events, of a pattern -/
def pu_sE (E E' : Nat → Int → Int) (n : Int) : Prop := (∀ k, 0 ≤ k → k < 16 → E 3 k = E' 3 k) ∧ (∀ e, 0 ≤ e → e < n → E 0 e = E' 0 e ∧ E 1 e = E' 1 e) ∧ ∀ j, 0 ≤ j → j < 4 * n → E 2 j = E' 2 j
def pu_sP (P P' : Nat → Int → Int) : Prop := P 5 0 = P' 5 0 ∧ P 6 0 = P' 6 0 ∧ P 7 0 = P' 7 0 ∧ P 8 0 = P' 8 0 ∧ ∀ j, 0 ≤ j → j < P' 5 0 → P 0 j = P' 0 j ∧ P 1 j = P' 1 j ∧ P 2 j = P' 2 j ∧ (P' 2 j ≠ 0 → P 3 j = P' 3 j ∧ P 4 j = P' 4 j)
theorem pu_fits_congr {E E' P P' : Nat → Int → Int} {n : Int} {row : pu_Rw} {s e : Int} (hE : pu_sE E E' n) (hP : pu_sP P P') (he' : pu_eok E' n) (hp' : pu_pok P') (hs : 0 ≤ s ∧ s < P' 5 0) (he : 0 ≤ e ∧ e < n) (hr : ∀ q ∈ row, 0 ≤ q.1 ∧ q.1 < n) : pu_fits E P row s e = pu_fits E' P' row s e := by
  obtain ⟨a0, a1, a2, a3⟩ := hP.2.2.2.2 s hs.1 hs.2
  obtain ⟨b0, b1, b2, b3, b4⟩ := hp'.2.1 s hs.1 hs.2
  have hk := he'.2 e he.1 he.2
  unfold pu_fits
  rw [(hE.2.1 e he.1 he.2).1, a1, a2, pu_is_congr hE.1 he'.1 17 _ hk.1.2]
  by_cases h0 : P' 2 s = 0
  · rw [decide_eq_true h0, Bool.true_or, Bool.true_or]
  · obtain ⟨c3, c4⟩ := a3 h0
    have h3 := b3 h0
    rw [c3, c4, hE.2.2 (4 * e + P' 3 s) (by omega) (by omega)]
    have hl : 0 ≤ pu_last row (P' 4 s) → E 2 (4 * pu_last row (P' 4 s) + P' 3 s) = E' 2 (4 * pu_last row (P' 4 s) + P' 3 s) := fun q => by
      have := hr _ (pu_last_mem q)
      dsimp only at this
      exact hE.2.2 _ (by omega) (by omega)
    by_cases hn : pu_last row (P' 4 s) < 0
    · rw [decide_eq_true hn, Bool.true_or, Bool.true_or]
    · rw [hl (by omega)]
theorem pu_real_congr {P P' : Nat → Int → Int} (h : pu_sP P P') : pu_real P = pu_real P' := by
  unfold pu_real
  rw [h.1]
  by_cases h0 : 0 < P' 5 0
  · rw [(h.2.2.2.2 (P' 5 0 - 1) (by omega) (by omega)).1]
  · rw [if_neg (fun q => h0 q.1), if_neg (fun q => h0 q.1)]
theorem pu_whole_congr {P P' : Nat → Int → Int} {s : Int} (h : pu_sP P P') (hs : -1 ≤ s) : pu_whole P s ↔ pu_whole P' s := by
  unfold pu_whole
  rw [pu_real_congr h]
  have hr := (pu_real_le P').1
  constructor
  · intro q j h1 h2
    rw [← (h.2.2.2.2 j (by omega) (by omega)).1]
    exact q j h1 h2
  · intro q j h1 h2
    rw [(h.2.2.2.2 j (by omega) (by omega)).1]
    exact q j h1 h2
theorem pu_rowL_in {f g : Int → Int} {n : Nat} {k : Int} (h0 : 0 ≤ k) (h1 : k < n) : (f k, g k) ∈ pu_rowL f g n := by
  induction n with
  | zero => omega
  | succ n ih =>
    rw [pu_rowL]
    by_cases hk : k = n
    · rw [hk]; exact List.mem_cons_self
    · exact List.mem_cons_of_mem _ (ih (by omega))
