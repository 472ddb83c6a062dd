/-! pure words: events E (0 kind, 1 minute, 2 fields at 4e + f, 3 parent), a pattern P (0 sort, 1 kind, 2 test, 3 field, 4 than; 5 steps, 6 key, 7 within, 8 way), rows newest first -/
def pu_is (par : Int → Int) : Nat → Int → Int → Bool
  | 0, _, _ => false
  | n + 1, k, b => if k < 0 then false else if k = b then true else pu_is par n (par k) b
def pu_last (row : List (Int × Int)) (s : Int) : Int := match row with
  | [] => -1
  | (e, t) :: r => if t = s then e else pu_last r s
def pu_cnt (row : List (Int × Int)) (s : Int) : Int := match row with
  | [] => 0
  | (_, t) :: r => (if t = s then 1 else 0) + pu_cnt r s
def pu_first (row : List (Int × Int)) : Int := match row with
  | [] => 0
  | [(e, _)] => e
  | _ :: r => pu_first r
def pu_tip (row : List (Int × Int)) : Int := match row with
  | [] => 0
  | (_, t) :: _ => t
def pu_rowL (f g : Int → Int) : Nat → List (Int × Int)
  | 0 => []
  | n + 1 => (f n, g n) :: pu_rowL f g n
def pu_test (t v w : Int) : Bool := if t = 1 then decide (v < w) else if t = 2 then decide (v = w) else decide (w < v)
def pu_fits (E P : Nat → Int → Int) (row : List (Int × Int)) (s e : Int) : Bool :=
  pu_is (E 3) 17 (E 0 e) (P 1 s) && (decide (P 2 s = 0) || (if P 2 s ≤ 3 then pu_test (P 2 s) (E 2 (4 * e + P 3 s)) (P 4 s) else (decide (pu_last row (P 4 s) < 0) || pu_test (P 2 s - 3) (E 2 (4 * e + P 3 s)) (E 2 (4 * pu_last row (P 4 s) + P 3 s)))))
def pu_real (P : Nat → Int → Int) : Int := if 0 < P 5 0 ∧ P 0 (P 5 0 - 1) = 3 then P 5 0 - 1 else P 5 0
def pu_whole (P : Nat → Int → Int) (s : Int) : Prop := ∀ j, s < j → j < pu_real P → P 0 j = 2
/-- steps to which a row may go on, without its own once more: from j on; over: a NOT was passed -/
def pu_mv (E P : Nat → Int → Int) (row : List (Int × Int)) (hurt : Bool) (e : Int) : Nat → Int → Bool → List Int
  | 0, _, _ => []
  | n + 1, j, over => if j < pu_real P then (if P 0 j ≠ 3 ∧ ¬ (over && hurt) = true ∧ pu_fits E P row j e = true then [j] else []) ++ (if P 0 j = 2 ∨ P 0 j = 3 then pu_mv E P row hurt e n (j + 1) (over || decide (P 0 j = 3)) else []) else []
def pu_again (E P : Nat → Int → Int) (row : List (Int × Int)) (e : Int) : List Int := if P 0 (pu_tip row) = 1 ∧ pu_cnt row (pu_tip row) < 4 ∧ pu_fits E P row (pu_tip row) e = true then [pu_tip row] else []
def pu_moves (E P : Nat → Int → Int) (row : List (Int × Int)) (hurt : Bool) (e : Int) : List Int := pu_mv E P row hurt e 6 (pu_tip row + 1) false ++ pu_again E P row e
def pu_hurts (E P : Nat → Int → Int) (row : List (Int × Int)) (e : Int) : Bool := decide (pu_tip row + 1 < pu_real P) && decide (P 0 (pu_tip row + 1) = 3) && pu_fits E P row (pu_tip row + 1) e
def pu_key (E P : Nat → Int → Int) (a e : Int) : Bool := decide (P 6 0 < 0) || decide (E 2 (4 * a + P 6 0) = E 2 (4 * e + P 6 0))
/-- what a pattern may be -/
def pu_pok (P : Nat → Int → Int) : Prop := (0 ≤ P 5 0 ∧ P 5 0 ≤ 6) ∧
  (∀ j, 0 ≤ j → j < P 5 0 → (0 ≤ P 0 j ∧ P 0 j ≤ 3) ∧ (0 ≤ P 1 j ∧ P 1 j < 16) ∧ (0 ≤ P 2 j ∧ P 2 j ≤ 6) ∧ (P 2 j ≠ 0 → 0 ≤ P 3 j ∧ P 3 j ≤ 3) ∧ (3 < P 2 j → 0 ≤ P 4 j ∧ P 4 j < j)) ∧
  (-1 ≤ P 6 0 ∧ P 6 0 ≤ 3) ∧ (0 ≤ P 7 0 ∧ P 7 0 ≤ 1000) ∧ (P 8 0 = 0 ∨ P 8 0 = 1) ∧ (0 < P 5 0 → P 0 0 ≤ 1) ∧ (∀ j, 1 ≤ j → j < P 5 0 → P 0 j = 3 → P 0 (j - 1) ≤ 1) ∧ (∀ j, 1 ≤ j → j < P 5 0 → P 0 j = 2 → P 0 (j - 1) ≠ 3)
/-- what n events may be -/
def pu_eok (E : Nat → Int → Int) (n : Int) : Prop := (∀ k, 0 ≤ k → k < 16 → -1 ≤ E 3 k ∧ E 3 k < k) ∧ (∀ e, 0 ≤ e → e < n → (0 ≤ E 0 e ∧ E 0 e < 16) ∧ (0 ≤ E 1 e ∧ E 1 e ≤ 100000))
/-- a row of events below n, steps below k, steps never falling, each event behind the one before -/
def pu_rok (n k : Int) : List (Int × Int) → Prop
  | [] => True
  | (e, s) :: r => (0 ≤ e ∧ e < n) ∧ (0 ≤ s ∧ s < k) ∧ (∀ q ∈ r, q.1 < e ∧ q.2 ≤ s) ∧ pu_rok n k r
theorem pu_rowL_len (f g : Int → Int) (n : Nat) : (pu_rowL f g n).length = n := by
  induction n with
  | zero => rfl
  | succ n ih => rw [pu_rowL, List.length_cons, ih]
theorem pu_rowL_congr {f g f' g' : Int → Int} {n : Nat} (h : ∀ k : Int, 0 ≤ k → k < n → f k = f' k ∧ g k = g' k) : pu_rowL f g n = pu_rowL f' g' n := by
  induction n with
  | zero => rfl
  | succ n ih =>
    rw [pu_rowL, pu_rowL, ih (fun k h0 h1 => h k h0 (by omega)), (h n (by omega) (by omega)).1, (h n (by omega) (by omega)).2]
theorem pu_rowL_mem {f g : Int → Int} {n : Nat} {q : Int × Int} (h : q ∈ pu_rowL f g n) : ∃ k : Int, 0 ≤ k ∧ k < n ∧ q = (f k, g k) := by
  induction n with
  | zero => cases h
  | succ n ih =>
    rw [pu_rowL] at h
    rcases List.mem_cons.mp h with h | h
    · exact ⟨n, by omega, by omega, h⟩
    · obtain ⟨k, h0, h1, h2⟩ := ih h
      exact ⟨k, h0, by omega, h2⟩
theorem pu_tip_rowL {f g : Int → Int} {n : Nat} (h : 0 < n) : pu_tip (pu_rowL f g n) = g ((n : Int) - 1) := by
  cases n with
  | zero => omega
  | succ n =>
    rw [pu_rowL, pu_tip, show ((n + 1 : Nat) : Int) - 1 = (n : Int) by omega]
theorem pu_first_rowL {f g : Int → Int} {n : Nat} (h : 0 < n) : pu_first (pu_rowL f g n) = f 0 := by
  induction n with
  | zero => omega
  | succ n ih =>
    cases n with
    | zero => rfl
    | succ m => exact ih (by omega)
theorem pu_first_cons {x : Int × Int} {r : List (Int × Int)} (h : r ≠ []) : pu_first (x :: r) = pu_first r := by
  cases r with
  | nil => exact absurd rfl h
  | cons y r => rfl
theorem pu_first_mem {r : List (Int × Int)} (h : r ≠ []) : ∃ s, (pu_first r, s) ∈ r := by
  induction r with
  | nil => exact absurd rfl h
  | cons x r ih =>
    cases r with
    | nil => exact ⟨x.2, List.mem_cons_self⟩
    | cons y r =>
      obtain ⟨s, hs⟩ := ih (by simp)
      exact ⟨s, List.mem_cons_of_mem _ hs⟩
theorem pu_last_mem {row : List (Int × Int)} {s : Int} (h : 0 ≤ pu_last row s) : (pu_last row s, s) ∈ row := by
  induction row with
  | nil => simp [pu_last] at h
  | cons x r ih =>
    obtain ⟨e, t⟩ := x
    unfold pu_last at h ⊢
    split
    · rename_i ht
      rw [if_pos ht] at h
      rw [ht]
      exact List.mem_cons_self
    · rename_i ht
      rw [if_neg ht] at h
      exact List.mem_cons_of_mem _ (ih h)
theorem pu_last_ge (row : List (Int × Int)) (s : Int) (h : ∀ q ∈ row, 0 ≤ q.1) : -1 ≤ pu_last row s := by
  induction row with
  | nil => simp [pu_last]
  | cons x r ih =>
    obtain ⟨e, t⟩ := x
    unfold pu_last
    split
    · have := h (e, t) List.mem_cons_self
      dsimp only at this
      omega
    · exact ih (fun q hq => h q (List.mem_cons_of_mem _ hq))
theorem pu_cnt_nn (row : List (Int × Int)) (s : Int) : 0 ≤ pu_cnt row s ∧ pu_cnt row s ≤ row.length := by
  induction row with
  | nil => simp [pu_cnt]
  | cons x r ih =>
    obtain ⟨e, t⟩ := x
    unfold pu_cnt
    rw [List.length_cons]
    split <;> omega
theorem pu_rok_mem {n k : Int} {row : List (Int × Int)} (h : pu_rok n k row) {q : Int × Int} (hq : q ∈ row) : (0 ≤ q.1 ∧ q.1 < n) ∧ (0 ≤ q.2 ∧ q.2 < k) := by
  induction row with
  | nil => cases hq
  | cons x r ih =>
    obtain ⟨e, s⟩ := x
    obtain ⟨h1, h2, h3, h4⟩ := h
    rcases List.mem_cons.mp hq with rfl | hq
    · exact ⟨h1, h2⟩
    · exact ih h4 hq
theorem pu_real_le (P : Nat → Int → Int) : pu_real P ≤ P 5 0 ∧ P 5 0 - 1 ≤ pu_real P ∧ (0 ≤ P 5 0 → 0 ≤ pu_real P) := by
  unfold pu_real
  split <;> omega
/-- ends of a truth -/
theorem eh_b0 {K : Option eh_V → eh_S → Prop} {σ : eh_S} {P : Prop} (hK : K (some (.inl (bz P))) σ) (h : ¬ P) : K (some (.inl 0)) σ := by
  rw [bz_f h] at hK
  exact hK
theorem eh_b1 {K : Option eh_V → eh_S → Prop} {σ : eh_S} {P : Prop} (hK : K (some (.inl (bz P))) σ) (h : P) : K (some (.inl 1)) σ := by
  rw [bz_t h] at hK
  exact hK
theorem eh_ki {K : Option eh_V → eh_S → Prop} {σ : eh_S} {a b : Int} (hK : K (some (.inl a)) σ) (h : a = b) : K (some (.inl b)) σ := h ▸ hK
