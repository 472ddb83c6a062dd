/-! worlds as lists of cells -/
theorem eh_v_cat (ad : Nat → Int → Nat) (v : eh_V) : (eh_v ad v).category = 1 := by
  rcases v with z | _ | n <;> rfl
theorem eh_PM {D : va_G} {cl : List vw_C} {ws : va_W} {H : Heap} : va_P D cl ws H ↔ ∀ q ∈ ws, va_at D cl q H := by
  constructor
  · intro h q hq
    obtain ⟨k, hk⟩ := List.getElem?_of_mem hq
    exact h k q hk
  · intro h k q hk
    exact h q (List.mem_of_getElem? hk)
theorem eh_DA {A : Nat → Prop} {ws : va_W} (h : va_D A ws) : ∀ q ∈ ws, A q.1 := by
  intro q hq
  obtain ⟨k, hk⟩ := List.getElem?_of_mem hq
  exact h.2 k q hk
theorem eh_w_at {ad : Nat → Int → Nat} {tc : Nat → ClassId} {NL : eh_S → List (Nat × Int)} {σ : eh_S} {n : Nat × Int} (h : n ∈ NL σ) : ∃ q0 : Nat, (NL σ)[q0]? = some n ∧ (eh_w ad tc NL σ)[q0]? = some (eh_c ad tc σ n) := by
  obtain ⟨k, hk⟩ := List.getElem?_of_mem h
  exact ⟨k, hk, by simp [eh_w, hk]⟩
theorem eh_w_set {A : Nat → Prop} {ad : Nat → Int → Nat} {tc : Nat → ClassId} {NL : eh_S → List (Nat × Int)} {σ σ' : eh_S} {q0 : Nat} {n : Nat × Int} (hq : (NL σ)[q0]? = some n) (hN : NL σ' = NL σ) (hD : va_D A (eh_w ad tc NL σ)) (ho : ∀ n', n' ≠ n → eh_c ad tc σ' n' = eh_c ad tc σ n') : (eh_w ad tc NL σ).set q0 (eh_c ad tc σ' n) = eh_w ad tc NL σ' := by
  apply List.ext_getElem?
  intro j
  by_cases hj : j = q0
  · subst hj
    have hl : j < (eh_w ad tc NL σ).length := by
      simp only [eh_w, List.length_map]
      exact (List.getElem?_eq_some_iff.mp hq).1
    rw [List.getElem?_set_self hl]
    simp [eh_w, hN, hq]
  · rw [List.getElem?_set_ne (Ne.symm hj)]
    simp only [eh_w, hN, List.getElem?_map]
    cases hn : (NL σ)[j]? with
    | none => rfl
    | some n' =>
      have hne : n' ≠ n := by
        intro e
        subst e
        exact hj (hD.1 j q0 (eh_c ad tc σ n') (eh_c ad tc σ n') (by simp [eh_w, hn]) (by simp [eh_w, hq]) rfl)
      simp [ho n' hne]
theorem eh_al_ge {c : Nat} (h : (eh_al c).1 < 9) : 100 ≤ c := by
  unfold eh_al at h
  split at h <;> first | decide | exact absurd h (by decide)
theorem eh_c_o {ad : Nat → Int → Nat} {tc : Nat → ClassId} {σ : eh_S} {c : Nat} {i : Int} (h : c < 5) : eh_c ad tc σ (c, i) = (ad c i, .inr (c, (List.range (eh_ft c).length).map (fun k => eh_v ad (eh_fv σ c i k)))) := by
  simp [eh_c, h]
theorem eh_c_a {ad : Nat → Int → Nat} {tc : Nat → ClassId} {σ : eh_S} {c : Nat} {i : Int} (h : (eh_al c).1 < 4) : eh_c ad tc σ (c, i) = (ad c i, .inl (tc (eh_al c).1, (eh_al c).2, .inl (fun j => eh_i (σ.2 c i j)))) := by
  have h1 := eh_al_ge (show (eh_al c).1 < 9 by omega)
  simp [eh_c, show ¬ c < 5 by omega, show c ≠ 10 by omega, show c ≠ 11 by omega, h]
theorem eh_c_q {ad : Nat → Int → Nat} {tc : Nat → ClassId} {σ : eh_S} {c : Nat} {i : Int} (h : 4 ≤ (eh_al c).1) (h9 : (eh_al c).1 < 9) : eh_c ad tc σ (c, i) = (ad c i, .inl (tc (eh_al c).1, (eh_al c).2, .inr (.inr (.inr (.inr (fun j => eh_q ad σ c i j)))))) := by
  have h1 := eh_al_ge h9
  simp [eh_c, show ¬ c < 5 by omega, show c ≠ 10 by omega, show c ≠ 11 by omega, show ¬ (eh_al c).1 < 4 by omega]
theorem eh_c_10 {ad : Nat → Int → Nat} {tc : Nat → ClassId} {σ : eh_S} {i : Int} : eh_c ad tc σ (10, i) = ((σ.2 12 0 i).toNat, .inl (tc 2, (σ.2 14 0 i).toNat, .inl (fun j => eh_i (σ.2 10 i j)))) := by
  simp [eh_c]
theorem eh_c_11 {ad : Nat → Int → Nat} {tc : Nat → ClassId} {σ : eh_S} {i : Int} : eh_c ad tc σ (11, i) = ((σ.2 13 0 i).toNat, .inl (tc 3, (σ.2 15 0 i).toNat, .inl (fun j => eh_i (σ.2 11 i j)))) := by
  simp [eh_c]
theorem eh_fv_1 {σ σ' : eh_S} (h : σ'.1 = σ.1) (c : Nat) (i : Int) (k : Nat) : eh_fv σ' c i k = eh_fv σ c i k := by
  unfold eh_fv
  rw [h]
theorem eh_sA_c {σ : eh_S} {c c' : Nat} {i z x : Int} (h : c' ≠ c) : (eh_sA σ c i z x).2 c' = σ.2 c' := by
  funext i' j'
  exact if_neg (fun q => h q.1)
theorem eh_sA_r {σ : eh_S} {c c' : Nat} {i i' z x : Int} (h : ¬ (c' = c ∧ i' = i)) : (eh_sA σ c i z x).2 c' i' = σ.2 c' i' := by
  funext j'
  exact if_neg (fun q => h ⟨q.1, q.2.1⟩)
theorem eh_sA_p {σ : eh_S} {c : Nat} {i z x : Int} : (eh_sA σ c i z x).2 c i z = x := if_pos ⟨rfl, rfl, rfl⟩
theorem eh_sA_n {σ : eh_S} {c : Nat} {i z x j : Int} (h : j ≠ z) : (eh_sA σ c i z x).2 c i j = σ.2 c i j := if_neg (fun q => h q.2.2)
theorem eh_sA_1 {σ : eh_S} {c : Nat} {i z x : Int} : (eh_sA σ c i z x).1 = σ.1 := rfl
theorem eh_sV_2 {σ : eh_S} {v : Nat} {i z : Int} : (eh_sV σ v i z).2 = σ.2 := rfl
theorem eh_sV_p {σ : eh_S} {v : Nat} {i z : Int} : (eh_sV σ v i z).1 v i = z := if_pos ⟨rfl, rfl⟩
theorem eh_sV_v {σ : eh_S} {v v' : Nat} {i z : Int} (h : v' ≠ v) : (eh_sV σ v i z).1 v' = σ.1 v' := by
  funext i'
  exact if_neg (fun q => h q.1)
theorem eh_sV_n {σ : eh_S} {v : Nat} {i i' z : Int} (h : i' ≠ i) : (eh_sV σ v i z).1 v i' = σ.1 v i' := if_neg (fun q => h q.2)
/-- any other kind of cell -/
theorem eh_c_r {ad : Nat → Int → Nat} {tc : Nat → ClassId} {σ : eh_S} {c : Nat} {i : Int} (h5 : ¬ c < 5) (h10 : c ≠ 10) (h11 : c ≠ 11) : eh_c ad tc σ (c, i) = (ad c i, .inl (tc (eh_al c).1, (eh_al c).2, if (eh_al c).1 < 4 then .inl (fun j => eh_i (σ.2 c i j)) else .inr (.inr (.inr (.inr (fun j => eh_q ad σ c i j)))))) := by
  unfold eh_c
  dsimp only
  rw [if_neg h5, if_neg h10, if_neg h11]
  split <;> rfl
theorem eh_q_c {ad : Nat → Int → Nat} {σ σ' : eh_S} {c : Nat} {i : Int} (h : σ'.2 c i = σ.2 c i) (j : Nat) : eh_q ad σ' c i j = eh_q ad σ c i j := by
  unfold eh_q
  rw [h]
theorem eh_c_sA {ad : Nat → Int → Nat} {tc : Nat → ClassId} {σ : eh_S} {c : Nat} {i z x : Int} (h12 : c ≠ 12) (h13 : c ≠ 13) (h14 : c ≠ 14) (h15 : c ≠ 15) (n : Nat × Int) (hn : n ≠ (c, i)) : eh_c ad tc (eh_sA σ c i z x) n = eh_c ad tc σ n := by
  obtain ⟨c', i'⟩ := n
  have hr : (eh_sA σ c i z x).2 c' i' = σ.2 c' i' := eh_sA_r (fun q => hn (by rw [q.1, q.2]))
  by_cases h5 : c' < 5
  · rw [eh_c_o h5, eh_c_o h5]
    have hm : (fun k => eh_v ad (eh_fv (eh_sA σ c i z x) c' i' k)) = (fun k => eh_v ad (eh_fv σ c' i' k)) := by
      funext k
      rw [eh_fv_1 (σ := σ) eh_sA_1]
    rw [hm]
  · by_cases h10 : c' = 10
    · subst h10
      rw [eh_c_10, eh_c_10, hr, eh_sA_c (Ne.symm h12), eh_sA_c (Ne.symm h14)]
    · by_cases h11 : c' = 11
      · subst h11
        rw [eh_c_11, eh_c_11, hr, eh_sA_c (Ne.symm h13), eh_sA_c (Ne.symm h15)]
      · rw [eh_c_r h5 h10 h11, eh_c_r h5 h10 h11, hr]
        have hq : (fun j => eh_q ad (eh_sA σ c i z x) c' i' j) = (fun j => eh_q ad σ c' i' j) := by
          funext j
          exact eh_q_c hr j
        rw [hq]
theorem eh_sA_nat {σ : eh_S} {c : Nat} {i z x : Int} (h0 : 0 ≤ z) (h1 : z < 2147483648) (y : Int32) (hy : eh_i x = y) : (fun j : Nat => eh_i ((eh_sA σ c i z x).2 c i j)) = upd (fun j : Nat => eh_i (σ.2 c i j)) (eh_i z).toNatClampNeg y := by
  funext j
  rw [eh_i_cl h0 h1]
  unfold upd
  by_cases h : j = z.toNat
  · rw [if_pos h, show (j : Int) = z by omega, eh_sA_p]
    exact hy
  · rw [if_neg h, eh_sA_n (show (j : Int) ≠ z by omega)]
theorem eh_ok_sA {σ : eh_S} {c : Nat} {i z x : Int} (h : eh_ok σ) (hx : eh_r x) : eh_ok (eh_sA σ c i z x) := by
  refine ⟨h.1, fun c' i' j' h1 h2 h3 h4 => ?_⟩
  unfold eh_sA
  dsimp only
  split
  · exact hx
  · exact h.2 c' i' j' h1 h2 h3 h4
theorem eh_ok_sV {σ : eh_S} {v : Nat} {i z : Int} (h : eh_ok σ) (hx : eh_r z) : eh_ok (eh_sV σ v i z) := by
  refine ⟨fun v' i' => ?_, h.2⟩
  unfold eh_sV
  dsimp only
  split
  · exact hx
  · exact h.1 v' i'
theorem eh_ft_len (c : Nat) : (eh_ft c).length ≤ 48 := by
  unfold eh_ft
  split <;> decide
theorem eh_fv_sV {σ : eh_S} {v : Nat} {i z : Int} {c : Nat} {i' : Int} {k : Nat} (h : ¬ (100 * (c + 1) + k = v ∧ i' = i)) : eh_fv (eh_sV σ v i z) c i' k = eh_fv σ c i' k := by
  unfold eh_fv
  simp only [eh_sV, h, if_false]
theorem eh_c_sV {ad : Nat → Int → Nat} {tc : Nat → ClassId} {σ : eh_S} {c f : Nat} {i z : Int} (hf : f < (eh_ft c).length) (n : Nat × Int) (hn : n ≠ (c, i)) : eh_c ad tc (eh_sV σ (100 * (c + 1) + f) i z) n = eh_c ad tc σ n := by
  obtain ⟨c', i'⟩ := n
  have hl := eh_ft_len c
  by_cases h5 : c' < 5
  · rw [eh_c_o h5, eh_c_o h5]
    have hm : (List.range (eh_ft c').length).map (fun k => eh_v ad (eh_fv (eh_sV σ (100 * (c + 1) + f) i z) c' i' k)) = (List.range (eh_ft c').length).map (fun k => eh_v ad (eh_fv σ c' i' k)) := by
      apply List.map_congr_left
      intro k hk
      have hk := List.mem_range.mp hk
      have hl' := eh_ft_len c'
      rw [eh_fv_sV]
      rintro ⟨e1, e2⟩
      have : c' = c := by omega
      exact hn (by rw [this, e2])
    rw [hm]
  · by_cases h10 : c' = 10
    · subst h10
      rw [eh_c_10, eh_c_10, eh_sV_2]
    · by_cases h11 : c' = 11
      · subst h11
        rw [eh_c_11, eh_c_11, eh_sV_2]
      · rw [eh_c_r h5 h10 h11, eh_c_r h5 h10 h11, eh_sV_2]
        have hq : (fun j => eh_q ad (eh_sV σ (100 * (c + 1) + f) i z) c' i' j) = (fun j => eh_q ad σ c' i' j) := by
          funext j
          exact eh_q_c rfl j
        rw [hq]
theorem eh_c_sVs {ad : Nat → Int → Nat} {tc : Nat → ClassId} {σ : eh_S} {c f : Nat} {i z : Int} (hc : c < 5) (hf : f < (eh_ft c).length) : eh_c ad tc (eh_sV σ (100 * (c + 1) + f) i z) (c, i) = (ad c i, .inr (c, ((List.range (eh_ft c).length).map (fun k => eh_v ad (eh_fv σ c i k))).set f (eh_v ad (eh_fv (eh_sV σ (100 * (c + 1) + f) i z) c i f)))) := by
  rw [eh_c_o hc]
  have hl := eh_ft_len c
  have hm : (List.range (eh_ft c).length).map (fun k => eh_v ad (eh_fv (eh_sV σ (100 * (c + 1) + f) i z) c i k)) = ((List.range (eh_ft c).length).map (fun k => eh_v ad (eh_fv σ c i k))).set f (eh_v ad (eh_fv (eh_sV σ (100 * (c + 1) + f) i z) c i f)) := by
    apply List.ext_getElem?
    intro j
    by_cases hj : j = f
    · subst hj
      rw [List.getElem?_set_self (by simpa using hf)]
      simp [hf]
    · rw [List.getElem?_set_ne (Ne.symm hj), List.getElem?_map, List.getElem?_map]
      by_cases hjl : j < (eh_ft c).length
      · rw [List.getElem?_range hjl]
        simp only [Option.map_some]
        rw [eh_fv_sV (by rintro ⟨e1, -⟩; omega)]
      · rw [List.getElem?_eq_none (by simpa using Nat.le_of_not_lt hjl)]
        rfl
  rw [hm]
/-! locals -/
def eh_ll (ad : Nat → Int → Nat) (ls : eh_L) : List (Nat × Value) := ls.zipIdx.filterMap (fun p => p.1.map (fun v => (p.2, eh_v ad v)))
theorem eh_ll_mem {ad : Nat → Int → Nat} {ls : eh_L} {q : Nat × Value} : q ∈ eh_ll ad ls ↔ ∃ v, ls[q.1]? = some (some v) ∧ q.2 = eh_v ad v := by
  unfold eh_ll
  rw [List.mem_filterMap]
  constructor
  · rintro ⟨⟨o, i⟩, h1, h2⟩
    cases o with
    | none => simp at h2
    | some v =>
      simp only [Option.map_some, Option.some.injEq] at h2
      subst h2
      exact ⟨v, List.mk_mem_zipIdx_iff_getElem?.mp h1, rfl⟩
  · rintro ⟨v, h1, h2⟩
    refine ⟨(some v, q.1), List.mk_mem_zipIdx_iff_getElem?.mpr h1, ?_⟩
    simp [← h2]
def eh_lv (ad : Nat → Int → Nat) (la : Array Slot) (nL : Nat) (ls : eh_L) : Prop := ls.length = nL ∧ lv_has la nL (eh_ll ad ls)
theorem eh_lv_at {ad : Nat → Int → Nat} {la : Array Slot} {nL i : Nat} {ls : eh_L} {v : eh_V} (h : eh_lv ad la nL ls) (hi : ls[i]? = some (some v)) : la[i]? = some (.val (eh_v ad v)) := h.2.2.2 (i, eh_v ad v) (eh_ll_mem.mpr ⟨v, hi, rfl⟩)
theorem eh_lv_set {ad : Nat → Int → Nat} {la la' : Array Slot} {nL i : Nat} {ls : eh_L} {v : eh_V} (h : eh_lv ad la nL ls) (h2 : lv_has la' nL ((i, eh_v ad v) :: (eh_ll ad ls).filter (fun q => !(q.1 == i) && !(q.1 + 1 == i && q.2.category == 2)))) : eh_lv ad la' nL (ls.set i (some v)) := by
  refine ⟨by rw [List.length_set]; exact h.1, h2.1, h2.2.1, fun q hq => ?_⟩
  obtain ⟨w, h3, h4⟩ := eh_ll_mem.mp hq
  by_cases e : q.1 = i
  · rw [e] at h3
    have hi : i < ls.length := by
      have := (List.getElem?_eq_some_iff.mp h3).1
      simpa using this
    rw [List.getElem?_set_self hi] at h3
    cases h3
    refine h2.2.2 q ?_
    rw [show q = (i, eh_v ad v) from Prod.ext e h4]
    exact List.mem_cons_self
  · rw [List.getElem?_set_ne (Ne.symm e)] at h3
    refine h2.2.2 q (List.mem_cons_of_mem _ (List.mem_filter.mpr ⟨eh_ll_mem.mpr ⟨w, h3, h4⟩, ?_⟩))
    have hc : q.2.category = 1 := by rw [h4]; exact eh_v_cat ad w
    simp [e, hc]
/-! the stack's shapes -/
theorem eh_ld_s {ls : eh_L} {i : Nat} {K : Int → Prop} (h : eh_ld ls i K) : ∃ z, ls[i]? = some (some (.inl z)) ∧ K z := by
  unfold eh_ld at h
  split at h
  · exact ⟨_, by assumption, h⟩
  · exact h.elim
theorem eh_lr_s {ls : eh_L} {i : Nat} {K : Nat × Int → Prop} (h : eh_lr ls i K) : ∃ n, ls[i]? = some (some (.inr (some n))) ∧ K n := by
  unfold eh_lr at h
  split at h
  · exact ⟨_, by assumption, h⟩
  · exact h.elim
theorem eh_1_s {st : List eh_V} {K : Int → List eh_V → Prop} (h : eh_1 st K) : ∃ x st', st = .inl x :: st' ∧ K x st' := by
  unfold eh_1 at h
  split at h
  · exact ⟨_, _, rfl, h⟩
  · exact h.elim
theorem eh_1r_s {st : List eh_V} {K : Nat × Int → List eh_V → Prop} (h : eh_1r st K) : ∃ n st', st = .inr (some n) :: st' ∧ K n st' := by
  unfold eh_1r at h
  split at h
  · exact ⟨_, _, rfl, h⟩
  · exact h.elim
theorem eh_2_s {st : List eh_V} {K : Int → Int → List eh_V → Prop} (h : eh_2 st K) : ∃ x y st', st = .inl y :: .inl x :: st' ∧ K x y st' := by
  unfold eh_2 at h
  split at h
  · exact ⟨_, _, _, rfl, h⟩
  · exact h.elim
theorem eh_ar_s {st : List eh_V} {K : Nat → Int → Int → List eh_V → Prop} (h : eh_ar st K) : ∃ c i z st', st = .inl z :: .inr (some (c, i)) :: st' ∧ K c i z st' := by
  unfold eh_ar at h
  split at h
  · exact ⟨_, _, _, _, rfl, h⟩
  · exact h.elim
theorem eh_as_s {st : List eh_V} {K : Nat → Int → Int → Int → List eh_V → Prop} (h : eh_as st K) : ∃ c i z x st', st = .inl x :: .inl z :: .inr (some (c, i)) :: st' ∧ K c i z x st' := by
  unfold eh_as at h
  split at h
  · exact ⟨_, _, _, _, _, rfl, h⟩
  · exact h.elim
theorem eh_asr_s {st : List eh_V} {K : Nat → Int → Int → Nat × Int → List eh_V → Prop} (h : eh_asr st K) : ∃ c i z n st', st = .inr (some n) :: .inl z :: .inr (some (c, i)) :: st' ∧ K c i z n st' := by
  unfold eh_asr at h
  split at h
  · exact ⟨_, _, _, _, _, rfl, h⟩
  · exact h.elim
/-! more numbers -/
theorem eh_i_eq0 {x : Int} (h : eh_r x) : eh_i x = 0 ↔ x = 0 := eh_i_eq h eh_r_0
theorem eh_i_lt0 {x : Int} (h : eh_r x) : eh_i x < 0 ↔ x < 0 := eh_i_lt h eh_r_0
theorem eh_i_le0 {x : Int} (h : eh_r x) : eh_i x ≤ 0 ↔ x ≤ 0 := eh_i_le h eh_r_0
theorem eh_i_0lt {x : Int} (h : eh_r x) : 0 < eh_i x ↔ 0 < x := eh_i_lt eh_r_0 h
theorem eh_i_0le {x : Int} (h : eh_r x) : 0 ≤ eh_i x ↔ 0 ≤ x := eh_i_le eh_r_0 h
theorem eh_i_nat (n : Nat) : eh_i (n : Int) = nI n := Int32.ofInt_eq_ofNat
theorem eh_i_8 {z : Int} (h : -128 ≤ z ∧ z < 128) : (Int8.ofInt z).toInt32 = eh_i z := by
  apply Int32.toInt_inj.mp
  rw [Int8.toInt_toInt32, Int8.toInt_ofInt_of_le (by omega) (by omega), eh_i_t (by unfold eh_r; omega)]
theorem eh_i_16 {z : Int} (h : -32768 ≤ z ∧ z < 32768) : (Int16.ofInt z).toInt32 = eh_i z := by
  apply Int32.toInt_inj.mp
  rw [Int16.toInt_toInt32, Int16.toInt_ofInt_of_le (by omega) (by omega), eh_i_t (by unfold eh_r; omega)]
theorem eh_i_n8 {z : Int} (h : -128 ≤ z ∧ z < 128) : (eh_i z).toInt8.toInt32 = eh_i z := by
  unfold eh_i
  rw [Int32.toInt8_ofInt]
  exact eh_i_8 h
theorem eh_i_n16 {z : Int} (h : -32768 ≤ z ∧ z < 32768) : (eh_i z).toInt16.toInt32 = eh_i z := by
  unfold eh_i
  rw [Int32.toInt16_ofInt]
  exact eh_i_16 h
theorem eh_i_rem {x y : Int} (hx : 0 ≤ x ∧ x < 2147483648) (hy : 0 < y ∧ y < 2147483648) : eh_i x - eh_i x / eh_i y * eh_i y = eh_i (x % y) := by
  obtain ⟨a, rfl⟩ := Int.eq_ofNat_of_zero_le hx.1
  obtain ⟨d, rfl⟩ := Int.eq_ofNat_of_zero_le (Int.le_of_lt hy.1)
  rw [eh_i_nat, eh_i_nat, pk_rem (by omega) (by omega) (by omega), ← eh_i_nat]
  rfl
theorem eh_i_or {x y : Int} (hx : x = 0 ∨ x = 1) (hy : y = 0 ∨ y = 1) : eh_i x ||| eh_i y = eh_i (eh_or x y) := by
  rcases hx with rfl | rfl <;> rcases hy with rfl | rfl <;> decide
theorem eh_i_z {z : Int} (h : z = 0 ∨ z = 1) : narrow .boolean (.int (eh_i z)) = .int (eh_i z) := by
  rcases h with rfl | rfl <;> rfl
theorem eh_i_fz {z : Int} (h : z = 0 ∨ z = 1) : fits .boolean (.int (eh_i z)) = true := by
  rcases h with rfl | rfl <;> rfl
