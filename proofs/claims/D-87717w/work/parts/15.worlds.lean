/-! the world: EventHunter with what it has, EventHunterModel with what it has -/
def eh_kX1 : List Nat := [0, 1, 2, 100, 101, 102, 103, 104, 109, 111, 112, 113, 114, 117, 120, 200, 201, 202, 203, 300, 301, 4, 501, 502, 504, 505, 506, 507, 509, 510, 511, 512, 516, 517, 518, 519, 520, 521, 522, 523, 524, 525, 526, 527, 528, 529, 530, 531, 532, 533, 534, 536, 537, 538, 539, 540, 541, 543, 545, 546, 547]
def eh_kX8 : List Nat := [3, 404, 405, 406, 407, 408, 413, 414]
def eh_nX (c : Nat) : Nat := if c ∈ eh_kX1 then 1 else if c ∈ eh_kX8 then 8 else 0
def eh_LF : List (Nat × Int) := eh_kX1.map (fun c => (c, (0 : Int))) ++ eh_kX8.flatMap (fun c => (List.range 8).map (fun i : Nat => (c, (i : Int))))
def eh_LX (σ : eh_S) : List (Nat × Int) := eh_LF ++ (List.range (σ.1 10 0).toNat).map (fun j : Nat => (10, (j : Int))) ++ (List.range (σ.1 11 0).toNat).map (fun j : Nat => (11, (j : Int)))
theorem eh_LF_in {c : Nat} {i : Int} (h0 : 0 ≤ i) (h1 : i < eh_nX c) : (c, i) ∈ eh_LF := by
  unfold eh_LF
  unfold eh_nX at h1
  split at h1
  · refine List.mem_append_left _ (List.mem_map.mpr ⟨c, by assumption, ?_⟩)
    rw [show i = 0 by omega]
  · split at h1
    · refine List.mem_append_right _ (List.mem_flatMap.mpr ⟨c, by assumption, List.mem_map.mpr ⟨i.toNat, List.mem_range.mpr (by omega), ?_⟩⟩)
      rw [Int.toNat_of_nonneg h0]
    · omega
theorem eh_LF_out {n : Nat × Int} (h : n ∈ eh_LF) : n.1 ≠ 10 ∧ n.1 ≠ 11 ∧ n.1 ≠ 12 ∧ n.1 ≠ 13 ∧ n.1 ≠ 14 ∧ n.1 ≠ 15 := by
  have key : ∀ c, c ∈ eh_kX1 ∨ c ∈ eh_kX8 → c ≠ 10 ∧ c ≠ 11 ∧ c ≠ 12 ∧ c ≠ 13 ∧ c ≠ 14 ∧ c ≠ 15 := by
    intro c hc
    refine ⟨?_, ?_, ?_, ?_, ?_, ?_⟩ <;> (rintro rfl; revert hc; decide)
  unfold eh_LF at h
  rcases List.mem_append.mp h with h | h
  · obtain ⟨c, hc, rfl⟩ := List.mem_map.mp h
    exact key c (Or.inl hc)
  · obtain ⟨c, hc, h⟩ := List.mem_flatMap.mp h
    obtain ⟨i, -, rfl⟩ := List.mem_map.mp h
    exact key c (Or.inr hc)
theorem eh_worldX {ad : Nat → Int → Nat} (h99 : ∀ a : Int, ad 99 a = a.toNat) : eh_world eh_nX eh_LX ad := by
  refine ⟨fun σ c i h0 h1 => ?_, fun σ σ' h1 h2 => ?_, fun _ => ⟨fun σ j h0 h1 => ?_, fun σ j h0 h1 => ?_, fun σ σ' h0 h1 h2 => ?_, fun σ σ' h0 h1 h2 => ?_⟩, fun σ n hn => ?_, h99⟩
  · exact List.mem_append_left _ (List.mem_append_left _ (eh_LF_in h0 h1))
  · unfold eh_LX
    rw [h1, h2]
  · refine List.mem_append_left _ (List.mem_append_right _ (List.mem_map.mpr ⟨j.toNat, List.mem_range.mpr (by omega), ?_⟩))
    rw [Int.toNat_of_nonneg h0]
  · refine List.mem_append_right _ (List.mem_map.mpr ⟨j.toNat, List.mem_range.mpr (by omega), ?_⟩)
    rw [Int.toNat_of_nonneg h0]
  · refine ⟨eh_LF ++ (List.range (σ.1 10 0).toNat).map (fun j : Nat => (10, (j : Int))), (List.range (σ.1 11 0).toNat).map (fun j : Nat => (11, (j : Int))), rfl, ?_⟩
    unfold eh_LX
    rw [h1, h2, show (σ.1 10 0 + 1).toNat = (σ.1 10 0).toNat + 1 by omega, List.range_succ, List.map_append, List.map_singleton, Int.toNat_of_nonneg h0]
    simp
  · refine ⟨eh_LX σ, [], by simp, ?_⟩
    unfold eh_LX
    rw [h1, h2, show (σ.1 11 0 + 1).toNat = (σ.1 11 0).toNat + 1 by omega, List.range_succ, List.map_append, List.map_singleton, Int.toNat_of_nonneg h0]
    simp
  · unfold eh_LX at hn
    rcases List.mem_append.mp hn with hn | hn
    · rcases List.mem_append.mp hn with hn | hn
      · obtain ⟨a1, a2, a3, a4, a5, a6⟩ := eh_LF_out hn
        exact ⟨⟨a3, a4, a5, a6⟩, fun h => absurd h a1, fun h => absurd h a2⟩
      · obtain ⟨j, hj, rfl⟩ := List.mem_map.mp hn
        have := List.mem_range.mp hj
        exact ⟨by dsimp only; decide, fun _ => by dsimp only; omega, fun h => absurd h (by dsimp only; decide)⟩
    · obtain ⟨j, hj, rfl⟩ := List.mem_map.mp hn
      have := List.mem_range.mp hj
      exact ⟨by dsimp only; decide, fun h => absurd h (by dsimp only; decide), fun _ => by dsimp only; omega⟩
/-! System.arraycopy of ints -/
theorem eh_c_gen {ad : Nat → Int → Nat} {tc : Nat → ClassId} {σ σ' : eh_S} {c : Nat} {i : Int} (h1 : σ'.1 = σ.1) (h2 : ∀ c' i', ¬ (c' = c ∧ i' = i) → σ'.2 c' i' = σ.2 c' i') (hc : 100 ≤ c) (n : Nat × Int) (hn : n ≠ (c, i)) : eh_c ad tc σ' n = eh_c ad tc σ n := by
  obtain ⟨c', i'⟩ := n
  have hr : σ'.2 c' i' = σ.2 c' i' := h2 _ _ (fun q => hn (by rw [q.1, q.2]))
  have hs : ∀ d, d < 100 → σ'.2 d = σ.2 d := fun d hd => by
    funext i''
    exact h2 _ _ (fun q => by omega)
  by_cases h5 : c' < 5
  · rw [eh_c_o h5, eh_c_o h5]
    have hm : (fun k => eh_v ad (eh_fv σ' c' i' k)) = (fun k => eh_v ad (eh_fv σ c' i' k)) := by
      funext k
      rw [eh_fv_1 h1]
    rw [hm]
  · by_cases h10 : c' = 10
    · subst h10
      rw [eh_c_10, eh_c_10, hs 12 (by decide), hs 14 (by decide), hs 10 (by decide)]
    · by_cases h11 : c' = 11
      · subst h11
        rw [eh_c_11, eh_c_11, hs 13 (by decide), hs 15 (by decide), hs 11 (by decide)]
      · rw [eh_c_r h5 h10 h11, eh_c_r h5 h10 h11, hr]
        have hq : (fun j => eh_q ad σ' c' i' j) = (fun j => eh_q ad σ c' i' j) := by
          funext j
          exact eh_q_c hr j
        rw [hq]
def eh_Tcopy (nm : Nat → Nat) : eh_T := fun as σ _ K => ∃ (c0 : Nat) (i0 sp : Int) (c1 : Nat) (i1 dp n : Int), as = [.inr (some (c0, i0)), .inl sp, .inr (some (c1, i1)), .inl dp, .inl n] ∧ (0 ≤ i0 ∧ i0 < nm c0) ∧ (0 ≤ i1 ∧ i1 < nm c1) ∧ (eh_al c0).1 = 0 ∧ (eh_al c1).1 = 0 ∧ (0 ≤ sp ∧ 0 ≤ n ∧ sp + n ≤ (eh_al c0).2) ∧ (0 ≤ dp ∧ dp + n ≤ (eh_al c1).2) ∧ K none (eh_sC σ c0 i0 c1 i1 sp dp n)
theorem eh_copy {l : Launch} {D : va_G} {tc : Nat → ClassId} {ad : Nat → Int → Nat} {NL : eh_S → List (Nat × Int)} {nm : Nat → Nat} {own : String} {cc : ByteArray} {nL lv k : Nat} (h1 : Cond.methodLink own k arraycopyName ∈ lw_all) (hlv : 1 ≤ lv) (hWd : eh_world nm NL ad) : eh_CK l D tc ad NL own cc nL lv (.invokestatic k) 5 (eh_Tcopy nm) := by
  intro p e R s m args below meth c Q A hcx pc as rest σ b bd K H locs la hdg hn h8 hb1 hb2 hT hok hP hD hS hsz kk
  obtain ⟨hx, hb, hml, hown, hts, hK, hA, hRf, hRl⟩ := hcx
  obtain ⟨c0, i0, sp, c1, i1, dp, n, rfl, hl0, hl1, ha0, ha1, hs, hd, hk⟩ := hT
  obtain ⟨q0, -, hq0⟩ := eh_w_at (ad := ad) (tc := tc) (hWd.1 σ c0 i0 hl0.1 hl0.2)
  obtain ⟨q1, hq1', hq1⟩ := eh_w_at (ad := ad) (tc := tc) (hWd.1 σ c1 i1 hl1.1 hl1.2)
  rw [eh_c_a (by omega), ha0] at hq0
  rw [eh_c_a (by omega), ha1] at hq1
  have hge := eh_al_ge (show (eh_al c1).1 < 9 by omega)
  have hlt0 := eh_al_lt c0
  have hlt1 := eh_al_lt c1
  have es := eh_i_cl (z := sp) hs.1 (by omega)
  have ed := eh_i_cl (z := dp) hd.1 (by omega)
  have en := eh_i_cl (z := n) hs.2.1 (by omega)
  have hsum := eh_sum (ad := ad) rest h8
  show W p l e R s m args below meth c H locs b.1 b.2 Q (F0 m pc la (.int (eh_i n) :: .int (eh_i dp) :: .ref (ad c1 i1) :: .int (eh_i sp) :: .ref (ad c0 i0) :: rest.map (eh_v ad)))
  have hn1 : ¬ eh_i sp < 0 := fun q => by have := (eh_i_lt0 (x := sp) (by unfold eh_r; omega)).mp q; omega
  have hn2 : ¬ eh_i dp < 0 := fun q => by have := (eh_i_lt0 (x := dp) (by unfold eh_r; omega)).mp q; omega
  have hn3 : ¬ eh_i n < 0 := fun q => by have := (eh_i_lt0 (x := n) (by unfold eh_r; omega)).mp q; omega
  have hnf : nativeFrameWords "java/lang/System" "arraycopy" 5 + 11 ≤ 40 := by decide
  refine va_copyi hx hb (hml.trans hsz.symm) hown (hts _ h1) (hts _ q316) (hts _ q315) (hts _ q50) hK.1 hP hD hS q0 q1 0 0 hq0 hq1 rfl rfl rfl hn1 hn2 hn3 (by rw [es, en]; omega) (by rw [ed, en]; omega) (fun _ _ => rfl) (by rw [hRf]; exact hlv) (by rw [hRl]; omega) hdg (fun H1 locs1 hP1 hD1 hS1 => ?_)
  have hcell : eh_c ad tc (eh_sC σ c0 i0 c1 i1 sp dp n) (c1, i1) = (ad c1 i1, .inl (tc 0, (eh_al c1).2, .inl (va_cpy (fun j : Nat => eh_i (σ.2 c0 i0 j)) (fun j : Nat => eh_i (σ.2 c1 i1 j)) (eh_i sp).toNatClampNeg (eh_i dp).toNatClampNeg (eh_i n).toNatClampNeg))) := by
    rw [eh_c_a (by omega), ha1, es, ed, en]
    have e4 : (fun j : Nat => eh_i ((eh_sC σ c0 i0 c1 i1 sp dp n).2 c1 i1 j)) = va_cpy (fun j : Nat => eh_i (σ.2 c0 i0 j)) (fun j : Nat => eh_i (σ.2 c1 i1 j)) sp.toNat dp.toNat n.toNat := by
      funext j
      unfold va_cpy
      show eh_i (if c1 = c1 ∧ i1 = i1 ∧ dp ≤ (j : Int) ∧ (j : Int) < dp + n then σ.2 c0 i0 (sp + ((j : Int) - dp)) else σ.2 c1 i1 j) = _
      by_cases hj : dp ≤ (j : Int) ∧ (j : Int) < dp + n
      · rw [if_pos ⟨rfl, rfl, hj⟩, if_pos (by omega), show sp + ((j : Int) - dp) = ((sp.toNat + (j - dp.toNat) : Nat) : Int) by omega]
      · rw [if_neg (fun q => hj q.2.2), if_neg (by omega)]
    rw [e4]
  obtain ⟨hP2, hD2⟩ := eh_put (σ' := eh_sC σ c0 i0 c1 i1 sp dp n) hq1' (hWd.2.1 _ _ rfl rfl) hD (eh_c_gen rfl (fun c' i' hne => by
    funext j
    exact if_neg (fun q => hne ⟨q.1, q.2.1⟩)) hge) hcell hP1 hD1
  have hok2 : eh_ok (eh_sC σ c0 i0 c1 i1 sp dp n) := by
    refine ⟨hok.1, fun c' i' j' k1 k2 k3 k4 => ?_⟩
    have hge0 := eh_al_ge (show (eh_al c0).1 < 9 by omega)
    show eh_r (if c' = c1 ∧ i' = i1 ∧ dp ≤ j' ∧ j' < dp + n then σ.2 c0 i0 (sp + (j' - dp)) else σ.2 c' i' j')
    split
    · refine hok.2 _ _ _ (by omega) (by omega) ?_ ?_
      · rintro rfl
        exact absurd ha0 (by decide)
      · rintro rfl
        exact absurd ha0 (by decide)
    · exact hok.2 c' i' j' k1 k2 k3 k4
  have h := kk none _ H1 locs1 hk hok2 hP2 hD2 hS1
  refine W.widen (k := b.1 + bd.1) (n := b.2 + bd.2) (Nat.le_add_right _ _) (Nat.le_add_right _ _) ?_
  exact h
