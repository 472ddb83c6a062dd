/-! block rows of class X2: printed by gen_blocks.py -/
set_option maxRecDepth 100000
theorem bX2_count_0 {cs ss : Nat → Option (Nat × eh_T)} {lim : Nat × Nat} {Rt : Option eh_V → eh_S → Prop} {X : eh_X} (hX : eh_Ru eh_nX eh_fl2 eh_kn2 cs ss lim Rt 0 cX2_count X)  {σ : eh_S}  {p1 : Int} {o2 : Option eh_V} (hp1 : 0 ≤ p1 ∧ p1 < 8) (h : eh_ok σ → X 18 [some (.inr (some (2, 0))), some (.inr (some (3, p1))), some (.inl (σ.1 411 p1))] [] (eh_sV (eh_sV σ 302 0 p1) 303 0 0) (0, 0)) : X 0 [some (.inr (some (2, 0))), some (.inr (some (3, p1))), o2] [] σ (0, 0) := by
  refine ru_ok hX (fun hok => ?_)
  replace h := h hok
  refine ru_aload_n hX dX2_count_0 rfl (fun _ => ?_)
  refine ru_aload_n hX dX2_count_1 rfl (fun _ => ?_)
  refine ru_putR (id := 302) hX dX2_count_2 rfl ⟨by decide, by decide⟩ rfl hp1 rfl (fun _ => ?_)
  refine ru_aload_n hX dX2_count_5 rfl (fun hok1 => ?_)
  refine ru_iconst hX dX2_count_6 (fun _ => ?_)
  refine ru_putI (id := 303) hX dX2_count_7 rfl ⟨by decide, by decide⟩ rfl (by unfold eh_r; decide) rfl (fun _ => ?_)
  refine ru_aload_n hX dX2_count_10 rfl (fun hok2 => ?_)
  refine ru_get (v := .inr (some (3, p1))) hX dX2_count_11 rfl ⟨by decide, by decide⟩ (if_neg (Int.not_lt.mpr hp1.1)) (fun _ => ?_)
  refine ru_get (v := .inl (σ.1 411 p1)) hX dX2_count_14 rfl hp1 rfl (fun _ => ?_)
  refine ru_istore_n (ls1 := [some (.inr (some (2, 0))), some (.inr (some (3, p1))), some (.inl (σ.1 411 p1))]) hX dX2_count_17 (Nat.le_of_ble_eq_true rfl) rfl (fun _ => ?_)
  exact h
theorem bX2_count_18 {cs ss : Nat → Option (Nat × eh_T)} {lim : Nat × Nat} {Rt : Option eh_V → eh_S → Prop} {X : eh_X} (hX : eh_Ru eh_nX eh_fl2 eh_kn2 cs ss lim Rt 0 cX2_count X) {T38 : eh_T} (hc38 : cs 38 = some (4, T38)) {σ : eh_S}  {o1 : Option eh_V} {a2 : Int}  (h : eh_ok σ → (-2147483648 ≤ a2 ∧ a2 < 2147483648) ∧ ((σ.1 105 0 ≤ a2 → Rt (some (.inl (σ.1 303 0))) σ) ∧ (¬ σ.1 105 0 ≤ a2 → T38 [.inr (some (2, 0)), .inl 0, .inl 0, .inl a2] σ (0, 0) (fun r σ1 => X 36 [some (.inr (some (2, 0))), o1, some (.inl a2)] (r.toList ++ []) σ1 (0, 0))))) : X 18 [some (.inr (some (2, 0))), o1, some (.inl a2)] [] σ (0, 0) := by
  refine ru_ok hX (fun hok => ?_)
  replace h := h hok
  refine ru_iload_n hX dX2_count_18 rfl (fun _ => ?_)
  refine ru_aload_n hX dX2_count_19 rfl (fun _ => ?_)
  refine ru_get (v := .inr (some (0, 0))) hX dX2_count_20 rfl ⟨by decide, by decide⟩ rfl (fun _ => ?_)
  refine ru_get (v := .inl (σ.1 105 0)) hX dX2_count_23 rfl ⟨by decide, by decide⟩ rfl (fun _ => ?_)
  obtain ⟨k1, h⟩ := h
  refine ru_icmp_ge (tgt := 67) hX dX2_count_26 (by decide) k1 (hok.1 _ _) (fun q => ?_) (fun q => ?_)
  · have q2 := q
    replace h := h.1 q2
    refine ru_aload_n hX dX2_count_67 rfl (fun _ => ?_)
    refine ru_get (v := .inl (σ.1 303 0)) hX dX2_count_68 rfl ⟨by decide, by decide⟩ rfl (fun _ => ?_)
    exact ru_ireturn hX dX2_count_71 (Or.inl rfl) ⟨Nat.zero_le _, Nat.zero_le _⟩ (fun _ => h)
  · have q3 := q
    replace h := h.2 q3
    refine ru_aload_n hX dX2_count_29 rfl (fun _ => ?_)
    refine ru_iconst hX dX2_count_30 (fun _ => ?_)
    refine ru_iconst hX dX2_count_31 (fun _ => ?_)
    refine ru_iload_n hX dX2_count_32 rfl (fun _ => ?_)
    exact ru_callV (as := [.inr (some (2, 0)), .inl 0, .inl 0, .inl a2]) (rest := []) hX dX2_count_33 hc38 rfl (Nat.le_of_ble_eq_true rfl) (0, 0) ⟨Nat.zero_le _, Nat.zero_le _⟩ h
theorem bX2_count_36 {cs ss : Nat → Option (Nat × eh_T)} {lim : Nat × Nat} {Rt : Option eh_V → eh_S → Prop} {X : eh_X} (hX : eh_Ru eh_nX eh_fl2 eh_kn2 cs ss lim Rt 0 cX2_count X) {T42 : eh_T} (hc42 : cs 42 = some (2, T42)) {σ : eh_S}  {o1 : Option eh_V} {a2 : Int} {s0 : Int}  (h : eh_ok σ → (-2147483648 ≤ s0 ∧ s0 < 2147483648) ∧ ((s0 = 0 → X 61 [some (.inr (some (2, 0))), o1, some (.inl a2)] [] σ (0, 0)) ∧ (¬ s0 = 0 → (-2147483648 ≤ a2 ∧ a2 < 2147483648) ∧ T42 [.inr (some (2, 0)), .inl 1] (eh_sA (eh_sA σ 300 0 0 a2) 301 0 0 0) (0, 0) (fun r σ1 => X 61 [some (.inr (some (2, 0))), o1, some (.inl a2)] (r.toList ++ []) σ1 (0, 0))))) : X 36 [some (.inr (some (2, 0))), o1, some (.inl a2)] [.inl s0] σ (0, 0) := by
  refine ru_ok hX (fun hok => ?_)
  replace h := h hok
  obtain ⟨k1, h⟩ := h
  refine ru_if_ne (tgt := 42) hX dX2_count_36 (by decide) k1 (fun q => ?_) (fun q => ?_)
  · have q2 := q
    replace h := h.2 q2
    refine ru_aload_n hX dX2_count_42 rfl (fun _ => ?_)
    refine ru_get (v := .inr (some (300, 0))) hX dX2_count_43 rfl ⟨by decide, by decide⟩ rfl (fun _ => ?_)
    refine ru_iconst hX dX2_count_46 (fun _ => ?_)
    refine ru_iload_n hX dX2_count_47 rfl (fun _ => ?_)
    obtain ⟨k3, h⟩ := h
    refine ru_iastore hX dX2_count_48 ⟨by decide, by decide⟩ rfl ⟨by decide, by decide⟩ k3 (fun _ => ?_)
    refine ru_aload_n hX dX2_count_49 rfl (fun hok4 => ?_)
    refine ru_get (v := .inr (some (301, 0))) hX dX2_count_50 rfl ⟨by decide, by decide⟩ rfl (fun _ => ?_)
    refine ru_iconst hX dX2_count_53 (fun _ => ?_)
    refine ru_iconst hX dX2_count_54 (fun _ => ?_)
    refine ru_iastore hX dX2_count_55 ⟨by decide, by decide⟩ rfl ⟨by decide, by decide⟩ (by unfold eh_r; decide) (fun _ => ?_)
    refine ru_aload_n hX dX2_count_56 rfl (fun hok5 => ?_)
    refine ru_iconst hX dX2_count_57 (fun _ => ?_)
    exact ru_callV (as := [.inr (some (2, 0)), .inl 1]) (rest := []) hX dX2_count_58 hc42 rfl (Nat.le_of_ble_eq_true rfl) (0, 0) ⟨Nat.zero_le _, Nat.zero_le _⟩ h
  · have q6 := q
    replace h := h.1 q6
    refine ru_goto (tgt := 61) hX dX2_count_39 (by decide) ?_
    exact h
theorem bX2_count_61 {cs ss : Nat → Option (Nat × eh_T)} {lim : Nat × Nat} {Rt : Option eh_V → eh_S → Prop} {X : eh_X} (hX : eh_Ru eh_nX eh_fl2 eh_kn2 cs ss lim Rt 0 cX2_count X)  {σ : eh_S}  {o1 : Option eh_V} {a2 : Int}  (h : eh_ok σ → X 18 [some (.inr (some (2, 0))), o1, some (.inl (a2 + 1))] [] σ (0, 0)) : X 61 [some (.inr (some (2, 0))), o1, some (.inl a2)] [] σ (0, 0) := by
  refine ru_ok hX (fun hok => ?_)
  replace h := h hok
  refine ru_iinc (ls1 := [some (.inr (some (2, 0))), o1, some (.inl (a2 + 1))]) hX dX2_count_61 rfl rfl (fun _ => ?_)
  refine ru_goto (tgt := 18) hX dX2_count_64 (by decide) ?_
  exact h
theorem bX2_fits_0 {cs ss : Nat → Option (Nat × eh_T)} {lim : Nat × Nat} {Rt : Option eh_V → eh_S → Prop} {X : eh_X} (hX : eh_Ru eh_nX eh_fl2 eh_kn2 cs ss lim Rt 1 cX2_fits X) {T52 : eh_T} (hc52 : cs 52 = some (3, T52)) {σ : eh_S}  {a1 : Int} {a2 : Int} {a3 : Int} {o4 : Option eh_V} {o5 : Option eh_V} {o6 : Option eh_V} {o7 : Option eh_V}  (h : eh_ok σ → (0 ≤ a3 ∧ a3 < 1000) ∧ (0 ≤ σ.1 302 0 ∧ σ.1 302 0 < 8) ∧ (0 ≤ a1 ∧ a1 < 6) ∧ T52 [.inr (some (0, 0)), .inl (σ.2 101 0 a3), .inl (σ.2 405 (σ.1 302 0) a1)] σ (0, 0) (fun r σ1 => X 25 [some (.inr (some (2, 0))), some (.inl a1), some (.inl a2), some (.inl a3), o4, o5, o6, o7] (r.toList ++ []) σ1 (0, 0))) : X 0 [some (.inr (some (2, 0))), some (.inl a1), some (.inl a2), some (.inl a3), o4, o5, o6, o7] [] σ (0, 0) := by
  refine ru_ok hX (fun hok => ?_)
  replace h := h hok
  refine ru_aload_n hX dX2_fits_0 rfl (fun _ => ?_)
  refine ru_get (v := .inr (some (0, 0))) hX dX2_fits_1 rfl ⟨by decide, by decide⟩ rfl (fun _ => ?_)
  refine ru_aload_n hX dX2_fits_4 rfl (fun _ => ?_)
  refine ru_get (v := .inr (some (0, 0))) hX dX2_fits_5 rfl ⟨by decide, by decide⟩ rfl (fun _ => ?_)
  refine ru_get (v := .inr (some (101, 0))) hX dX2_fits_8 rfl ⟨by decide, by decide⟩ rfl (fun _ => ?_)
  refine ru_iload_n hX dX2_fits_11 rfl (fun _ => ?_)
  obtain ⟨k1, h⟩ := h
  refine ru_iaload hX dX2_fits_12 ⟨by decide, by decide⟩ rfl k1 (fun _ => ?_)
  refine ru_aload_n hX dX2_fits_13 rfl (fun _ => ?_)
  obtain ⟨k2, h⟩ := h
  refine ru_get (v := .inr (some (3, σ.1 302 0))) hX dX2_fits_14 rfl ⟨by decide, by decide⟩ (if_neg (Int.not_lt.mpr k2.1)) (fun _ => ?_)
  refine ru_get (v := .inr (some (405, σ.1 302 0))) hX dX2_fits_17 rfl k2 rfl (fun _ => ?_)
  refine ru_iload_n hX dX2_fits_20 rfl (fun _ => ?_)
  obtain ⟨k3, h⟩ := h
  refine ru_iaload hX dX2_fits_21 k2 rfl k3 (fun _ => ?_)
  exact ru_callV (as := [.inr (some (0, 0)), .inl (σ.2 101 0 a3), .inl (σ.2 405 (σ.1 302 0) a1)]) (rest := []) hX dX2_fits_22 hc52 rfl (Nat.le_of_ble_eq_true rfl) (0, 0) ⟨Nat.zero_le _, Nat.zero_le _⟩ h
theorem bX2_fits_25 {cs ss : Nat → Option (Nat × eh_T)} {lim : Nat × Nat} {Rt : Option eh_V → eh_S → Prop} {X : eh_X} (hX : eh_Ru eh_nX eh_fl2 eh_kn2 cs ss lim Rt 1 cX2_fits X) {T68 : eh_T} (hc68 : cs 68 = some (3, T68)) {σ : eh_S}  {a1 : Int} {a2 : Int} {a3 : Int} {o4 : Option eh_V} {o5 : Option eh_V} {o6 : Option eh_V} {o7 : Option eh_V} {s0 : Int}  (h : eh_ok σ → (-2147483648 ≤ s0 ∧ s0 < 2147483648) ∧ ((s0 = 0 → Rt (some (.inl 0)) σ) ∧ (¬ s0 = 0 → (0 ≤ σ.1 302 0 ∧ σ.1 302 0 < 8) ∧ (0 ≤ a1 ∧ a1 < 6) ∧ (0 ≤ (a3 * 4) + (σ.2 407 (σ.1 302 0) a1) ∧ (a3 * 4) + (σ.2 407 (σ.1 302 0) a1) < 4000) ∧ (((σ.2 406 (σ.1 302 0) a1 < 0 ∨ 3 < σ.2 406 (σ.1 302 0) a1) → T68 [.inr (some (2, 0)), .inl a2, .inl (σ.2 408 (σ.1 302 0) a1)] σ (0, 0) (fun r σ1 => X 152 [some (.inr (some (2, 0))), some (.inl a1), some (.inl a2), some (.inl a3), some (.inl (σ.2 408 (σ.1 302 0) a1)), some (.inl (σ.2 104 0 ((a3 * 4) + (σ.2 407 (σ.1 302 0) a1)))), o6, o7] (r.toList ++ []) σ1 (0, 0))) ∧ (σ.2 406 (σ.1 302 0) a1 = 0 → Rt (some (.inl 1)) σ) ∧ (σ.2 406 (σ.1 302 0) a1 = 1 → ((σ.2 408 (σ.1 302 0) a1 ≤ σ.2 104 0 ((a3 * 4) + (σ.2 407 (σ.1 302 0) a1)) → Rt (some (.inl 0)) σ) ∧ (¬ σ.2 408 (σ.1 302 0) a1 ≤ σ.2 104 0 ((a3 * 4) + (σ.2 407 (σ.1 302 0) a1)) → Rt (some (.inl 1)) σ))) ∧ (σ.2 406 (σ.1 302 0) a1 = 2 → ((σ.2 104 0 ((a3 * 4) + (σ.2 407 (σ.1 302 0) a1)) = σ.2 408 (σ.1 302 0) a1 → Rt (some (.inl 1)) σ) ∧ (¬ σ.2 104 0 ((a3 * 4) + (σ.2 407 (σ.1 302 0) a1)) = σ.2 408 (σ.1 302 0) a1 → Rt (some (.inl 0)) σ))) ∧ (σ.2 406 (σ.1 302 0) a1 = 3 → ((σ.2 104 0 ((a3 * 4) + (σ.2 407 (σ.1 302 0) a1)) ≤ σ.2 408 (σ.1 302 0) a1 → Rt (some (.inl 0)) σ) ∧ (¬ σ.2 104 0 ((a3 * 4) + (σ.2 407 (σ.1 302 0) a1)) ≤ σ.2 408 (σ.1 302 0) a1 → Rt (some (.inl 1)) σ))))))) : X 25 [some (.inr (some (2, 0))), some (.inl a1), some (.inl a2), some (.inl a3), o4, o5, o6, o7] [.inl s0] σ (0, 0) := by
  refine ru_ok hX (fun hok => ?_)
  replace h := h hok
  obtain ⟨k1, h⟩ := h
  refine ru_if_ne (tgt := 30) hX dX2_fits_25 (by decide) k1 (fun q => ?_) (fun q => ?_)
  · have q2 := q
    replace h := h.2 q2
    refine ru_aload_n hX dX2_fits_30 rfl (fun _ => ?_)
    obtain ⟨k3, h⟩ := h
    refine ru_get (v := .inr (some (3, σ.1 302 0))) hX dX2_fits_31 rfl ⟨by decide, by decide⟩ (if_neg (Int.not_lt.mpr k3.1)) (fun _ => ?_)
    refine ru_get (v := .inr (some (408, σ.1 302 0))) hX dX2_fits_34 rfl k3 rfl (fun _ => ?_)
    refine ru_iload_n hX dX2_fits_37 rfl (fun _ => ?_)
    obtain ⟨k4, h⟩ := h
    refine ru_iaload hX dX2_fits_38 k3 rfl k4 (fun _ => ?_)
    refine ru_istore (ls1 := [some (.inr (some (2, 0))), some (.inl a1), some (.inl a2), some (.inl a3), some (.inl (σ.2 408 (σ.1 302 0) a1)), o5, o6, o7]) hX dX2_fits_39 (Nat.le_of_ble_eq_true rfl) rfl (fun _ => ?_)
    refine ru_aload_n hX dX2_fits_41 rfl (fun _ => ?_)
    refine ru_get (v := .inr (some (0, 0))) hX dX2_fits_42 rfl ⟨by decide, by decide⟩ rfl (fun _ => ?_)
    refine ru_get (v := .inr (some (104, 0))) hX dX2_fits_45 rfl ⟨by decide, by decide⟩ rfl (fun _ => ?_)
    refine ru_iload_n hX dX2_fits_48 rfl (fun _ => ?_)
    refine ru_iconst hX dX2_fits_49 (fun _ => ?_)
    refine ru_imul hX dX2_fits_50 (fun _ => ?_)
    refine ru_aload_n hX dX2_fits_51 rfl (fun _ => ?_)
    refine ru_get (v := .inr (some (3, σ.1 302 0))) hX dX2_fits_52 rfl ⟨by decide, by decide⟩ (if_neg (Int.not_lt.mpr k3.1)) (fun _ => ?_)
    refine ru_get (v := .inr (some (407, σ.1 302 0))) hX dX2_fits_55 rfl k3 rfl (fun _ => ?_)
    refine ru_iload_n hX dX2_fits_58 rfl (fun _ => ?_)
    refine ru_iaload hX dX2_fits_59 k3 rfl k4 (fun _ => ?_)
    refine ru_iadd hX dX2_fits_60 (fun _ => ?_)
    obtain ⟨k5, h⟩ := h
    refine ru_iaload hX dX2_fits_61 ⟨by decide, by decide⟩ rfl k5 (fun _ => ?_)
    refine ru_istore (ls1 := [some (.inr (some (2, 0))), some (.inl a1), some (.inl a2), some (.inl a3), some (.inl (σ.2 408 (σ.1 302 0) a1)), some (.inl (σ.2 104 0 ((a3 * 4) + (σ.2 407 (σ.1 302 0) a1)))), o6, o7]) hX dX2_fits_62 (Nat.le_of_ble_eq_true rfl) rfl (fun _ => ?_)
    refine ru_aload_n hX dX2_fits_64 rfl (fun _ => ?_)
    refine ru_get (v := .inr (some (3, σ.1 302 0))) hX dX2_fits_65 rfl ⟨by decide, by decide⟩ (if_neg (Int.not_lt.mpr k3.1)) (fun _ => ?_)
    refine ru_get (v := .inr (some (406, σ.1 302 0))) hX dX2_fits_68 rfl k3 rfl (fun _ => ?_)
    refine ru_iload_n hX dX2_fits_71 rfl (fun _ => ?_)
    refine ru_iaload hX dX2_fits_72 k3 rfl k4 (fun _ => ?_)
    refine ru_tsw (tgt := 145) hX dX2_fits_73 (by decide) (hok.2 _ _ _ (by decide) (by decide) (by decide) (by decide)) (fun q => ?_) (fun q1 q2 => ?_)
    · replace h := h.1 q
      refine ru_aload_n hX dX2_fits_145 rfl (fun _ => ?_)
      refine ru_iload_n hX dX2_fits_146 rfl (fun _ => ?_)
      refine ru_iload hX dX2_fits_147 rfl (fun _ => ?_)
      exact ru_callV (as := [.inr (some (2, 0)), .inl a2, .inl (σ.2 408 (σ.1 302 0) a1)]) (rest := []) hX dX2_fits_149 hc68 rfl (Nat.le_of_ble_eq_true rfl) (0, 0) ⟨Nat.zero_le _, Nat.zero_le _⟩ h
    · replace h := h.2
      rcases (show σ.2 406 (σ.1 302 0) a1 = 0 ∨ σ.2 406 (σ.1 302 0) a1 = 1 ∨ σ.2 406 (σ.1 302 0) a1 = 2 ∨ σ.2 406 (σ.1 302 0) a1 = 3 by omega) with q | q | q | q
      · refine ⟨31, 104, by rw [q]; rfl, by decide, ?_⟩
        replace h := h.1 q
        refine ru_iconst hX dX2_fits_104 (fun _ => ?_)
        exact ru_ireturn hX dX2_fits_105 (Or.inr ⟨rfl, by decide⟩) ⟨Nat.zero_le _, Nat.zero_le _⟩ (fun _ => h)
      · refine ⟨33, 106, by rw [q]; rfl, by decide, ?_⟩
        replace h := h.2.1 q
        refine ru_iload hX dX2_fits_106 rfl (fun _ => ?_)
        refine ru_iload hX dX2_fits_108 rfl (fun _ => ?_)
        refine ru_icmp_ge (tgt := 117) hX dX2_fits_110 (by decide) (hok.2 _ _ _ (by decide) (by decide) (by decide) (by decide)) (hok.2 _ _ _ (by decide) (by decide) (by decide) (by decide)) (fun q => ?_) (fun q => ?_)
        · have q6 := q
          replace h := h.1 q6
          refine ru_iconst hX dX2_fits_117 (fun _ => ?_)
          exact ru_ireturn hX dX2_fits_118 (Or.inr ⟨rfl, by decide⟩) ⟨Nat.zero_le _, Nat.zero_le _⟩ (fun _ => h)
        · have q7 := q
          replace h := h.2 q7
          refine ru_iconst hX dX2_fits_113 (fun _ => ?_)
          refine ru_goto (tgt := 118) hX dX2_fits_114 (by decide) ?_
          exact ru_ireturn hX dX2_fits_118 (Or.inr ⟨rfl, by decide⟩) ⟨Nat.zero_le _, Nat.zero_le _⟩ (fun _ => h)
      · refine ⟨46, 119, by rw [q]; rfl, by decide, ?_⟩
        replace h := h.2.2.1 q
        refine ru_iload hX dX2_fits_119 rfl (fun _ => ?_)
        refine ru_iload hX dX2_fits_121 rfl (fun _ => ?_)
        refine ru_icmp_ne (tgt := 130) hX dX2_fits_123 (by decide) (hok.2 _ _ _ (by decide) (by decide) (by decide) (by decide)) (hok.2 _ _ _ (by decide) (by decide) (by decide) (by decide)) (fun q => ?_) (fun q => ?_)
        · have q8 := q
          replace h := h.2 q8
          refine ru_iconst hX dX2_fits_130 (fun _ => ?_)
          exact ru_ireturn hX dX2_fits_131 (Or.inr ⟨rfl, by decide⟩) ⟨Nat.zero_le _, Nat.zero_le _⟩ (fun _ => h)
        · have q9 := q
          replace h := h.1 q9
          refine ru_iconst hX dX2_fits_126 (fun _ => ?_)
          refine ru_goto (tgt := 131) hX dX2_fits_127 (by decide) ?_
          exact ru_ireturn hX dX2_fits_131 (Or.inr ⟨rfl, by decide⟩) ⟨Nat.zero_le _, Nat.zero_le _⟩ (fun _ => h)
      · refine ⟨59, 132, by rw [q]; rfl, by decide, ?_⟩
        replace h := h.2.2.2 q
        refine ru_iload hX dX2_fits_132 rfl (fun _ => ?_)
        refine ru_iload hX dX2_fits_134 rfl (fun _ => ?_)
        refine ru_icmp_le (tgt := 143) hX dX2_fits_136 (by decide) (hok.2 _ _ _ (by decide) (by decide) (by decide) (by decide)) (hok.2 _ _ _ (by decide) (by decide) (by decide) (by decide)) (fun q => ?_) (fun q => ?_)
        · have q10 := q
          replace h := h.1 q10
          refine ru_iconst hX dX2_fits_143 (fun _ => ?_)
          exact ru_ireturn hX dX2_fits_144 (Or.inr ⟨rfl, by decide⟩) ⟨Nat.zero_le _, Nat.zero_le _⟩ (fun _ => h)
        · have q11 := q
          replace h := h.2 q11
          refine ru_iconst hX dX2_fits_139 (fun _ => ?_)
          refine ru_goto (tgt := 144) hX dX2_fits_140 (by decide) ?_
          exact ru_ireturn hX dX2_fits_144 (Or.inr ⟨rfl, by decide⟩) ⟨Nat.zero_le _, Nat.zero_le _⟩ (fun _ => h)
  · have q12 := q
    replace h := h.1 q12
    refine ru_iconst hX dX2_fits_28 (fun _ => ?_)
    exact ru_ireturn hX dX2_fits_29 (Or.inr ⟨rfl, by decide⟩) ⟨Nat.zero_le _, Nat.zero_le _⟩ (fun _ => h)
theorem bX2_fits_152 {cs ss : Nat → Option (Nat × eh_T)} {lim : Nat × Nat} {Rt : Option eh_V → eh_S → Prop} {X : eh_X} (hX : eh_Ru eh_nX eh_fl2 eh_kn2 cs ss lim Rt 1 cX2_fits X)  {σ : eh_S}  {a1 : Int} {o2 : Option eh_V} {o3 : Option eh_V} {o4 : Option eh_V} {a5 : Int} {o6 : Option eh_V} {o7 : Option eh_V} {s0 : Int}  (h : eh_ok σ → (-2147483648 ≤ s0 ∧ s0 < 2147483648) ∧ ((s0 = (-1) → Rt (some (.inl 1)) σ) ∧ (¬ s0 = (-1) → (0 ≤ σ.1 302 0 ∧ σ.1 302 0 < 8) ∧ (0 ≤ a1 ∧ a1 < 6) ∧ (0 ≤ (s0 * 4) + (σ.2 407 (σ.1 302 0) a1) ∧ (s0 * 4) + (σ.2 407 (σ.1 302 0) a1) < 4000) ∧ ((σ.2 406 (σ.1 302 0) a1 = 4 → (-2147483648 ≤ a5 ∧ a5 < 2147483648) ∧ ((σ.2 104 0 ((s0 * 4) + (σ.2 407 (σ.1 302 0) a1)) ≤ a5 → Rt (some (.inl 0)) σ) ∧ (¬ σ.2 104 0 ((s0 * 4) + (σ.2 407 (σ.1 302 0) a1)) ≤ a5 → Rt (some (.inl 1)) σ))) ∧ (¬ σ.2 406 (σ.1 302 0) a1 = 4 → ((σ.2 406 (σ.1 302 0) a1 = 5 → (-2147483648 ≤ a5 ∧ a5 < 2147483648) ∧ ((a5 = σ.2 104 0 ((s0 * 4) + (σ.2 407 (σ.1 302 0) a1)) → Rt (some (.inl 1)) σ) ∧ (¬ a5 = σ.2 104 0 ((s0 * 4) + (σ.2 407 (σ.1 302 0) a1)) → Rt (some (.inl 0)) σ))) ∧ (¬ σ.2 406 (σ.1 302 0) a1 = 5 → (-2147483648 ≤ a5 ∧ a5 < 2147483648) ∧ ((a5 ≤ σ.2 104 0 ((s0 * 4) + (σ.2 407 (σ.1 302 0) a1)) → Rt (some (.inl 0)) σ) ∧ (¬ a5 ≤ σ.2 104 0 ((s0 * 4) + (σ.2 407 (σ.1 302 0) a1)) → Rt (some (.inl 1)) σ))))))))) : X 152 [some (.inr (some (2, 0))), some (.inl a1), o2, o3, o4, some (.inl a5), o6, o7] [.inl s0] σ (0, 0) := by
  refine ru_ok hX (fun hok => ?_)
  replace h := h hok
  refine ru_istore (ls1 := [some (.inr (some (2, 0))), some (.inl a1), o2, o3, o4, some (.inl a5), some (.inl s0), o7]) hX dX2_fits_152 (Nat.le_of_ble_eq_true rfl) rfl (fun _ => ?_)
  refine ru_iload hX dX2_fits_154 rfl (fun _ => ?_)
  refine ru_iconst hX dX2_fits_156 (fun _ => ?_)
  obtain ⟨k1, h⟩ := h
  refine ru_icmp_ne (tgt := 162) hX dX2_fits_157 (by decide) k1 (by unfold eh_r; decide) (fun q => ?_) (fun q => ?_)
  · have q2 := q
    replace h := h.2 q2
    refine ru_aload_n hX dX2_fits_162 rfl (fun _ => ?_)
    refine ru_get (v := .inr (some (0, 0))) hX dX2_fits_163 rfl ⟨by decide, by decide⟩ rfl (fun _ => ?_)
    refine ru_get (v := .inr (some (104, 0))) hX dX2_fits_166 rfl ⟨by decide, by decide⟩ rfl (fun _ => ?_)
    refine ru_iload hX dX2_fits_169 rfl (fun _ => ?_)
    refine ru_iconst hX dX2_fits_171 (fun _ => ?_)
    refine ru_imul hX dX2_fits_172 (fun _ => ?_)
    refine ru_aload_n hX dX2_fits_173 rfl (fun _ => ?_)
    obtain ⟨k3, h⟩ := h
    refine ru_get (v := .inr (some (3, σ.1 302 0))) hX dX2_fits_174 rfl ⟨by decide, by decide⟩ (if_neg (Int.not_lt.mpr k3.1)) (fun _ => ?_)
    refine ru_get (v := .inr (some (407, σ.1 302 0))) hX dX2_fits_177 rfl k3 rfl (fun _ => ?_)
    refine ru_iload_n hX dX2_fits_180 rfl (fun _ => ?_)
    obtain ⟨k4, h⟩ := h
    refine ru_iaload hX dX2_fits_181 k3 rfl k4 (fun _ => ?_)
    refine ru_iadd hX dX2_fits_182 (fun _ => ?_)
    obtain ⟨k5, h⟩ := h
    refine ru_iaload hX dX2_fits_183 ⟨by decide, by decide⟩ rfl k5 (fun _ => ?_)
    refine ru_istore (ls1 := [some (.inr (some (2, 0))), some (.inl a1), o2, o3, o4, some (.inl a5), some (.inl s0), some (.inl (σ.2 104 0 ((s0 * 4) + (σ.2 407 (σ.1 302 0) a1))))]) hX dX2_fits_184 (Nat.le_of_ble_eq_true rfl) rfl (fun _ => ?_)
    refine ru_aload_n hX dX2_fits_186 rfl (fun _ => ?_)
    refine ru_get (v := .inr (some (3, σ.1 302 0))) hX dX2_fits_187 rfl ⟨by decide, by decide⟩ (if_neg (Int.not_lt.mpr k3.1)) (fun _ => ?_)
    refine ru_get (v := .inr (some (406, σ.1 302 0))) hX dX2_fits_190 rfl k3 rfl (fun _ => ?_)
    refine ru_iload_n hX dX2_fits_193 rfl (fun _ => ?_)
    refine ru_iaload hX dX2_fits_194 k3 rfl k4 (fun _ => ?_)
    refine ru_iconst hX dX2_fits_195 (fun _ => ?_)
    refine ru_icmp_ne (tgt := 214) hX dX2_fits_196 (by decide) (hok.2 _ _ _ (by decide) (by decide) (by decide) (by decide)) (by unfold eh_r; decide) (fun q => ?_) (fun q => ?_)
    · have q6 := q
      replace h := h.2 q6
      refine ru_aload_n hX dX2_fits_214 rfl (fun _ => ?_)
      refine ru_get (v := .inr (some (3, σ.1 302 0))) hX dX2_fits_215 rfl ⟨by decide, by decide⟩ (if_neg (Int.not_lt.mpr k3.1)) (fun _ => ?_)
      refine ru_get (v := .inr (some (406, σ.1 302 0))) hX dX2_fits_218 rfl k3 rfl (fun _ => ?_)
      refine ru_iload_n hX dX2_fits_221 rfl (fun _ => ?_)
      refine ru_iaload hX dX2_fits_222 k3 rfl k4 (fun _ => ?_)
      refine ru_iconst hX dX2_fits_223 (fun _ => ?_)
      refine ru_icmp_ne (tgt := 242) hX dX2_fits_224 (by decide) (hok.2 _ _ _ (by decide) (by decide) (by decide) (by decide)) (by unfold eh_r; decide) (fun q => ?_) (fun q => ?_)
      · have q7 := q
        replace h := h.2 q7
        refine ru_iload hX dX2_fits_242 rfl (fun _ => ?_)
        refine ru_iload hX dX2_fits_244 rfl (fun _ => ?_)
        obtain ⟨k8, h⟩ := h
        refine ru_icmp_le (tgt := 253) hX dX2_fits_246 (by decide) k8 (hok.2 _ _ _ (by decide) (by decide) (by decide) (by decide)) (fun q => ?_) (fun q => ?_)
        · have q9 := q
          replace h := h.1 q9
          refine ru_iconst hX dX2_fits_253 (fun _ => ?_)
          exact ru_ireturn hX dX2_fits_254 (Or.inr ⟨rfl, by decide⟩) ⟨Nat.zero_le _, Nat.zero_le _⟩ (fun _ => h)
        · have q10 := q
          replace h := h.2 q10
          refine ru_iconst hX dX2_fits_249 (fun _ => ?_)
          refine ru_goto (tgt := 254) hX dX2_fits_250 (by decide) ?_
          exact ru_ireturn hX dX2_fits_254 (Or.inr ⟨rfl, by decide⟩) ⟨Nat.zero_le _, Nat.zero_le _⟩ (fun _ => h)
      · have q11 := q
        replace h := h.1 q11
        refine ru_iload hX dX2_fits_227 rfl (fun _ => ?_)
        refine ru_iload hX dX2_fits_229 rfl (fun _ => ?_)
        obtain ⟨k12, h⟩ := h
        refine ru_icmp_ne (tgt := 238) hX dX2_fits_231 (by decide) k12 (hok.2 _ _ _ (by decide) (by decide) (by decide) (by decide)) (fun q => ?_) (fun q => ?_)
        · have q13 := q
          replace h := h.2 q13
          refine ru_iconst hX dX2_fits_238 (fun _ => ?_)
          refine ru_goto (tgt := 254) hX dX2_fits_239 (by decide) ?_
          exact ru_ireturn hX dX2_fits_254 (Or.inr ⟨rfl, by decide⟩) ⟨Nat.zero_le _, Nat.zero_le _⟩ (fun _ => h)
        · have q14 := q
          replace h := h.1 q14
          refine ru_iconst hX dX2_fits_234 (fun _ => ?_)
          refine ru_goto (tgt := 254) hX dX2_fits_235 (by decide) ?_
          exact ru_ireturn hX dX2_fits_254 (Or.inr ⟨rfl, by decide⟩) ⟨Nat.zero_le _, Nat.zero_le _⟩ (fun _ => h)
    · have q15 := q
      replace h := h.1 q15
      refine ru_iload hX dX2_fits_199 rfl (fun _ => ?_)
      refine ru_iload hX dX2_fits_201 rfl (fun _ => ?_)
      obtain ⟨k16, h⟩ := h
      refine ru_icmp_ge (tgt := 210) hX dX2_fits_203 (by decide) k16 (hok.2 _ _ _ (by decide) (by decide) (by decide) (by decide)) (fun q => ?_) (fun q => ?_)
      · have q17 := q
        replace h := h.1 q17
        refine ru_iconst hX dX2_fits_210 (fun _ => ?_)
        refine ru_goto (tgt := 254) hX dX2_fits_211 (by decide) ?_
        exact ru_ireturn hX dX2_fits_254 (Or.inr ⟨rfl, by decide⟩) ⟨Nat.zero_le _, Nat.zero_le _⟩ (fun _ => h)
      · have q18 := q
        replace h := h.2 q18
        refine ru_iconst hX dX2_fits_206 (fun _ => ?_)
        refine ru_goto (tgt := 254) hX dX2_fits_207 (by decide) ?_
        exact ru_ireturn hX dX2_fits_254 (Or.inr ⟨rfl, by decide⟩) ⟨Nat.zero_le _, Nat.zero_le _⟩ (fun _ => h)
  · have q19 := q
    replace h := h.1 q19
    refine ru_iconst hX dX2_fits_160 (fun _ => ?_)
    exact ru_ireturn hX dX2_fits_161 (Or.inr ⟨rfl, by decide⟩) ⟨Nat.zero_le _, Nat.zero_le _⟩ (fun _ => h)
theorem bX2_last_0 {cs ss : Nat → Option (Nat × eh_T)} {lim : Nat × Nat} {Rt : Option eh_V → eh_S → Prop} {X : eh_X} (hX : eh_Ru eh_nX eh_fl2 eh_kn2 cs ss lim Rt 0 cX2_last X)  {σ : eh_S}  {a1 : Int} {a2 : Int} {o3 : Option eh_V}  (h : eh_ok σ → X 4 [some (.inr (some (2, 0))), some (.inl a1), some (.inl a2), some (.inl (a1 - 1))] [] σ (0, 0)) : X 0 [some (.inr (some (2, 0))), some (.inl a1), some (.inl a2), o3] [] σ (0, 0) := by
  refine ru_ok hX (fun hok => ?_)
  replace h := h hok
  refine ru_iload_n hX dX2_last_0 rfl (fun _ => ?_)
  refine ru_iconst hX dX2_last_1 (fun _ => ?_)
  refine ru_isub hX dX2_last_2 (fun _ => ?_)
  refine ru_istore_n (ls1 := [some (.inr (some (2, 0))), some (.inl a1), some (.inl a2), some (.inl (a1 - 1))]) hX dX2_last_3 (Nat.le_of_ble_eq_true rfl) rfl (fun _ => ?_)
  exact h
theorem bX2_last_4 {cs ss : Nat → Option (Nat × eh_T)} {lim : Nat × Nat} {Rt : Option eh_V → eh_S → Prop} {X : eh_X} (hX : eh_Ru eh_nX eh_fl2 eh_kn2 cs ss lim Rt 0 cX2_last X)  {σ : eh_S}  {o1 : Option eh_V} {a2 : Int} {a3 : Int}  (h : eh_ok σ → (-2147483648 ≤ a3 ∧ a3 < 2147483648) ∧ ((a3 < 0 → ((0 ≤ a3 → (0 ≤ a3 ∧ a3 < 12) ∧ Rt (some (.inl (σ.2 300 0 a3))) σ) ∧ (¬ 0 ≤ a3 → Rt (some (.inl (-1))) σ))) ∧ (¬ a3 < 0 → (0 ≤ a3 ∧ a3 < 12) ∧ (-2147483648 ≤ a2 ∧ a2 < 2147483648) ∧ ((σ.2 301 0 a3 = a2 → ((0 ≤ a3 → Rt (some (.inl (σ.2 300 0 a3))) σ) ∧ (¬ 0 ≤ a3 → Rt (some (.inl (-1))) σ))) ∧ (¬ σ.2 301 0 a3 = a2 → X 4 [some (.inr (some (2, 0))), o1, some (.inl a2), some (.inl (a3 + (-1)))] [] σ (0, 0)))))) : X 4 [some (.inr (some (2, 0))), o1, some (.inl a2), some (.inl a3)] [] σ (0, 0) := by
  refine ru_ok hX (fun hok => ?_)
  replace h := h hok
  refine ru_iload_n hX dX2_last_4 rfl (fun _ => ?_)
  obtain ⟨k1, h⟩ := h
  refine ru_if_lt (tgt := 24) hX dX2_last_5 (by decide) k1 (fun q => ?_) (fun q => ?_)
  · have q2 := q
    replace h := h.1 q2
    refine ru_iload_n hX dX2_last_24 rfl (fun _ => ?_)
    refine ru_if_ge (tgt := 32) hX dX2_last_25 (by decide) k1 (fun q => ?_) (fun q => ?_)
    · have q3 := q
      replace h := h.1 q3
      refine ru_aload_n hX dX2_last_32 rfl (fun _ => ?_)
      refine ru_get (v := .inr (some (300, 0))) hX dX2_last_33 rfl ⟨by decide, by decide⟩ rfl (fun _ => ?_)
      refine ru_iload_n hX dX2_last_36 rfl (fun _ => ?_)
      obtain ⟨k4, h⟩ := h
      refine ru_iaload hX dX2_last_37 ⟨by decide, by decide⟩ rfl k4 (fun _ => ?_)
      exact ru_ireturn hX dX2_last_38 (Or.inl rfl) ⟨Nat.zero_le _, Nat.zero_le _⟩ (fun _ => h)
    · have q5 := q
      replace h := h.2 q5
      refine ru_iconst hX dX2_last_28 (fun _ => ?_)
      refine ru_goto (tgt := 38) hX dX2_last_29 (by decide) ?_
      exact ru_ireturn hX dX2_last_38 (Or.inl rfl) ⟨Nat.zero_le _, Nat.zero_le _⟩ (fun _ => h)
  · have q6 := q
    replace h := h.2 q6
    refine ru_aload_n hX dX2_last_8 rfl (fun _ => ?_)
    refine ru_get (v := .inr (some (301, 0))) hX dX2_last_9 rfl ⟨by decide, by decide⟩ rfl (fun _ => ?_)
    refine ru_iload_n hX dX2_last_12 rfl (fun _ => ?_)
    obtain ⟨k7, h⟩ := h
    refine ru_iaload hX dX2_last_13 ⟨by decide, by decide⟩ rfl k7 (fun _ => ?_)
    refine ru_iload_n hX dX2_last_14 rfl (fun _ => ?_)
    obtain ⟨k8, h⟩ := h
    refine ru_icmp_eq (tgt := 24) hX dX2_last_15 (by decide) (hok.2 _ _ _ (by decide) (by decide) (by decide) (by decide)) k8 (fun q => ?_) (fun q => ?_)
    · have q9 := q
      replace h := h.1 q9
      refine ru_iload_n hX dX2_last_24 rfl (fun _ => ?_)
      refine ru_if_ge (tgt := 32) hX dX2_last_25 (by decide) k1 (fun q => ?_) (fun q => ?_)
      · have q10 := q
        replace h := h.1 q10
        refine ru_aload_n hX dX2_last_32 rfl (fun _ => ?_)
        refine ru_get (v := .inr (some (300, 0))) hX dX2_last_33 rfl ⟨by decide, by decide⟩ rfl (fun _ => ?_)
        refine ru_iload_n hX dX2_last_36 rfl (fun _ => ?_)
        refine ru_iaload hX dX2_last_37 ⟨by decide, by decide⟩ rfl k7 (fun _ => ?_)
        exact ru_ireturn hX dX2_last_38 (Or.inl rfl) ⟨Nat.zero_le _, Nat.zero_le _⟩ (fun _ => h)
      · have q11 := q
        replace h := h.2 q11
        refine ru_iconst hX dX2_last_28 (fun _ => ?_)
        refine ru_goto (tgt := 38) hX dX2_last_29 (by decide) ?_
        exact ru_ireturn hX dX2_last_38 (Or.inl rfl) ⟨Nat.zero_le _, Nat.zero_le _⟩ (fun _ => h)
    · have q12 := q
      replace h := h.2 q12
      refine ru_iinc (ls1 := [some (.inr (some (2, 0))), o1, some (.inl a2), some (.inl (a3 + (-1)))]) hX dX2_last_18 rfl rfl (fun _ => ?_)
      refine ru_goto (tgt := 4) hX dX2_last_21 (by decide) ?_
      exact h
theorem bX2_go_0 {cs ss : Nat → Option (Nat × eh_T)} {lim : Nat × Nat} {Rt : Option eh_V → eh_S → Prop} {X : eh_X} (hX : eh_Ru eh_nX eh_fl2 eh_kn2 cs ss lim Rt 2 cX2_go X) {T81 : eh_T} (hc81 : cs 81 = some (2, T81)) {σ : eh_S}  {a1 : Int} {o2 : Option eh_V} {o3 : Option eh_V} {o4 : Option eh_V} {o5 : Option eh_V}  (h : eh_ok σ → (0 ≤ a1 - 1 ∧ a1 - 1 < 12) ∧ T81 [.inr (some (2, 0)), .inl (σ.2 301 0 (a1 - 1))] σ (0, 0) (fun r σ1 => X 12 [some (.inr (some (2, 0))), some (.inl a1), o2, o3, o4, o5] (r.toList ++ []) σ1 (0, 0))) : X 0 [some (.inr (some (2, 0))), some (.inl a1), o2, o3, o4, o5] [] σ (0, 0) := by
  refine ru_ok hX (fun hok => ?_)
  replace h := h hok
  refine ru_aload_n hX dX2_go_0 rfl (fun _ => ?_)
  refine ru_aload_n hX dX2_go_1 rfl (fun _ => ?_)
  refine ru_get (v := .inr (some (301, 0))) hX dX2_go_2 rfl ⟨by decide, by decide⟩ rfl (fun _ => ?_)
  refine ru_iload_n hX dX2_go_5 rfl (fun _ => ?_)
  refine ru_iconst hX dX2_go_6 (fun _ => ?_)
  refine ru_isub hX dX2_go_7 (fun _ => ?_)
  obtain ⟨k1, h⟩ := h
  refine ru_iaload hX dX2_go_8 ⟨by decide, by decide⟩ rfl k1 (fun _ => ?_)
  exact ru_callV (as := [.inr (some (2, 0)), .inl (σ.2 301 0 (a1 - 1))]) (rest := []) hX dX2_go_9 hc81 rfl (Nat.le_of_ble_eq_true rfl) (0, 0) ⟨Nat.zero_le _, Nat.zero_le _⟩ h
theorem bX2_go_12 {cs ss : Nat → Option (Nat × eh_T)} {lim : Nat × Nat} {Rt : Option eh_V → eh_S → Prop} {X : eh_X} (hX : eh_Ru eh_nX eh_fl2 eh_kn2 cs ss lim Rt 2 cX2_go X)  {σ : eh_S}  {a1 : Int} {o2 : Option eh_V} {o3 : Option eh_V} {o4 : Option eh_V} {o5 : Option eh_V} {s0 : Int}  (h : eh_ok σ → (-2147483648 ≤ s0 ∧ s0 < 2147483648) ∧ ((s0 = 0 → (-2147483648 ≤ a1 ∧ a1 < 2147483648) ∧ ((a1 = 12 → Rt none σ) ∧ (¬ a1 = 12 → (0 ≤ a1 - 1 ∧ a1 - 1 < 12) ∧ X 52 [some (.inr (some (2, 0))), some (.inl a1), some (.inl (σ.2 301 0 (a1 - 1))), some (.inl ((σ.2 300 0 (a1 - 1)) + 1)), o4, o5] [] σ (0, 0)))) ∧ (¬ s0 = 0 → (-2147483648 ≤ a1 ∧ a1 < 2147483648) ∧ ((a1 = 12 → Rt none (eh_sV σ 303 0 (eh_wr ((σ.1 303 0) + 1)))) ∧ (¬ a1 = 12 → (0 ≤ a1 - 1 ∧ a1 - 1 < 12) ∧ X 52 [some (.inr (some (2, 0))), some (.inl a1), some (.inl (σ.2 301 0 (a1 - 1))), some (.inl ((σ.2 300 0 (a1 - 1)) + 1)), o4, o5] [] (eh_sV σ 303 0 (eh_wr ((σ.1 303 0) + 1))) (0, 0)))))) : X 12 [some (.inr (some (2, 0))), some (.inl a1), o2, o3, o4, o5] [.inl s0] σ (0, 0) := by
  refine ru_ok hX (fun hok => ?_)
  replace h := h hok
  obtain ⟨k1, h⟩ := h
  refine ru_if_eq (tgt := 25) hX dX2_go_12 (by decide) k1 (fun q => ?_) (fun q => ?_)
  · have q2 := q
    replace h := h.1 q2
    refine ru_iload_n hX dX2_go_25 rfl (fun _ => ?_)
    refine ru_bipush hX dX2_go_26 (by decide) (fun _ => ?_)
    obtain ⟨k3, h⟩ := h
    refine ru_icmp_ne (tgt := 32) hX dX2_go_28 (by decide) k3 (by unfold eh_r; decide) (fun q => ?_) (fun q => ?_)
    · have q4 := q
      replace h := h.2 q4
      refine ru_aload_n hX dX2_go_32 rfl (fun _ => ?_)
      refine ru_get (v := .inr (some (301, 0))) hX dX2_go_33 rfl ⟨by decide, by decide⟩ rfl (fun _ => ?_)
      refine ru_iload_n hX dX2_go_36 rfl (fun _ => ?_)
      refine ru_iconst hX dX2_go_37 (fun _ => ?_)
      refine ru_isub hX dX2_go_38 (fun _ => ?_)
      obtain ⟨k5, h⟩ := h
      refine ru_iaload hX dX2_go_39 ⟨by decide, by decide⟩ rfl k5 (fun _ => ?_)
      refine ru_istore_n (ls1 := [some (.inr (some (2, 0))), some (.inl a1), some (.inl (σ.2 301 0 (a1 - 1))), o3, o4, o5]) hX dX2_go_40 (Nat.le_of_ble_eq_true rfl) rfl (fun _ => ?_)
      refine ru_aload_n hX dX2_go_41 rfl (fun _ => ?_)
      refine ru_get (v := .inr (some (300, 0))) hX dX2_go_42 rfl ⟨by decide, by decide⟩ rfl (fun _ => ?_)
      refine ru_iload_n hX dX2_go_45 rfl (fun _ => ?_)
      refine ru_iconst hX dX2_go_46 (fun _ => ?_)
      refine ru_isub hX dX2_go_47 (fun _ => ?_)
      refine ru_iaload hX dX2_go_48 ⟨by decide, by decide⟩ rfl k5 (fun _ => ?_)
      refine ru_iconst hX dX2_go_49 (fun _ => ?_)
      refine ru_iadd hX dX2_go_50 (fun _ => ?_)
      refine ru_istore_n (ls1 := [some (.inr (some (2, 0))), some (.inl a1), some (.inl (σ.2 301 0 (a1 - 1))), some (.inl ((σ.2 300 0 (a1 - 1)) + 1)), o4, o5]) hX dX2_go_51 (Nat.le_of_ble_eq_true rfl) rfl (fun _ => ?_)
      exact h
    · have q6 := q
      replace h := h.1 q6
      exact ru_return hX dX2_go_31 rfl ⟨Nat.zero_le _, Nat.zero_le _⟩ (fun _ => h)
  · have q7 := q
    replace h := h.2 q7
    refine ru_aload_n hX dX2_go_15 rfl (fun _ => ?_)
    refine ru_dup hX dX2_go_16 (fun _ => ?_)
    refine ru_get (v := .inl (σ.1 303 0)) hX dX2_go_17 rfl ⟨by decide, by decide⟩ rfl (fun _ => ?_)
    refine ru_iconst hX dX2_go_20 (fun _ => ?_)
    refine ru_iadd hX dX2_go_21 (fun _ => ?_)
    refine ru_putW (id := 303) hX dX2_go_22 rfl ⟨by decide, by decide⟩ rfl rfl (fun _ => ?_)
    refine ru_iload_n hX dX2_go_25 rfl (fun hok8 => ?_)
    refine ru_bipush hX dX2_go_26 (by decide) (fun _ => ?_)
    obtain ⟨k9, h⟩ := h
    refine ru_icmp_ne (tgt := 32) hX dX2_go_28 (by decide) k9 (by unfold eh_r; decide) (fun q => ?_) (fun q => ?_)
    · have q10 := q
      replace h := h.2 q10
      refine ru_aload_n hX dX2_go_32 rfl (fun _ => ?_)
      refine ru_get (v := .inr (some (301, 0))) hX dX2_go_33 rfl ⟨by decide, by decide⟩ rfl (fun _ => ?_)
      refine ru_iload_n hX dX2_go_36 rfl (fun _ => ?_)
      refine ru_iconst hX dX2_go_37 (fun _ => ?_)
      refine ru_isub hX dX2_go_38 (fun _ => ?_)
      obtain ⟨k11, h⟩ := h
      refine ru_iaload hX dX2_go_39 ⟨by decide, by decide⟩ rfl k11 (fun _ => ?_)
      refine ru_istore_n (ls1 := [some (.inr (some (2, 0))), some (.inl a1), some (.inl (σ.2 301 0 (a1 - 1))), o3, o4, o5]) hX dX2_go_40 (Nat.le_of_ble_eq_true rfl) rfl (fun _ => ?_)
      refine ru_aload_n hX dX2_go_41 rfl (fun _ => ?_)
      refine ru_get (v := .inr (some (300, 0))) hX dX2_go_42 rfl ⟨by decide, by decide⟩ rfl (fun _ => ?_)
      refine ru_iload_n hX dX2_go_45 rfl (fun _ => ?_)
      refine ru_iconst hX dX2_go_46 (fun _ => ?_)
      refine ru_isub hX dX2_go_47 (fun _ => ?_)
      refine ru_iaload hX dX2_go_48 ⟨by decide, by decide⟩ rfl k11 (fun _ => ?_)
      refine ru_iconst hX dX2_go_49 (fun _ => ?_)
      refine ru_iadd hX dX2_go_50 (fun _ => ?_)
      refine ru_istore_n (ls1 := [some (.inr (some (2, 0))), some (.inl a1), some (.inl (σ.2 301 0 (a1 - 1))), some (.inl ((σ.2 300 0 (a1 - 1)) + 1)), o4, o5]) hX dX2_go_51 (Nat.le_of_ble_eq_true rfl) rfl (fun _ => ?_)
      exact h
    · have q12 := q
      replace h := h.1 q12
      exact ru_return hX dX2_go_31 rfl ⟨Nat.zero_le _, Nat.zero_le _⟩ (fun _ => h)
theorem bX2_go_52 {cs ss : Nat → Option (Nat × eh_T)} {lim : Nat × Nat} {Rt : Option eh_V → eh_S → Prop} {X : eh_X} (hX : eh_Ru eh_nX eh_fl2 eh_kn2 cs ss lim Rt 2 cX2_go X) {T78 : eh_T} (hc78 : cs 78 = some (3, T78)) {σ : eh_S}  {a1 : Int} {a2 : Int} {a3 : Int} {o4 : Option eh_V} {o5 : Option eh_V}  (h : eh_ok σ → (-2147483648 ≤ a3 ∧ a3 < 2147483648) ∧ ((σ.1 105 0 ≤ a3 → Rt none σ) ∧ (¬ σ.1 105 0 ≤ a3 → (0 ≤ a3 ∧ a3 < 1000) ∧ (0 ≤ σ.2 300 0 0 ∧ σ.2 300 0 0 < 1000) ∧ (0 ≤ σ.1 302 0 ∧ σ.1 302 0 < 8) ∧ (-2147483648 ≤ (σ.2 102 0 a3) - (σ.2 102 0 (σ.2 300 0 0)) ∧ (σ.2 102 0 a3) - (σ.2 102 0 (σ.2 300 0 0)) < 2147483648) ∧ ((σ.1 400 (σ.1 302 0) < (σ.2 102 0 a3) - (σ.2 102 0 (σ.2 300 0 0)) → X 52 [some (.inr (some (2, 0))), some (.inl a1), some (.inl a2), some (.inl (a3 + 1)), o4, o5] [] σ (0, 0)) ∧ (¬ σ.1 400 (σ.1 302 0) < (σ.2 102 0 a3) - (σ.2 102 0 (σ.2 300 0 0)) → T78 [.inr (some (3, σ.1 302 0)), .inl (σ.2 300 0 0), .inl a3] σ (0, 0) (fun r σ1 => X 111 [some (.inr (some (2, 0))), some (.inl a1), some (.inl a2), some (.inl a3), o4, o5] (r.toList ++ []) σ1 (0, 0))))))) : X 52 [some (.inr (some (2, 0))), some (.inl a1), some (.inl a2), some (.inl a3), o4, o5] [] σ (0, 0) := by
  refine ru_ok hX (fun hok => ?_)
  replace h := h hok
  refine ru_iload_n hX dX2_go_52 rfl (fun _ => ?_)
  refine ru_aload_n hX dX2_go_53 rfl (fun _ => ?_)
  refine ru_get (v := .inr (some (0, 0))) hX dX2_go_54 rfl ⟨by decide, by decide⟩ rfl (fun _ => ?_)
  refine ru_get (v := .inl (σ.1 105 0)) hX dX2_go_57 rfl ⟨by decide, by decide⟩ rfl (fun _ => ?_)
  obtain ⟨k1, h⟩ := h
  refine ru_icmp_ge (tgt := 232) hX dX2_go_60 (by decide) k1 (hok.1 _ _) (fun q => ?_) (fun q => ?_)
  · have q2 := q
    replace h := h.1 q2
    exact ru_return hX dX2_go_232 rfl ⟨Nat.zero_le _, Nat.zero_le _⟩ (fun _ => h)
  · have q3 := q
    replace h := h.2 q3
    refine ru_aload_n hX dX2_go_63 rfl (fun _ => ?_)
    refine ru_get (v := .inr (some (0, 0))) hX dX2_go_64 rfl ⟨by decide, by decide⟩ rfl (fun _ => ?_)
    refine ru_get (v := .inr (some (102, 0))) hX dX2_go_67 rfl ⟨by decide, by decide⟩ rfl (fun _ => ?_)
    refine ru_iload_n hX dX2_go_70 rfl (fun _ => ?_)
    obtain ⟨k4, h⟩ := h
    refine ru_iaload hX dX2_go_71 ⟨by decide, by decide⟩ rfl k4 (fun _ => ?_)
    refine ru_aload_n hX dX2_go_72 rfl (fun _ => ?_)
    refine ru_get (v := .inr (some (0, 0))) hX dX2_go_73 rfl ⟨by decide, by decide⟩ rfl (fun _ => ?_)
    refine ru_get (v := .inr (some (102, 0))) hX dX2_go_76 rfl ⟨by decide, by decide⟩ rfl (fun _ => ?_)
    refine ru_aload_n hX dX2_go_79 rfl (fun _ => ?_)
    refine ru_get (v := .inr (some (300, 0))) hX dX2_go_80 rfl ⟨by decide, by decide⟩ rfl (fun _ => ?_)
    refine ru_iconst hX dX2_go_83 (fun _ => ?_)
    refine ru_iaload hX dX2_go_84 ⟨by decide, by decide⟩ rfl ⟨by decide, by decide⟩ (fun _ => ?_)
    obtain ⟨k5, h⟩ := h
    refine ru_iaload hX dX2_go_85 ⟨by decide, by decide⟩ rfl k5 (fun _ => ?_)
    refine ru_isub hX dX2_go_86 (fun _ => ?_)
    refine ru_aload_n hX dX2_go_87 rfl (fun _ => ?_)
    obtain ⟨k6, h⟩ := h
    refine ru_get (v := .inr (some (3, σ.1 302 0))) hX dX2_go_88 rfl ⟨by decide, by decide⟩ (if_neg (Int.not_lt.mpr k6.1)) (fun _ => ?_)
    refine ru_get (v := .inl (σ.1 400 (σ.1 302 0))) hX dX2_go_91 rfl k6 rfl (fun _ => ?_)
    obtain ⟨k7, h⟩ := h
    refine ru_icmp_gt (tgt := 226) hX dX2_go_94 (by decide) k7 (hok.1 _ _) (fun q => ?_) (fun q => ?_)
    · have q8 := q
      replace h := h.1 q8
      refine ru_iinc (ls1 := [some (.inr (some (2, 0))), some (.inl a1), some (.inl a2), some (.inl (a3 + 1)), o4, o5]) hX dX2_go_226 rfl rfl (fun _ => ?_)
      refine ru_goto (tgt := 52) hX dX2_go_229 (by decide) ?_
      exact h
    · have q9 := q
      replace h := h.2 q9
      refine ru_aload_n hX dX2_go_97 rfl (fun _ => ?_)
      refine ru_get (v := .inr (some (3, σ.1 302 0))) hX dX2_go_98 rfl ⟨by decide, by decide⟩ (if_neg (Int.not_lt.mpr k6.1)) (fun _ => ?_)
      refine ru_aload_n hX dX2_go_101 rfl (fun _ => ?_)
      refine ru_get (v := .inr (some (300, 0))) hX dX2_go_102 rfl ⟨by decide, by decide⟩ rfl (fun _ => ?_)
      refine ru_iconst hX dX2_go_105 (fun _ => ?_)
      refine ru_iaload hX dX2_go_106 ⟨by decide, by decide⟩ rfl ⟨by decide, by decide⟩ (fun _ => ?_)
      refine ru_iload_n hX dX2_go_107 rfl (fun _ => ?_)
      exact ru_callV (as := [.inr (some (3, σ.1 302 0)), .inl (σ.2 300 0 0), .inl a3]) (rest := []) hX dX2_go_108 hc78 rfl (Nat.le_of_ble_eq_true rfl) (0, 0) ⟨Nat.zero_le _, Nat.zero_le _⟩ h
theorem bX2_go_111 {cs ss : Nat → Option (Nat × eh_T)} {lim : Nat × Nat} {Rt : Option eh_V → eh_S → Prop} {X : eh_X} (hX : eh_Ru eh_nX eh_fl2 eh_kn2 cs ss lim Rt 2 cX2_go X)  {σ : eh_S}  {a1 : Int} {a2 : Int} {a3 : Int} {o4 : Option eh_V} {o5 : Option eh_V} {s0 : Int}  (h : eh_ok σ → (-2147483648 ≤ s0 ∧ s0 < 2147483648) ∧ ((s0 = 0 → X 52 [some (.inr (some (2, 0))), some (.inl a1), some (.inl a2), some (.inl (a3 + 1)), o4, o5] [] σ (0, 0)) ∧ (¬ s0 = 0 → X 120 [some (.inr (some (2, 0))), some (.inl a1), some (.inl a2), some (.inl a3), some (.inl a2), o5] [] σ (0, 0)))) : X 111 [some (.inr (some (2, 0))), some (.inl a1), some (.inl a2), some (.inl a3), o4, o5] [.inl s0] σ (0, 0) := by
  refine ru_ok hX (fun hok => ?_)
  replace h := h hok
  obtain ⟨k1, h⟩ := h
  refine ru_if_ne (tgt := 117) hX dX2_go_111 (by decide) k1 (fun q => ?_) (fun q => ?_)
  · have q2 := q
    replace h := h.2 q2
    refine ru_iload_n hX dX2_go_117 rfl (fun _ => ?_)
    refine ru_istore (ls1 := [some (.inr (some (2, 0))), some (.inl a1), some (.inl a2), some (.inl a3), some (.inl a2), o5]) hX dX2_go_118 (Nat.le_of_ble_eq_true rfl) rfl (fun _ => ?_)
    exact h
  · have q3 := q
    replace h := h.1 q3
    refine ru_goto (tgt := 226) hX dX2_go_114 (by decide) ?_
    refine ru_iinc (ls1 := [some (.inr (some (2, 0))), some (.inl a1), some (.inl a2), some (.inl (a3 + 1)), o4, o5]) hX dX2_go_226 rfl rfl (fun _ => ?_)
    refine ru_goto (tgt := 52) hX dX2_go_229 (by decide) ?_
    exact h
theorem bX2_go_120 {cs ss : Nat → Option (Nat × eh_T)} {lim : Nat × Nat} {Rt : Option eh_V → eh_S → Prop} {X : eh_X} (hX : eh_Ru eh_nX eh_fl2 eh_kn2 cs ss lim Rt 2 cX2_go X) {T91 : eh_T} (hc91 : cs 91 = some (2, T91)) {T95 : eh_T} (hc95 : cs 95 = some (4, T95)) {σ : eh_S}  {a1 : Int} {a2 : Int} {a3 : Int} {a4 : Int} {o5 : Option eh_V}  (h : eh_ok σ → (0 ≤ σ.1 302 0 ∧ σ.1 302 0 < 8) ∧ (-2147483648 ≤ a4 ∧ a4 < 2147483648) ∧ ((σ.1 403 (σ.1 302 0) ≤ a4 → X 52 [some (.inr (some (2, 0))), some (.inl a1), some (.inl a2), some (.inl (a3 + 1)), some (.inl a4), o5] [] σ (0, 0)) ∧ (¬ σ.1 403 (σ.1 302 0) ≤ a4 → (-2147483648 ≤ a2 ∧ a2 < 2147483648) ∧ ((a4 = a2 → (0 ≤ a4 ∧ a4 < 6) ∧ ((σ.2 404 (σ.1 302 0) a4 = 1 → T91 [.inr (some (2, 0)), .inl a1] σ (0, 0) (fun r σ1 => X 157 [some (.inr (some (2, 0))), some (.inl a1), some (.inl a2), some (.inl a3), some (.inl a4), o5] (r.toList ++ []) σ1 (0, 0))) ∧ (¬ σ.2 404 (σ.1 302 0) a4 = 1 → X 177 [some (.inr (some (2, 0))), some (.inl a1), some (.inl a2), some (.inl a3), some (.inl a4), o5] [.inl 0] σ (0, 0)))) ∧ (¬ a4 = a2 → T95 [.inr (some (2, 0)), .inl a1, .inl a4, .inl a3] σ (0, 0) (fun r σ1 => X 177 [some (.inr (some (2, 0))), some (.inl a1), some (.inl a2), some (.inl a3), some (.inl a4), o5] (r.toList ++ []) σ1 (0, 0))))))) : X 120 [some (.inr (some (2, 0))), some (.inl a1), some (.inl a2), some (.inl a3), some (.inl a4), o5] [] σ (0, 0) := by
  refine ru_ok hX (fun hok => ?_)
  replace h := h hok
  refine ru_iload hX dX2_go_120 rfl (fun _ => ?_)
  refine ru_aload_n hX dX2_go_122 rfl (fun _ => ?_)
  obtain ⟨k1, h⟩ := h
  refine ru_get (v := .inr (some (3, σ.1 302 0))) hX dX2_go_123 rfl ⟨by decide, by decide⟩ (if_neg (Int.not_lt.mpr k1.1)) (fun _ => ?_)
  refine ru_get (v := .inl (σ.1 403 (σ.1 302 0))) hX dX2_go_126 rfl k1 rfl (fun _ => ?_)
  obtain ⟨k2, h⟩ := h
  refine ru_icmp_ge (tgt := 226) hX dX2_go_129 (by decide) k2 (hok.1 _ _) (fun q => ?_) (fun q => ?_)
  · have q3 := q
    replace h := h.1 q3
    refine ru_iinc (ls1 := [some (.inr (some (2, 0))), some (.inl a1), some (.inl a2), some (.inl (a3 + 1)), some (.inl a4), o5]) hX dX2_go_226 rfl rfl (fun _ => ?_)
    refine ru_goto (tgt := 52) hX dX2_go_229 (by decide) ?_
    exact h
  · have q4 := q
    replace h := h.2 q4
    refine ru_iload hX dX2_go_132 rfl (fun _ => ?_)
    refine ru_iload_n hX dX2_go_134 rfl (fun _ => ?_)
    obtain ⟨k5, h⟩ := h
    refine ru_icmp_ne (tgt := 169) hX dX2_go_135 (by decide) k2 k5 (fun q => ?_) (fun q => ?_)
    · have q6 := q
      replace h := h.2 q6
      refine ru_aload_n hX dX2_go_169 rfl (fun _ => ?_)
      refine ru_iload_n hX dX2_go_170 rfl (fun _ => ?_)
      refine ru_iload hX dX2_go_171 rfl (fun _ => ?_)
      refine ru_iload_n hX dX2_go_173 rfl (fun _ => ?_)
      exact ru_callV (as := [.inr (some (2, 0)), .inl a1, .inl a4, .inl a3]) (rest := []) hX dX2_go_174 hc95 rfl (Nat.le_of_ble_eq_true rfl) (0, 0) ⟨Nat.zero_le _, Nat.zero_le _⟩ h
    · have q7 := q
      replace h := h.1 q7
      refine ru_aload_n hX dX2_go_138 rfl (fun _ => ?_)
      refine ru_get (v := .inr (some (3, σ.1 302 0))) hX dX2_go_139 rfl ⟨by decide, by decide⟩ (if_neg (Int.not_lt.mpr k1.1)) (fun _ => ?_)
      refine ru_get (v := .inr (some (404, σ.1 302 0))) hX dX2_go_142 rfl k1 rfl (fun _ => ?_)
      refine ru_iload hX dX2_go_145 rfl (fun _ => ?_)
      obtain ⟨k8, h⟩ := h
      refine ru_iaload hX dX2_go_147 k1 rfl k8 (fun _ => ?_)
      refine ru_iconst hX dX2_go_148 (fun _ => ?_)
      refine ru_icmp_ne (tgt := 165) hX dX2_go_149 (by decide) (hok.2 _ _ _ (by decide) (by decide) (by decide) (by decide)) (by unfold eh_r; decide) (fun q => ?_) (fun q => ?_)
      · have q9 := q
        replace h := h.2 q9
        refine ru_iconst hX dX2_go_165 (fun _ => ?_)
        refine ru_goto (tgt := 177) hX dX2_go_166 (by decide) ?_
        exact h
      · have q10 := q
        replace h := h.1 q10
        refine ru_aload_n hX dX2_go_152 rfl (fun _ => ?_)
        refine ru_iload_n hX dX2_go_153 rfl (fun _ => ?_)
        exact ru_callV (as := [.inr (some (2, 0)), .inl a1]) (rest := []) hX dX2_go_154 hc91 rfl (Nat.le_of_ble_eq_true rfl) (0, 0) ⟨Nat.zero_le _, Nat.zero_le _⟩ h
theorem bX2_go_157 {cs ss : Nat → Option (Nat × eh_T)} {lim : Nat × Nat} {Rt : Option eh_V → eh_S → Prop} {X : eh_X} (hX : eh_Ru eh_nX eh_fl2 eh_kn2 cs ss lim Rt 2 cX2_go X)  {σ : eh_S}  {a1 : Int} {a2 : Int} {a3 : Int} {a4 : Int} {o5 : Option eh_V} {s0 : Int}  (h : eh_ok σ → (-2147483648 ≤ s0 ∧ s0 < 2147483648) ∧ ((4 ≤ s0 → X 177 [some (.inr (some (2, 0))), some (.inl a1), some (.inl a2), some (.inl a3), some (.inl a4), o5] [.inl 0] σ (0, 0)) ∧ (¬ 4 ≤ s0 → X 177 [some (.inr (some (2, 0))), some (.inl a1), some (.inl a2), some (.inl a3), some (.inl a4), o5] [.inl 1] σ (0, 0)))) : X 157 [some (.inr (some (2, 0))), some (.inl a1), some (.inl a2), some (.inl a3), some (.inl a4), o5] [.inl s0] σ (0, 0) := by
  refine ru_ok hX (fun hok => ?_)
  replace h := h hok
  refine ru_iconst hX dX2_go_157 (fun _ => ?_)
  obtain ⟨k1, h⟩ := h
  refine ru_icmp_ge (tgt := 165) hX dX2_go_158 (by decide) k1 (by unfold eh_r; decide) (fun q => ?_) (fun q => ?_)
  · have q2 := q
    replace h := h.1 q2
    refine ru_iconst hX dX2_go_165 (fun _ => ?_)
    refine ru_goto (tgt := 177) hX dX2_go_166 (by decide) ?_
    exact h
  · have q3 := q
    replace h := h.2 q3
    refine ru_iconst hX dX2_go_161 (fun _ => ?_)
    refine ru_goto (tgt := 177) hX dX2_go_162 (by decide) ?_
    exact h
theorem bX2_go_177 {cs ss : Nat → Option (Nat × eh_T)} {lim : Nat × Nat} {Rt : Option eh_V → eh_S → Prop} {X : eh_X} (hX : eh_Ru eh_nX eh_fl2 eh_kn2 cs ss lim Rt 2 cX2_go X) {T38 : eh_T} (hc38 : cs 38 = some (4, T38)) {σ : eh_S}  {a1 : Int} {a2 : Int} {a3 : Int} {a4 : Int} {o5 : Option eh_V} {s0 : Int}  (h : eh_ok σ → (-2147483648 ≤ s0 ∧ s0 < 2147483648) ∧ ((s0 = 0 → X 220 [some (.inr (some (2, 0))), some (.inl a1), some (.inl a2), some (.inl a3), some (.inl a4), some (.inl s0)] [] σ (0, 0)) ∧ (¬ s0 = 0 → T38 [.inr (some (2, 0)), .inl a4, .inl a1, .inl a3] σ (0, 0) (fun r σ1 => X 192 [some (.inr (some (2, 0))), some (.inl a1), some (.inl a2), some (.inl a3), some (.inl a4), some (.inl s0)] (r.toList ++ []) σ1 (0, 0))))) : X 177 [some (.inr (some (2, 0))), some (.inl a1), some (.inl a2), some (.inl a3), some (.inl a4), o5] [.inl s0] σ (0, 0) := by
  refine ru_ok hX (fun hok => ?_)
  replace h := h hok
  refine ru_istore (ls1 := [some (.inr (some (2, 0))), some (.inl a1), some (.inl a2), some (.inl a3), some (.inl a4), some (.inl s0)]) hX dX2_go_177 (Nat.le_of_ble_eq_true rfl) rfl (fun _ => ?_)
  refine ru_iload hX dX2_go_179 rfl (fun _ => ?_)
  obtain ⟨k1, h⟩ := h
  refine ru_if_eq (tgt := 220) hX dX2_go_181 (by decide) k1 (fun q => ?_) (fun q => ?_)
  · have q2 := q
    replace h := h.1 q2
    exact h
  · have q3 := q
    replace h := h.2 q3
    refine ru_aload_n hX dX2_go_184 rfl (fun _ => ?_)
    refine ru_iload hX dX2_go_185 rfl (fun _ => ?_)
    refine ru_iload_n hX dX2_go_187 rfl (fun _ => ?_)
    refine ru_iload_n hX dX2_go_188 rfl (fun _ => ?_)
    exact ru_callV (as := [.inr (some (2, 0)), .inl a4, .inl a1, .inl a3]) (rest := []) hX dX2_go_189 hc38 rfl (Nat.le_of_ble_eq_true rfl) (0, 0) ⟨Nat.zero_le _, Nat.zero_le _⟩ h
theorem bX2_go_192 {cs ss : Nat → Option (Nat × eh_T)} {lim : Nat × Nat} {Rt : Option eh_V → eh_S → Prop} {X : eh_X} (hX : eh_Ru eh_nX eh_fl2 eh_kn2 cs ss lim Rt 2 cX2_go X) {T42 : eh_T} (hc42 : cs 42 = some (2, T42)) {σ : eh_S}  {a1 : Int} {a2 : Int} {a3 : Int} {a4 : Int} {o5 : Option eh_V} {s0 : Int}  (h : eh_ok σ → (-2147483648 ≤ s0 ∧ s0 < 2147483648) ∧ ((s0 = 0 → X 220 [some (.inr (some (2, 0))), some (.inl a1), some (.inl a2), some (.inl a3), some (.inl a4), o5] [] σ (0, 0)) ∧ (¬ s0 = 0 → (0 ≤ a1 ∧ a1 < 12) ∧ (-2147483648 ≤ a3 ∧ a3 < 2147483648) ∧ (-2147483648 ≤ a4 ∧ a4 < 2147483648) ∧ T42 [.inr (some (2, 0)), .inl (a1 + 1)] (eh_sA (eh_sA σ 300 0 a1 a3) 301 0 a1 a4) (0, 0) (fun r σ1 => X 220 [some (.inr (some (2, 0))), some (.inl a1), some (.inl a2), some (.inl a3), some (.inl a4), o5] (r.toList ++ []) σ1 (0, 0))))) : X 192 [some (.inr (some (2, 0))), some (.inl a1), some (.inl a2), some (.inl a3), some (.inl a4), o5] [.inl s0] σ (0, 0) := by
  refine ru_ok hX (fun hok => ?_)
  replace h := h hok
  obtain ⟨k1, h⟩ := h
  refine ru_if_ne (tgt := 198) hX dX2_go_192 (by decide) k1 (fun q => ?_) (fun q => ?_)
  · have q2 := q
    replace h := h.2 q2
    refine ru_aload_n hX dX2_go_198 rfl (fun _ => ?_)
    refine ru_get (v := .inr (some (300, 0))) hX dX2_go_199 rfl ⟨by decide, by decide⟩ rfl (fun _ => ?_)
    refine ru_iload_n hX dX2_go_202 rfl (fun _ => ?_)
    refine ru_iload_n hX dX2_go_203 rfl (fun _ => ?_)
    obtain ⟨k3, h⟩ := h
    obtain ⟨k4, h⟩ := h
    refine ru_iastore hX dX2_go_204 ⟨by decide, by decide⟩ rfl k3 k4 (fun _ => ?_)
    refine ru_aload_n hX dX2_go_205 rfl (fun hok5 => ?_)
    refine ru_get (v := .inr (some (301, 0))) hX dX2_go_206 rfl ⟨by decide, by decide⟩ rfl (fun _ => ?_)
    refine ru_iload_n hX dX2_go_209 rfl (fun _ => ?_)
    refine ru_iload hX dX2_go_210 rfl (fun _ => ?_)
    obtain ⟨k6, h⟩ := h
    refine ru_iastore hX dX2_go_212 ⟨by decide, by decide⟩ rfl k3 k6 (fun _ => ?_)
    refine ru_aload_n hX dX2_go_213 rfl (fun hok7 => ?_)
    refine ru_iload_n hX dX2_go_214 rfl (fun _ => ?_)
    refine ru_iconst hX dX2_go_215 (fun _ => ?_)
    refine ru_iadd hX dX2_go_216 (fun _ => ?_)
    exact ru_callV (as := [.inr (some (2, 0)), .inl (a1 + 1)]) (rest := []) hX dX2_go_217 hc42 rfl (Nat.le_of_ble_eq_true rfl) (0, 0) ⟨Nat.zero_le _, Nat.zero_le _⟩ h
  · have q8 := q
    replace h := h.1 q8
    refine ru_goto (tgt := 220) hX dX2_go_195 (by decide) ?_
    exact h
theorem bX2_go_220 {cs ss : Nat → Option (Nat × eh_T)} {lim : Nat × Nat} {Rt : Option eh_V → eh_S → Prop} {X : eh_X} (hX : eh_Ru eh_nX eh_fl2 eh_kn2 cs ss lim Rt 2 cX2_go X)  {σ : eh_S}  {a1 : Int} {a2 : Int} {a3 : Int} {a4 : Int} {o5 : Option eh_V}  (h : eh_ok σ → X 120 [some (.inr (some (2, 0))), some (.inl a1), some (.inl a2), some (.inl a3), some (.inl (a4 + 1)), o5] [] σ (0, 0)) : X 220 [some (.inr (some (2, 0))), some (.inl a1), some (.inl a2), some (.inl a3), some (.inl a4), o5] [] σ (0, 0) := by
  refine ru_ok hX (fun hok => ?_)
  replace h := h hok
  refine ru_iinc (ls1 := [some (.inr (some (2, 0))), some (.inl a1), some (.inl a2), some (.inl a3), some (.inl (a4 + 1)), o5]) hX dX2_go_220 rfl rfl (fun _ => ?_)
  refine ru_goto (tgt := 120) hX dX2_go_223 (by decide) ?_
  exact h
theorem bX2_isWhole_0 {cs ss : Nat → Option (Nat × eh_T)} {lim : Nat × Nat} {Rt : Option eh_V → eh_S → Prop} {X : eh_X} (hX : eh_Ru eh_nX eh_fl2 eh_kn2 cs ss lim Rt 1 cX2_isWhole X)  {σ : eh_S}  {a1 : Int} {o2 : Option eh_V}  (h : eh_ok σ → X 4 [some (.inr (some (2, 0))), some (.inl a1), some (.inl (a1 + 1))] [] σ (0, 0)) : X 0 [some (.inr (some (2, 0))), some (.inl a1), o2] [] σ (0, 0) := by
  refine ru_ok hX (fun hok => ?_)
  replace h := h hok
  refine ru_iload_n hX dX2_isWhole_0 rfl (fun _ => ?_)
  refine ru_iconst hX dX2_isWhole_1 (fun _ => ?_)
  refine ru_iadd hX dX2_isWhole_2 (fun _ => ?_)
  refine ru_istore_n (ls1 := [some (.inr (some (2, 0))), some (.inl a1), some (.inl (a1 + 1))]) hX dX2_isWhole_3 (Nat.le_of_ble_eq_true rfl) rfl (fun _ => ?_)
  exact h
theorem bX2_isWhole_4 {cs ss : Nat → Option (Nat × eh_T)} {lim : Nat × Nat} {Rt : Option eh_V → eh_S → Prop} {X : eh_X} (hX : eh_Ru eh_nX eh_fl2 eh_kn2 cs ss lim Rt 1 cX2_isWhole X)  {σ : eh_S}  {o1 : Option eh_V} {a2 : Int}  (h : eh_ok σ → (0 ≤ σ.1 302 0 ∧ σ.1 302 0 < 8) ∧ (-2147483648 ≤ a2 ∧ a2 < 2147483648) ∧ ((σ.1 403 (σ.1 302 0) ≤ a2 → ((a2 = σ.1 403 (σ.1 302 0) → Rt (some (.inl 1)) σ) ∧ (¬ a2 = σ.1 403 (σ.1 302 0) → (-2147483648 ≤ (σ.1 403 (σ.1 302 0)) - 1 ∧ (σ.1 403 (σ.1 302 0)) - 1 < 2147483648) ∧ ((a2 = (σ.1 403 (σ.1 302 0)) - 1 → (0 ≤ a2 ∧ a2 < 6) ∧ ((σ.2 404 (σ.1 302 0) a2 = 3 → Rt (some (.inl 1)) σ) ∧ (¬ σ.2 404 (σ.1 302 0) a2 = 3 → Rt (some (.inl 0)) σ))) ∧ (¬ a2 = (σ.1 403 (σ.1 302 0)) - 1 → Rt (some (.inl 0)) σ))))) ∧ (¬ σ.1 403 (σ.1 302 0) ≤ a2 → (0 ≤ a2 ∧ a2 < 6) ∧ ((σ.2 404 (σ.1 302 0) a2 = 2 → X 4 [some (.inr (some (2, 0))), o1, some (.inl (a2 + 1))] [] σ (0, 0)) ∧ (¬ σ.2 404 (σ.1 302 0) a2 = 2 → ((a2 = σ.1 403 (σ.1 302 0) → Rt (some (.inl 1)) σ) ∧ (¬ a2 = σ.1 403 (σ.1 302 0) → (-2147483648 ≤ (σ.1 403 (σ.1 302 0)) - 1 ∧ (σ.1 403 (σ.1 302 0)) - 1 < 2147483648) ∧ ((a2 = (σ.1 403 (σ.1 302 0)) - 1 → ((σ.2 404 (σ.1 302 0) a2 = 3 → Rt (some (.inl 1)) σ) ∧ (¬ σ.2 404 (σ.1 302 0) a2 = 3 → Rt (some (.inl 0)) σ))) ∧ (¬ a2 = (σ.1 403 (σ.1 302 0)) - 1 → Rt (some (.inl 0)) σ))))))))) : X 4 [some (.inr (some (2, 0))), o1, some (.inl a2)] [] σ (0, 0) := by
  refine ru_ok hX (fun hok => ?_)
  replace h := h hok
  refine ru_iload_n hX dX2_isWhole_4 rfl (fun _ => ?_)
  refine ru_aload_n hX dX2_isWhole_5 rfl (fun _ => ?_)
  obtain ⟨k1, h⟩ := h
  refine ru_get (v := .inr (some (3, σ.1 302 0))) hX dX2_isWhole_6 rfl ⟨by decide, by decide⟩ (if_neg (Int.not_lt.mpr k1.1)) (fun _ => ?_)
  refine ru_get (v := .inl (σ.1 403 (σ.1 302 0))) hX dX2_isWhole_9 rfl k1 rfl (fun _ => ?_)
  obtain ⟨k2, h⟩ := h
  refine ru_icmp_ge (tgt := 34) hX dX2_isWhole_12 (by decide) k2 (hok.1 _ _) (fun q => ?_) (fun q => ?_)
  · have q3 := q
    replace h := h.1 q3
    refine ru_iload_n hX dX2_isWhole_34 rfl (fun _ => ?_)
    refine ru_aload_n hX dX2_isWhole_35 rfl (fun _ => ?_)
    refine ru_get (v := .inr (some (3, σ.1 302 0))) hX dX2_isWhole_36 rfl ⟨by decide, by decide⟩ (if_neg (Int.not_lt.mpr k1.1)) (fun _ => ?_)
    refine ru_get (v := .inl (σ.1 403 (σ.1 302 0))) hX dX2_isWhole_39 rfl k1 rfl (fun _ => ?_)
    refine ru_icmp_eq (tgt := 71) hX dX2_isWhole_42 (by decide) k2 (hok.1 _ _) (fun q => ?_) (fun q => ?_)
    · have q4 := q
      replace h := h.1 q4
      refine ru_iconst hX dX2_isWhole_71 (fun _ => ?_)
      refine ru_goto (tgt := 76) hX dX2_isWhole_72 (by decide) ?_
      exact ru_ireturn hX dX2_isWhole_76 (Or.inr ⟨rfl, by decide⟩) ⟨Nat.zero_le _, Nat.zero_le _⟩ (fun _ => h)
    · have q5 := q
      replace h := h.2 q5
      refine ru_iload_n hX dX2_isWhole_45 rfl (fun _ => ?_)
      refine ru_aload_n hX dX2_isWhole_46 rfl (fun _ => ?_)
      refine ru_get (v := .inr (some (3, σ.1 302 0))) hX dX2_isWhole_47 rfl ⟨by decide, by decide⟩ (if_neg (Int.not_lt.mpr k1.1)) (fun _ => ?_)
      refine ru_get (v := .inl (σ.1 403 (σ.1 302 0))) hX dX2_isWhole_50 rfl k1 rfl (fun _ => ?_)
      refine ru_iconst hX dX2_isWhole_53 (fun _ => ?_)
      refine ru_isub hX dX2_isWhole_54 (fun _ => ?_)
      obtain ⟨k6, h⟩ := h
      refine ru_icmp_ne (tgt := 75) hX dX2_isWhole_55 (by decide) k2 k6 (fun q => ?_) (fun q => ?_)
      · have q7 := q
        replace h := h.2 q7
        refine ru_iconst hX dX2_isWhole_75 (fun _ => ?_)
        exact ru_ireturn hX dX2_isWhole_76 (Or.inr ⟨rfl, by decide⟩) ⟨Nat.zero_le _, Nat.zero_le _⟩ (fun _ => h)
      · have q8 := q
        replace h := h.1 q8
        refine ru_aload_n hX dX2_isWhole_58 rfl (fun _ => ?_)
        refine ru_get (v := .inr (some (3, σ.1 302 0))) hX dX2_isWhole_59 rfl ⟨by decide, by decide⟩ (if_neg (Int.not_lt.mpr k1.1)) (fun _ => ?_)
        refine ru_get (v := .inr (some (404, σ.1 302 0))) hX dX2_isWhole_62 rfl k1 rfl (fun _ => ?_)
        refine ru_iload_n hX dX2_isWhole_65 rfl (fun _ => ?_)
        obtain ⟨k9, h⟩ := h
        refine ru_iaload hX dX2_isWhole_66 k1 rfl k9 (fun _ => ?_)
        refine ru_iconst hX dX2_isWhole_67 (fun _ => ?_)
        refine ru_icmp_ne (tgt := 75) hX dX2_isWhole_68 (by decide) (hok.2 _ _ _ (by decide) (by decide) (by decide) (by decide)) (by unfold eh_r; decide) (fun q => ?_) (fun q => ?_)
        · have q10 := q
          replace h := h.2 q10
          refine ru_iconst hX dX2_isWhole_75 (fun _ => ?_)
          exact ru_ireturn hX dX2_isWhole_76 (Or.inr ⟨rfl, by decide⟩) ⟨Nat.zero_le _, Nat.zero_le _⟩ (fun _ => h)
        · have q11 := q
          replace h := h.1 q11
          refine ru_iconst hX dX2_isWhole_71 (fun _ => ?_)
          refine ru_goto (tgt := 76) hX dX2_isWhole_72 (by decide) ?_
          exact ru_ireturn hX dX2_isWhole_76 (Or.inr ⟨rfl, by decide⟩) ⟨Nat.zero_le _, Nat.zero_le _⟩ (fun _ => h)
  · have q12 := q
    replace h := h.2 q12
    refine ru_aload_n hX dX2_isWhole_15 rfl (fun _ => ?_)
    refine ru_get (v := .inr (some (3, σ.1 302 0))) hX dX2_isWhole_16 rfl ⟨by decide, by decide⟩ (if_neg (Int.not_lt.mpr k1.1)) (fun _ => ?_)
    refine ru_get (v := .inr (some (404, σ.1 302 0))) hX dX2_isWhole_19 rfl k1 rfl (fun _ => ?_)
    refine ru_iload_n hX dX2_isWhole_22 rfl (fun _ => ?_)
    obtain ⟨k13, h⟩ := h
    refine ru_iaload hX dX2_isWhole_23 k1 rfl k13 (fun _ => ?_)
    refine ru_iconst hX dX2_isWhole_24 (fun _ => ?_)
    refine ru_icmp_ne (tgt := 34) hX dX2_isWhole_25 (by decide) (hok.2 _ _ _ (by decide) (by decide) (by decide) (by decide)) (by unfold eh_r; decide) (fun q => ?_) (fun q => ?_)
    · have q14 := q
      replace h := h.2 q14
      refine ru_iload_n hX dX2_isWhole_34 rfl (fun _ => ?_)
      refine ru_aload_n hX dX2_isWhole_35 rfl (fun _ => ?_)
      refine ru_get (v := .inr (some (3, σ.1 302 0))) hX dX2_isWhole_36 rfl ⟨by decide, by decide⟩ (if_neg (Int.not_lt.mpr k1.1)) (fun _ => ?_)
      refine ru_get (v := .inl (σ.1 403 (σ.1 302 0))) hX dX2_isWhole_39 rfl k1 rfl (fun _ => ?_)
      refine ru_icmp_eq (tgt := 71) hX dX2_isWhole_42 (by decide) k2 (hok.1 _ _) (fun q => ?_) (fun q => ?_)
      · have q15 := q
        replace h := h.1 q15
        refine ru_iconst hX dX2_isWhole_71 (fun _ => ?_)
        refine ru_goto (tgt := 76) hX dX2_isWhole_72 (by decide) ?_
        exact ru_ireturn hX dX2_isWhole_76 (Or.inr ⟨rfl, by decide⟩) ⟨Nat.zero_le _, Nat.zero_le _⟩ (fun _ => h)
      · have q16 := q
        replace h := h.2 q16
        refine ru_iload_n hX dX2_isWhole_45 rfl (fun _ => ?_)
        refine ru_aload_n hX dX2_isWhole_46 rfl (fun _ => ?_)
        refine ru_get (v := .inr (some (3, σ.1 302 0))) hX dX2_isWhole_47 rfl ⟨by decide, by decide⟩ (if_neg (Int.not_lt.mpr k1.1)) (fun _ => ?_)
        refine ru_get (v := .inl (σ.1 403 (σ.1 302 0))) hX dX2_isWhole_50 rfl k1 rfl (fun _ => ?_)
        refine ru_iconst hX dX2_isWhole_53 (fun _ => ?_)
        refine ru_isub hX dX2_isWhole_54 (fun _ => ?_)
        obtain ⟨k17, h⟩ := h
        refine ru_icmp_ne (tgt := 75) hX dX2_isWhole_55 (by decide) k2 k17 (fun q => ?_) (fun q => ?_)
        · have q18 := q
          replace h := h.2 q18
          refine ru_iconst hX dX2_isWhole_75 (fun _ => ?_)
          exact ru_ireturn hX dX2_isWhole_76 (Or.inr ⟨rfl, by decide⟩) ⟨Nat.zero_le _, Nat.zero_le _⟩ (fun _ => h)
        · have q19 := q
          replace h := h.1 q19
          refine ru_aload_n hX dX2_isWhole_58 rfl (fun _ => ?_)
          refine ru_get (v := .inr (some (3, σ.1 302 0))) hX dX2_isWhole_59 rfl ⟨by decide, by decide⟩ (if_neg (Int.not_lt.mpr k1.1)) (fun _ => ?_)
          refine ru_get (v := .inr (some (404, σ.1 302 0))) hX dX2_isWhole_62 rfl k1 rfl (fun _ => ?_)
          refine ru_iload_n hX dX2_isWhole_65 rfl (fun _ => ?_)
          refine ru_iaload hX dX2_isWhole_66 k1 rfl k13 (fun _ => ?_)
          refine ru_iconst hX dX2_isWhole_67 (fun _ => ?_)
          refine ru_icmp_ne (tgt := 75) hX dX2_isWhole_68 (by decide) (hok.2 _ _ _ (by decide) (by decide) (by decide) (by decide)) (by unfold eh_r; decide) (fun q => ?_) (fun q => ?_)
          · have q20 := q
            replace h := h.2 q20
            refine ru_iconst hX dX2_isWhole_75 (fun _ => ?_)
            exact ru_ireturn hX dX2_isWhole_76 (Or.inr ⟨rfl, by decide⟩) ⟨Nat.zero_le _, Nat.zero_le _⟩ (fun _ => h)
          · have q21 := q
            replace h := h.1 q21
            refine ru_iconst hX dX2_isWhole_71 (fun _ => ?_)
            refine ru_goto (tgt := 76) hX dX2_isWhole_72 (by decide) ?_
            exact ru_ireturn hX dX2_isWhole_76 (Or.inr ⟨rfl, by decide⟩) ⟨Nat.zero_le _, Nat.zero_le _⟩ (fun _ => h)
    · have q22 := q
      replace h := h.1 q22
      refine ru_iinc (ls1 := [some (.inr (some (2, 0))), o1, some (.inl (a2 + 1))]) hX dX2_isWhole_28 rfl rfl (fun _ => ?_)
      refine ru_goto (tgt := 4) hX dX2_isWhole_31 (by decide) ?_
      exact h
theorem bX2_takes_0 {cs ss : Nat → Option (Nat × eh_T)} {lim : Nat × Nat} {Rt : Option eh_V → eh_S → Prop} {X : eh_X} (hX : eh_Ru eh_nX eh_fl2 eh_kn2 cs ss lim Rt 0 cX2_takes X)  {σ : eh_S}  {a1 : Int} {o2 : Option eh_V} {o3 : Option eh_V}  (h : eh_ok σ → X 6 [some (.inr (some (2, 0))), some (.inl a1), some (.inl 0), some (.inl (a1 - 1))] [] σ (0, 0)) : X 0 [some (.inr (some (2, 0))), some (.inl a1), o2, o3] [] σ (0, 0) := by
  refine ru_ok hX (fun hok => ?_)
  replace h := h hok
  refine ru_iconst hX dX2_takes_0 (fun _ => ?_)
  refine ru_istore_n (ls1 := [some (.inr (some (2, 0))), some (.inl a1), some (.inl 0), o3]) hX dX2_takes_1 (Nat.le_of_ble_eq_true rfl) rfl (fun _ => ?_)
  refine ru_iload_n hX dX2_takes_2 rfl (fun _ => ?_)
  refine ru_iconst hX dX2_takes_3 (fun _ => ?_)
  refine ru_isub hX dX2_takes_4 (fun _ => ?_)
  refine ru_istore_n (ls1 := [some (.inr (some (2, 0))), some (.inl a1), some (.inl 0), some (.inl (a1 - 1))]) hX dX2_takes_5 (Nat.le_of_ble_eq_true rfl) rfl (fun _ => ?_)
  exact h
theorem bX2_takes_6 {cs ss : Nat → Option (Nat × eh_T)} {lim : Nat × Nat} {Rt : Option eh_V → eh_S → Prop} {X : eh_X} (hX : eh_Ru eh_nX eh_fl2 eh_kn2 cs ss lim Rt 0 cX2_takes X)  {σ : eh_S}  {a1 : Int} {a2 : Int} {a3 : Int}  (h : eh_ok σ → (-2147483648 ≤ a3 ∧ a3 < 2147483648) ∧ ((a3 < 0 → Rt (some (.inl a2)) σ) ∧ (¬ a3 < 0 → (0 ≤ a3 ∧ a3 < 12) ∧ (0 ≤ a1 - 1 ∧ a1 - 1 < 12) ∧ ((σ.2 301 0 a3 = σ.2 301 0 (a1 - 1) → X 6 [some (.inr (some (2, 0))), some (.inl a1), some (.inl (a2 + 1)), some (.inl (a3 + (-1)))] [] σ (0, 0)) ∧ (¬ σ.2 301 0 a3 = σ.2 301 0 (a1 - 1) → Rt (some (.inl a2)) σ))))) : X 6 [some (.inr (some (2, 0))), some (.inl a1), some (.inl a2), some (.inl a3)] [] σ (0, 0) := by
  refine ru_ok hX (fun hok => ?_)
  replace h := h hok
  refine ru_iload_n hX dX2_takes_6 rfl (fun _ => ?_)
  obtain ⟨k1, h⟩ := h
  refine ru_if_lt (tgt := 36) hX dX2_takes_7 (by decide) k1 (fun q => ?_) (fun q => ?_)
  · have q2 := q
    replace h := h.1 q2
    refine ru_iload_n hX dX2_takes_36 rfl (fun _ => ?_)
    exact ru_ireturn hX dX2_takes_37 (Or.inl rfl) ⟨Nat.zero_le _, Nat.zero_le _⟩ (fun _ => h)
  · have q3 := q
    replace h := h.2 q3
    refine ru_aload_n hX dX2_takes_10 rfl (fun _ => ?_)
    refine ru_get (v := .inr (some (301, 0))) hX dX2_takes_11 rfl ⟨by decide, by decide⟩ rfl (fun _ => ?_)
    refine ru_iload_n hX dX2_takes_14 rfl (fun _ => ?_)
    obtain ⟨k4, h⟩ := h
    refine ru_iaload hX dX2_takes_15 ⟨by decide, by decide⟩ rfl k4 (fun _ => ?_)
    refine ru_aload_n hX dX2_takes_16 rfl (fun _ => ?_)
    refine ru_get (v := .inr (some (301, 0))) hX dX2_takes_17 rfl ⟨by decide, by decide⟩ rfl (fun _ => ?_)
    refine ru_iload_n hX dX2_takes_20 rfl (fun _ => ?_)
    refine ru_iconst hX dX2_takes_21 (fun _ => ?_)
    refine ru_isub hX dX2_takes_22 (fun _ => ?_)
    obtain ⟨k5, h⟩ := h
    refine ru_iaload hX dX2_takes_23 ⟨by decide, by decide⟩ rfl k5 (fun _ => ?_)
    refine ru_icmp_ne (tgt := 36) hX dX2_takes_24 (by decide) (hok.2 _ _ _ (by decide) (by decide) (by decide) (by decide)) (hok.2 _ _ _ (by decide) (by decide) (by decide) (by decide)) (fun q => ?_) (fun q => ?_)
    · have q6 := q
      replace h := h.2 q6
      refine ru_iload_n hX dX2_takes_36 rfl (fun _ => ?_)
      exact ru_ireturn hX dX2_takes_37 (Or.inl rfl) ⟨Nat.zero_le _, Nat.zero_le _⟩ (fun _ => h)
    · have q7 := q
      replace h := h.1 q7
      refine ru_iinc (ls1 := [some (.inr (some (2, 0))), some (.inl a1), some (.inl (a2 + 1)), some (.inl a3)]) hX dX2_takes_27 rfl rfl (fun _ => ?_)
      refine ru_iinc (ls1 := [some (.inr (some (2, 0))), some (.inl a1), some (.inl (a2 + 1)), some (.inl (a3 + (-1)))]) hX dX2_takes_30 rfl rfl (fun _ => ?_)
      refine ru_goto (tgt := 6) hX dX2_takes_33 (by decide) ?_
      exact h
theorem bX2_leads_0 {cs ss : Nat → Option (Nat × eh_T)} {lim : Nat × Nat} {Rt : Option eh_V → eh_S → Prop} {X : eh_X} (hX : eh_Ru eh_nX eh_fl2 eh_kn2 cs ss lim Rt 1 cX2_leads X)  {σ : eh_S}  {a1 : Int} {a2 : Int} {a3 : Int} {o4 : Option eh_V} {o5 : Option eh_V} {o6 : Option eh_V}  (h : eh_ok σ → (0 ≤ a1 - 1 ∧ a1 - 1 < 12) ∧ X 16 [some (.inr (some (2, 0))), some (.inl a1), some (.inl a2), some (.inl a3), some (.inl (σ.2 301 0 (a1 - 1))), some (.inl ((σ.2 301 0 (a1 - 1)) + 1)), o6] [] σ (0, 0)) : X 0 [some (.inr (some (2, 0))), some (.inl a1), some (.inl a2), some (.inl a3), o4, o5, o6] [] σ (0, 0) := by
  refine ru_ok hX (fun hok => ?_)
  replace h := h hok
  refine ru_aload_n hX dX2_leads_0 rfl (fun _ => ?_)
  refine ru_get (v := .inr (some (301, 0))) hX dX2_leads_1 rfl ⟨by decide, by decide⟩ rfl (fun _ => ?_)
  refine ru_iload_n hX dX2_leads_4 rfl (fun _ => ?_)
  refine ru_iconst hX dX2_leads_5 (fun _ => ?_)
  refine ru_isub hX dX2_leads_6 (fun _ => ?_)
  obtain ⟨k1, h⟩ := h
  refine ru_iaload hX dX2_leads_7 ⟨by decide, by decide⟩ rfl k1 (fun _ => ?_)
  refine ru_istore (ls1 := [some (.inr (some (2, 0))), some (.inl a1), some (.inl a2), some (.inl a3), some (.inl (σ.2 301 0 (a1 - 1))), o5, o6]) hX dX2_leads_8 (Nat.le_of_ble_eq_true rfl) rfl (fun _ => ?_)
  refine ru_iload hX dX2_leads_10 rfl (fun _ => ?_)
  refine ru_iconst hX dX2_leads_12 (fun _ => ?_)
  refine ru_iadd hX dX2_leads_13 (fun _ => ?_)
  refine ru_istore (ls1 := [some (.inr (some (2, 0))), some (.inl a1), some (.inl a2), some (.inl a3), some (.inl (σ.2 301 0 (a1 - 1))), some (.inl ((σ.2 301 0 (a1 - 1)) + 1)), o6]) hX dX2_leads_14 (Nat.le_of_ble_eq_true rfl) rfl (fun _ => ?_)
  exact h
theorem bX2_leads_16 {cs ss : Nat → Option (Nat × eh_T)} {lim : Nat × Nat} {Rt : Option eh_V → eh_S → Prop} {X : eh_X} (hX : eh_Ru eh_nX eh_fl2 eh_kn2 cs ss lim Rt 1 cX2_leads X)  {σ : eh_S}  {a1 : Int} {a2 : Int} {a3 : Int} {o4 : Option eh_V} {a5 : Int} {o6 : Option eh_V}  (h : eh_ok σ → (-2147483648 ≤ a5 ∧ a5 < 2147483648) ∧ (-2147483648 ≤ a2 ∧ a2 < 2147483648) ∧ ((a2 ≤ a5 → (0 ≤ σ.1 302 0 ∧ σ.1 302 0 < 8) ∧ (0 ≤ a2 ∧ a2 < 6) ∧ ((σ.2 404 (σ.1 302 0) a2 = 3 → Rt (some (.inl 0)) σ) ∧ (¬ σ.2 404 (σ.1 302 0) a2 = 3 → Rt (some (.inl 1)) σ))) ∧ (¬ a2 ≤ a5 → (0 ≤ σ.1 302 0 ∧ σ.1 302 0 < 8) ∧ (0 ≤ a5 ∧ a5 < 6) ∧ ((σ.2 404 (σ.1 302 0) a5 = 0 → Rt (some (.inl 0)) σ) ∧ (¬ σ.2 404 (σ.1 302 0) a5 = 0 → ((σ.2 404 (σ.1 302 0) a5 = 1 → Rt (some (.inl 0)) σ) ∧ (¬ σ.2 404 (σ.1 302 0) a5 = 1 → ((σ.2 404 (σ.1 302 0) a5 = 3 → (0 ≤ a1 - 1 ∧ a1 - 1 < 12) ∧ X 80 [some (.inr (some (2, 0))), some (.inl a1), some (.inl a2), some (.inl a3), o4, some (.inl a5), some (.inl ((σ.2 300 0 (a1 - 1)) + 1))] [] σ (0, 0)) ∧ (¬ σ.2 404 (σ.1 302 0) a5 = 3 → X 16 [some (.inr (some (2, 0))), some (.inl a1), some (.inl a2), some (.inl a3), o4, some (.inl (a5 + 1)), o6] [] σ (0, 0)))))))))) : X 16 [some (.inr (some (2, 0))), some (.inl a1), some (.inl a2), some (.inl a3), o4, some (.inl a5), o6] [] σ (0, 0) := by
  refine ru_ok hX (fun hok => ?_)
  replace h := h hok
  refine ru_iload hX dX2_leads_16 rfl (fun _ => ?_)
  refine ru_iload_n hX dX2_leads_18 rfl (fun _ => ?_)
  obtain ⟨k1, h⟩ := h
  obtain ⟨k2, h⟩ := h
  refine ru_icmp_ge (tgt := 130) hX dX2_leads_19 (by decide) k1 k2 (fun q => ?_) (fun q => ?_)
  · have q3 := q
    replace h := h.1 q3
    refine ru_aload_n hX dX2_leads_130 rfl (fun _ => ?_)
    obtain ⟨k4, h⟩ := h
    refine ru_get (v := .inr (some (3, σ.1 302 0))) hX dX2_leads_131 rfl ⟨by decide, by decide⟩ (if_neg (Int.not_lt.mpr k4.1)) (fun _ => ?_)
    refine ru_get (v := .inr (some (404, σ.1 302 0))) hX dX2_leads_134 rfl k4 rfl (fun _ => ?_)
    refine ru_iload_n hX dX2_leads_137 rfl (fun _ => ?_)
    obtain ⟨k5, h⟩ := h
    refine ru_iaload hX dX2_leads_138 k4 rfl k5 (fun _ => ?_)
    refine ru_iconst hX dX2_leads_139 (fun _ => ?_)
    refine ru_icmp_eq (tgt := 147) hX dX2_leads_140 (by decide) (hok.2 _ _ _ (by decide) (by decide) (by decide) (by decide)) (by unfold eh_r; decide) (fun q => ?_) (fun q => ?_)
    · have q6 := q
      replace h := h.1 q6
      refine ru_iconst hX dX2_leads_147 (fun _ => ?_)
      exact ru_ireturn hX dX2_leads_148 (Or.inr ⟨rfl, by decide⟩) ⟨Nat.zero_le _, Nat.zero_le _⟩ (fun _ => h)
    · have q7 := q
      replace h := h.2 q7
      refine ru_iconst hX dX2_leads_143 (fun _ => ?_)
      refine ru_goto (tgt := 148) hX dX2_leads_144 (by decide) ?_
      exact ru_ireturn hX dX2_leads_148 (Or.inr ⟨rfl, by decide⟩) ⟨Nat.zero_le _, Nat.zero_le _⟩ (fun _ => h)
  · have q8 := q
    replace h := h.2 q8
    refine ru_aload_n hX dX2_leads_22 rfl (fun _ => ?_)
    obtain ⟨k9, h⟩ := h
    refine ru_get (v := .inr (some (3, σ.1 302 0))) hX dX2_leads_23 rfl ⟨by decide, by decide⟩ (if_neg (Int.not_lt.mpr k9.1)) (fun _ => ?_)
    refine ru_get (v := .inr (some (404, σ.1 302 0))) hX dX2_leads_26 rfl k9 rfl (fun _ => ?_)
    refine ru_iload hX dX2_leads_29 rfl (fun _ => ?_)
    obtain ⟨k10, h⟩ := h
    refine ru_iaload hX dX2_leads_31 k9 rfl k10 (fun _ => ?_)
    refine ru_if_eq (tgt := 49) hX dX2_leads_32 (by decide) (hok.2 _ _ _ (by decide) (by decide) (by decide) (by decide)) (fun q => ?_) (fun q => ?_)
    · have q11 := q
      replace h := h.1 q11
      refine ru_iconst hX dX2_leads_49 (fun _ => ?_)
      exact ru_ireturn hX dX2_leads_50 (Or.inr ⟨rfl, by decide⟩) ⟨Nat.zero_le _, Nat.zero_le _⟩ (fun _ => h)
    · have q12 := q
      replace h := h.2 q12
      refine ru_aload_n hX dX2_leads_35 rfl (fun _ => ?_)
      refine ru_get (v := .inr (some (3, σ.1 302 0))) hX dX2_leads_36 rfl ⟨by decide, by decide⟩ (if_neg (Int.not_lt.mpr k9.1)) (fun _ => ?_)
      refine ru_get (v := .inr (some (404, σ.1 302 0))) hX dX2_leads_39 rfl k9 rfl (fun _ => ?_)
      refine ru_iload hX dX2_leads_42 rfl (fun _ => ?_)
      refine ru_iaload hX dX2_leads_44 k9 rfl k10 (fun _ => ?_)
      refine ru_iconst hX dX2_leads_45 (fun _ => ?_)
      refine ru_icmp_ne (tgt := 51) hX dX2_leads_46 (by decide) (hok.2 _ _ _ (by decide) (by decide) (by decide) (by decide)) (by unfold eh_r; decide) (fun q => ?_) (fun q => ?_)
      · have q13 := q
        replace h := h.2 q13
        refine ru_aload_n hX dX2_leads_51 rfl (fun _ => ?_)
        refine ru_get (v := .inr (some (3, σ.1 302 0))) hX dX2_leads_52 rfl ⟨by decide, by decide⟩ (if_neg (Int.not_lt.mpr k9.1)) (fun _ => ?_)
        refine ru_get (v := .inr (some (404, σ.1 302 0))) hX dX2_leads_55 rfl k9 rfl (fun _ => ?_)
        refine ru_iload hX dX2_leads_58 rfl (fun _ => ?_)
        refine ru_iaload hX dX2_leads_60 k9 rfl k10 (fun _ => ?_)
        refine ru_iconst hX dX2_leads_61 (fun _ => ?_)
        refine ru_icmp_eq (tgt := 68) hX dX2_leads_62 (by decide) (hok.2 _ _ _ (by decide) (by decide) (by decide) (by decide)) (by unfold eh_r; decide) (fun q => ?_) (fun q => ?_)
        · have q14 := q
          replace h := h.1 q14
          refine ru_aload_n hX dX2_leads_68 rfl (fun _ => ?_)
          refine ru_get (v := .inr (some (300, 0))) hX dX2_leads_69 rfl ⟨by decide, by decide⟩ rfl (fun _ => ?_)
          refine ru_iload_n hX dX2_leads_72 rfl (fun _ => ?_)
          refine ru_iconst hX dX2_leads_73 (fun _ => ?_)
          refine ru_isub hX dX2_leads_74 (fun _ => ?_)
          obtain ⟨k15, h⟩ := h
          refine ru_iaload hX dX2_leads_75 ⟨by decide, by decide⟩ rfl k15 (fun _ => ?_)
          refine ru_iconst hX dX2_leads_76 (fun _ => ?_)
          refine ru_iadd hX dX2_leads_77 (fun _ => ?_)
          refine ru_istore (ls1 := [some (.inr (some (2, 0))), some (.inl a1), some (.inl a2), some (.inl a3), o4, some (.inl a5), some (.inl ((σ.2 300 0 (a1 - 1)) + 1))]) hX dX2_leads_78 (Nat.le_of_ble_eq_true rfl) rfl (fun _ => ?_)
          exact h
        · have q16 := q
          replace h := h.2 q16
          refine ru_goto (tgt := 124) hX dX2_leads_65 (by decide) ?_
          refine ru_iinc (ls1 := [some (.inr (some (2, 0))), some (.inl a1), some (.inl a2), some (.inl a3), o4, some (.inl (a5 + 1)), o6]) hX dX2_leads_124 rfl rfl (fun _ => ?_)
          refine ru_goto (tgt := 16) hX dX2_leads_127 (by decide) ?_
          exact h
      · have q17 := q
        replace h := h.1 q17
        refine ru_iconst hX dX2_leads_49 (fun _ => ?_)
        exact ru_ireturn hX dX2_leads_50 (Or.inr ⟨rfl, by decide⟩) ⟨Nat.zero_le _, Nat.zero_le _⟩ (fun _ => h)
theorem bX2_leads_80 {cs ss : Nat → Option (Nat × eh_T)} {lim : Nat × Nat} {Rt : Option eh_V → eh_S → Prop} {X : eh_X} (hX : eh_Ru eh_nX eh_fl2 eh_kn2 cs ss lim Rt 1 cX2_leads X) {T78 : eh_T} (hc78 : cs 78 = some (3, T78)) {σ : eh_S}  {a1 : Int} {a2 : Int} {a3 : Int} {o4 : Option eh_V} {a5 : Int} {a6 : Int}  (h : eh_ok σ → (-2147483648 ≤ a6 ∧ a6 < 2147483648) ∧ (-2147483648 ≤ a3 ∧ a3 < 2147483648) ∧ ((a3 ≤ a6 → X 16 [some (.inr (some (2, 0))), some (.inl a1), some (.inl a2), some (.inl a3), o4, some (.inl (a5 + 1)), some (.inl a6)] [] σ (0, 0)) ∧ (¬ a3 ≤ a6 → (0 ≤ σ.1 302 0 ∧ σ.1 302 0 < 8) ∧ T78 [.inr (some (3, σ.1 302 0)), .inl (σ.2 300 0 0), .inl a6] σ (0, 0) (fun r σ1 => X 101 [some (.inr (some (2, 0))), some (.inl a1), some (.inl a2), some (.inl a3), o4, some (.inl a5), some (.inl a6)] (r.toList ++ []) σ1 (0, 0))))) : X 80 [some (.inr (some (2, 0))), some (.inl a1), some (.inl a2), some (.inl a3), o4, some (.inl a5), some (.inl a6)] [] σ (0, 0) := by
  refine ru_ok hX (fun hok => ?_)
  replace h := h hok
  refine ru_iload hX dX2_leads_80 rfl (fun _ => ?_)
  refine ru_iload_n hX dX2_leads_82 rfl (fun _ => ?_)
  obtain ⟨k1, h⟩ := h
  obtain ⟨k2, h⟩ := h
  refine ru_icmp_ge (tgt := 124) hX dX2_leads_83 (by decide) k1 k2 (fun q => ?_) (fun q => ?_)
  · have q3 := q
    replace h := h.1 q3
    refine ru_iinc (ls1 := [some (.inr (some (2, 0))), some (.inl a1), some (.inl a2), some (.inl a3), o4, some (.inl (a5 + 1)), some (.inl a6)]) hX dX2_leads_124 rfl rfl (fun _ => ?_)
    refine ru_goto (tgt := 16) hX dX2_leads_127 (by decide) ?_
    exact h
  · have q4 := q
    replace h := h.2 q4
    refine ru_aload_n hX dX2_leads_86 rfl (fun _ => ?_)
    obtain ⟨k5, h⟩ := h
    refine ru_get (v := .inr (some (3, σ.1 302 0))) hX dX2_leads_87 rfl ⟨by decide, by decide⟩ (if_neg (Int.not_lt.mpr k5.1)) (fun _ => ?_)
    refine ru_aload_n hX dX2_leads_90 rfl (fun _ => ?_)
    refine ru_get (v := .inr (some (300, 0))) hX dX2_leads_91 rfl ⟨by decide, by decide⟩ rfl (fun _ => ?_)
    refine ru_iconst hX dX2_leads_94 (fun _ => ?_)
    refine ru_iaload hX dX2_leads_95 ⟨by decide, by decide⟩ rfl ⟨by decide, by decide⟩ (fun _ => ?_)
    refine ru_iload hX dX2_leads_96 rfl (fun _ => ?_)
    exact ru_callV (as := [.inr (some (3, σ.1 302 0)), .inl (σ.2 300 0 0), .inl a6]) (rest := []) hX dX2_leads_98 hc78 rfl (Nat.le_of_ble_eq_true rfl) (0, 0) ⟨Nat.zero_le _, Nat.zero_le _⟩ h
theorem bX2_leads_101 {cs ss : Nat → Option (Nat × eh_T)} {lim : Nat × Nat} {Rt : Option eh_V → eh_S → Prop} {X : eh_X} (hX : eh_Ru eh_nX eh_fl2 eh_kn2 cs ss lim Rt 1 cX2_leads X) {T38 : eh_T} (hc38 : cs 38 = some (4, T38)) {σ : eh_S}  {a1 : Int} {a2 : Int} {a3 : Int} {o4 : Option eh_V} {a5 : Int} {a6 : Int} {s0 : Int}  (h : eh_ok σ → (-2147483648 ≤ s0 ∧ s0 < 2147483648) ∧ ((s0 = 0 → X 80 [some (.inr (some (2, 0))), some (.inl a1), some (.inl a2), some (.inl a3), o4, some (.inl a5), some (.inl (a6 + 1))] [] σ (0, 0)) ∧ (¬ s0 = 0 → T38 [.inr (some (2, 0)), .inl a5, .inl a1, .inl a6] σ (0, 0) (fun r σ1 => X 113 [some (.inr (some (2, 0))), some (.inl a1), some (.inl a2), some (.inl a3), o4, some (.inl a5), some (.inl a6)] (r.toList ++ []) σ1 (0, 0))))) : X 101 [some (.inr (some (2, 0))), some (.inl a1), some (.inl a2), some (.inl a3), o4, some (.inl a5), some (.inl a6)] [.inl s0] σ (0, 0) := by
  refine ru_ok hX (fun hok => ?_)
  replace h := h hok
  obtain ⟨k1, h⟩ := h
  refine ru_if_eq (tgt := 118) hX dX2_leads_101 (by decide) k1 (fun q => ?_) (fun q => ?_)
  · have q2 := q
    replace h := h.1 q2
    refine ru_iinc (ls1 := [some (.inr (some (2, 0))), some (.inl a1), some (.inl a2), some (.inl a3), o4, some (.inl a5), some (.inl (a6 + 1))]) hX dX2_leads_118 rfl rfl (fun _ => ?_)
    refine ru_goto (tgt := 80) hX dX2_leads_121 (by decide) ?_
    exact h
  · have q3 := q
    replace h := h.2 q3
    refine ru_aload_n hX dX2_leads_104 rfl (fun _ => ?_)
    refine ru_iload hX dX2_leads_105 rfl (fun _ => ?_)
    refine ru_iload_n hX dX2_leads_107 rfl (fun _ => ?_)
    refine ru_iload hX dX2_leads_108 rfl (fun _ => ?_)
    exact ru_callV (as := [.inr (some (2, 0)), .inl a5, .inl a1, .inl a6]) (rest := []) hX dX2_leads_110 hc38 rfl (Nat.le_of_ble_eq_true rfl) (0, 0) ⟨Nat.zero_le _, Nat.zero_le _⟩ h
theorem bX2_leads_113 {cs ss : Nat → Option (Nat × eh_T)} {lim : Nat × Nat} {Rt : Option eh_V → eh_S → Prop} {X : eh_X} (hX : eh_Ru eh_nX eh_fl2 eh_kn2 cs ss lim Rt 1 cX2_leads X)  {σ : eh_S}  {a1 : Int} {a2 : Int} {a3 : Int} {o4 : Option eh_V} {a5 : Int} {a6 : Int} {s0 : Int}  (h : eh_ok σ → (-2147483648 ≤ s0 ∧ s0 < 2147483648) ∧ ((s0 = 0 → X 80 [some (.inr (some (2, 0))), some (.inl a1), some (.inl a2), some (.inl a3), o4, some (.inl a5), some (.inl (a6 + 1))] [] σ (0, 0)) ∧ (¬ s0 = 0 → Rt (some (.inl 0)) σ))) : X 113 [some (.inr (some (2, 0))), some (.inl a1), some (.inl a2), some (.inl a3), o4, some (.inl a5), some (.inl a6)] [.inl s0] σ (0, 0) := by
  refine ru_ok hX (fun hok => ?_)
  replace h := h hok
  obtain ⟨k1, h⟩ := h
  refine ru_if_eq (tgt := 118) hX dX2_leads_113 (by decide) k1 (fun q => ?_) (fun q => ?_)
  · have q2 := q
    replace h := h.1 q2
    refine ru_iinc (ls1 := [some (.inr (some (2, 0))), some (.inl a1), some (.inl a2), some (.inl a3), o4, some (.inl a5), some (.inl (a6 + 1))]) hX dX2_leads_118 rfl rfl (fun _ => ?_)
    refine ru_goto (tgt := 80) hX dX2_leads_121 (by decide) ?_
    exact h
  · have q3 := q
    replace h := h.2 q3
    refine ru_iconst hX dX2_leads_116 (fun _ => ?_)
    exact ru_ireturn hX dX2_leads_117 (Or.inr ⟨rfl, by decide⟩) ⟨Nat.zero_le _, Nat.zero_le _⟩ (fun _ => h)
